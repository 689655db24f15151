set_option maxRecDepth 100000
abbrev cX8_init : ByteArray := prog_3_method_1_code
def yX8_init : MethodName := ⟨RX8, "<init>", "(LTrailMarkers$Trails;)V"⟩
def dkwX8_init_4 : List UInt8 := [187, 0, 44, 89, 43, 183, 0, 46, 181, 0, 56, 177]
abbrev dktX8_init_4 : List UInt8 := dkwX8_init_4 ++ []
def dkwX8_init_3 : List UInt8 := [187, 0, 44, 89, 43, 183, 0, 46, 181, 0, 49, 42, 187, 0, 44, 89, 43, 183, 0, 46, 181, 0, 53, 42]
abbrev dktX8_init_3 : List UInt8 := dkwX8_init_3 ++ dktX8_init_4
def dkwX8_init_2 : List UInt8 := [16, 48, 188, 10, 181, 0, 31, 42, 16, 72, 189, 0, 34, 181, 0, 36, 42, 43, 181, 0, 40, 42]
abbrev dktX8_init_2 : List UInt8 := dkwX8_init_2 ++ dktX8_init_3
def dkwX8_init_1 : List UInt8 := [188, 10, 181, 0, 22, 42, 16, 25, 188, 10, 181, 0, 25, 42, 17, 3, 97, 188, 10, 181, 0, 28, 42]
abbrev dktX8_init_1 : List UInt8 := dkwX8_init_1 ++ dktX8_init_2
def dkwX8_init_0 : List UInt8 := [42, 183, 0, 3, 42, 187, 0, 9, 89, 183, 0, 11, 181, 0, 12, 42, 6, 188, 10, 181, 0, 18, 42, 6]
abbrev dktX8_init_0 : List UInt8 := dkwX8_init_0 ++ dktX8_init_1
theorem dksX8_init_0 : cX8_init.data.toList.drop 0 = dktX8_init_0 := by decide +kernel
theorem dksX8_init_1 : cX8_init.data.toList.drop 24 = dktX8_init_1 := dk_seg dksX8_init_0 24 rfl rfl
theorem dksX8_init_2 : cX8_init.data.toList.drop 47 = dktX8_init_2 := dk_seg dksX8_init_1 23 rfl rfl
theorem dksX8_init_3 : cX8_init.data.toList.drop 69 = dktX8_init_3 := dk_seg dksX8_init_2 22 rfl rfl
theorem dksX8_init_4 : cX8_init.data.toList.drop 93 = dktX8_init_4 := dk_seg dksX8_init_3 24 rfl rfl
theorem dX8_init_0 : decode cX8_init 0 = .ok (.aload_n 0, 1) := dk_42 (dk_at dksX8_init_0 0 rfl rfl)
theorem dX8_init_1 : decode cX8_init 1 = .ok (.invokespecial 3, 3) := dk_183 0 3 (dk_at dksX8_init_0 1 rfl rfl)
theorem dX8_init_4 : decode cX8_init 4 = .ok (.aload_n 0, 1) := dk_42 (dk_at dksX8_init_0 4 rfl rfl)
theorem dX8_init_5 : decode cX8_init 5 = .ok (.new 9, 3) := dk_187 0 9 (dk_at dksX8_init_0 5 rfl rfl)
theorem dX8_init_8 : decode cX8_init 8 = .ok (.dup, 1) := dk_89 (dk_at dksX8_init_0 8 rfl rfl)
theorem dX8_init_9 : decode cX8_init 9 = .ok (.invokespecial 11, 3) := dk_183 0 11 (dk_at dksX8_init_0 9 rfl rfl)
theorem dX8_init_12 : decode cX8_init 12 = .ok (.putfield 12, 3) := dk_181 0 12 (dk_at dksX8_init_0 12 rfl rfl)
theorem dX8_init_15 : decode cX8_init 15 = .ok (.aload_n 0, 1) := dk_42 (dk_at dksX8_init_0 15 rfl rfl)
theorem dX8_init_16 : decode cX8_init 16 = .ok (.iconst 3, 1) := dk_6 (dk_at dksX8_init_0 16 rfl rfl)
theorem dX8_init_17 : decode cX8_init 17 = .ok (.newarray .int, 2) := dk_188_10 (dk_at dksX8_init_0 17 rfl rfl)
theorem dX8_init_19 : decode cX8_init 19 = .ok (.putfield 18, 3) := dk_181 0 18 (dk_at dksX8_init_0 19 rfl rfl)
theorem dX8_init_22 : decode cX8_init 22 = .ok (.aload_n 0, 1) := dk_42 (dk_at dksX8_init_0 22 rfl rfl)
theorem dX8_init_23 : decode cX8_init 23 = .ok (.iconst 3, 1) := dk_6 (dk_at dksX8_init_0 23 rfl rfl)
theorem dX8_init_24 : decode cX8_init 24 = .ok (.newarray .int, 2) := dk_188_10 (dk_at dksX8_init_1 0 rfl rfl)
theorem dX8_init_26 : decode cX8_init 26 = .ok (.putfield 22, 3) := dk_181 0 22 (dk_at dksX8_init_1 2 rfl rfl)
theorem dX8_init_29 : decode cX8_init 29 = .ok (.aload_n 0, 1) := dk_42 (dk_at dksX8_init_1 5 rfl rfl)
theorem dX8_init_30 : decode cX8_init 30 = .ok (.bipush 25, 2) := dk_16 25 (dk_at dksX8_init_1 6 rfl rfl)
theorem dX8_init_32 : decode cX8_init 32 = .ok (.newarray .int, 2) := dk_188_10 (dk_at dksX8_init_1 8 rfl rfl)
theorem dX8_init_34 : decode cX8_init 34 = .ok (.putfield 25, 3) := dk_181 0 25 (dk_at dksX8_init_1 10 rfl rfl)
theorem dX8_init_37 : decode cX8_init 37 = .ok (.aload_n 0, 1) := dk_42 (dk_at dksX8_init_1 13 rfl rfl)
theorem dX8_init_38 : decode cX8_init 38 = .ok (.sipush 865, 3) := dk_17 3 97 (dk_at dksX8_init_1 14 rfl rfl)
theorem dX8_init_41 : decode cX8_init 41 = .ok (.newarray .int, 2) := dk_188_10 (dk_at dksX8_init_1 17 rfl rfl)
theorem dX8_init_43 : decode cX8_init 43 = .ok (.putfield 28, 3) := dk_181 0 28 (dk_at dksX8_init_1 19 rfl rfl)
theorem dX8_init_46 : decode cX8_init 46 = .ok (.aload_n 0, 1) := dk_42 (dk_at dksX8_init_1 22 rfl rfl)
theorem dX8_init_47 : decode cX8_init 47 = .ok (.bipush 48, 2) := dk_16 48 (dk_at dksX8_init_2 0 rfl rfl)
theorem dX8_init_49 : decode cX8_init 49 = .ok (.newarray .int, 2) := dk_188_10 (dk_at dksX8_init_2 2 rfl rfl)
theorem dX8_init_51 : decode cX8_init 51 = .ok (.putfield 31, 3) := dk_181 0 31 (dk_at dksX8_init_2 4 rfl rfl)
theorem dX8_init_54 : decode cX8_init 54 = .ok (.aload_n 0, 1) := dk_42 (dk_at dksX8_init_2 7 rfl rfl)
theorem dX8_init_55 : decode cX8_init 55 = .ok (.bipush 72, 2) := dk_16 72 (dk_at dksX8_init_2 8 rfl rfl)
theorem dX8_init_57 : decode cX8_init 57 = .ok (.anewarray 34, 3) := dk_189 0 34 (dk_at dksX8_init_2 10 rfl rfl)
theorem dX8_init_60 : decode cX8_init 60 = .ok (.putfield 36, 3) := dk_181 0 36 (dk_at dksX8_init_2 13 rfl rfl)
theorem dX8_init_63 : decode cX8_init 63 = .ok (.aload_n 0, 1) := dk_42 (dk_at dksX8_init_2 16 rfl rfl)
theorem dX8_init_64 : decode cX8_init 64 = .ok (.aload_n 1, 1) := dk_43 (dk_at dksX8_init_2 17 rfl rfl)
theorem dX8_init_65 : decode cX8_init 65 = .ok (.putfield 40, 3) := dk_181 0 40 (dk_at dksX8_init_2 18 rfl rfl)
theorem dX8_init_68 : decode cX8_init 68 = .ok (.aload_n 0, 1) := dk_42 (dk_at dksX8_init_2 21 rfl rfl)
theorem dX8_init_69 : decode cX8_init 69 = .ok (.new 44, 3) := dk_187 0 44 (dk_at dksX8_init_3 0 rfl rfl)
theorem dX8_init_72 : decode cX8_init 72 = .ok (.dup, 1) := dk_89 (dk_at dksX8_init_3 3 rfl rfl)
theorem dX8_init_73 : decode cX8_init 73 = .ok (.aload_n 1, 1) := dk_43 (dk_at dksX8_init_3 4 rfl rfl)
theorem dX8_init_74 : decode cX8_init 74 = .ok (.invokespecial 46, 3) := dk_183 0 46 (dk_at dksX8_init_3 5 rfl rfl)
theorem dX8_init_77 : decode cX8_init 77 = .ok (.putfield 49, 3) := dk_181 0 49 (dk_at dksX8_init_3 8 rfl rfl)
theorem dX8_init_80 : decode cX8_init 80 = .ok (.aload_n 0, 1) := dk_42 (dk_at dksX8_init_3 11 rfl rfl)
theorem dX8_init_81 : decode cX8_init 81 = .ok (.new 44, 3) := dk_187 0 44 (dk_at dksX8_init_3 12 rfl rfl)
theorem dX8_init_84 : decode cX8_init 84 = .ok (.dup, 1) := dk_89 (dk_at dksX8_init_3 15 rfl rfl)
theorem dX8_init_85 : decode cX8_init 85 = .ok (.aload_n 1, 1) := dk_43 (dk_at dksX8_init_3 16 rfl rfl)
theorem dX8_init_86 : decode cX8_init 86 = .ok (.invokespecial 46, 3) := dk_183 0 46 (dk_at dksX8_init_3 17 rfl rfl)
theorem dX8_init_89 : decode cX8_init 89 = .ok (.putfield 53, 3) := dk_181 0 53 (dk_at dksX8_init_3 20 rfl rfl)
theorem dX8_init_92 : decode cX8_init 92 = .ok (.aload_n 0, 1) := dk_42 (dk_at dksX8_init_3 23 rfl rfl)
theorem dX8_init_93 : decode cX8_init 93 = .ok (.new 44, 3) := dk_187 0 44 (dk_at dksX8_init_4 0 rfl rfl)
theorem dX8_init_96 : decode cX8_init 96 = .ok (.dup, 1) := dk_89 (dk_at dksX8_init_4 3 rfl rfl)
theorem dX8_init_97 : decode cX8_init 97 = .ok (.aload_n 1, 1) := dk_43 (dk_at dksX8_init_4 4 rfl rfl)
theorem dX8_init_98 : decode cX8_init 98 = .ok (.invokespecial 46, 3) := dk_183 0 46 (dk_at dksX8_init_4 5 rfl rfl)
theorem dX8_init_101 : decode cX8_init 101 = .ok (.putfield 56, 3) := dk_181 0 56 (dk_at dksX8_init_4 8 rfl rfl)
theorem dX8_init_104 : decode cX8_init 104 = .ok (.return_, 1) := dk_177 (dk_at dksX8_init_4 11 rfl rfl)
abbrev cX8_isTurn : ByteArray := prog_3_method_7_code
def yX8_isTurn : MethodName := ⟨RX8, "isTurn", "(II)Z"⟩
def dkwX8_isTurn_0 : List UInt8 := [27, 28, 96, 5, 112, 4, 160, 0, 7, 4, 167, 0, 4, 3, 172]
abbrev dktX8_isTurn_0 : List UInt8 := dkwX8_isTurn_0 ++ []
theorem dksX8_isTurn_0 : cX8_isTurn.data.toList.drop 0 = dktX8_isTurn_0 := by decide +kernel
theorem dX8_isTurn_0 : decode cX8_isTurn 0 = .ok (.iload_n 1, 1) := dk_27 (dk_at dksX8_isTurn_0 0 rfl rfl)
theorem dX8_isTurn_1 : decode cX8_isTurn 1 = .ok (.iload_n 2, 1) := dk_28 (dk_at dksX8_isTurn_0 1 rfl rfl)
theorem dX8_isTurn_2 : decode cX8_isTurn 2 = .ok (.iadd, 1) := dk_96 (dk_at dksX8_isTurn_0 2 rfl rfl)
theorem dX8_isTurn_3 : decode cX8_isTurn 3 = .ok (.iconst 2, 1) := dk_5 (dk_at dksX8_isTurn_0 3 rfl rfl)
theorem dX8_isTurn_4 : decode cX8_isTurn 4 = .ok (.irem, 1) := dk_112 (dk_at dksX8_isTurn_0 4 rfl rfl)
theorem dX8_isTurn_5 : decode cX8_isTurn 5 = .ok (.iconst 1, 1) := dk_4 (dk_at dksX8_isTurn_0 5 rfl rfl)
theorem dX8_isTurn_6 : decode cX8_isTurn 6 = .ok (.if_icmp .ne 7, 3) := dk_160 0 7 (dk_at dksX8_isTurn_0 6 rfl rfl)
theorem dX8_isTurn_9 : decode cX8_isTurn 9 = .ok (.iconst 1, 1) := dk_4 (dk_at dksX8_isTurn_0 9 rfl rfl)
theorem dX8_isTurn_10 : decode cX8_isTurn 10 = .ok (.goto 4, 3) := dk_167 0 4 (dk_at dksX8_isTurn_0 10 rfl rfl)
theorem dX8_isTurn_13 : decode cX8_isTurn 13 = .ok (.iconst 0, 1) := dk_3 (dk_at dksX8_isTurn_0 13 rfl rfl)
theorem dX8_isTurn_14 : decode cX8_isTurn 14 = .ok (.ireturn, 1) := dk_172 (dk_at dksX8_isTurn_0 14 rfl rfl)
abbrev cX8_offerIfMet : ByteArray := prog_3_method_6_code
def yX8_offerIfMet : MethodName := ⟨RX8, "offerIfMet", "(LTrailMarkers$Walk;I)V"⟩
def dkwX8_offerIfMet_1 : List UInt8 := [180, 0, 94, 28, 42, 180, 0, 18, 42, 180, 0, 22, 182, 0, 97, 177]
abbrev dktX8_offerIfMet_1 : List UInt8 := dkwX8_offerIfMet_1 ++ []
def dkwX8_offerIfMet_0 : List UInt8 := [43, 180, 0, 94, 2, 159, 0, 33, 42, 180, 0, 18, 28, 43, 180, 0, 91, 79, 42, 180, 0, 12, 43]
abbrev dktX8_offerIfMet_0 : List UInt8 := dkwX8_offerIfMet_0 ++ dktX8_offerIfMet_1
theorem dksX8_offerIfMet_0 : cX8_offerIfMet.data.toList.drop 0 = dktX8_offerIfMet_0 := by decide +kernel
theorem dksX8_offerIfMet_1 : cX8_offerIfMet.data.toList.drop 23 = dktX8_offerIfMet_1 := dk_seg dksX8_offerIfMet_0 23 rfl rfl
theorem dX8_offerIfMet_0 : decode cX8_offerIfMet 0 = .ok (.aload_n 1, 1) := dk_43 (dk_at dksX8_offerIfMet_0 0 rfl rfl)
theorem dX8_offerIfMet_1 : decode cX8_offerIfMet 1 = .ok (.getfield 94, 3) := dk_180 0 94 (dk_at dksX8_offerIfMet_0 1 rfl rfl)
theorem dX8_offerIfMet_4 : decode cX8_offerIfMet 4 = .ok (.iconst (-1), 1) := dk_2 (dk_at dksX8_offerIfMet_0 4 rfl rfl)
theorem dX8_offerIfMet_5 : decode cX8_offerIfMet 5 = .ok (.if_icmp .eq 33, 3) := dk_159 0 33 (dk_at dksX8_offerIfMet_0 5 rfl rfl)
theorem dX8_offerIfMet_8 : decode cX8_offerIfMet 8 = .ok (.aload_n 0, 1) := dk_42 (dk_at dksX8_offerIfMet_0 8 rfl rfl)
theorem dX8_offerIfMet_9 : decode cX8_offerIfMet 9 = .ok (.getfield 18, 3) := dk_180 0 18 (dk_at dksX8_offerIfMet_0 9 rfl rfl)
theorem dX8_offerIfMet_12 : decode cX8_offerIfMet 12 = .ok (.iload_n 2, 1) := dk_28 (dk_at dksX8_offerIfMet_0 12 rfl rfl)
theorem dX8_offerIfMet_13 : decode cX8_offerIfMet 13 = .ok (.aload_n 1, 1) := dk_43 (dk_at dksX8_offerIfMet_0 13 rfl rfl)
theorem dX8_offerIfMet_14 : decode cX8_offerIfMet 14 = .ok (.getfield 91, 3) := dk_180 0 91 (dk_at dksX8_offerIfMet_0 14 rfl rfl)
theorem dX8_offerIfMet_17 : decode cX8_offerIfMet 17 = .ok (.iastore, 1) := dk_79 (dk_at dksX8_offerIfMet_0 17 rfl rfl)
theorem dX8_offerIfMet_18 : decode cX8_offerIfMet 18 = .ok (.aload_n 0, 1) := dk_42 (dk_at dksX8_offerIfMet_0 18 rfl rfl)
theorem dX8_offerIfMet_19 : decode cX8_offerIfMet 19 = .ok (.getfield 12, 3) := dk_180 0 12 (dk_at dksX8_offerIfMet_0 19 rfl rfl)
theorem dX8_offerIfMet_22 : decode cX8_offerIfMet 22 = .ok (.aload_n 1, 1) := dk_43 (dk_at dksX8_offerIfMet_0 22 rfl rfl)
theorem dX8_offerIfMet_23 : decode cX8_offerIfMet 23 = .ok (.getfield 94, 3) := dk_180 0 94 (dk_at dksX8_offerIfMet_1 0 rfl rfl)
theorem dX8_offerIfMet_26 : decode cX8_offerIfMet 26 = .ok (.iload_n 2, 1) := dk_28 (dk_at dksX8_offerIfMet_1 3 rfl rfl)
theorem dX8_offerIfMet_27 : decode cX8_offerIfMet 27 = .ok (.aload_n 0, 1) := dk_42 (dk_at dksX8_offerIfMet_1 4 rfl rfl)
theorem dX8_offerIfMet_28 : decode cX8_offerIfMet 28 = .ok (.getfield 18, 3) := dk_180 0 18 (dk_at dksX8_offerIfMet_1 5 rfl rfl)
theorem dX8_offerIfMet_31 : decode cX8_offerIfMet 31 = .ok (.aload_n 0, 1) := dk_42 (dk_at dksX8_offerIfMet_1 8 rfl rfl)
theorem dX8_offerIfMet_32 : decode cX8_offerIfMet 32 = .ok (.getfield 22, 3) := dk_180 0 22 (dk_at dksX8_offerIfMet_1 9 rfl rfl)
theorem dX8_offerIfMet_35 : decode cX8_offerIfMet 35 = .ok (.invokevirtual 97, 3) := dk_182 0 97 (dk_at dksX8_offerIfMet_1 12 rfl rfl)
theorem dX8_offerIfMet_38 : decode cX8_offerIfMet 38 = .ok (.return_, 1) := dk_177 (dk_at dksX8_offerIfMet_1 15 rfl rfl)
abbrev cX8_guessAgain : ByteArray := prog_3_method_5_code
def yX8_guessAgain : MethodName := ⟨RX8, "guessAgain", "(LTrailMarkers$Post;IIII)V"⟩
def dkwX8_guessAgain_4 : List UInt8 := [180, 0, 56, 5, 182, 0, 122, 132, 8, 1, 167, 255, 175, 132, 7, 1, 167, 255, 159, 177]
abbrev dktX8_guessAgain_4 : List UInt8 := dkwX8_guessAgain_4 ++ []
def dkwX8_guessAgain_3 : List UInt8 := [21, 7, 21, 5, 184, 0, 115, 104, 96, 21, 8, 43, 180, 0, 77, 28, 182, 0, 80, 87, 42, 42]
abbrev dktX8_guessAgain_3 : List UInt8 := dkwX8_guessAgain_3 ++ dktX8_guessAgain_4
def dkwX8_guessAgain_2 : List UInt8 := [180, 0, 22, 5, 21, 8, 79, 42, 180, 0, 56, 29, 21, 7, 21, 5, 184, 0, 111, 104, 96, 21, 4]
abbrev dktX8_guessAgain_2 : List UInt8 := dkwX8_guessAgain_2 ++ dktX8_guessAgain_3
def dkwX8_guessAgain_1 : List UInt8 := [7, 162, 0, 81, 42, 21, 5, 21, 8, 182, 0, 118, 153, 0, 64, 42, 180, 0, 18, 4, 21, 7, 79, 42]
abbrev dktX8_guessAgain_1 : List UInt8 := dkwX8_guessAgain_1 ++ dktX8_guessAgain_2
def dkwX8_guessAgain_0 : List UInt8 := [42, 180, 0, 53, 180, 0, 91, 54, 6, 4, 54, 7, 21, 7, 21, 6, 163, 0, 96, 3, 54, 8, 21, 8]
abbrev dktX8_guessAgain_0 : List UInt8 := dkwX8_guessAgain_0 ++ dktX8_guessAgain_1
theorem dksX8_guessAgain_0 : cX8_guessAgain.data.toList.drop 0 = dktX8_guessAgain_0 := by decide +kernel
theorem dksX8_guessAgain_1 : cX8_guessAgain.data.toList.drop 24 = dktX8_guessAgain_1 := dk_seg dksX8_guessAgain_0 24 rfl rfl
theorem dksX8_guessAgain_2 : cX8_guessAgain.data.toList.drop 48 = dktX8_guessAgain_2 := dk_seg dksX8_guessAgain_1 24 rfl rfl
theorem dksX8_guessAgain_3 : cX8_guessAgain.data.toList.drop 71 = dktX8_guessAgain_3 := dk_seg dksX8_guessAgain_2 23 rfl rfl
theorem dksX8_guessAgain_4 : cX8_guessAgain.data.toList.drop 93 = dktX8_guessAgain_4 := dk_seg dksX8_guessAgain_3 22 rfl rfl
theorem dX8_guessAgain_0 : decode cX8_guessAgain 0 = .ok (.aload_n 0, 1) := dk_42 (dk_at dksX8_guessAgain_0 0 rfl rfl)
theorem dX8_guessAgain_1 : decode cX8_guessAgain 1 = .ok (.getfield 53, 3) := dk_180 0 53 (dk_at dksX8_guessAgain_0 1 rfl rfl)
theorem dX8_guessAgain_4 : decode cX8_guessAgain 4 = .ok (.getfield 91, 3) := dk_180 0 91 (dk_at dksX8_guessAgain_0 4 rfl rfl)
theorem dX8_guessAgain_7 : decode cX8_guessAgain 7 = .ok (.istore 6, 2) := dk_54 6 (dk_at dksX8_guessAgain_0 7 rfl rfl)
theorem dX8_guessAgain_9 : decode cX8_guessAgain 9 = .ok (.iconst 1, 1) := dk_4 (dk_at dksX8_guessAgain_0 9 rfl rfl)
theorem dX8_guessAgain_10 : decode cX8_guessAgain 10 = .ok (.istore 7, 2) := dk_54 7 (dk_at dksX8_guessAgain_0 10 rfl rfl)
theorem dX8_guessAgain_12 : decode cX8_guessAgain 12 = .ok (.iload 7, 2) := dk_21 7 (dk_at dksX8_guessAgain_0 12 rfl rfl)
theorem dX8_guessAgain_14 : decode cX8_guessAgain 14 = .ok (.iload 6, 2) := dk_21 6 (dk_at dksX8_guessAgain_0 14 rfl rfl)
theorem dX8_guessAgain_16 : decode cX8_guessAgain 16 = .ok (.if_icmp .gt 96, 3) := dk_163 0 96 (dk_at dksX8_guessAgain_0 16 rfl rfl)
theorem dX8_guessAgain_19 : decode cX8_guessAgain 19 = .ok (.iconst 0, 1) := dk_3 (dk_at dksX8_guessAgain_0 19 rfl rfl)
theorem dX8_guessAgain_20 : decode cX8_guessAgain 20 = .ok (.istore 8, 2) := dk_54 8 (dk_at dksX8_guessAgain_0 20 rfl rfl)
theorem dX8_guessAgain_22 : decode cX8_guessAgain 22 = .ok (.iload 8, 2) := dk_21 8 (dk_at dksX8_guessAgain_0 22 rfl rfl)
theorem dX8_guessAgain_24 : decode cX8_guessAgain 24 = .ok (.iconst 4, 1) := dk_7 (dk_at dksX8_guessAgain_1 0 rfl rfl)
theorem dX8_guessAgain_25 : decode cX8_guessAgain 25 = .ok (.if_icmp .ge 81, 3) := dk_162 0 81 (dk_at dksX8_guessAgain_1 1 rfl rfl)
theorem dX8_guessAgain_28 : decode cX8_guessAgain 28 = .ok (.aload_n 0, 1) := dk_42 (dk_at dksX8_guessAgain_1 4 rfl rfl)
theorem dX8_guessAgain_29 : decode cX8_guessAgain 29 = .ok (.iload 5, 2) := dk_21 5 (dk_at dksX8_guessAgain_1 5 rfl rfl)
theorem dX8_guessAgain_31 : decode cX8_guessAgain 31 = .ok (.iload 8, 2) := dk_21 8 (dk_at dksX8_guessAgain_1 7 rfl rfl)
theorem dX8_guessAgain_33 : decode cX8_guessAgain 33 = .ok (.invokevirtual 118, 3) := dk_182 0 118 (dk_at dksX8_guessAgain_1 9 rfl rfl)
theorem dX8_guessAgain_36 : decode cX8_guessAgain 36 = .ok (.ifCond .eq 64, 3) := dk_153 0 64 (dk_at dksX8_guessAgain_1 12 rfl rfl)
theorem dX8_guessAgain_39 : decode cX8_guessAgain 39 = .ok (.aload_n 0, 1) := dk_42 (dk_at dksX8_guessAgain_1 15 rfl rfl)
theorem dX8_guessAgain_40 : decode cX8_guessAgain 40 = .ok (.getfield 18, 3) := dk_180 0 18 (dk_at dksX8_guessAgain_1 16 rfl rfl)
theorem dX8_guessAgain_43 : decode cX8_guessAgain 43 = .ok (.iconst 1, 1) := dk_4 (dk_at dksX8_guessAgain_1 19 rfl rfl)
theorem dX8_guessAgain_44 : decode cX8_guessAgain 44 = .ok (.iload 7, 2) := dk_21 7 (dk_at dksX8_guessAgain_1 20 rfl rfl)
theorem dX8_guessAgain_46 : decode cX8_guessAgain 46 = .ok (.iastore, 1) := dk_79 (dk_at dksX8_guessAgain_1 22 rfl rfl)
theorem dX8_guessAgain_47 : decode cX8_guessAgain 47 = .ok (.aload_n 0, 1) := dk_42 (dk_at dksX8_guessAgain_1 23 rfl rfl)
theorem dX8_guessAgain_48 : decode cX8_guessAgain 48 = .ok (.getfield 22, 3) := dk_180 0 22 (dk_at dksX8_guessAgain_2 0 rfl rfl)
theorem dX8_guessAgain_51 : decode cX8_guessAgain 51 = .ok (.iconst 2, 1) := dk_5 (dk_at dksX8_guessAgain_2 3 rfl rfl)
theorem dX8_guessAgain_52 : decode cX8_guessAgain 52 = .ok (.iload 8, 2) := dk_21 8 (dk_at dksX8_guessAgain_2 4 rfl rfl)
theorem dX8_guessAgain_54 : decode cX8_guessAgain 54 = .ok (.iastore, 1) := dk_79 (dk_at dksX8_guessAgain_2 6 rfl rfl)
theorem dX8_guessAgain_55 : decode cX8_guessAgain 55 = .ok (.aload_n 0, 1) := dk_42 (dk_at dksX8_guessAgain_2 7 rfl rfl)
theorem dX8_guessAgain_56 : decode cX8_guessAgain 56 = .ok (.getfield 56, 3) := dk_180 0 56 (dk_at dksX8_guessAgain_2 8 rfl rfl)
theorem dX8_guessAgain_59 : decode cX8_guessAgain 59 = .ok (.iload_n 3, 1) := dk_29 (dk_at dksX8_guessAgain_2 11 rfl rfl)
theorem dX8_guessAgain_60 : decode cX8_guessAgain 60 = .ok (.iload 7, 2) := dk_21 7 (dk_at dksX8_guessAgain_2 12 rfl rfl)
theorem dX8_guessAgain_62 : decode cX8_guessAgain 62 = .ok (.iload 5, 2) := dk_21 5 (dk_at dksX8_guessAgain_2 14 rfl rfl)
theorem dX8_guessAgain_64 : decode cX8_guessAgain 64 = .ok (.invokestatic 111, 3) := dk_184 0 111 (dk_at dksX8_guessAgain_2 16 rfl rfl)
theorem dX8_guessAgain_67 : decode cX8_guessAgain 67 = .ok (.imul, 1) := dk_104 (dk_at dksX8_guessAgain_2 19 rfl rfl)
theorem dX8_guessAgain_68 : decode cX8_guessAgain 68 = .ok (.iadd, 1) := dk_96 (dk_at dksX8_guessAgain_2 20 rfl rfl)
theorem dX8_guessAgain_69 : decode cX8_guessAgain 69 = .ok (.iload 4, 2) := dk_21 4 (dk_at dksX8_guessAgain_2 21 rfl rfl)
theorem dX8_guessAgain_71 : decode cX8_guessAgain 71 = .ok (.iload 7, 2) := dk_21 7 (dk_at dksX8_guessAgain_3 0 rfl rfl)
theorem dX8_guessAgain_73 : decode cX8_guessAgain 73 = .ok (.iload 5, 2) := dk_21 5 (dk_at dksX8_guessAgain_3 2 rfl rfl)
theorem dX8_guessAgain_75 : decode cX8_guessAgain 75 = .ok (.invokestatic 115, 3) := dk_184 0 115 (dk_at dksX8_guessAgain_3 4 rfl rfl)
theorem dX8_guessAgain_78 : decode cX8_guessAgain 78 = .ok (.imul, 1) := dk_104 (dk_at dksX8_guessAgain_3 7 rfl rfl)
theorem dX8_guessAgain_79 : decode cX8_guessAgain 79 = .ok (.iadd, 1) := dk_96 (dk_at dksX8_guessAgain_3 8 rfl rfl)
theorem dX8_guessAgain_80 : decode cX8_guessAgain 80 = .ok (.iload 8, 2) := dk_21 8 (dk_at dksX8_guessAgain_3 9 rfl rfl)
theorem dX8_guessAgain_82 : decode cX8_guessAgain 82 = .ok (.aload_n 1, 1) := dk_43 (dk_at dksX8_guessAgain_3 11 rfl rfl)
theorem dX8_guessAgain_83 : decode cX8_guessAgain 83 = .ok (.getfield 77, 3) := dk_180 0 77 (dk_at dksX8_guessAgain_3 12 rfl rfl)
theorem dX8_guessAgain_86 : decode cX8_guessAgain 86 = .ok (.iload_n 2, 1) := dk_28 (dk_at dksX8_guessAgain_3 15 rfl rfl)
theorem dX8_guessAgain_87 : decode cX8_guessAgain 87 = .ok (.invokevirtual 80, 3) := dk_182 0 80 (dk_at dksX8_guessAgain_3 16 rfl rfl)
theorem dX8_guessAgain_90 : decode cX8_guessAgain 90 = .ok (.pop, 1) := dk_87 (dk_at dksX8_guessAgain_3 19 rfl rfl)
theorem dX8_guessAgain_91 : decode cX8_guessAgain 91 = .ok (.aload_n 0, 1) := dk_42 (dk_at dksX8_guessAgain_3 20 rfl rfl)
theorem dX8_guessAgain_92 : decode cX8_guessAgain 92 = .ok (.aload_n 0, 1) := dk_42 (dk_at dksX8_guessAgain_3 21 rfl rfl)
theorem dX8_guessAgain_93 : decode cX8_guessAgain 93 = .ok (.getfield 56, 3) := dk_180 0 56 (dk_at dksX8_guessAgain_4 0 rfl rfl)
theorem dX8_guessAgain_96 : decode cX8_guessAgain 96 = .ok (.iconst 2, 1) := dk_5 (dk_at dksX8_guessAgain_4 3 rfl rfl)
theorem dX8_guessAgain_97 : decode cX8_guessAgain 97 = .ok (.invokevirtual 122, 3) := dk_182 0 122 (dk_at dksX8_guessAgain_4 4 rfl rfl)
theorem dX8_guessAgain_100 : decode cX8_guessAgain 100 = .ok (.iinc 8 1, 3) := dk_132 8 1 (dk_at dksX8_guessAgain_4 7 rfl rfl)
theorem dX8_guessAgain_103 : decode cX8_guessAgain 103 = .ok (.goto (-81), 3) := dk_167 255 175 (dk_at dksX8_guessAgain_4 10 rfl rfl)
theorem dX8_guessAgain_106 : decode cX8_guessAgain 106 = .ok (.iinc 7 1, 3) := dk_132 7 1 (dk_at dksX8_guessAgain_4 13 rfl rfl)
theorem dX8_guessAgain_109 : decode cX8_guessAgain 109 = .ok (.goto (-97), 3) := dk_167 255 159 (dk_at dksX8_guessAgain_4 16 rfl rfl)
theorem dX8_guessAgain_112 : decode cX8_guessAgain 112 = .ok (.return_, 1) := dk_177 (dk_at dksX8_guessAgain_4 19 rfl rfl)
abbrev cX8_guess : ByteArray := prog_3_method_4_code
def yX8_guess : MethodName := ⟨RX8, "guess", "(LTrailMarkers$Post;II)V"⟩
def dkwX8_guess_6 : List UInt8 := [132, 8, 1, 167, 255, 170, 132, 5, 1, 167, 255, 120, 177]
abbrev dktX8_guess_6 : List UInt8 := dkwX8_guess_6 ++ []
def dkwX8_guess_5 : List UInt8 := [42, 180, 0, 53, 4, 182, 0, 122, 167, 0, 15, 42, 43, 28, 21, 6, 21, 7, 21, 8, 182, 0, 126]
abbrev dktX8_guess_5 : List UInt8 := dkwX8_guess_5 ++ dktX8_guess_6
def dkwX8_guess_4 : List UInt8 := [180, 0, 53, 21, 6, 21, 7, 21, 8, 43, 180, 0, 77, 28, 182, 0, 80, 87, 29, 4, 160, 0, 15, 42]
abbrev dktX8_guess_4 : List UInt8 := dkwX8_guess_4 ++ dktX8_guess_5
def dkwX8_guess_3 : List UInt8 := [182, 0, 118, 153, 0, 67, 42, 180, 0, 18, 3, 21, 5, 79, 42, 180, 0, 22, 4, 21, 8, 79, 42]
abbrev dktX8_guess_3 : List UInt8 := dkwX8_guess_3 ++ dktX8_guess_4
def dkwX8_guess_2 : List UInt8 := [184, 0, 115, 104, 96, 54, 7, 3, 54, 8, 21, 8, 7, 162, 0, 86, 42, 43, 180, 0, 74, 21, 8]
abbrev dktX8_guess_2 : List UInt8 := dkwX8_guess_2 ++ dktX8_guess_3
def dkwX8_guess_1 : List UInt8 := [21, 5, 43, 180, 0, 74, 184, 0, 111, 104, 96, 54, 6, 43, 180, 0, 71, 21, 5, 43, 180, 0, 74]
abbrev dktX8_guess_1 : List UInt8 := dkwX8_guess_1 ++ dktX8_guess_2
def dkwX8_guess_0 : List UInt8 := [42, 180, 0, 49, 180, 0, 91, 54, 4, 4, 54, 5, 21, 5, 21, 4, 163, 0, 135, 43, 180, 0, 65]
abbrev dktX8_guess_0 : List UInt8 := dkwX8_guess_0 ++ dktX8_guess_1
theorem dksX8_guess_0 : cX8_guess.data.toList.drop 0 = dktX8_guess_0 := by decide +kernel
theorem dksX8_guess_1 : cX8_guess.data.toList.drop 23 = dktX8_guess_1 := dk_seg dksX8_guess_0 23 rfl rfl
theorem dksX8_guess_2 : cX8_guess.data.toList.drop 46 = dktX8_guess_2 := dk_seg dksX8_guess_1 23 rfl rfl
theorem dksX8_guess_3 : cX8_guess.data.toList.drop 69 = dktX8_guess_3 := dk_seg dksX8_guess_2 23 rfl rfl
theorem dksX8_guess_4 : cX8_guess.data.toList.drop 92 = dktX8_guess_4 := dk_seg dksX8_guess_3 23 rfl rfl
theorem dksX8_guess_5 : cX8_guess.data.toList.drop 116 = dktX8_guess_5 := dk_seg dksX8_guess_4 24 rfl rfl
theorem dksX8_guess_6 : cX8_guess.data.toList.drop 139 = dktX8_guess_6 := dk_seg dksX8_guess_5 23 rfl rfl
theorem dX8_guess_0 : decode cX8_guess 0 = .ok (.aload_n 0, 1) := dk_42 (dk_at dksX8_guess_0 0 rfl rfl)
theorem dX8_guess_1 : decode cX8_guess 1 = .ok (.getfield 49, 3) := dk_180 0 49 (dk_at dksX8_guess_0 1 rfl rfl)
theorem dX8_guess_4 : decode cX8_guess 4 = .ok (.getfield 91, 3) := dk_180 0 91 (dk_at dksX8_guess_0 4 rfl rfl)
theorem dX8_guess_7 : decode cX8_guess 7 = .ok (.istore 4, 2) := dk_54 4 (dk_at dksX8_guess_0 7 rfl rfl)
theorem dX8_guess_9 : decode cX8_guess 9 = .ok (.iconst 1, 1) := dk_4 (dk_at dksX8_guess_0 9 rfl rfl)
theorem dX8_guess_10 : decode cX8_guess 10 = .ok (.istore 5, 2) := dk_54 5 (dk_at dksX8_guess_0 10 rfl rfl)
theorem dX8_guess_12 : decode cX8_guess 12 = .ok (.iload 5, 2) := dk_21 5 (dk_at dksX8_guess_0 12 rfl rfl)
theorem dX8_guess_14 : decode cX8_guess 14 = .ok (.iload 4, 2) := dk_21 4 (dk_at dksX8_guess_0 14 rfl rfl)
theorem dX8_guess_16 : decode cX8_guess 16 = .ok (.if_icmp .gt 135, 3) := dk_163 0 135 (dk_at dksX8_guess_0 16 rfl rfl)
theorem dX8_guess_19 : decode cX8_guess 19 = .ok (.aload_n 1, 1) := dk_43 (dk_at dksX8_guess_0 19 rfl rfl)
theorem dX8_guess_20 : decode cX8_guess 20 = .ok (.getfield 65, 3) := dk_180 0 65 (dk_at dksX8_guess_0 20 rfl rfl)
theorem dX8_guess_23 : decode cX8_guess 23 = .ok (.iload 5, 2) := dk_21 5 (dk_at dksX8_guess_1 0 rfl rfl)
theorem dX8_guess_25 : decode cX8_guess 25 = .ok (.aload_n 1, 1) := dk_43 (dk_at dksX8_guess_1 2 rfl rfl)
theorem dX8_guess_26 : decode cX8_guess 26 = .ok (.getfield 74, 3) := dk_180 0 74 (dk_at dksX8_guess_1 3 rfl rfl)
theorem dX8_guess_29 : decode cX8_guess 29 = .ok (.invokestatic 111, 3) := dk_184 0 111 (dk_at dksX8_guess_1 6 rfl rfl)
theorem dX8_guess_32 : decode cX8_guess 32 = .ok (.imul, 1) := dk_104 (dk_at dksX8_guess_1 9 rfl rfl)
theorem dX8_guess_33 : decode cX8_guess 33 = .ok (.iadd, 1) := dk_96 (dk_at dksX8_guess_1 10 rfl rfl)
theorem dX8_guess_34 : decode cX8_guess 34 = .ok (.istore 6, 2) := dk_54 6 (dk_at dksX8_guess_1 11 rfl rfl)
theorem dX8_guess_36 : decode cX8_guess 36 = .ok (.aload_n 1, 1) := dk_43 (dk_at dksX8_guess_1 13 rfl rfl)
theorem dX8_guess_37 : decode cX8_guess 37 = .ok (.getfield 71, 3) := dk_180 0 71 (dk_at dksX8_guess_1 14 rfl rfl)
theorem dX8_guess_40 : decode cX8_guess 40 = .ok (.iload 5, 2) := dk_21 5 (dk_at dksX8_guess_1 17 rfl rfl)
theorem dX8_guess_42 : decode cX8_guess 42 = .ok (.aload_n 1, 1) := dk_43 (dk_at dksX8_guess_1 19 rfl rfl)
theorem dX8_guess_43 : decode cX8_guess 43 = .ok (.getfield 74, 3) := dk_180 0 74 (dk_at dksX8_guess_1 20 rfl rfl)
theorem dX8_guess_46 : decode cX8_guess 46 = .ok (.invokestatic 115, 3) := dk_184 0 115 (dk_at dksX8_guess_2 0 rfl rfl)
theorem dX8_guess_49 : decode cX8_guess 49 = .ok (.imul, 1) := dk_104 (dk_at dksX8_guess_2 3 rfl rfl)
theorem dX8_guess_50 : decode cX8_guess 50 = .ok (.iadd, 1) := dk_96 (dk_at dksX8_guess_2 4 rfl rfl)
theorem dX8_guess_51 : decode cX8_guess 51 = .ok (.istore 7, 2) := dk_54 7 (dk_at dksX8_guess_2 5 rfl rfl)
theorem dX8_guess_53 : decode cX8_guess 53 = .ok (.iconst 0, 1) := dk_3 (dk_at dksX8_guess_2 7 rfl rfl)
theorem dX8_guess_54 : decode cX8_guess 54 = .ok (.istore 8, 2) := dk_54 8 (dk_at dksX8_guess_2 8 rfl rfl)
theorem dX8_guess_56 : decode cX8_guess 56 = .ok (.iload 8, 2) := dk_21 8 (dk_at dksX8_guess_2 10 rfl rfl)
theorem dX8_guess_58 : decode cX8_guess 58 = .ok (.iconst 4, 1) := dk_7 (dk_at dksX8_guess_2 12 rfl rfl)
theorem dX8_guess_59 : decode cX8_guess 59 = .ok (.if_icmp .ge 86, 3) := dk_162 0 86 (dk_at dksX8_guess_2 13 rfl rfl)
theorem dX8_guess_62 : decode cX8_guess 62 = .ok (.aload_n 0, 1) := dk_42 (dk_at dksX8_guess_2 16 rfl rfl)
theorem dX8_guess_63 : decode cX8_guess 63 = .ok (.aload_n 1, 1) := dk_43 (dk_at dksX8_guess_2 17 rfl rfl)
theorem dX8_guess_64 : decode cX8_guess 64 = .ok (.getfield 74, 3) := dk_180 0 74 (dk_at dksX8_guess_2 18 rfl rfl)
theorem dX8_guess_67 : decode cX8_guess 67 = .ok (.iload 8, 2) := dk_21 8 (dk_at dksX8_guess_2 21 rfl rfl)
theorem dX8_guess_69 : decode cX8_guess 69 = .ok (.invokevirtual 118, 3) := dk_182 0 118 (dk_at dksX8_guess_3 0 rfl rfl)
theorem dX8_guess_72 : decode cX8_guess 72 = .ok (.ifCond .eq 67, 3) := dk_153 0 67 (dk_at dksX8_guess_3 3 rfl rfl)
theorem dX8_guess_75 : decode cX8_guess 75 = .ok (.aload_n 0, 1) := dk_42 (dk_at dksX8_guess_3 6 rfl rfl)
theorem dX8_guess_76 : decode cX8_guess 76 = .ok (.getfield 18, 3) := dk_180 0 18 (dk_at dksX8_guess_3 7 rfl rfl)
theorem dX8_guess_79 : decode cX8_guess 79 = .ok (.iconst 0, 1) := dk_3 (dk_at dksX8_guess_3 10 rfl rfl)
theorem dX8_guess_80 : decode cX8_guess 80 = .ok (.iload 5, 2) := dk_21 5 (dk_at dksX8_guess_3 11 rfl rfl)
theorem dX8_guess_82 : decode cX8_guess 82 = .ok (.iastore, 1) := dk_79 (dk_at dksX8_guess_3 13 rfl rfl)
theorem dX8_guess_83 : decode cX8_guess 83 = .ok (.aload_n 0, 1) := dk_42 (dk_at dksX8_guess_3 14 rfl rfl)
theorem dX8_guess_84 : decode cX8_guess 84 = .ok (.getfield 22, 3) := dk_180 0 22 (dk_at dksX8_guess_3 15 rfl rfl)
theorem dX8_guess_87 : decode cX8_guess 87 = .ok (.iconst 1, 1) := dk_4 (dk_at dksX8_guess_3 18 rfl rfl)
theorem dX8_guess_88 : decode cX8_guess 88 = .ok (.iload 8, 2) := dk_21 8 (dk_at dksX8_guess_3 19 rfl rfl)
theorem dX8_guess_90 : decode cX8_guess 90 = .ok (.iastore, 1) := dk_79 (dk_at dksX8_guess_3 21 rfl rfl)
theorem dX8_guess_91 : decode cX8_guess 91 = .ok (.aload_n 0, 1) := dk_42 (dk_at dksX8_guess_3 22 rfl rfl)
theorem dX8_guess_92 : decode cX8_guess 92 = .ok (.getfield 53, 3) := dk_180 0 53 (dk_at dksX8_guess_4 0 rfl rfl)
theorem dX8_guess_95 : decode cX8_guess 95 = .ok (.iload 6, 2) := dk_21 6 (dk_at dksX8_guess_4 3 rfl rfl)
theorem dX8_guess_97 : decode cX8_guess 97 = .ok (.iload 7, 2) := dk_21 7 (dk_at dksX8_guess_4 5 rfl rfl)
theorem dX8_guess_99 : decode cX8_guess 99 = .ok (.iload 8, 2) := dk_21 8 (dk_at dksX8_guess_4 7 rfl rfl)
theorem dX8_guess_101 : decode cX8_guess 101 = .ok (.aload_n 1, 1) := dk_43 (dk_at dksX8_guess_4 9 rfl rfl)
theorem dX8_guess_102 : decode cX8_guess 102 = .ok (.getfield 77, 3) := dk_180 0 77 (dk_at dksX8_guess_4 10 rfl rfl)
theorem dX8_guess_105 : decode cX8_guess 105 = .ok (.iload_n 2, 1) := dk_28 (dk_at dksX8_guess_4 13 rfl rfl)
theorem dX8_guess_106 : decode cX8_guess 106 = .ok (.invokevirtual 80, 3) := dk_182 0 80 (dk_at dksX8_guess_4 14 rfl rfl)
theorem dX8_guess_109 : decode cX8_guess 109 = .ok (.pop, 1) := dk_87 (dk_at dksX8_guess_4 17 rfl rfl)
theorem dX8_guess_110 : decode cX8_guess 110 = .ok (.iload_n 3, 1) := dk_29 (dk_at dksX8_guess_4 18 rfl rfl)
theorem dX8_guess_111 : decode cX8_guess 111 = .ok (.iconst 1, 1) := dk_4 (dk_at dksX8_guess_4 19 rfl rfl)
theorem dX8_guess_112 : decode cX8_guess 112 = .ok (.if_icmp .ne 15, 3) := dk_160 0 15 (dk_at dksX8_guess_4 20 rfl rfl)
theorem dX8_guess_115 : decode cX8_guess 115 = .ok (.aload_n 0, 1) := dk_42 (dk_at dksX8_guess_4 23 rfl rfl)
theorem dX8_guess_116 : decode cX8_guess 116 = .ok (.aload_n 0, 1) := dk_42 (dk_at dksX8_guess_5 0 rfl rfl)
theorem dX8_guess_117 : decode cX8_guess 117 = .ok (.getfield 53, 3) := dk_180 0 53 (dk_at dksX8_guess_5 1 rfl rfl)
theorem dX8_guess_120 : decode cX8_guess 120 = .ok (.iconst 1, 1) := dk_4 (dk_at dksX8_guess_5 4 rfl rfl)
theorem dX8_guess_121 : decode cX8_guess 121 = .ok (.invokevirtual 122, 3) := dk_182 0 122 (dk_at dksX8_guess_5 5 rfl rfl)
theorem dX8_guess_124 : decode cX8_guess 124 = .ok (.goto 15, 3) := dk_167 0 15 (dk_at dksX8_guess_5 8 rfl rfl)
theorem dX8_guess_127 : decode cX8_guess 127 = .ok (.aload_n 0, 1) := dk_42 (dk_at dksX8_guess_5 11 rfl rfl)
theorem dX8_guess_128 : decode cX8_guess 128 = .ok (.aload_n 1, 1) := dk_43 (dk_at dksX8_guess_5 12 rfl rfl)
theorem dX8_guess_129 : decode cX8_guess 129 = .ok (.iload_n 2, 1) := dk_28 (dk_at dksX8_guess_5 13 rfl rfl)
theorem dX8_guess_130 : decode cX8_guess 130 = .ok (.iload 6, 2) := dk_21 6 (dk_at dksX8_guess_5 14 rfl rfl)
theorem dX8_guess_132 : decode cX8_guess 132 = .ok (.iload 7, 2) := dk_21 7 (dk_at dksX8_guess_5 16 rfl rfl)
theorem dX8_guess_134 : decode cX8_guess 134 = .ok (.iload 8, 2) := dk_21 8 (dk_at dksX8_guess_5 18 rfl rfl)
theorem dX8_guess_136 : decode cX8_guess 136 = .ok (.invokevirtual 126, 3) := dk_182 0 126 (dk_at dksX8_guess_5 20 rfl rfl)
theorem dX8_guess_139 : decode cX8_guess 139 = .ok (.iinc 8 1, 3) := dk_132 8 1 (dk_at dksX8_guess_6 0 rfl rfl)
theorem dX8_guess_142 : decode cX8_guess 142 = .ok (.goto (-86), 3) := dk_167 255 170 (dk_at dksX8_guess_6 3 rfl rfl)
theorem dX8_guess_145 : decode cX8_guess 145 = .ok (.iinc 5 1, 3) := dk_132 5 1 (dk_at dksX8_guess_6 6 rfl rfl)
theorem dX8_guess_148 : decode cX8_guess 148 = .ok (.goto (-136), 3) := dk_167 255 120 (dk_at dksX8_guess_6 9 rfl rfl)
theorem dX8_guess_151 : decode cX8_guess 151 = .ok (.return_, 1) := dk_177 (dk_at dksX8_guess_6 12 rfl rfl)
abbrev cX8_plainFrom : ByteArray := prog_3_method_2_code
def yX8_plainFrom : MethodName := ⟨RX8, "plainFrom", "(I)LTrailMarkers$Walk;"⟩
def dkwX8_plainFrom_1 : List UInt8 := [180, 0, 74, 44, 180, 0, 77, 27, 182, 0, 80, 176]
abbrev dktX8_plainFrom_1 : List UInt8 := dkwX8_plainFrom_1 ++ []
def dkwX8_plainFrom_0 : List UInt8 := [42, 180, 0, 40, 180, 0, 59, 27, 50, 77, 42, 180, 0, 49, 44, 180, 0, 65, 44, 180, 0, 71, 44]
abbrev dktX8_plainFrom_0 : List UInt8 := dkwX8_plainFrom_0 ++ dktX8_plainFrom_1
theorem dksX8_plainFrom_0 : cX8_plainFrom.data.toList.drop 0 = dktX8_plainFrom_0 := by decide +kernel
theorem dksX8_plainFrom_1 : cX8_plainFrom.data.toList.drop 23 = dktX8_plainFrom_1 := dk_seg dksX8_plainFrom_0 23 rfl rfl
theorem dX8_plainFrom_0 : decode cX8_plainFrom 0 = .ok (.aload_n 0, 1) := dk_42 (dk_at dksX8_plainFrom_0 0 rfl rfl)
theorem dX8_plainFrom_1 : decode cX8_plainFrom 1 = .ok (.getfield 40, 3) := dk_180 0 40 (dk_at dksX8_plainFrom_0 1 rfl rfl)
theorem dX8_plainFrom_4 : decode cX8_plainFrom 4 = .ok (.getfield 59, 3) := dk_180 0 59 (dk_at dksX8_plainFrom_0 4 rfl rfl)
theorem dX8_plainFrom_7 : decode cX8_plainFrom 7 = .ok (.iload_n 1, 1) := dk_27 (dk_at dksX8_plainFrom_0 7 rfl rfl)
theorem dX8_plainFrom_8 : decode cX8_plainFrom 8 = .ok (.aaload, 1) := dk_50 (dk_at dksX8_plainFrom_0 8 rfl rfl)
theorem dX8_plainFrom_9 : decode cX8_plainFrom 9 = .ok (.astore_n 2, 1) := dk_77 (dk_at dksX8_plainFrom_0 9 rfl rfl)
theorem dX8_plainFrom_10 : decode cX8_plainFrom 10 = .ok (.aload_n 0, 1) := dk_42 (dk_at dksX8_plainFrom_0 10 rfl rfl)
theorem dX8_plainFrom_11 : decode cX8_plainFrom 11 = .ok (.getfield 49, 3) := dk_180 0 49 (dk_at dksX8_plainFrom_0 11 rfl rfl)
theorem dX8_plainFrom_14 : decode cX8_plainFrom 14 = .ok (.aload_n 2, 1) := dk_44 (dk_at dksX8_plainFrom_0 14 rfl rfl)
theorem dX8_plainFrom_15 : decode cX8_plainFrom 15 = .ok (.getfield 65, 3) := dk_180 0 65 (dk_at dksX8_plainFrom_0 15 rfl rfl)
theorem dX8_plainFrom_18 : decode cX8_plainFrom 18 = .ok (.aload_n 2, 1) := dk_44 (dk_at dksX8_plainFrom_0 18 rfl rfl)
theorem dX8_plainFrom_19 : decode cX8_plainFrom 19 = .ok (.getfield 71, 3) := dk_180 0 71 (dk_at dksX8_plainFrom_0 19 rfl rfl)
theorem dX8_plainFrom_22 : decode cX8_plainFrom 22 = .ok (.aload_n 2, 1) := dk_44 (dk_at dksX8_plainFrom_0 22 rfl rfl)
theorem dX8_plainFrom_23 : decode cX8_plainFrom 23 = .ok (.getfield 74, 3) := dk_180 0 74 (dk_at dksX8_plainFrom_1 0 rfl rfl)
theorem dX8_plainFrom_26 : decode cX8_plainFrom 26 = .ok (.aload_n 2, 1) := dk_44 (dk_at dksX8_plainFrom_1 3 rfl rfl)
theorem dX8_plainFrom_27 : decode cX8_plainFrom 27 = .ok (.getfield 77, 3) := dk_180 0 77 (dk_at dksX8_plainFrom_1 4 rfl rfl)
theorem dX8_plainFrom_30 : decode cX8_plainFrom 30 = .ok (.iload_n 1, 1) := dk_27 (dk_at dksX8_plainFrom_1 7 rfl rfl)
theorem dX8_plainFrom_31 : decode cX8_plainFrom 31 = .ok (.invokevirtual 80, 3) := dk_182 0 80 (dk_at dksX8_plainFrom_1 8 rfl rfl)
theorem dX8_plainFrom_34 : decode cX8_plainFrom 34 = .ok (.areturn, 1) := dk_176 (dk_at dksX8_plainFrom_1 11 rfl rfl)
abbrev cX8_find : ByteArray := prog_3_method_3_code
def yX8_find : MethodName := ⟨RX8, "find", "(I)LTrailMarkers$Way;"⟩
def dkwX8_find_5 : List UInt8 := [160, 0, 16, 42, 44, 27, 29, 182, 0, 107, 132, 3, 1, 167, 255, 222, 42, 180, 0, 12, 176]
abbrev dktX8_find_5 : List UInt8 := dkwX8_find_5 ++ []
def dkwX8_find_4 : List UInt8 := [62, 29, 42, 180, 0, 40, 180, 0, 101, 4, 46, 163, 0, 27, 42, 180, 0, 12, 180, 0, 104, 2]
abbrev dktX8_find_4 : List UInt8 := dkwX8_find_4 ++ dktX8_find_5
def dkwX8_find_3 : List UInt8 := [42, 180, 0, 12, 42, 180, 0, 49, 180, 0, 94, 3, 42, 180, 0, 18, 42, 180, 0, 22, 182, 0, 97, 4]
abbrev dktX8_find_3 : List UInt8 := dkwX8_find_3 ++ dktX8_find_4
def dkwX8_find_2 : List UInt8 := [42, 180, 0, 18, 3, 42, 180, 0, 49, 180, 0, 91, 79, 42, 180, 0, 49, 180, 0, 94, 2, 159, 0, 26]
abbrev dktX8_find_2 : List UInt8 := dkwX8_find_2 ++ dktX8_find_3
def dkwX8_find_1 : List UInt8 := [160, 0, 8, 42, 180, 0, 12, 176, 42, 27, 182, 0, 87, 87, 42, 180, 0, 22, 3, 44, 180, 0, 74, 79]
abbrev dktX8_find_1 : List UInt8 := dkwX8_find_1 ++ dktX8_find_2
def dkwX8_find_0 : List UInt8 := [42, 180, 0, 12, 182, 0, 84, 42, 180, 0, 40, 180, 0, 59, 27, 50, 77, 44, 180, 0, 74, 7]
abbrev dktX8_find_0 : List UInt8 := dkwX8_find_0 ++ dktX8_find_1
theorem dksX8_find_0 : cX8_find.data.toList.drop 0 = dktX8_find_0 := by decide +kernel
theorem dksX8_find_1 : cX8_find.data.toList.drop 22 = dktX8_find_1 := dk_seg dksX8_find_0 22 rfl rfl
theorem dksX8_find_2 : cX8_find.data.toList.drop 46 = dktX8_find_2 := dk_seg dksX8_find_1 24 rfl rfl
theorem dksX8_find_3 : cX8_find.data.toList.drop 70 = dktX8_find_3 := dk_seg dksX8_find_2 24 rfl rfl
theorem dksX8_find_4 : cX8_find.data.toList.drop 94 = dktX8_find_4 := dk_seg dksX8_find_3 24 rfl rfl
theorem dksX8_find_5 : cX8_find.data.toList.drop 116 = dktX8_find_5 := dk_seg dksX8_find_4 22 rfl rfl
theorem dX8_find_0 : decode cX8_find 0 = .ok (.aload_n 0, 1) := dk_42 (dk_at dksX8_find_0 0 rfl rfl)
theorem dX8_find_1 : decode cX8_find 1 = .ok (.getfield 12, 3) := dk_180 0 12 (dk_at dksX8_find_0 1 rfl rfl)
theorem dX8_find_4 : decode cX8_find 4 = .ok (.invokevirtual 84, 3) := dk_182 0 84 (dk_at dksX8_find_0 4 rfl rfl)
theorem dX8_find_7 : decode cX8_find 7 = .ok (.aload_n 0, 1) := dk_42 (dk_at dksX8_find_0 7 rfl rfl)
theorem dX8_find_8 : decode cX8_find 8 = .ok (.getfield 40, 3) := dk_180 0 40 (dk_at dksX8_find_0 8 rfl rfl)
theorem dX8_find_11 : decode cX8_find 11 = .ok (.getfield 59, 3) := dk_180 0 59 (dk_at dksX8_find_0 11 rfl rfl)
theorem dX8_find_14 : decode cX8_find 14 = .ok (.iload_n 1, 1) := dk_27 (dk_at dksX8_find_0 14 rfl rfl)
theorem dX8_find_15 : decode cX8_find 15 = .ok (.aaload, 1) := dk_50 (dk_at dksX8_find_0 15 rfl rfl)
theorem dX8_find_16 : decode cX8_find 16 = .ok (.astore_n 2, 1) := dk_77 (dk_at dksX8_find_0 16 rfl rfl)
theorem dX8_find_17 : decode cX8_find 17 = .ok (.aload_n 2, 1) := dk_44 (dk_at dksX8_find_0 17 rfl rfl)
theorem dX8_find_18 : decode cX8_find 18 = .ok (.getfield 74, 3) := dk_180 0 74 (dk_at dksX8_find_0 18 rfl rfl)
theorem dX8_find_21 : decode cX8_find 21 = .ok (.iconst 4, 1) := dk_7 (dk_at dksX8_find_0 21 rfl rfl)
theorem dX8_find_22 : decode cX8_find 22 = .ok (.if_icmp .ne 8, 3) := dk_160 0 8 (dk_at dksX8_find_1 0 rfl rfl)
theorem dX8_find_25 : decode cX8_find 25 = .ok (.aload_n 0, 1) := dk_42 (dk_at dksX8_find_1 3 rfl rfl)
theorem dX8_find_26 : decode cX8_find 26 = .ok (.getfield 12, 3) := dk_180 0 12 (dk_at dksX8_find_1 4 rfl rfl)
theorem dX8_find_29 : decode cX8_find 29 = .ok (.areturn, 1) := dk_176 (dk_at dksX8_find_1 7 rfl rfl)
theorem dX8_find_30 : decode cX8_find 30 = .ok (.aload_n 0, 1) := dk_42 (dk_at dksX8_find_1 8 rfl rfl)
theorem dX8_find_31 : decode cX8_find 31 = .ok (.iload_n 1, 1) := dk_27 (dk_at dksX8_find_1 9 rfl rfl)
theorem dX8_find_32 : decode cX8_find 32 = .ok (.invokevirtual 87, 3) := dk_182 0 87 (dk_at dksX8_find_1 10 rfl rfl)
theorem dX8_find_35 : decode cX8_find 35 = .ok (.pop, 1) := dk_87 (dk_at dksX8_find_1 13 rfl rfl)
theorem dX8_find_36 : decode cX8_find 36 = .ok (.aload_n 0, 1) := dk_42 (dk_at dksX8_find_1 14 rfl rfl)
theorem dX8_find_37 : decode cX8_find 37 = .ok (.getfield 22, 3) := dk_180 0 22 (dk_at dksX8_find_1 15 rfl rfl)
theorem dX8_find_40 : decode cX8_find 40 = .ok (.iconst 0, 1) := dk_3 (dk_at dksX8_find_1 18 rfl rfl)
theorem dX8_find_41 : decode cX8_find 41 = .ok (.aload_n 2, 1) := dk_44 (dk_at dksX8_find_1 19 rfl rfl)
theorem dX8_find_42 : decode cX8_find 42 = .ok (.getfield 74, 3) := dk_180 0 74 (dk_at dksX8_find_1 20 rfl rfl)
theorem dX8_find_45 : decode cX8_find 45 = .ok (.iastore, 1) := dk_79 (dk_at dksX8_find_1 23 rfl rfl)
theorem dX8_find_46 : decode cX8_find 46 = .ok (.aload_n 0, 1) := dk_42 (dk_at dksX8_find_2 0 rfl rfl)
theorem dX8_find_47 : decode cX8_find 47 = .ok (.getfield 18, 3) := dk_180 0 18 (dk_at dksX8_find_2 1 rfl rfl)
theorem dX8_find_50 : decode cX8_find 50 = .ok (.iconst 0, 1) := dk_3 (dk_at dksX8_find_2 4 rfl rfl)
theorem dX8_find_51 : decode cX8_find 51 = .ok (.aload_n 0, 1) := dk_42 (dk_at dksX8_find_2 5 rfl rfl)
theorem dX8_find_52 : decode cX8_find 52 = .ok (.getfield 49, 3) := dk_180 0 49 (dk_at dksX8_find_2 6 rfl rfl)
theorem dX8_find_55 : decode cX8_find 55 = .ok (.getfield 91, 3) := dk_180 0 91 (dk_at dksX8_find_2 9 rfl rfl)
theorem dX8_find_58 : decode cX8_find 58 = .ok (.iastore, 1) := dk_79 (dk_at dksX8_find_2 12 rfl rfl)
theorem dX8_find_59 : decode cX8_find 59 = .ok (.aload_n 0, 1) := dk_42 (dk_at dksX8_find_2 13 rfl rfl)
theorem dX8_find_60 : decode cX8_find 60 = .ok (.getfield 49, 3) := dk_180 0 49 (dk_at dksX8_find_2 14 rfl rfl)
theorem dX8_find_63 : decode cX8_find 63 = .ok (.getfield 94, 3) := dk_180 0 94 (dk_at dksX8_find_2 17 rfl rfl)
theorem dX8_find_66 : decode cX8_find 66 = .ok (.iconst (-1), 1) := dk_2 (dk_at dksX8_find_2 20 rfl rfl)
theorem dX8_find_67 : decode cX8_find 67 = .ok (.if_icmp .eq 26, 3) := dk_159 0 26 (dk_at dksX8_find_2 21 rfl rfl)
theorem dX8_find_70 : decode cX8_find 70 = .ok (.aload_n 0, 1) := dk_42 (dk_at dksX8_find_3 0 rfl rfl)
theorem dX8_find_71 : decode cX8_find 71 = .ok (.getfield 12, 3) := dk_180 0 12 (dk_at dksX8_find_3 1 rfl rfl)
theorem dX8_find_74 : decode cX8_find 74 = .ok (.aload_n 0, 1) := dk_42 (dk_at dksX8_find_3 4 rfl rfl)
theorem dX8_find_75 : decode cX8_find 75 = .ok (.getfield 49, 3) := dk_180 0 49 (dk_at dksX8_find_3 5 rfl rfl)
theorem dX8_find_78 : decode cX8_find 78 = .ok (.getfield 94, 3) := dk_180 0 94 (dk_at dksX8_find_3 8 rfl rfl)
theorem dX8_find_81 : decode cX8_find 81 = .ok (.iconst 0, 1) := dk_3 (dk_at dksX8_find_3 11 rfl rfl)
theorem dX8_find_82 : decode cX8_find 82 = .ok (.aload_n 0, 1) := dk_42 (dk_at dksX8_find_3 12 rfl rfl)
theorem dX8_find_83 : decode cX8_find 83 = .ok (.getfield 18, 3) := dk_180 0 18 (dk_at dksX8_find_3 13 rfl rfl)
theorem dX8_find_86 : decode cX8_find 86 = .ok (.aload_n 0, 1) := dk_42 (dk_at dksX8_find_3 16 rfl rfl)
theorem dX8_find_87 : decode cX8_find 87 = .ok (.getfield 22, 3) := dk_180 0 22 (dk_at dksX8_find_3 17 rfl rfl)
theorem dX8_find_90 : decode cX8_find 90 = .ok (.invokevirtual 97, 3) := dk_182 0 97 (dk_at dksX8_find_3 20 rfl rfl)
theorem dX8_find_93 : decode cX8_find 93 = .ok (.iconst 1, 1) := dk_4 (dk_at dksX8_find_3 23 rfl rfl)
theorem dX8_find_94 : decode cX8_find 94 = .ok (.istore_n 3, 1) := dk_62 (dk_at dksX8_find_4 0 rfl rfl)
theorem dX8_find_95 : decode cX8_find 95 = .ok (.iload_n 3, 1) := dk_29 (dk_at dksX8_find_4 1 rfl rfl)
theorem dX8_find_96 : decode cX8_find 96 = .ok (.aload_n 0, 1) := dk_42 (dk_at dksX8_find_4 2 rfl rfl)
theorem dX8_find_97 : decode cX8_find 97 = .ok (.getfield 40, 3) := dk_180 0 40 (dk_at dksX8_find_4 3 rfl rfl)
theorem dX8_find_100 : decode cX8_find 100 = .ok (.getfield 101, 3) := dk_180 0 101 (dk_at dksX8_find_4 6 rfl rfl)
theorem dX8_find_103 : decode cX8_find 103 = .ok (.iconst 1, 1) := dk_4 (dk_at dksX8_find_4 9 rfl rfl)
theorem dX8_find_104 : decode cX8_find 104 = .ok (.iaload, 1) := dk_46 (dk_at dksX8_find_4 10 rfl rfl)
theorem dX8_find_105 : decode cX8_find 105 = .ok (.if_icmp .gt 27, 3) := dk_163 0 27 (dk_at dksX8_find_4 11 rfl rfl)
theorem dX8_find_108 : decode cX8_find 108 = .ok (.aload_n 0, 1) := dk_42 (dk_at dksX8_find_4 14 rfl rfl)
theorem dX8_find_109 : decode cX8_find 109 = .ok (.getfield 12, 3) := dk_180 0 12 (dk_at dksX8_find_4 15 rfl rfl)
theorem dX8_find_112 : decode cX8_find 112 = .ok (.getfield 104, 3) := dk_180 0 104 (dk_at dksX8_find_4 18 rfl rfl)
theorem dX8_find_115 : decode cX8_find 115 = .ok (.iconst (-1), 1) := dk_2 (dk_at dksX8_find_4 21 rfl rfl)
theorem dX8_find_116 : decode cX8_find 116 = .ok (.if_icmp .ne 16, 3) := dk_160 0 16 (dk_at dksX8_find_5 0 rfl rfl)
theorem dX8_find_119 : decode cX8_find 119 = .ok (.aload_n 0, 1) := dk_42 (dk_at dksX8_find_5 3 rfl rfl)
theorem dX8_find_120 : decode cX8_find 120 = .ok (.aload_n 2, 1) := dk_44 (dk_at dksX8_find_5 4 rfl rfl)
theorem dX8_find_121 : decode cX8_find 121 = .ok (.iload_n 1, 1) := dk_27 (dk_at dksX8_find_5 5 rfl rfl)
theorem dX8_find_122 : decode cX8_find 122 = .ok (.iload_n 3, 1) := dk_29 (dk_at dksX8_find_5 6 rfl rfl)
theorem dX8_find_123 : decode cX8_find 123 = .ok (.invokevirtual 107, 3) := dk_182 0 107 (dk_at dksX8_find_5 7 rfl rfl)
theorem dX8_find_126 : decode cX8_find 126 = .ok (.iinc 3 1, 3) := dk_132 3 1 (dk_at dksX8_find_5 10 rfl rfl)
theorem dX8_find_129 : decode cX8_find 129 = .ok (.goto (-34), 3) := dk_167 255 222 (dk_at dksX8_find_5 13 rfl rfl)
theorem dX8_find_132 : decode cX8_find 132 = .ok (.aload_n 0, 1) := dk_42 (dk_at dksX8_find_5 16 rfl rfl)
theorem dX8_find_133 : decode cX8_find 133 = .ok (.getfield 12, 3) := dk_180 0 12 (dk_at dksX8_find_5 17 rfl rfl)
theorem dX8_find_136 : decode cX8_find 136 = .ok (.areturn, 1) := dk_176 (dk_at dksX8_find_5 20 rfl rfl)
abbrev cX8_layWay : ByteArray := prog_3_method_11_code
def yX8_layWay : MethodName := ⟨RX8, "layWay", "(LTrailMarkers$Post;)V"⟩
def dkwX8_layWay_9 : List UInt8 := [42, 180, 0, 142, 42, 180, 0, 12, 180, 0, 179, 184, 0, 182, 181, 0, 142, 177]
abbrev dktX8_layWay_9 : List UInt8 := dkwX8_layWay_9 ++ []
def dkwX8_layWay_8 : List UInt8 := [16, 100, 28, 104, 29, 96, 79, 42, 89, 180, 0, 136, 4, 96, 181, 0, 136, 132, 4, 1, 167, 255, 63, 42]
abbrev dktX8_layWay_8 : List UInt8 := dkwX8_layWay_8 ++ dktX8_layWay_9
def dkwX8_layWay_7 : List UInt8 := [83, 42, 89, 180, 0, 139, 4, 96, 181, 0, 139, 21, 5, 153, 0, 28, 42, 180, 0, 31, 42, 180, 0, 136]
abbrev dktX8_layWay_7 : List UInt8 := dkwX8_layWay_7 ++ dktX8_layWay_8
def dkwX8_layWay_6 : List UInt8 := [180, 0, 12, 180, 0, 174, 21, 4, 46, 42, 180, 0, 12, 180, 0, 175, 21, 4, 46, 21, 5, 183, 0, 176]
abbrev dktX8_layWay_6 : List UInt8 := dkwX8_layWay_6 ++ dktX8_layWay_7
def dkwX8_layWay_5 : List UInt8 := [162, 0, 7, 4, 167, 0, 4, 3, 54, 5, 42, 180, 0, 36, 42, 180, 0, 139, 187, 0, 34, 89, 42]
abbrev dktX8_layWay_5 : List UInt8 := dkwX8_layWay_5 ++ dktX8_layWay_6
def dkwX8_layWay_4 : List UInt8 := [180, 0, 130, 4, 96, 181, 0, 130, 132, 5, 1, 167, 255, 181, 21, 4, 42, 180, 0, 12, 180, 0, 171]
abbrev dktX8_layWay_4 : List UInt8 := dkwX8_layWay_4 ++ dktX8_layWay_5
def dkwX8_layWay_3 : List UInt8 := [46, 184, 0, 115, 96, 62, 42, 180, 0, 28, 42, 180, 0, 130, 16, 100, 28, 104, 29, 96, 79, 42, 89]
abbrev dktX8_layWay_3 : List UInt8 := dkwX8_layWay_3 ++ dktX8_layWay_4
def dkwX8_layWay_2 : List UInt8 := [180, 0, 12, 180, 0, 175, 21, 4, 46, 184, 0, 111, 96, 61, 29, 42, 180, 0, 12, 180, 0, 175, 21, 4]
abbrev dktX8_layWay_2 : List UInt8 := dkwX8_layWay_2 ++ dktX8_layWay_3
def dkwX8_layWay_1 : List UInt8 := [163, 0, 187, 3, 54, 5, 21, 5, 42, 180, 0, 12, 180, 0, 174, 21, 4, 46, 162, 0, 66, 28, 42]
abbrev dktX8_layWay_1 : List UInt8 := dkwX8_layWay_1 ++ dktX8_layWay_2
def dkwX8_layWay_0 : List UInt8 := [43, 180, 0, 65, 61, 43, 180, 0, 71, 62, 3, 54, 4, 21, 4, 42, 180, 0, 12, 180, 0, 171]
abbrev dktX8_layWay_0 : List UInt8 := dkwX8_layWay_0 ++ dktX8_layWay_1
theorem dksX8_layWay_0 : cX8_layWay.data.toList.drop 0 = dktX8_layWay_0 := by decide +kernel
theorem dksX8_layWay_1 : cX8_layWay.data.toList.drop 22 = dktX8_layWay_1 := dk_seg dksX8_layWay_0 22 rfl rfl
theorem dksX8_layWay_2 : cX8_layWay.data.toList.drop 45 = dktX8_layWay_2 := dk_seg dksX8_layWay_1 23 rfl rfl
theorem dksX8_layWay_3 : cX8_layWay.data.toList.drop 69 = dktX8_layWay_3 := dk_seg dksX8_layWay_2 24 rfl rfl
theorem dksX8_layWay_4 : cX8_layWay.data.toList.drop 92 = dktX8_layWay_4 := dk_seg dksX8_layWay_3 23 rfl rfl
theorem dksX8_layWay_5 : cX8_layWay.data.toList.drop 115 = dktX8_layWay_5 := dk_seg dksX8_layWay_4 23 rfl rfl
theorem dksX8_layWay_6 : cX8_layWay.data.toList.drop 138 = dktX8_layWay_6 := dk_seg dksX8_layWay_5 23 rfl rfl
theorem dksX8_layWay_7 : cX8_layWay.data.toList.drop 162 = dktX8_layWay_7 := dk_seg dksX8_layWay_6 24 rfl rfl
theorem dksX8_layWay_8 : cX8_layWay.data.toList.drop 186 = dktX8_layWay_8 := dk_seg dksX8_layWay_7 24 rfl rfl
theorem dksX8_layWay_9 : cX8_layWay.data.toList.drop 210 = dktX8_layWay_9 := dk_seg dksX8_layWay_8 24 rfl rfl
theorem dX8_layWay_0 : decode cX8_layWay 0 = .ok (.aload_n 1, 1) := dk_43 (dk_at dksX8_layWay_0 0 rfl rfl)
theorem dX8_layWay_1 : decode cX8_layWay 1 = .ok (.getfield 65, 3) := dk_180 0 65 (dk_at dksX8_layWay_0 1 rfl rfl)
theorem dX8_layWay_4 : decode cX8_layWay 4 = .ok (.istore_n 2, 1) := dk_61 (dk_at dksX8_layWay_0 4 rfl rfl)
theorem dX8_layWay_5 : decode cX8_layWay 5 = .ok (.aload_n 1, 1) := dk_43 (dk_at dksX8_layWay_0 5 rfl rfl)
theorem dX8_layWay_6 : decode cX8_layWay 6 = .ok (.getfield 71, 3) := dk_180 0 71 (dk_at dksX8_layWay_0 6 rfl rfl)
theorem dX8_layWay_9 : decode cX8_layWay 9 = .ok (.istore_n 3, 1) := dk_62 (dk_at dksX8_layWay_0 9 rfl rfl)
theorem dX8_layWay_10 : decode cX8_layWay 10 = .ok (.iconst 0, 1) := dk_3 (dk_at dksX8_layWay_0 10 rfl rfl)
theorem dX8_layWay_11 : decode cX8_layWay 11 = .ok (.istore 4, 2) := dk_54 4 (dk_at dksX8_layWay_0 11 rfl rfl)
theorem dX8_layWay_13 : decode cX8_layWay 13 = .ok (.iload 4, 2) := dk_21 4 (dk_at dksX8_layWay_0 13 rfl rfl)
theorem dX8_layWay_15 : decode cX8_layWay 15 = .ok (.aload_n 0, 1) := dk_42 (dk_at dksX8_layWay_0 15 rfl rfl)
theorem dX8_layWay_16 : decode cX8_layWay 16 = .ok (.getfield 12, 3) := dk_180 0 12 (dk_at dksX8_layWay_0 16 rfl rfl)
theorem dX8_layWay_19 : decode cX8_layWay 19 = .ok (.getfield 171, 3) := dk_180 0 171 (dk_at dksX8_layWay_0 19 rfl rfl)
theorem dX8_layWay_22 : decode cX8_layWay 22 = .ok (.if_icmp .gt 187, 3) := dk_163 0 187 (dk_at dksX8_layWay_1 0 rfl rfl)
theorem dX8_layWay_25 : decode cX8_layWay 25 = .ok (.iconst 0, 1) := dk_3 (dk_at dksX8_layWay_1 3 rfl rfl)
theorem dX8_layWay_26 : decode cX8_layWay 26 = .ok (.istore 5, 2) := dk_54 5 (dk_at dksX8_layWay_1 4 rfl rfl)
theorem dX8_layWay_28 : decode cX8_layWay 28 = .ok (.iload 5, 2) := dk_21 5 (dk_at dksX8_layWay_1 6 rfl rfl)
theorem dX8_layWay_30 : decode cX8_layWay 30 = .ok (.aload_n 0, 1) := dk_42 (dk_at dksX8_layWay_1 8 rfl rfl)
theorem dX8_layWay_31 : decode cX8_layWay 31 = .ok (.getfield 12, 3) := dk_180 0 12 (dk_at dksX8_layWay_1 9 rfl rfl)
theorem dX8_layWay_34 : decode cX8_layWay 34 = .ok (.getfield 174, 3) := dk_180 0 174 (dk_at dksX8_layWay_1 12 rfl rfl)
theorem dX8_layWay_37 : decode cX8_layWay 37 = .ok (.iload 4, 2) := dk_21 4 (dk_at dksX8_layWay_1 15 rfl rfl)
theorem dX8_layWay_39 : decode cX8_layWay 39 = .ok (.iaload, 1) := dk_46 (dk_at dksX8_layWay_1 17 rfl rfl)
theorem dX8_layWay_40 : decode cX8_layWay 40 = .ok (.if_icmp .ge 66, 3) := dk_162 0 66 (dk_at dksX8_layWay_1 18 rfl rfl)
theorem dX8_layWay_43 : decode cX8_layWay 43 = .ok (.iload_n 2, 1) := dk_28 (dk_at dksX8_layWay_1 21 rfl rfl)
theorem dX8_layWay_44 : decode cX8_layWay 44 = .ok (.aload_n 0, 1) := dk_42 (dk_at dksX8_layWay_1 22 rfl rfl)
theorem dX8_layWay_45 : decode cX8_layWay 45 = .ok (.getfield 12, 3) := dk_180 0 12 (dk_at dksX8_layWay_2 0 rfl rfl)
theorem dX8_layWay_48 : decode cX8_layWay 48 = .ok (.getfield 175, 3) := dk_180 0 175 (dk_at dksX8_layWay_2 3 rfl rfl)
theorem dX8_layWay_51 : decode cX8_layWay 51 = .ok (.iload 4, 2) := dk_21 4 (dk_at dksX8_layWay_2 6 rfl rfl)
theorem dX8_layWay_53 : decode cX8_layWay 53 = .ok (.iaload, 1) := dk_46 (dk_at dksX8_layWay_2 8 rfl rfl)
theorem dX8_layWay_54 : decode cX8_layWay 54 = .ok (.invokestatic 111, 3) := dk_184 0 111 (dk_at dksX8_layWay_2 9 rfl rfl)
theorem dX8_layWay_57 : decode cX8_layWay 57 = .ok (.iadd, 1) := dk_96 (dk_at dksX8_layWay_2 12 rfl rfl)
theorem dX8_layWay_58 : decode cX8_layWay 58 = .ok (.istore_n 2, 1) := dk_61 (dk_at dksX8_layWay_2 13 rfl rfl)
theorem dX8_layWay_59 : decode cX8_layWay 59 = .ok (.iload_n 3, 1) := dk_29 (dk_at dksX8_layWay_2 14 rfl rfl)
theorem dX8_layWay_60 : decode cX8_layWay 60 = .ok (.aload_n 0, 1) := dk_42 (dk_at dksX8_layWay_2 15 rfl rfl)
theorem dX8_layWay_61 : decode cX8_layWay 61 = .ok (.getfield 12, 3) := dk_180 0 12 (dk_at dksX8_layWay_2 16 rfl rfl)
theorem dX8_layWay_64 : decode cX8_layWay 64 = .ok (.getfield 175, 3) := dk_180 0 175 (dk_at dksX8_layWay_2 19 rfl rfl)
theorem dX8_layWay_67 : decode cX8_layWay 67 = .ok (.iload 4, 2) := dk_21 4 (dk_at dksX8_layWay_2 22 rfl rfl)
theorem dX8_layWay_69 : decode cX8_layWay 69 = .ok (.iaload, 1) := dk_46 (dk_at dksX8_layWay_3 0 rfl rfl)
theorem dX8_layWay_70 : decode cX8_layWay 70 = .ok (.invokestatic 115, 3) := dk_184 0 115 (dk_at dksX8_layWay_3 1 rfl rfl)
theorem dX8_layWay_73 : decode cX8_layWay 73 = .ok (.iadd, 1) := dk_96 (dk_at dksX8_layWay_3 4 rfl rfl)
theorem dX8_layWay_74 : decode cX8_layWay 74 = .ok (.istore_n 3, 1) := dk_62 (dk_at dksX8_layWay_3 5 rfl rfl)
theorem dX8_layWay_75 : decode cX8_layWay 75 = .ok (.aload_n 0, 1) := dk_42 (dk_at dksX8_layWay_3 6 rfl rfl)
theorem dX8_layWay_76 : decode cX8_layWay 76 = .ok (.getfield 28, 3) := dk_180 0 28 (dk_at dksX8_layWay_3 7 rfl rfl)
theorem dX8_layWay_79 : decode cX8_layWay 79 = .ok (.aload_n 0, 1) := dk_42 (dk_at dksX8_layWay_3 10 rfl rfl)
theorem dX8_layWay_80 : decode cX8_layWay 80 = .ok (.getfield 130, 3) := dk_180 0 130 (dk_at dksX8_layWay_3 11 rfl rfl)
theorem dX8_layWay_83 : decode cX8_layWay 83 = .ok (.bipush 100, 2) := dk_16 100 (dk_at dksX8_layWay_3 14 rfl rfl)
theorem dX8_layWay_85 : decode cX8_layWay 85 = .ok (.iload_n 2, 1) := dk_28 (dk_at dksX8_layWay_3 16 rfl rfl)
theorem dX8_layWay_86 : decode cX8_layWay 86 = .ok (.imul, 1) := dk_104 (dk_at dksX8_layWay_3 17 rfl rfl)
theorem dX8_layWay_87 : decode cX8_layWay 87 = .ok (.iload_n 3, 1) := dk_29 (dk_at dksX8_layWay_3 18 rfl rfl)
theorem dX8_layWay_88 : decode cX8_layWay 88 = .ok (.iadd, 1) := dk_96 (dk_at dksX8_layWay_3 19 rfl rfl)
theorem dX8_layWay_89 : decode cX8_layWay 89 = .ok (.iastore, 1) := dk_79 (dk_at dksX8_layWay_3 20 rfl rfl)
theorem dX8_layWay_90 : decode cX8_layWay 90 = .ok (.aload_n 0, 1) := dk_42 (dk_at dksX8_layWay_3 21 rfl rfl)
theorem dX8_layWay_91 : decode cX8_layWay 91 = .ok (.dup, 1) := dk_89 (dk_at dksX8_layWay_3 22 rfl rfl)
theorem dX8_layWay_92 : decode cX8_layWay 92 = .ok (.getfield 130, 3) := dk_180 0 130 (dk_at dksX8_layWay_4 0 rfl rfl)
theorem dX8_layWay_95 : decode cX8_layWay 95 = .ok (.iconst 1, 1) := dk_4 (dk_at dksX8_layWay_4 3 rfl rfl)
theorem dX8_layWay_96 : decode cX8_layWay 96 = .ok (.iadd, 1) := dk_96 (dk_at dksX8_layWay_4 4 rfl rfl)
theorem dX8_layWay_97 : decode cX8_layWay 97 = .ok (.putfield 130, 3) := dk_181 0 130 (dk_at dksX8_layWay_4 5 rfl rfl)
theorem dX8_layWay_100 : decode cX8_layWay 100 = .ok (.iinc 5 1, 3) := dk_132 5 1 (dk_at dksX8_layWay_4 8 rfl rfl)
theorem dX8_layWay_103 : decode cX8_layWay 103 = .ok (.goto (-75), 3) := dk_167 255 181 (dk_at dksX8_layWay_4 11 rfl rfl)
theorem dX8_layWay_106 : decode cX8_layWay 106 = .ok (.iload 4, 2) := dk_21 4 (dk_at dksX8_layWay_4 14 rfl rfl)
theorem dX8_layWay_108 : decode cX8_layWay 108 = .ok (.aload_n 0, 1) := dk_42 (dk_at dksX8_layWay_4 16 rfl rfl)
theorem dX8_layWay_109 : decode cX8_layWay 109 = .ok (.getfield 12, 3) := dk_180 0 12 (dk_at dksX8_layWay_4 17 rfl rfl)
theorem dX8_layWay_112 : decode cX8_layWay 112 = .ok (.getfield 171, 3) := dk_180 0 171 (dk_at dksX8_layWay_4 20 rfl rfl)
theorem dX8_layWay_115 : decode cX8_layWay 115 = .ok (.if_icmp .ge 7, 3) := dk_162 0 7 (dk_at dksX8_layWay_5 0 rfl rfl)
theorem dX8_layWay_118 : decode cX8_layWay 118 = .ok (.iconst 1, 1) := dk_4 (dk_at dksX8_layWay_5 3 rfl rfl)
theorem dX8_layWay_119 : decode cX8_layWay 119 = .ok (.goto 4, 3) := dk_167 0 4 (dk_at dksX8_layWay_5 4 rfl rfl)
theorem dX8_layWay_122 : decode cX8_layWay 122 = .ok (.iconst 0, 1) := dk_3 (dk_at dksX8_layWay_5 7 rfl rfl)
theorem dX8_layWay_123 : decode cX8_layWay 123 = .ok (.istore 5, 2) := dk_54 5 (dk_at dksX8_layWay_5 8 rfl rfl)
theorem dX8_layWay_125 : decode cX8_layWay 125 = .ok (.aload_n 0, 1) := dk_42 (dk_at dksX8_layWay_5 10 rfl rfl)
theorem dX8_layWay_126 : decode cX8_layWay 126 = .ok (.getfield 36, 3) := dk_180 0 36 (dk_at dksX8_layWay_5 11 rfl rfl)
theorem dX8_layWay_129 : decode cX8_layWay 129 = .ok (.aload_n 0, 1) := dk_42 (dk_at dksX8_layWay_5 14 rfl rfl)
theorem dX8_layWay_130 : decode cX8_layWay 130 = .ok (.getfield 139, 3) := dk_180 0 139 (dk_at dksX8_layWay_5 15 rfl rfl)
theorem dX8_layWay_133 : decode cX8_layWay 133 = .ok (.new 34, 3) := dk_187 0 34 (dk_at dksX8_layWay_5 18 rfl rfl)
theorem dX8_layWay_136 : decode cX8_layWay 136 = .ok (.dup, 1) := dk_89 (dk_at dksX8_layWay_5 21 rfl rfl)
theorem dX8_layWay_137 : decode cX8_layWay 137 = .ok (.aload_n 0, 1) := dk_42 (dk_at dksX8_layWay_5 22 rfl rfl)
theorem dX8_layWay_138 : decode cX8_layWay 138 = .ok (.getfield 12, 3) := dk_180 0 12 (dk_at dksX8_layWay_6 0 rfl rfl)
theorem dX8_layWay_141 : decode cX8_layWay 141 = .ok (.getfield 174, 3) := dk_180 0 174 (dk_at dksX8_layWay_6 3 rfl rfl)
theorem dX8_layWay_144 : decode cX8_layWay 144 = .ok (.iload 4, 2) := dk_21 4 (dk_at dksX8_layWay_6 6 rfl rfl)
theorem dX8_layWay_146 : decode cX8_layWay 146 = .ok (.iaload, 1) := dk_46 (dk_at dksX8_layWay_6 8 rfl rfl)
theorem dX8_layWay_147 : decode cX8_layWay 147 = .ok (.aload_n 0, 1) := dk_42 (dk_at dksX8_layWay_6 9 rfl rfl)
theorem dX8_layWay_148 : decode cX8_layWay 148 = .ok (.getfield 12, 3) := dk_180 0 12 (dk_at dksX8_layWay_6 10 rfl rfl)
theorem dX8_layWay_151 : decode cX8_layWay 151 = .ok (.getfield 175, 3) := dk_180 0 175 (dk_at dksX8_layWay_6 13 rfl rfl)
theorem dX8_layWay_154 : decode cX8_layWay 154 = .ok (.iload 4, 2) := dk_21 4 (dk_at dksX8_layWay_6 16 rfl rfl)
theorem dX8_layWay_156 : decode cX8_layWay 156 = .ok (.iaload, 1) := dk_46 (dk_at dksX8_layWay_6 18 rfl rfl)
theorem dX8_layWay_157 : decode cX8_layWay 157 = .ok (.iload 5, 2) := dk_21 5 (dk_at dksX8_layWay_6 19 rfl rfl)
theorem dX8_layWay_159 : decode cX8_layWay 159 = .ok (.invokespecial 176, 3) := dk_183 0 176 (dk_at dksX8_layWay_6 21 rfl rfl)
theorem dX8_layWay_162 : decode cX8_layWay 162 = .ok (.aastore, 1) := dk_83 (dk_at dksX8_layWay_7 0 rfl rfl)
theorem dX8_layWay_163 : decode cX8_layWay 163 = .ok (.aload_n 0, 1) := dk_42 (dk_at dksX8_layWay_7 1 rfl rfl)
theorem dX8_layWay_164 : decode cX8_layWay 164 = .ok (.dup, 1) := dk_89 (dk_at dksX8_layWay_7 2 rfl rfl)
theorem dX8_layWay_165 : decode cX8_layWay 165 = .ok (.getfield 139, 3) := dk_180 0 139 (dk_at dksX8_layWay_7 3 rfl rfl)
theorem dX8_layWay_168 : decode cX8_layWay 168 = .ok (.iconst 1, 1) := dk_4 (dk_at dksX8_layWay_7 6 rfl rfl)
theorem dX8_layWay_169 : decode cX8_layWay 169 = .ok (.iadd, 1) := dk_96 (dk_at dksX8_layWay_7 7 rfl rfl)
theorem dX8_layWay_170 : decode cX8_layWay 170 = .ok (.putfield 139, 3) := dk_181 0 139 (dk_at dksX8_layWay_7 8 rfl rfl)
theorem dX8_layWay_173 : decode cX8_layWay 173 = .ok (.iload 5, 2) := dk_21 5 (dk_at dksX8_layWay_7 11 rfl rfl)
theorem dX8_layWay_175 : decode cX8_layWay 175 = .ok (.ifCond .eq 28, 3) := dk_153 0 28 (dk_at dksX8_layWay_7 13 rfl rfl)
theorem dX8_layWay_178 : decode cX8_layWay 178 = .ok (.aload_n 0, 1) := dk_42 (dk_at dksX8_layWay_7 16 rfl rfl)
theorem dX8_layWay_179 : decode cX8_layWay 179 = .ok (.getfield 31, 3) := dk_180 0 31 (dk_at dksX8_layWay_7 17 rfl rfl)
theorem dX8_layWay_182 : decode cX8_layWay 182 = .ok (.aload_n 0, 1) := dk_42 (dk_at dksX8_layWay_7 20 rfl rfl)
theorem dX8_layWay_183 : decode cX8_layWay 183 = .ok (.getfield 136, 3) := dk_180 0 136 (dk_at dksX8_layWay_7 21 rfl rfl)
theorem dX8_layWay_186 : decode cX8_layWay 186 = .ok (.bipush 100, 2) := dk_16 100 (dk_at dksX8_layWay_8 0 rfl rfl)
theorem dX8_layWay_188 : decode cX8_layWay 188 = .ok (.iload_n 2, 1) := dk_28 (dk_at dksX8_layWay_8 2 rfl rfl)
theorem dX8_layWay_189 : decode cX8_layWay 189 = .ok (.imul, 1) := dk_104 (dk_at dksX8_layWay_8 3 rfl rfl)
theorem dX8_layWay_190 : decode cX8_layWay 190 = .ok (.iload_n 3, 1) := dk_29 (dk_at dksX8_layWay_8 4 rfl rfl)
theorem dX8_layWay_191 : decode cX8_layWay 191 = .ok (.iadd, 1) := dk_96 (dk_at dksX8_layWay_8 5 rfl rfl)
theorem dX8_layWay_192 : decode cX8_layWay 192 = .ok (.iastore, 1) := dk_79 (dk_at dksX8_layWay_8 6 rfl rfl)
theorem dX8_layWay_193 : decode cX8_layWay 193 = .ok (.aload_n 0, 1) := dk_42 (dk_at dksX8_layWay_8 7 rfl rfl)
theorem dX8_layWay_194 : decode cX8_layWay 194 = .ok (.dup, 1) := dk_89 (dk_at dksX8_layWay_8 8 rfl rfl)
theorem dX8_layWay_195 : decode cX8_layWay 195 = .ok (.getfield 136, 3) := dk_180 0 136 (dk_at dksX8_layWay_8 9 rfl rfl)
theorem dX8_layWay_198 : decode cX8_layWay 198 = .ok (.iconst 1, 1) := dk_4 (dk_at dksX8_layWay_8 12 rfl rfl)
theorem dX8_layWay_199 : decode cX8_layWay 199 = .ok (.iadd, 1) := dk_96 (dk_at dksX8_layWay_8 13 rfl rfl)
theorem dX8_layWay_200 : decode cX8_layWay 200 = .ok (.putfield 136, 3) := dk_181 0 136 (dk_at dksX8_layWay_8 14 rfl rfl)
theorem dX8_layWay_203 : decode cX8_layWay 203 = .ok (.iinc 4 1, 3) := dk_132 4 1 (dk_at dksX8_layWay_8 17 rfl rfl)
theorem dX8_layWay_206 : decode cX8_layWay 206 = .ok (.goto (-193), 3) := dk_167 255 63 (dk_at dksX8_layWay_8 20 rfl rfl)
theorem dX8_layWay_209 : decode cX8_layWay 209 = .ok (.aload_n 0, 1) := dk_42 (dk_at dksX8_layWay_8 23 rfl rfl)
theorem dX8_layWay_210 : decode cX8_layWay 210 = .ok (.aload_n 0, 1) := dk_42 (dk_at dksX8_layWay_9 0 rfl rfl)
theorem dX8_layWay_211 : decode cX8_layWay 211 = .ok (.getfield 142, 3) := dk_180 0 142 (dk_at dksX8_layWay_9 1 rfl rfl)
theorem dX8_layWay_214 : decode cX8_layWay 214 = .ok (.aload_n 0, 1) := dk_42 (dk_at dksX8_layWay_9 4 rfl rfl)
theorem dX8_layWay_215 : decode cX8_layWay 215 = .ok (.getfield 12, 3) := dk_180 0 12 (dk_at dksX8_layWay_9 5 rfl rfl)
theorem dX8_layWay_218 : decode cX8_layWay 218 = .ok (.getfield 179, 3) := dk_180 0 179 (dk_at dksX8_layWay_9 8 rfl rfl)
theorem dX8_layWay_221 : decode cX8_layWay 221 = .ok (.invokestatic 182, 3) := dk_184 0 182 (dk_at dksX8_layWay_9 11 rfl rfl)
theorem dX8_layWay_224 : decode cX8_layWay 224 = .ok (.putfield 142, 3) := dk_181 0 142 (dk_at dksX8_layWay_9 14 rfl rfl)
theorem dX8_layWay_227 : decode cX8_layWay 227 = .ok (.return_, 1) := dk_177 (dk_at dksX8_layWay_9 17 rfl rfl)
abbrev cX8_place : ByteArray := prog_3_method_10_code
def yX8_place : MethodName := ⟨RX8, "place", "(I)I"⟩
def dkwX8_place_1 : List UInt8 := [132, 2, 1, 167, 255, 233, 2, 172]
abbrev dktX8_place_1 : List UInt8 := dkwX8_place_1 ++ []
def dkwX8_place_0 : List UInt8 := [3, 61, 28, 42, 180, 0, 133, 162, 0, 21, 42, 180, 0, 25, 28, 46, 27, 160, 0, 5, 28, 172]
abbrev dktX8_place_0 : List UInt8 := dkwX8_place_0 ++ dktX8_place_1
theorem dksX8_place_0 : cX8_place.data.toList.drop 0 = dktX8_place_0 := by decide +kernel
theorem dksX8_place_1 : cX8_place.data.toList.drop 22 = dktX8_place_1 := dk_seg dksX8_place_0 22 rfl rfl
theorem dX8_place_0 : decode cX8_place 0 = .ok (.iconst 0, 1) := dk_3 (dk_at dksX8_place_0 0 rfl rfl)
theorem dX8_place_1 : decode cX8_place 1 = .ok (.istore_n 2, 1) := dk_61 (dk_at dksX8_place_0 1 rfl rfl)
theorem dX8_place_2 : decode cX8_place 2 = .ok (.iload_n 2, 1) := dk_28 (dk_at dksX8_place_0 2 rfl rfl)
theorem dX8_place_3 : decode cX8_place 3 = .ok (.aload_n 0, 1) := dk_42 (dk_at dksX8_place_0 3 rfl rfl)
theorem dX8_place_4 : decode cX8_place 4 = .ok (.getfield 133, 3) := dk_180 0 133 (dk_at dksX8_place_0 4 rfl rfl)
theorem dX8_place_7 : decode cX8_place 7 = .ok (.if_icmp .ge 21, 3) := dk_162 0 21 (dk_at dksX8_place_0 7 rfl rfl)
theorem dX8_place_10 : decode cX8_place 10 = .ok (.aload_n 0, 1) := dk_42 (dk_at dksX8_place_0 10 rfl rfl)
theorem dX8_place_11 : decode cX8_place 11 = .ok (.getfield 25, 3) := dk_180 0 25 (dk_at dksX8_place_0 11 rfl rfl)
theorem dX8_place_14 : decode cX8_place 14 = .ok (.iload_n 2, 1) := dk_28 (dk_at dksX8_place_0 14 rfl rfl)
theorem dX8_place_15 : decode cX8_place 15 = .ok (.iaload, 1) := dk_46 (dk_at dksX8_place_0 15 rfl rfl)
theorem dX8_place_16 : decode cX8_place 16 = .ok (.iload_n 1, 1) := dk_27 (dk_at dksX8_place_0 16 rfl rfl)
theorem dX8_place_17 : decode cX8_place 17 = .ok (.if_icmp .ne 5, 3) := dk_160 0 5 (dk_at dksX8_place_0 17 rfl rfl)
theorem dX8_place_20 : decode cX8_place 20 = .ok (.iload_n 2, 1) := dk_28 (dk_at dksX8_place_0 20 rfl rfl)
theorem dX8_place_21 : decode cX8_place 21 = .ok (.ireturn, 1) := dk_172 (dk_at dksX8_place_0 21 rfl rfl)
theorem dX8_place_22 : decode cX8_place 22 = .ok (.iinc 2 1, 3) := dk_132 2 1 (dk_at dksX8_place_1 0 rfl rfl)
theorem dX8_place_25 : decode cX8_place 25 = .ok (.goto (-23), 3) := dk_167 255 233 (dk_at dksX8_place_1 3 rfl rfl)
theorem dX8_place_28 : decode cX8_place 28 = .ok (.iconst (-1), 1) := dk_2 (dk_at dksX8_place_1 6 rfl rfl)
theorem dX8_place_29 : decode cX8_place 29 = .ok (.ireturn, 1) := dk_172 (dk_at dksX8_place_1 7 rfl rfl)
abbrev cX8_steps : ByteArray := prog_3_method_8_code
def yX8_steps : MethodName := ⟨RX8, "steps", "()I"⟩
def dkwX8_steps_0 : List UInt8 := [42, 180, 0, 130, 4, 100, 172]
abbrev dktX8_steps_0 : List UInt8 := dkwX8_steps_0 ++ []
theorem dksX8_steps_0 : cX8_steps.data.toList.drop 0 = dktX8_steps_0 := by decide +kernel
theorem dX8_steps_0 : decode cX8_steps 0 = .ok (.aload_n 0, 1) := dk_42 (dk_at dksX8_steps_0 0 rfl rfl)
theorem dX8_steps_1 : decode cX8_steps 1 = .ok (.getfield 130, 3) := dk_180 0 130 (dk_at dksX8_steps_0 1 rfl rfl)
theorem dX8_steps_4 : decode cX8_steps 4 = .ok (.iconst 1, 1) := dk_4 (dk_at dksX8_steps_0 4 rfl rfl)
theorem dX8_steps_5 : decode cX8_steps 5 = .ok (.isub, 1) := dk_100 (dk_at dksX8_steps_0 5 rfl rfl)
theorem dX8_steps_6 : decode cX8_steps 6 = .ok (.ireturn, 1) := dk_172 (dk_at dksX8_steps_0 6 rfl rfl)
abbrev cX8_follow : ByteArray := prog_3_method_9_code
def yX8_follow : MethodName := ⟨RX8, "follow", "(I)LTrailMarkers$Guide;"⟩
def dkwX8_follow_8 : List UInt8 := [29, 182, 0, 152, 46, 100, 181, 0, 145, 42, 176]
abbrev dktX8_follow_8 : List UInt8 := dkwX8_follow_8 ++ []
def dkwX8_follow_7 : List UInt8 := [180, 0, 104, 62, 167, 255, 147, 42, 5, 181, 0, 164, 42, 29, 181, 0, 157, 42, 42, 182, 0, 155, 44, 42]
abbrev dktX8_follow_7 : List UInt8 := dkwX8_follow_7 ++ dktX8_follow_8
def dkwX8_follow_6 : List UInt8 := [4, 181, 0, 164, 42, 176, 42, 42, 180, 0, 40, 180, 0, 59, 29, 50, 182, 0, 167, 42, 180, 0, 12]
abbrev dktX8_follow_6 : List UInt8 := dkwX8_follow_6 ++ dktX8_follow_7
def dkwX8_follow_5 : List UInt8 := [160, 0, 30, 42, 42, 180, 0, 40, 180, 0, 59, 29, 50, 180, 0, 74, 7, 160, 0, 7, 3, 167, 0, 4]
abbrev dktX8_follow_5 : List UInt8 := dkwX8_follow_5 ++ dktX8_follow_6
def dkwX8_follow_4 : List UInt8 := [4, 96, 181, 0, 133, 42, 29, 181, 0, 157, 42, 29, 182, 0, 160, 87, 42, 180, 0, 12, 180, 0, 104, 2]
abbrev dktX8_follow_4 : List UInt8 := dkwX8_follow_4 ++ dktX8_follow_5
def dkwX8_follow_3 : List UInt8 := [42, 180, 0, 133, 42, 182, 0, 155, 79, 42, 180, 0, 25, 42, 180, 0, 133, 29, 79, 42, 89, 180, 0, 133]
abbrev dktX8_follow_3 : List UInt8 := dkwX8_follow_3 ++ dktX8_follow_4
def dkwX8_follow_2 : List UInt8 := [180, 0, 59, 27, 50, 182, 0, 148, 79, 42, 4, 181, 0, 130, 42, 29, 182, 0, 152, 2, 160, 0, 106, 44]
abbrev dktX8_follow_2 : List UInt8 := dkwX8_follow_2 ++ dktX8_follow_3
def dkwX8_follow_1 : List UInt8 := [181, 0, 142, 42, 3, 181, 0, 145, 16, 24, 188, 10, 77, 27, 62, 42, 180, 0, 28, 3, 42, 180, 0, 40]
abbrev dktX8_follow_1 : List UInt8 := dkwX8_follow_1 ++ dktX8_follow_2
def dkwX8_follow_0 : List UInt8 := [42, 3, 181, 0, 133, 42, 3, 181, 0, 130, 42, 3, 181, 0, 136, 42, 3, 181, 0, 139, 42, 3]
abbrev dktX8_follow_0 : List UInt8 := dkwX8_follow_0 ++ dktX8_follow_1
theorem dksX8_follow_0 : cX8_follow.data.toList.drop 0 = dktX8_follow_0 := by decide +kernel
theorem dksX8_follow_1 : cX8_follow.data.toList.drop 22 = dktX8_follow_1 := dk_seg dksX8_follow_0 22 rfl rfl
theorem dksX8_follow_2 : cX8_follow.data.toList.drop 46 = dktX8_follow_2 := dk_seg dksX8_follow_1 24 rfl rfl
theorem dksX8_follow_3 : cX8_follow.data.toList.drop 70 = dktX8_follow_3 := dk_seg dksX8_follow_2 24 rfl rfl
theorem dksX8_follow_4 : cX8_follow.data.toList.drop 94 = dktX8_follow_4 := dk_seg dksX8_follow_3 24 rfl rfl
theorem dksX8_follow_5 : cX8_follow.data.toList.drop 118 = dktX8_follow_5 := dk_seg dksX8_follow_4 24 rfl rfl
theorem dksX8_follow_6 : cX8_follow.data.toList.drop 142 = dktX8_follow_6 := dk_seg dksX8_follow_5 24 rfl rfl
theorem dksX8_follow_7 : cX8_follow.data.toList.drop 165 = dktX8_follow_7 := dk_seg dksX8_follow_6 23 rfl rfl
theorem dksX8_follow_8 : cX8_follow.data.toList.drop 189 = dktX8_follow_8 := dk_seg dksX8_follow_7 24 rfl rfl
theorem dX8_follow_0 : decode cX8_follow 0 = .ok (.aload_n 0, 1) := dk_42 (dk_at dksX8_follow_0 0 rfl rfl)
theorem dX8_follow_1 : decode cX8_follow 1 = .ok (.iconst 0, 1) := dk_3 (dk_at dksX8_follow_0 1 rfl rfl)
theorem dX8_follow_2 : decode cX8_follow 2 = .ok (.putfield 133, 3) := dk_181 0 133 (dk_at dksX8_follow_0 2 rfl rfl)
theorem dX8_follow_5 : decode cX8_follow 5 = .ok (.aload_n 0, 1) := dk_42 (dk_at dksX8_follow_0 5 rfl rfl)
theorem dX8_follow_6 : decode cX8_follow 6 = .ok (.iconst 0, 1) := dk_3 (dk_at dksX8_follow_0 6 rfl rfl)
theorem dX8_follow_7 : decode cX8_follow 7 = .ok (.putfield 130, 3) := dk_181 0 130 (dk_at dksX8_follow_0 7 rfl rfl)
theorem dX8_follow_10 : decode cX8_follow 10 = .ok (.aload_n 0, 1) := dk_42 (dk_at dksX8_follow_0 10 rfl rfl)
theorem dX8_follow_11 : decode cX8_follow 11 = .ok (.iconst 0, 1) := dk_3 (dk_at dksX8_follow_0 11 rfl rfl)
theorem dX8_follow_12 : decode cX8_follow 12 = .ok (.putfield 136, 3) := dk_181 0 136 (dk_at dksX8_follow_0 12 rfl rfl)
theorem dX8_follow_15 : decode cX8_follow 15 = .ok (.aload_n 0, 1) := dk_42 (dk_at dksX8_follow_0 15 rfl rfl)
theorem dX8_follow_16 : decode cX8_follow 16 = .ok (.iconst 0, 1) := dk_3 (dk_at dksX8_follow_0 16 rfl rfl)
theorem dX8_follow_17 : decode cX8_follow 17 = .ok (.putfield 139, 3) := dk_181 0 139 (dk_at dksX8_follow_0 17 rfl rfl)
theorem dX8_follow_20 : decode cX8_follow 20 = .ok (.aload_n 0, 1) := dk_42 (dk_at dksX8_follow_0 20 rfl rfl)
theorem dX8_follow_21 : decode cX8_follow 21 = .ok (.iconst 0, 1) := dk_3 (dk_at dksX8_follow_0 21 rfl rfl)
theorem dX8_follow_22 : decode cX8_follow 22 = .ok (.putfield 142, 3) := dk_181 0 142 (dk_at dksX8_follow_1 0 rfl rfl)
theorem dX8_follow_25 : decode cX8_follow 25 = .ok (.aload_n 0, 1) := dk_42 (dk_at dksX8_follow_1 3 rfl rfl)
theorem dX8_follow_26 : decode cX8_follow 26 = .ok (.iconst 0, 1) := dk_3 (dk_at dksX8_follow_1 4 rfl rfl)
theorem dX8_follow_27 : decode cX8_follow 27 = .ok (.putfield 145, 3) := dk_181 0 145 (dk_at dksX8_follow_1 5 rfl rfl)
theorem dX8_follow_30 : decode cX8_follow 30 = .ok (.bipush 24, 2) := dk_16 24 (dk_at dksX8_follow_1 8 rfl rfl)
theorem dX8_follow_32 : decode cX8_follow 32 = .ok (.newarray .int, 2) := dk_188_10 (dk_at dksX8_follow_1 10 rfl rfl)
theorem dX8_follow_34 : decode cX8_follow 34 = .ok (.astore_n 2, 1) := dk_77 (dk_at dksX8_follow_1 12 rfl rfl)
theorem dX8_follow_35 : decode cX8_follow 35 = .ok (.iload_n 1, 1) := dk_27 (dk_at dksX8_follow_1 13 rfl rfl)
theorem dX8_follow_36 : decode cX8_follow 36 = .ok (.istore_n 3, 1) := dk_62 (dk_at dksX8_follow_1 14 rfl rfl)
theorem dX8_follow_37 : decode cX8_follow 37 = .ok (.aload_n 0, 1) := dk_42 (dk_at dksX8_follow_1 15 rfl rfl)
theorem dX8_follow_38 : decode cX8_follow 38 = .ok (.getfield 28, 3) := dk_180 0 28 (dk_at dksX8_follow_1 16 rfl rfl)
theorem dX8_follow_41 : decode cX8_follow 41 = .ok (.iconst 0, 1) := dk_3 (dk_at dksX8_follow_1 19 rfl rfl)
theorem dX8_follow_42 : decode cX8_follow 42 = .ok (.aload_n 0, 1) := dk_42 (dk_at dksX8_follow_1 20 rfl rfl)
theorem dX8_follow_43 : decode cX8_follow 43 = .ok (.getfield 40, 3) := dk_180 0 40 (dk_at dksX8_follow_1 21 rfl rfl)
theorem dX8_follow_46 : decode cX8_follow 46 = .ok (.getfield 59, 3) := dk_180 0 59 (dk_at dksX8_follow_2 0 rfl rfl)
theorem dX8_follow_49 : decode cX8_follow 49 = .ok (.iload_n 1, 1) := dk_27 (dk_at dksX8_follow_2 3 rfl rfl)
theorem dX8_follow_50 : decode cX8_follow 50 = .ok (.aaload, 1) := dk_50 (dk_at dksX8_follow_2 4 rfl rfl)
theorem dX8_follow_51 : decode cX8_follow 51 = .ok (.invokevirtual 148, 3) := dk_182 0 148 (dk_at dksX8_follow_2 5 rfl rfl)
theorem dX8_follow_54 : decode cX8_follow 54 = .ok (.iastore, 1) := dk_79 (dk_at dksX8_follow_2 8 rfl rfl)
theorem dX8_follow_55 : decode cX8_follow 55 = .ok (.aload_n 0, 1) := dk_42 (dk_at dksX8_follow_2 9 rfl rfl)
theorem dX8_follow_56 : decode cX8_follow 56 = .ok (.iconst 1, 1) := dk_4 (dk_at dksX8_follow_2 10 rfl rfl)
theorem dX8_follow_57 : decode cX8_follow 57 = .ok (.putfield 130, 3) := dk_181 0 130 (dk_at dksX8_follow_2 11 rfl rfl)
theorem dX8_follow_60 : decode cX8_follow 60 = .ok (.aload_n 0, 1) := dk_42 (dk_at dksX8_follow_2 14 rfl rfl)
theorem dX8_follow_61 : decode cX8_follow 61 = .ok (.iload_n 3, 1) := dk_29 (dk_at dksX8_follow_2 15 rfl rfl)
theorem dX8_follow_62 : decode cX8_follow 62 = .ok (.invokevirtual 152, 3) := dk_182 0 152 (dk_at dksX8_follow_2 16 rfl rfl)
theorem dX8_follow_65 : decode cX8_follow 65 = .ok (.iconst (-1), 1) := dk_2 (dk_at dksX8_follow_2 19 rfl rfl)
theorem dX8_follow_66 : decode cX8_follow 66 = .ok (.if_icmp .ne 106, 3) := dk_160 0 106 (dk_at dksX8_follow_2 20 rfl rfl)
theorem dX8_follow_69 : decode cX8_follow 69 = .ok (.aload_n 2, 1) := dk_44 (dk_at dksX8_follow_2 23 rfl rfl)
theorem dX8_follow_70 : decode cX8_follow 70 = .ok (.aload_n 0, 1) := dk_42 (dk_at dksX8_follow_3 0 rfl rfl)
theorem dX8_follow_71 : decode cX8_follow 71 = .ok (.getfield 133, 3) := dk_180 0 133 (dk_at dksX8_follow_3 1 rfl rfl)
theorem dX8_follow_74 : decode cX8_follow 74 = .ok (.aload_n 0, 1) := dk_42 (dk_at dksX8_follow_3 4 rfl rfl)
theorem dX8_follow_75 : decode cX8_follow 75 = .ok (.invokevirtual 155, 3) := dk_182 0 155 (dk_at dksX8_follow_3 5 rfl rfl)
theorem dX8_follow_78 : decode cX8_follow 78 = .ok (.iastore, 1) := dk_79 (dk_at dksX8_follow_3 8 rfl rfl)
theorem dX8_follow_79 : decode cX8_follow 79 = .ok (.aload_n 0, 1) := dk_42 (dk_at dksX8_follow_3 9 rfl rfl)
theorem dX8_follow_80 : decode cX8_follow 80 = .ok (.getfield 25, 3) := dk_180 0 25 (dk_at dksX8_follow_3 10 rfl rfl)
theorem dX8_follow_83 : decode cX8_follow 83 = .ok (.aload_n 0, 1) := dk_42 (dk_at dksX8_follow_3 13 rfl rfl)
theorem dX8_follow_84 : decode cX8_follow 84 = .ok (.getfield 133, 3) := dk_180 0 133 (dk_at dksX8_follow_3 14 rfl rfl)
theorem dX8_follow_87 : decode cX8_follow 87 = .ok (.iload_n 3, 1) := dk_29 (dk_at dksX8_follow_3 17 rfl rfl)
theorem dX8_follow_88 : decode cX8_follow 88 = .ok (.iastore, 1) := dk_79 (dk_at dksX8_follow_3 18 rfl rfl)
theorem dX8_follow_89 : decode cX8_follow 89 = .ok (.aload_n 0, 1) := dk_42 (dk_at dksX8_follow_3 19 rfl rfl)
theorem dX8_follow_90 : decode cX8_follow 90 = .ok (.dup, 1) := dk_89 (dk_at dksX8_follow_3 20 rfl rfl)
theorem dX8_follow_91 : decode cX8_follow 91 = .ok (.getfield 133, 3) := dk_180 0 133 (dk_at dksX8_follow_3 21 rfl rfl)
theorem dX8_follow_94 : decode cX8_follow 94 = .ok (.iconst 1, 1) := dk_4 (dk_at dksX8_follow_4 0 rfl rfl)
theorem dX8_follow_95 : decode cX8_follow 95 = .ok (.iadd, 1) := dk_96 (dk_at dksX8_follow_4 1 rfl rfl)
theorem dX8_follow_96 : decode cX8_follow 96 = .ok (.putfield 133, 3) := dk_181 0 133 (dk_at dksX8_follow_4 2 rfl rfl)
theorem dX8_follow_99 : decode cX8_follow 99 = .ok (.aload_n 0, 1) := dk_42 (dk_at dksX8_follow_4 5 rfl rfl)
theorem dX8_follow_100 : decode cX8_follow 100 = .ok (.iload_n 3, 1) := dk_29 (dk_at dksX8_follow_4 6 rfl rfl)
theorem dX8_follow_101 : decode cX8_follow 101 = .ok (.putfield 157, 3) := dk_181 0 157 (dk_at dksX8_follow_4 7 rfl rfl)
theorem dX8_follow_104 : decode cX8_follow 104 = .ok (.aload_n 0, 1) := dk_42 (dk_at dksX8_follow_4 10 rfl rfl)
theorem dX8_follow_105 : decode cX8_follow 105 = .ok (.iload_n 3, 1) := dk_29 (dk_at dksX8_follow_4 11 rfl rfl)
theorem dX8_follow_106 : decode cX8_follow 106 = .ok (.invokevirtual 160, 3) := dk_182 0 160 (dk_at dksX8_follow_4 12 rfl rfl)
theorem dX8_follow_109 : decode cX8_follow 109 = .ok (.pop, 1) := dk_87 (dk_at dksX8_follow_4 15 rfl rfl)
theorem dX8_follow_110 : decode cX8_follow 110 = .ok (.aload_n 0, 1) := dk_42 (dk_at dksX8_follow_4 16 rfl rfl)
theorem dX8_follow_111 : decode cX8_follow 111 = .ok (.getfield 12, 3) := dk_180 0 12 (dk_at dksX8_follow_4 17 rfl rfl)
theorem dX8_follow_114 : decode cX8_follow 114 = .ok (.getfield 104, 3) := dk_180 0 104 (dk_at dksX8_follow_4 20 rfl rfl)
theorem dX8_follow_117 : decode cX8_follow 117 = .ok (.iconst (-1), 1) := dk_2 (dk_at dksX8_follow_4 23 rfl rfl)
theorem dX8_follow_118 : decode cX8_follow 118 = .ok (.if_icmp .ne 30, 3) := dk_160 0 30 (dk_at dksX8_follow_5 0 rfl rfl)
theorem dX8_follow_121 : decode cX8_follow 121 = .ok (.aload_n 0, 1) := dk_42 (dk_at dksX8_follow_5 3 rfl rfl)
theorem dX8_follow_122 : decode cX8_follow 122 = .ok (.aload_n 0, 1) := dk_42 (dk_at dksX8_follow_5 4 rfl rfl)
theorem dX8_follow_123 : decode cX8_follow 123 = .ok (.getfield 40, 3) := dk_180 0 40 (dk_at dksX8_follow_5 5 rfl rfl)
theorem dX8_follow_126 : decode cX8_follow 126 = .ok (.getfield 59, 3) := dk_180 0 59 (dk_at dksX8_follow_5 8 rfl rfl)
theorem dX8_follow_129 : decode cX8_follow 129 = .ok (.iload_n 3, 1) := dk_29 (dk_at dksX8_follow_5 11 rfl rfl)
theorem dX8_follow_130 : decode cX8_follow 130 = .ok (.aaload, 1) := dk_50 (dk_at dksX8_follow_5 12 rfl rfl)
theorem dX8_follow_131 : decode cX8_follow 131 = .ok (.getfield 74, 3) := dk_180 0 74 (dk_at dksX8_follow_5 13 rfl rfl)
theorem dX8_follow_134 : decode cX8_follow 134 = .ok (.iconst 4, 1) := dk_7 (dk_at dksX8_follow_5 16 rfl rfl)
theorem dX8_follow_135 : decode cX8_follow 135 = .ok (.if_icmp .ne 7, 3) := dk_160 0 7 (dk_at dksX8_follow_5 17 rfl rfl)
theorem dX8_follow_138 : decode cX8_follow 138 = .ok (.iconst 0, 1) := dk_3 (dk_at dksX8_follow_5 20 rfl rfl)
theorem dX8_follow_139 : decode cX8_follow 139 = .ok (.goto 4, 3) := dk_167 0 4 (dk_at dksX8_follow_5 21 rfl rfl)
theorem dX8_follow_142 : decode cX8_follow 142 = .ok (.iconst 1, 1) := dk_4 (dk_at dksX8_follow_6 0 rfl rfl)
theorem dX8_follow_143 : decode cX8_follow 143 = .ok (.putfield 164, 3) := dk_181 0 164 (dk_at dksX8_follow_6 1 rfl rfl)
theorem dX8_follow_146 : decode cX8_follow 146 = .ok (.aload_n 0, 1) := dk_42 (dk_at dksX8_follow_6 4 rfl rfl)
theorem dX8_follow_147 : decode cX8_follow 147 = .ok (.areturn, 1) := dk_176 (dk_at dksX8_follow_6 5 rfl rfl)
theorem dX8_follow_148 : decode cX8_follow 148 = .ok (.aload_n 0, 1) := dk_42 (dk_at dksX8_follow_6 6 rfl rfl)
theorem dX8_follow_149 : decode cX8_follow 149 = .ok (.aload_n 0, 1) := dk_42 (dk_at dksX8_follow_6 7 rfl rfl)
theorem dX8_follow_150 : decode cX8_follow 150 = .ok (.getfield 40, 3) := dk_180 0 40 (dk_at dksX8_follow_6 8 rfl rfl)
theorem dX8_follow_153 : decode cX8_follow 153 = .ok (.getfield 59, 3) := dk_180 0 59 (dk_at dksX8_follow_6 11 rfl rfl)
theorem dX8_follow_156 : decode cX8_follow 156 = .ok (.iload_n 3, 1) := dk_29 (dk_at dksX8_follow_6 14 rfl rfl)
theorem dX8_follow_157 : decode cX8_follow 157 = .ok (.aaload, 1) := dk_50 (dk_at dksX8_follow_6 15 rfl rfl)
theorem dX8_follow_158 : decode cX8_follow 158 = .ok (.invokevirtual 167, 3) := dk_182 0 167 (dk_at dksX8_follow_6 16 rfl rfl)
theorem dX8_follow_161 : decode cX8_follow 161 = .ok (.aload_n 0, 1) := dk_42 (dk_at dksX8_follow_6 19 rfl rfl)
theorem dX8_follow_162 : decode cX8_follow 162 = .ok (.getfield 12, 3) := dk_180 0 12 (dk_at dksX8_follow_6 20 rfl rfl)
theorem dX8_follow_165 : decode cX8_follow 165 = .ok (.getfield 104, 3) := dk_180 0 104 (dk_at dksX8_follow_7 0 rfl rfl)
theorem dX8_follow_168 : decode cX8_follow 168 = .ok (.istore_n 3, 1) := dk_62 (dk_at dksX8_follow_7 3 rfl rfl)
theorem dX8_follow_169 : decode cX8_follow 169 = .ok (.goto (-109), 3) := dk_167 255 147 (dk_at dksX8_follow_7 4 rfl rfl)
theorem dX8_follow_172 : decode cX8_follow 172 = .ok (.aload_n 0, 1) := dk_42 (dk_at dksX8_follow_7 7 rfl rfl)
theorem dX8_follow_173 : decode cX8_follow 173 = .ok (.iconst 2, 1) := dk_5 (dk_at dksX8_follow_7 8 rfl rfl)
theorem dX8_follow_174 : decode cX8_follow 174 = .ok (.putfield 164, 3) := dk_181 0 164 (dk_at dksX8_follow_7 9 rfl rfl)
theorem dX8_follow_177 : decode cX8_follow 177 = .ok (.aload_n 0, 1) := dk_42 (dk_at dksX8_follow_7 12 rfl rfl)
theorem dX8_follow_178 : decode cX8_follow 178 = .ok (.iload_n 3, 1) := dk_29 (dk_at dksX8_follow_7 13 rfl rfl)
theorem dX8_follow_179 : decode cX8_follow 179 = .ok (.putfield 157, 3) := dk_181 0 157 (dk_at dksX8_follow_7 14 rfl rfl)
theorem dX8_follow_182 : decode cX8_follow 182 = .ok (.aload_n 0, 1) := dk_42 (dk_at dksX8_follow_7 17 rfl rfl)
theorem dX8_follow_183 : decode cX8_follow 183 = .ok (.aload_n 0, 1) := dk_42 (dk_at dksX8_follow_7 18 rfl rfl)
theorem dX8_follow_184 : decode cX8_follow 184 = .ok (.invokevirtual 155, 3) := dk_182 0 155 (dk_at dksX8_follow_7 19 rfl rfl)
theorem dX8_follow_187 : decode cX8_follow 187 = .ok (.aload_n 2, 1) := dk_44 (dk_at dksX8_follow_7 22 rfl rfl)
theorem dX8_follow_188 : decode cX8_follow 188 = .ok (.aload_n 0, 1) := dk_42 (dk_at dksX8_follow_7 23 rfl rfl)
theorem dX8_follow_189 : decode cX8_follow 189 = .ok (.iload_n 3, 1) := dk_29 (dk_at dksX8_follow_8 0 rfl rfl)
theorem dX8_follow_190 : decode cX8_follow 190 = .ok (.invokevirtual 152, 3) := dk_182 0 152 (dk_at dksX8_follow_8 1 rfl rfl)
theorem dX8_follow_193 : decode cX8_follow 193 = .ok (.iaload, 1) := dk_46 (dk_at dksX8_follow_8 4 rfl rfl)
theorem dX8_follow_194 : decode cX8_follow 194 = .ok (.isub, 1) := dk_100 (dk_at dksX8_follow_8 5 rfl rfl)
theorem dX8_follow_195 : decode cX8_follow 195 = .ok (.putfield 145, 3) := dk_181 0 145 (dk_at dksX8_follow_8 6 rfl rfl)
theorem dX8_follow_198 : decode cX8_follow 198 = .ok (.aload_n 0, 1) := dk_42 (dk_at dksX8_follow_8 9 rfl rfl)
theorem dX8_follow_199 : decode cX8_follow 199 = .ok (.areturn, 1) := dk_176 (dk_at dksX8_follow_8 10 rfl rfl)
abbrev cX8_metOf : ByteArray := prog_3_method_14_code
def yX8_metOf : MethodName := ⟨RX8, "metOf", "(I)I"⟩
def dkwX8_metOf_1 : List UInt8 := [180, 0, 133, 172]
abbrev dktX8_metOf_1 : List UInt8 := dkwX8_metOf_1 ++ []
def dkwX8_metOf_0 : List UInt8 := [42, 180, 0, 40, 27, 182, 0, 191, 61, 28, 2, 160, 0, 7, 3, 167, 0, 11, 42, 28, 182, 0, 194]
abbrev dktX8_metOf_0 : List UInt8 := dkwX8_metOf_0 ++ dktX8_metOf_1
theorem dksX8_metOf_0 : cX8_metOf.data.toList.drop 0 = dktX8_metOf_0 := by decide +kernel
theorem dksX8_metOf_1 : cX8_metOf.data.toList.drop 23 = dktX8_metOf_1 := dk_seg dksX8_metOf_0 23 rfl rfl
theorem dX8_metOf_0 : decode cX8_metOf 0 = .ok (.aload_n 0, 1) := dk_42 (dk_at dksX8_metOf_0 0 rfl rfl)
theorem dX8_metOf_1 : decode cX8_metOf 1 = .ok (.getfield 40, 3) := dk_180 0 40 (dk_at dksX8_metOf_0 1 rfl rfl)
theorem dX8_metOf_4 : decode cX8_metOf 4 = .ok (.iload_n 1, 1) := dk_27 (dk_at dksX8_metOf_0 4 rfl rfl)
theorem dX8_metOf_5 : decode cX8_metOf 5 = .ok (.invokevirtual 191, 3) := dk_182 0 191 (dk_at dksX8_metOf_0 5 rfl rfl)
theorem dX8_metOf_8 : decode cX8_metOf 8 = .ok (.istore_n 2, 1) := dk_61 (dk_at dksX8_metOf_0 8 rfl rfl)
theorem dX8_metOf_9 : decode cX8_metOf 9 = .ok (.iload_n 2, 1) := dk_28 (dk_at dksX8_metOf_0 9 rfl rfl)
theorem dX8_metOf_10 : decode cX8_metOf 10 = .ok (.iconst (-1), 1) := dk_2 (dk_at dksX8_metOf_0 10 rfl rfl)
theorem dX8_metOf_11 : decode cX8_metOf 11 = .ok (.if_icmp .ne 7, 3) := dk_160 0 7 (dk_at dksX8_metOf_0 11 rfl rfl)
theorem dX8_metOf_14 : decode cX8_metOf 14 = .ok (.iconst 0, 1) := dk_3 (dk_at dksX8_metOf_0 14 rfl rfl)
theorem dX8_metOf_15 : decode cX8_metOf 15 = .ok (.goto 11, 3) := dk_167 0 11 (dk_at dksX8_metOf_0 15 rfl rfl)
theorem dX8_metOf_18 : decode cX8_metOf 18 = .ok (.aload_n 0, 1) := dk_42 (dk_at dksX8_metOf_0 18 rfl rfl)
theorem dX8_metOf_19 : decode cX8_metOf 19 = .ok (.iload_n 2, 1) := dk_28 (dk_at dksX8_metOf_0 19 rfl rfl)
theorem dX8_metOf_20 : decode cX8_metOf 20 = .ok (.invokevirtual 194, 3) := dk_182 0 194 (dk_at dksX8_metOf_0 20 rfl rfl)
theorem dX8_metOf_23 : decode cX8_metOf 23 = .ok (.getfield 133, 3) := dk_180 0 133 (dk_at dksX8_metOf_1 0 rfl rfl)
theorem dX8_metOf_26 : decode cX8_metOf 26 = .ok (.ireturn, 1) := dk_172 (dk_at dksX8_metOf_1 3 rfl rfl)
abbrev cX8_isComplete : ByteArray := prog_3_method_15_code
def yX8_isComplete : MethodName := ⟨RX8, "isComplete", "(I)Z"⟩
def dkwX8_isComplete_1 : List UInt8 := [167, 0, 4, 3, 172]
abbrev dktX8_isComplete_1 : List UInt8 := dkwX8_isComplete_1 ++ []
def dkwX8_isComplete_0 : List UInt8 := [42, 27, 182, 0, 198, 61, 28, 158, 0, 19, 28, 42, 180, 0, 40, 27, 182, 0, 188, 160, 0, 7, 4]
abbrev dktX8_isComplete_0 : List UInt8 := dkwX8_isComplete_0 ++ dktX8_isComplete_1
theorem dksX8_isComplete_0 : cX8_isComplete.data.toList.drop 0 = dktX8_isComplete_0 := by decide +kernel
theorem dksX8_isComplete_1 : cX8_isComplete.data.toList.drop 23 = dktX8_isComplete_1 := dk_seg dksX8_isComplete_0 23 rfl rfl
theorem dX8_isComplete_0 : decode cX8_isComplete 0 = .ok (.aload_n 0, 1) := dk_42 (dk_at dksX8_isComplete_0 0 rfl rfl)
theorem dX8_isComplete_1 : decode cX8_isComplete 1 = .ok (.iload_n 1, 1) := dk_27 (dk_at dksX8_isComplete_0 1 rfl rfl)
theorem dX8_isComplete_2 : decode cX8_isComplete 2 = .ok (.invokevirtual 198, 3) := dk_182 0 198 (dk_at dksX8_isComplete_0 2 rfl rfl)
theorem dX8_isComplete_5 : decode cX8_isComplete 5 = .ok (.istore_n 2, 1) := dk_61 (dk_at dksX8_isComplete_0 5 rfl rfl)
theorem dX8_isComplete_6 : decode cX8_isComplete 6 = .ok (.iload_n 2, 1) := dk_28 (dk_at dksX8_isComplete_0 6 rfl rfl)
theorem dX8_isComplete_7 : decode cX8_isComplete 7 = .ok (.ifCond .le 19, 3) := dk_158 0 19 (dk_at dksX8_isComplete_0 7 rfl rfl)
theorem dX8_isComplete_10 : decode cX8_isComplete 10 = .ok (.iload_n 2, 1) := dk_28 (dk_at dksX8_isComplete_0 10 rfl rfl)
theorem dX8_isComplete_11 : decode cX8_isComplete 11 = .ok (.aload_n 0, 1) := dk_42 (dk_at dksX8_isComplete_0 11 rfl rfl)
theorem dX8_isComplete_12 : decode cX8_isComplete 12 = .ok (.getfield 40, 3) := dk_180 0 40 (dk_at dksX8_isComplete_0 12 rfl rfl)
theorem dX8_isComplete_15 : decode cX8_isComplete 15 = .ok (.iload_n 1, 1) := dk_27 (dk_at dksX8_isComplete_0 15 rfl rfl)
theorem dX8_isComplete_16 : decode cX8_isComplete 16 = .ok (.invokevirtual 188, 3) := dk_182 0 188 (dk_at dksX8_isComplete_0 16 rfl rfl)
theorem dX8_isComplete_19 : decode cX8_isComplete 19 = .ok (.if_icmp .ne 7, 3) := dk_160 0 7 (dk_at dksX8_isComplete_0 19 rfl rfl)
theorem dX8_isComplete_22 : decode cX8_isComplete 22 = .ok (.iconst 1, 1) := dk_4 (dk_at dksX8_isComplete_0 22 rfl rfl)
theorem dX8_isComplete_23 : decode cX8_isComplete 23 = .ok (.goto 4, 3) := dk_167 0 4 (dk_at dksX8_isComplete_1 0 rfl rfl)
theorem dX8_isComplete_26 : decode cX8_isComplete 26 = .ok (.iconst 0, 1) := dk_3 (dk_at dksX8_isComplete_1 3 rfl rfl)
theorem dX8_isComplete_27 : decode cX8_isComplete 27 = .ok (.ireturn, 1) := dk_172 (dk_at dksX8_isComplete_1 4 rfl rfl)
abbrev cX8_figure : ByteArray := prog_3_method_13_code
def yX8_figure : MethodName := ⟨RX8, "figure", "(I)I"⟩
def dkwX8_figure_4 : List UInt8 := [182, 0, 188, 42, 180, 0, 133, 100, 172, 42, 180, 0, 145, 172, 42, 180, 0, 142, 172]
abbrev dktX8_figure_4 : List UInt8 := dkwX8_figure_4 ++ []
def dkwX8_figure_3 : List UInt8 := [172, 42, 180, 0, 40, 42, 180, 0, 40, 180, 0, 59, 42, 180, 0, 25, 3, 46, 50, 180, 0, 77]
abbrev dktX8_figure_3 : List UInt8 := dkwX8_figure_3 ++ dktX8_figure_4
def dkwX8_figure_2 : List UInt8 := [42, 180, 0, 133, 172, 42, 182, 0, 155, 172, 42, 180, 0, 164, 172, 42, 180, 0, 157, 172, 42, 180, 0, 136]
abbrev dktX8_figure_2 : List UInt8 := dkwX8_figure_2 ++ dktX8_figure_3
def dkwX8_figure_1 : List UInt8 := [170, 0, 0, 0, 0, 0, 103, 0, 0, 0, 0, 0, 0, 0, 6, 0, 0, 0, 43, 0, 0, 0, 48, 0, 0, 0, 53, 0, 0, 0, 58, 0, 0, 0, 63, 0, 0, 0, 68, 0, 0, 0, 98]
abbrev dktX8_figure_1 : List UInt8 := dkwX8_figure_1 ++ dktX8_figure_2
def dkwX8_figure_0 : List UInt8 := [27]
abbrev dktX8_figure_0 : List UInt8 := dkwX8_figure_0 ++ dktX8_figure_1
theorem dksX8_figure_0 : cX8_figure.data.toList.drop 0 = dktX8_figure_0 := by decide +kernel
theorem dksX8_figure_1 : cX8_figure.data.toList.drop 1 = dktX8_figure_1 := dk_seg dksX8_figure_0 1 rfl rfl
theorem dksX8_figure_2 : cX8_figure.data.toList.drop 44 = dktX8_figure_2 := dk_seg dksX8_figure_1 43 rfl rfl
theorem dksX8_figure_3 : cX8_figure.data.toList.drop 68 = dktX8_figure_3 := dk_seg dksX8_figure_2 24 rfl rfl
theorem dksX8_figure_4 : cX8_figure.data.toList.drop 90 = dktX8_figure_4 := dk_seg dksX8_figure_3 22 rfl rfl
theorem dX8_figure_0 : decode cX8_figure 0 = .ok (.iload_n 1, 1) := dk_27 (dk_at dksX8_figure_0 0 rfl rfl)
theorem dX8_figure_1 : decode cX8_figure 1 = .ok (.tableswitch 103 0 6 #[43, 48, 53, 58, 63, 68, 98], 43) := by decide +kernel
theorem dX8_figure_44 : decode cX8_figure 44 = .ok (.aload_n 0, 1) := dk_42 (dk_at dksX8_figure_2 0 rfl rfl)
theorem dX8_figure_45 : decode cX8_figure 45 = .ok (.getfield 133, 3) := dk_180 0 133 (dk_at dksX8_figure_2 1 rfl rfl)
theorem dX8_figure_48 : decode cX8_figure 48 = .ok (.ireturn, 1) := dk_172 (dk_at dksX8_figure_2 4 rfl rfl)
theorem dX8_figure_49 : decode cX8_figure 49 = .ok (.aload_n 0, 1) := dk_42 (dk_at dksX8_figure_2 5 rfl rfl)
theorem dX8_figure_50 : decode cX8_figure 50 = .ok (.invokevirtual 155, 3) := dk_182 0 155 (dk_at dksX8_figure_2 6 rfl rfl)
theorem dX8_figure_53 : decode cX8_figure 53 = .ok (.ireturn, 1) := dk_172 (dk_at dksX8_figure_2 9 rfl rfl)
theorem dX8_figure_54 : decode cX8_figure 54 = .ok (.aload_n 0, 1) := dk_42 (dk_at dksX8_figure_2 10 rfl rfl)
theorem dX8_figure_55 : decode cX8_figure 55 = .ok (.getfield 164, 3) := dk_180 0 164 (dk_at dksX8_figure_2 11 rfl rfl)
theorem dX8_figure_58 : decode cX8_figure 58 = .ok (.ireturn, 1) := dk_172 (dk_at dksX8_figure_2 14 rfl rfl)
theorem dX8_figure_59 : decode cX8_figure 59 = .ok (.aload_n 0, 1) := dk_42 (dk_at dksX8_figure_2 15 rfl rfl)
theorem dX8_figure_60 : decode cX8_figure 60 = .ok (.getfield 157, 3) := dk_180 0 157 (dk_at dksX8_figure_2 16 rfl rfl)
theorem dX8_figure_63 : decode cX8_figure 63 = .ok (.ireturn, 1) := dk_172 (dk_at dksX8_figure_2 19 rfl rfl)
theorem dX8_figure_64 : decode cX8_figure 64 = .ok (.aload_n 0, 1) := dk_42 (dk_at dksX8_figure_2 20 rfl rfl)
theorem dX8_figure_65 : decode cX8_figure 65 = .ok (.getfield 136, 3) := dk_180 0 136 (dk_at dksX8_figure_2 21 rfl rfl)
theorem dX8_figure_68 : decode cX8_figure 68 = .ok (.ireturn, 1) := dk_172 (dk_at dksX8_figure_3 0 rfl rfl)
theorem dX8_figure_69 : decode cX8_figure 69 = .ok (.aload_n 0, 1) := dk_42 (dk_at dksX8_figure_3 1 rfl rfl)
theorem dX8_figure_70 : decode cX8_figure 70 = .ok (.getfield 40, 3) := dk_180 0 40 (dk_at dksX8_figure_3 2 rfl rfl)
theorem dX8_figure_73 : decode cX8_figure 73 = .ok (.aload_n 0, 1) := dk_42 (dk_at dksX8_figure_3 5 rfl rfl)
theorem dX8_figure_74 : decode cX8_figure 74 = .ok (.getfield 40, 3) := dk_180 0 40 (dk_at dksX8_figure_3 6 rfl rfl)
theorem dX8_figure_77 : decode cX8_figure 77 = .ok (.getfield 59, 3) := dk_180 0 59 (dk_at dksX8_figure_3 9 rfl rfl)
theorem dX8_figure_80 : decode cX8_figure 80 = .ok (.aload_n 0, 1) := dk_42 (dk_at dksX8_figure_3 12 rfl rfl)
theorem dX8_figure_81 : decode cX8_figure 81 = .ok (.getfield 25, 3) := dk_180 0 25 (dk_at dksX8_figure_3 13 rfl rfl)
theorem dX8_figure_84 : decode cX8_figure 84 = .ok (.iconst 0, 1) := dk_3 (dk_at dksX8_figure_3 16 rfl rfl)
theorem dX8_figure_85 : decode cX8_figure 85 = .ok (.iaload, 1) := dk_46 (dk_at dksX8_figure_3 17 rfl rfl)
theorem dX8_figure_86 : decode cX8_figure 86 = .ok (.aaload, 1) := dk_50 (dk_at dksX8_figure_3 18 rfl rfl)
theorem dX8_figure_87 : decode cX8_figure 87 = .ok (.getfield 77, 3) := dk_180 0 77 (dk_at dksX8_figure_3 19 rfl rfl)
theorem dX8_figure_90 : decode cX8_figure 90 = .ok (.invokevirtual 188, 3) := dk_182 0 188 (dk_at dksX8_figure_4 0 rfl rfl)
theorem dX8_figure_93 : decode cX8_figure 93 = .ok (.aload_n 0, 1) := dk_42 (dk_at dksX8_figure_4 3 rfl rfl)
theorem dX8_figure_94 : decode cX8_figure 94 = .ok (.getfield 133, 3) := dk_180 0 133 (dk_at dksX8_figure_4 4 rfl rfl)
theorem dX8_figure_97 : decode cX8_figure 97 = .ok (.isub, 1) := dk_100 (dk_at dksX8_figure_4 7 rfl rfl)
theorem dX8_figure_98 : decode cX8_figure 98 = .ok (.ireturn, 1) := dk_172 (dk_at dksX8_figure_4 8 rfl rfl)
theorem dX8_figure_99 : decode cX8_figure 99 = .ok (.aload_n 0, 1) := dk_42 (dk_at dksX8_figure_4 9 rfl rfl)
theorem dX8_figure_100 : decode cX8_figure 100 = .ok (.getfield 145, 3) := dk_180 0 145 (dk_at dksX8_figure_4 10 rfl rfl)
theorem dX8_figure_103 : decode cX8_figure 103 = .ok (.ireturn, 1) := dk_172 (dk_at dksX8_figure_4 13 rfl rfl)
theorem dX8_figure_104 : decode cX8_figure 104 = .ok (.aload_n 0, 1) := dk_42 (dk_at dksX8_figure_4 14 rfl rfl)
theorem dX8_figure_105 : decode cX8_figure 105 = .ok (.getfield 142, 3) := dk_180 0 142 (dk_at dksX8_figure_4 15 rfl rfl)
theorem dX8_figure_108 : decode cX8_figure 108 = .ok (.ireturn, 1) := dk_172 (dk_at dksX8_figure_4 18 rfl rfl)
abbrev cX8_ways : ByteArray := prog_3_method_12_code
def yX8_ways : MethodName := ⟨RX8, "ways", "()I"⟩
def dkwX8_ways_0 : List UInt8 := [42, 180, 0, 164, 5, 160, 0, 10, 42, 180, 0, 133, 167, 0, 9, 42, 180, 0, 133, 4, 100, 172]
abbrev dktX8_ways_0 : List UInt8 := dkwX8_ways_0 ++ []
theorem dksX8_ways_0 : cX8_ways.data.toList.drop 0 = dktX8_ways_0 := by decide +kernel
theorem dX8_ways_0 : decode cX8_ways 0 = .ok (.aload_n 0, 1) := dk_42 (dk_at dksX8_ways_0 0 rfl rfl)
theorem dX8_ways_1 : decode cX8_ways 1 = .ok (.getfield 164, 3) := dk_180 0 164 (dk_at dksX8_ways_0 1 rfl rfl)
theorem dX8_ways_4 : decode cX8_ways 4 = .ok (.iconst 2, 1) := dk_5 (dk_at dksX8_ways_0 4 rfl rfl)
theorem dX8_ways_5 : decode cX8_ways 5 = .ok (.if_icmp .ne 10, 3) := dk_160 0 10 (dk_at dksX8_ways_0 5 rfl rfl)
theorem dX8_ways_8 : decode cX8_ways 8 = .ok (.aload_n 0, 1) := dk_42 (dk_at dksX8_ways_0 8 rfl rfl)
theorem dX8_ways_9 : decode cX8_ways 9 = .ok (.getfield 133, 3) := dk_180 0 133 (dk_at dksX8_ways_0 9 rfl rfl)
theorem dX8_ways_12 : decode cX8_ways 12 = .ok (.goto 9, 3) := dk_167 0 9 (dk_at dksX8_ways_0 12 rfl rfl)
theorem dX8_ways_15 : decode cX8_ways 15 = .ok (.aload_n 0, 1) := dk_42 (dk_at dksX8_ways_0 15 rfl rfl)
theorem dX8_ways_16 : decode cX8_ways 16 = .ok (.getfield 133, 3) := dk_180 0 133 (dk_at dksX8_ways_0 16 rfl rfl)
theorem dX8_ways_19 : decode cX8_ways 19 = .ok (.iconst 1, 1) := dk_4 (dk_at dksX8_ways_0 19 rfl rfl)
theorem dX8_ways_20 : decode cX8_ways 20 = .ok (.isub, 1) := dk_100 (dk_at dksX8_ways_0 20 rfl rfl)
theorem dX8_ways_21 : decode cX8_ways 21 = .ok (.ireturn, 1) := dk_172 (dk_at dksX8_ways_0 21 rfl rfl)
theorem q166 : (Jvm.Cond.initialized "TrailMarkers$Guide") ∈ lw_all := lw_g (lw_at lw_m1 29 rfl) rfl
theorem q167 : (Jvm.Cond.initialized "TrailMarkers$Way") ∈ lw_all := lw_g (lw_at lw_m1 30 rfl) rfl
theorem q168 : (Jvm.Cond.initialized "TrailMarkers$Walk") ∈ lw_all := lw_g (lw_at lw_m1 31 rfl) rfl
theorem q220 : (Jvm.Cond.fieldLink "TrailMarkers$Guide" (59 : Nat) "TrailMarkers$Trails" "posts" "[LTrailMarkers$Post;") ∈ lw_all := lw_g (lw_at lw_m1 83 rfl) rfl
theorem q232 : (Jvm.Cond.fieldLink "TrailMarkers$Guide" (101 : Nat) "TrailMarkers$Trails" "settings" "[I") ∈ lw_all := lw_g (lw_at lw_m1 95 rfl) rfl
theorem q286 : (Jvm.Cond.fieldLink "TrailMarkers$Guide" (65 : Nat) "TrailMarkers$Post" "x" "I") ∈ lw_all := lw_g (lw_at lw_m1 149 rfl) rfl
theorem q290 : (Jvm.Cond.fieldLink "TrailMarkers$Guide" (71 : Nat) "TrailMarkers$Post" "y" "I") ∈ lw_all := lw_g (lw_at lw_m1 153 rfl) rfl
theorem q294 : (Jvm.Cond.fieldLink "TrailMarkers$Guide" (77 : Nat) "TrailMarkers$Post" "colour" "I") ∈ lw_all := lw_g (lw_at lw_m1 157 rfl) rfl
theorem q299 : (Jvm.Cond.fieldLink "TrailMarkers$Guide" (74 : Nat) "TrailMarkers$Post" "arrow" "I") ∈ lw_all := lw_g (lw_at lw_m1 162 rfl) rfl
theorem q1139 : (Jvm.Cond.methodLink "TrailMarkers$Guide" (3 : Nat) ({ cls := "java/lang/Object", name := "<init>", desc := "()V" } : Jvm.MethodName)) ∈ lw_all := lw_g (lw_at lw_m5 42 rfl) rfl
theorem q1140 : (Jvm.Cond.classLink "TrailMarkers$Guide" (9 : Nat) "TrailMarkers$Way") ∈ lw_all := lw_g (lw_at lw_m5 43 rfl) rfl
theorem q1141 : (Jvm.Cond.instantiable "TrailMarkers$Way" (5 : Nat)) ∈ lw_all := lw_g (lw_at lw_m5 44 rfl) rfl
theorem q1142 : (Jvm.Cond.methodLinkNest "TrailMarkers$Guide" (11 : Nat) ({ cls := "TrailMarkers$Way", name := "<init>", desc := "()V" } : Jvm.MethodName) "TrailMarkers") ∈ lw_tbl := lw_at lw_m5 45 rfl
theorem q1143 : (Jvm.Cond.instanceMethod ({ cls := "TrailMarkers$Way", name := "<init>", desc := "()V" } : Jvm.MethodName)) ∈ lw_all := lw_g (lw_at lw_m5 46 rfl) rfl
theorem q1144 : (Jvm.Cond.code ({ cls := "TrailMarkers$Way", name := "<init>", desc := "()V" } : Jvm.MethodName) prog_11_method_1_code (1 : Nat) (Option.none : Option Jvm.ClassFile.FieldType)) ∈ lw_all := lw_g (lw_at lw_m5 47 rfl) rfl
theorem q1147 : (Jvm.Cond.fieldLink "TrailMarkers$Guide" (104 : Nat) "TrailMarkers$Way" "next" "I") ∈ lw_all := lw_g (lw_at lw_m5 50 rfl) rfl
theorem q1150 : (Jvm.Cond.fieldLink "TrailMarkers$Guide" (179 : Nat) "TrailMarkers$Way" "total" "I") ∈ lw_all := lw_g (lw_at lw_m5 53 rfl) rfl
theorem q1153 : (Jvm.Cond.fieldLink "TrailMarkers$Guide" (171 : Nat) "TrailMarkers$Way" "turns" "I") ∈ lw_all := lw_g (lw_at lw_m5 56 rfl) rfl
theorem q1156 : (Jvm.Cond.fieldLink "TrailMarkers$Guide" (174 : Nat) "TrailMarkers$Way" "lengths" "[I") ∈ lw_all := lw_g (lw_at lw_m5 59 rfl) rfl
theorem q1159 : (Jvm.Cond.fieldLink "TrailMarkers$Guide" (175 : Nat) "TrailMarkers$Way" "directions" "[I") ∈ lw_all := lw_g (lw_at lw_m5 62 rfl) rfl
theorem q1171 : (Jvm.Cond.classLink "TrailMarkers$Guide" (34 : Nat) "TrailMarkers$Leg") ∈ lw_all := lw_g (lw_at lw_m5 74 rfl) rfl
theorem q1172 : (Jvm.Cond.arrayOver (Jvm.ClassFile.FieldType.object "TrailMarkers$Leg")) ∈ lw_tbl := lw_at lw_m5 75 rfl
theorem q1173 : (Jvm.Cond.classLink "TrailMarkers$Guide" (44 : Nat) "TrailMarkers$Walk") ∈ lw_all := lw_g (lw_at lw_m5 76 rfl) rfl
theorem q1174 : (Jvm.Cond.instantiable "TrailMarkers$Walk" (6 : Nat)) ∈ lw_all := lw_g (lw_at lw_m5 77 rfl) rfl
theorem q1175 : (Jvm.Cond.methodLink "TrailMarkers$Guide" (46 : Nat) ({ cls := "TrailMarkers$Walk", name := "<init>", desc := "(LTrailMarkers$Trails;)V" } : Jvm.MethodName)) ∈ lw_all := lw_g (lw_at lw_m5 78 rfl) rfl
theorem q1176 : (Jvm.Cond.instanceMethod ({ cls := "TrailMarkers$Walk", name := "<init>", desc := "(LTrailMarkers$Trails;)V" } : Jvm.MethodName)) ∈ lw_all := lw_g (lw_at lw_m5 79 rfl) rfl
theorem q1177 : (Jvm.Cond.code ({ cls := "TrailMarkers$Walk", name := "<init>", desc := "(LTrailMarkers$Trails;)V" } : Jvm.MethodName) prog_10_method_1_code (2 : Nat) (Option.none : Option Jvm.ClassFile.FieldType)) ∈ lw_all := lw_g (lw_at lw_m5 80 rfl) rfl
theorem q1183 : (Jvm.Cond.fieldLink "TrailMarkers$Guide" (91 : Nat) "TrailMarkers$Walk" "steps" "I") ∈ lw_all := lw_g (lw_at lw_m5 86 rfl) rfl
theorem q1188 : (Jvm.Cond.fieldLink "TrailMarkers$Guide" (94 : Nat) "TrailMarkers$Walk" "met" "I") ∈ lw_all := lw_g (lw_at lw_m5 91 rfl) rfl
theorem q1202 : (Jvm.Cond.fieldLink "TrailMarkers$Guide" (40 : Nat) "TrailMarkers$Guide" "trails" "LTrailMarkers$Trails;") ∈ lw_all := lw_g (lw_at lw_m5 105 rfl) rfl
theorem q1203 : (Jvm.Cond.fieldLink "TrailMarkers$Guide" (12 : Nat) "TrailMarkers$Guide" "way" "LTrailMarkers$Way;") ∈ lw_all := lw_g (lw_at lw_m5 106 rfl) rfl
theorem q1204 : (Jvm.Cond.fieldLink "TrailMarkers$Guide" (49 : Nat) "TrailMarkers$Guide" "plain" "LTrailMarkers$Walk;") ∈ lw_all := lw_g (lw_at lw_m5 107 rfl) rfl
theorem q1205 : (Jvm.Cond.fieldLink "TrailMarkers$Guide" (53 : Nat) "TrailMarkers$Guide" "first" "LTrailMarkers$Walk;") ∈ lw_all := lw_g (lw_at lw_m5 108 rfl) rfl
theorem q1206 : (Jvm.Cond.fieldLink "TrailMarkers$Guide" (56 : Nat) "TrailMarkers$Guide" "second" "LTrailMarkers$Walk;") ∈ lw_all := lw_g (lw_at lw_m5 109 rfl) rfl
theorem q1207 : (Jvm.Cond.fieldLink "TrailMarkers$Guide" (18 : Nat) "TrailMarkers$Guide" "lengths" "[I") ∈ lw_all := lw_g (lw_at lw_m5 110 rfl) rfl
theorem q1208 : (Jvm.Cond.fieldLink "TrailMarkers$Guide" (22 : Nat) "TrailMarkers$Guide" "directions" "[I") ∈ lw_all := lw_g (lw_at lw_m5 111 rfl) rfl
theorem q1209 : (Jvm.Cond.fieldLink "TrailMarkers$Guide" (25 : Nat) "TrailMarkers$Guide" "route" "[I") ∈ lw_all := lw_g (lw_at lw_m5 112 rfl) rfl
theorem q1211 : (Jvm.Cond.fieldLink "TrailMarkers$Guide" (133 : Nat) "TrailMarkers$Guide" "routePosts" "I") ∈ lw_all := lw_g (lw_at lw_m5 114 rfl) rfl
theorem q1213 : (Jvm.Cond.fieldLink "TrailMarkers$Guide" (28 : Nat) "TrailMarkers$Guide" "cells" "[I") ∈ lw_all := lw_g (lw_at lw_m5 116 rfl) rfl
theorem q1215 : (Jvm.Cond.fieldLink "TrailMarkers$Guide" (130 : Nat) "TrailMarkers$Guide" "cellCount" "I") ∈ lw_all := lw_g (lw_at lw_m5 118 rfl) rfl
theorem q1217 : (Jvm.Cond.fieldLink "TrailMarkers$Guide" (31 : Nat) "TrailMarkers$Guide" "guessed" "[I") ∈ lw_all := lw_g (lw_at lw_m5 120 rfl) rfl
theorem q1219 : (Jvm.Cond.fieldLink "TrailMarkers$Guide" (136 : Nat) "TrailMarkers$Guide" "guesses" "I") ∈ lw_all := lw_g (lw_at lw_m5 122 rfl) rfl
theorem q1221 : (Jvm.Cond.fieldLink "TrailMarkers$Guide" (36 : Nat) "TrailMarkers$Guide" "legs" "[LTrailMarkers$Leg;") ∈ lw_all := lw_g (lw_at lw_m5 124 rfl) rfl
theorem q1223 : (Jvm.Cond.fieldLink "TrailMarkers$Guide" (139 : Nat) "TrailMarkers$Guide" "legCount" "I") ∈ lw_all := lw_g (lw_at lw_m5 126 rfl) rfl
theorem q1225 : (Jvm.Cond.fieldLink "TrailMarkers$Guide" (164 : Nat) "TrailMarkers$Guide" "ending" "I") ∈ lw_all := lw_g (lw_at lw_m5 128 rfl) rfl
theorem q1226 : (Jvm.Cond.fieldLink "TrailMarkers$Guide" (157 : Nat) "TrailMarkers$Guide" "last" "I") ∈ lw_all := lw_g (lw_at lw_m5 129 rfl) rfl
theorem q1227 : (Jvm.Cond.fieldLink "TrailMarkers$Guide" (142 : Nat) "TrailMarkers$Guide" "longest" "I") ∈ lw_all := lw_g (lw_at lw_m5 130 rfl) rfl
theorem q1228 : (Jvm.Cond.fieldLink "TrailMarkers$Guide" (145 : Nat) "TrailMarkers$Guide" "loopSteps" "I") ∈ lw_all := lw_g (lw_at lw_m5 131 rfl) rfl
theorem q1269 : (Jvm.Cond.instanceMethod ({ cls := "TrailMarkers$Guide", name := "follow", desc := "(I)LTrailMarkers$Guide;" } : Jvm.MethodName)) ∈ lw_all := lw_g (lw_at lw_m5 172 rfl) rfl
theorem q1270 : (Jvm.Cond.selects "TrailMarkers$Guide" ({ cls := "TrailMarkers$Guide", name := "follow", desc := "(I)LTrailMarkers$Guide;" } : Jvm.MethodName) ({ cls := "TrailMarkers$Guide", name := "follow", desc := "(I)LTrailMarkers$Guide;" } : Jvm.MethodName)) ∈ lw_all := lw_g (lw_at lw_m5 173 rfl) rfl
theorem q1271 : (Jvm.Cond.code ({ cls := "TrailMarkers$Guide", name := "follow", desc := "(I)LTrailMarkers$Guide;" } : Jvm.MethodName) prog_3_method_9_code (4 : Nat) (Option.some (Jvm.ClassFile.FieldType.object "TrailMarkers$Guide"))) ∈ lw_all := lw_g (lw_at lw_m5 174 rfl) rfl
theorem q1272 : (Jvm.Cond.methodLink "TrailMarkers$Guide" (148 : Nat) ({ cls := "TrailMarkers$Post", name := "cell", desc := "()I" } : Jvm.MethodName)) ∈ lw_all := lw_g (lw_at lw_m5 175 rfl) rfl
theorem q1273 : (Jvm.Cond.instanceMethod ({ cls := "TrailMarkers$Post", name := "cell", desc := "()I" } : Jvm.MethodName)) ∈ lw_all := lw_g (lw_at lw_m5 176 rfl) rfl
theorem q1274 : (Jvm.Cond.selects "TrailMarkers$Post" ({ cls := "TrailMarkers$Post", name := "cell", desc := "()I" } : Jvm.MethodName) ({ cls := "TrailMarkers$Post", name := "cell", desc := "()I" } : Jvm.MethodName)) ∈ lw_all := lw_g (lw_at lw_m5 177 rfl) rfl
theorem q1275 : (Jvm.Cond.code ({ cls := "TrailMarkers$Post", name := "cell", desc := "()I" } : Jvm.MethodName) prog_6_method_5_code (1 : Nat) (Option.some Jvm.ClassFile.FieldType.int)) ∈ lw_all := lw_g (lw_at lw_m5 178 rfl) rfl
theorem q1276 : (Jvm.Cond.methodLink "TrailMarkers$Guide" (152 : Nat) ({ cls := "TrailMarkers$Guide", name := "place", desc := "(I)I" } : Jvm.MethodName)) ∈ lw_all := lw_g (lw_at lw_m5 179 rfl) rfl
theorem q1277 : (Jvm.Cond.instanceMethod ({ cls := "TrailMarkers$Guide", name := "place", desc := "(I)I" } : Jvm.MethodName)) ∈ lw_all := lw_g (lw_at lw_m5 180 rfl) rfl
theorem q1278 : (Jvm.Cond.selects "TrailMarkers$Guide" ({ cls := "TrailMarkers$Guide", name := "place", desc := "(I)I" } : Jvm.MethodName) ({ cls := "TrailMarkers$Guide", name := "place", desc := "(I)I" } : Jvm.MethodName)) ∈ lw_all := lw_g (lw_at lw_m5 181 rfl) rfl
theorem q1279 : (Jvm.Cond.code ({ cls := "TrailMarkers$Guide", name := "place", desc := "(I)I" } : Jvm.MethodName) prog_3_method_10_code (3 : Nat) (Option.some Jvm.ClassFile.FieldType.int)) ∈ lw_all := lw_g (lw_at lw_m5 182 rfl) rfl
theorem q1280 : (Jvm.Cond.methodLink "TrailMarkers$Guide" (155 : Nat) ({ cls := "TrailMarkers$Guide", name := "steps", desc := "()I" } : Jvm.MethodName)) ∈ lw_all := lw_g (lw_at lw_m5 183 rfl) rfl
theorem q1282 : (Jvm.Cond.instanceMethod ({ cls := "TrailMarkers$Guide", name := "steps", desc := "()I" } : Jvm.MethodName)) ∈ lw_all := lw_g (lw_at lw_m5 185 rfl) rfl
theorem q1283 : (Jvm.Cond.code ({ cls := "TrailMarkers$Guide", name := "steps", desc := "()I" } : Jvm.MethodName) prog_3_method_8_code (1 : Nat) (Option.some Jvm.ClassFile.FieldType.int)) ∈ lw_all := lw_g (lw_at lw_m5 186 rfl) rfl
theorem q1284 : (Jvm.Cond.methodLink "TrailMarkers$Guide" (160 : Nat) ({ cls := "TrailMarkers$Guide", name := "find", desc := "(I)LTrailMarkers$Way;" } : Jvm.MethodName)) ∈ lw_all := lw_g (lw_at lw_m5 187 rfl) rfl
theorem q1285 : (Jvm.Cond.instanceMethod ({ cls := "TrailMarkers$Guide", name := "find", desc := "(I)LTrailMarkers$Way;" } : Jvm.MethodName)) ∈ lw_all := lw_g (lw_at lw_m5 188 rfl) rfl
theorem q1286 : (Jvm.Cond.selects "TrailMarkers$Guide" ({ cls := "TrailMarkers$Guide", name := "find", desc := "(I)LTrailMarkers$Way;" } : Jvm.MethodName) ({ cls := "TrailMarkers$Guide", name := "find", desc := "(I)LTrailMarkers$Way;" } : Jvm.MethodName)) ∈ lw_all := lw_g (lw_at lw_m5 189 rfl) rfl
theorem q1287 : (Jvm.Cond.code ({ cls := "TrailMarkers$Guide", name := "find", desc := "(I)LTrailMarkers$Way;" } : Jvm.MethodName) prog_3_method_3_code (4 : Nat) (Option.some (Jvm.ClassFile.FieldType.object "TrailMarkers$Way"))) ∈ lw_all := lw_g (lw_at lw_m5 190 rfl) rfl
theorem q1288 : (Jvm.Cond.methodLink "TrailMarkers$Guide" (84 : Nat) ({ cls := "TrailMarkers$Way", name := "clear", desc := "()V" } : Jvm.MethodName)) ∈ lw_all := lw_g (lw_at lw_m5 191 rfl) rfl
theorem q1289 : (Jvm.Cond.instanceMethod ({ cls := "TrailMarkers$Way", name := "clear", desc := "()V" } : Jvm.MethodName)) ∈ lw_all := lw_g (lw_at lw_m5 192 rfl) rfl
theorem q1290 : (Jvm.Cond.selects "TrailMarkers$Way" ({ cls := "TrailMarkers$Way", name := "clear", desc := "()V" } : Jvm.MethodName) ({ cls := "TrailMarkers$Way", name := "clear", desc := "()V" } : Jvm.MethodName)) ∈ lw_all := lw_g (lw_at lw_m5 193 rfl) rfl
theorem q1291 : (Jvm.Cond.code ({ cls := "TrailMarkers$Way", name := "clear", desc := "()V" } : Jvm.MethodName) prog_11_method_2_code (1 : Nat) (Option.none : Option Jvm.ClassFile.FieldType)) ∈ lw_all := lw_g (lw_at lw_m5 194 rfl) rfl
theorem q1292 : (Jvm.Cond.methodLink "TrailMarkers$Guide" (87 : Nat) ({ cls := "TrailMarkers$Guide", name := "plainFrom", desc := "(I)LTrailMarkers$Walk;" } : Jvm.MethodName)) ∈ lw_all := lw_g (lw_at lw_m5 195 rfl) rfl
theorem q1293 : (Jvm.Cond.instanceMethod ({ cls := "TrailMarkers$Guide", name := "plainFrom", desc := "(I)LTrailMarkers$Walk;" } : Jvm.MethodName)) ∈ lw_all := lw_g (lw_at lw_m5 196 rfl) rfl
theorem q1294 : (Jvm.Cond.selects "TrailMarkers$Guide" ({ cls := "TrailMarkers$Guide", name := "plainFrom", desc := "(I)LTrailMarkers$Walk;" } : Jvm.MethodName) ({ cls := "TrailMarkers$Guide", name := "plainFrom", desc := "(I)LTrailMarkers$Walk;" } : Jvm.MethodName)) ∈ lw_all := lw_g (lw_at lw_m5 197 rfl) rfl
theorem q1295 : (Jvm.Cond.code ({ cls := "TrailMarkers$Guide", name := "plainFrom", desc := "(I)LTrailMarkers$Walk;" } : Jvm.MethodName) prog_3_method_2_code (3 : Nat) (Option.some (Jvm.ClassFile.FieldType.object "TrailMarkers$Walk"))) ∈ lw_all := lw_g (lw_at lw_m5 198 rfl) rfl
theorem q1296 : (Jvm.Cond.methodLink "TrailMarkers$Guide" (80 : Nat) ({ cls := "TrailMarkers$Walk", name := "go", desc := "(IIIII)LTrailMarkers$Walk;" } : Jvm.MethodName)) ∈ lw_all := lw_g (lw_at lw_m5 199 rfl) rfl
theorem q1297 : (Jvm.Cond.instanceMethod ({ cls := "TrailMarkers$Walk", name := "go", desc := "(IIIII)LTrailMarkers$Walk;" } : Jvm.MethodName)) ∈ lw_all := lw_g (lw_at lw_m5 200 rfl) rfl
theorem q1298 : (Jvm.Cond.selects "TrailMarkers$Walk" ({ cls := "TrailMarkers$Walk", name := "go", desc := "(IIIII)LTrailMarkers$Walk;" } : Jvm.MethodName) ({ cls := "TrailMarkers$Walk", name := "go", desc := "(IIIII)LTrailMarkers$Walk;" } : Jvm.MethodName)) ∈ lw_all := lw_g (lw_at lw_m5 201 rfl) rfl
theorem q1299 : (Jvm.Cond.code ({ cls := "TrailMarkers$Walk", name := "go", desc := "(IIIII)LTrailMarkers$Walk;" } : Jvm.MethodName) prog_10_method_2_code (9 : Nat) (Option.some (Jvm.ClassFile.FieldType.object "TrailMarkers$Walk"))) ∈ lw_all := lw_g (lw_at lw_m5 202 rfl) rfl
theorem q1309 : (Jvm.Cond.methodLink "TrailMarkers$Guide" (97 : Nat) ({ cls := "TrailMarkers$Way", name := "offer", desc := "(II[I[I)V" } : Jvm.MethodName)) ∈ lw_all := lw_g (lw_at lw_m5 212 rfl) rfl
theorem q1310 : (Jvm.Cond.instanceMethod ({ cls := "TrailMarkers$Way", name := "offer", desc := "(II[I[I)V" } : Jvm.MethodName)) ∈ lw_all := lw_g (lw_at lw_m5 213 rfl) rfl
theorem q1311 : (Jvm.Cond.selects "TrailMarkers$Way" ({ cls := "TrailMarkers$Way", name := "offer", desc := "(II[I[I)V" } : Jvm.MethodName) ({ cls := "TrailMarkers$Way", name := "offer", desc := "(II[I[I)V" } : Jvm.MethodName)) ∈ lw_all := lw_g (lw_at lw_m5 214 rfl) rfl
theorem q1312 : (Jvm.Cond.code ({ cls := "TrailMarkers$Way", name := "offer", desc := "(II[I[I)V" } : Jvm.MethodName) prog_11_method_3_code (7 : Nat) (Option.none : Option Jvm.ClassFile.FieldType)) ∈ lw_all := lw_g (lw_at lw_m5 215 rfl) rfl
theorem q1314 : (Jvm.Cond.methodLink "TrailMarkers$Guide" (107 : Nat) ({ cls := "TrailMarkers$Guide", name := "guess", desc := "(LTrailMarkers$Post;II)V" } : Jvm.MethodName)) ∈ lw_all := lw_g (lw_at lw_m5 217 rfl) rfl
theorem q1316 : (Jvm.Cond.instanceMethod ({ cls := "TrailMarkers$Guide", name := "guess", desc := "(LTrailMarkers$Post;II)V" } : Jvm.MethodName)) ∈ lw_all := lw_g (lw_at lw_m5 219 rfl) rfl
theorem q1317 : (Jvm.Cond.code ({ cls := "TrailMarkers$Guide", name := "guess", desc := "(LTrailMarkers$Post;II)V" } : Jvm.MethodName) prog_3_method_4_code (9 : Nat) (Option.none : Option Jvm.ClassFile.FieldType)) ∈ lw_all := lw_g (lw_at lw_m5 220 rfl) rfl
theorem q1318 : (Jvm.Cond.methodLinkNest "TrailMarkers$Guide" (111 : Nat) ({ cls := "TrailMarkers", name := "stepX", desc := "(I)I" } : Jvm.MethodName) "TrailMarkers") ∈ lw_tbl := lw_at lw_m5 221 rfl
theorem q1319 : (Jvm.Cond.methodLinkNest "TrailMarkers$Guide" (115 : Nat) ({ cls := "TrailMarkers", name := "stepY", desc := "(I)I" } : Jvm.MethodName) "TrailMarkers") ∈ lw_tbl := lw_at lw_m5 222 rfl
theorem q1320 : (Jvm.Cond.methodLink "TrailMarkers$Guide" (118 : Nat) ({ cls := "TrailMarkers$Guide", name := "isTurn", desc := "(II)Z" } : Jvm.MethodName)) ∈ lw_all := lw_g (lw_at lw_m5 223 rfl) rfl
theorem q1322 : (Jvm.Cond.instanceMethod ({ cls := "TrailMarkers$Guide", name := "isTurn", desc := "(II)Z" } : Jvm.MethodName)) ∈ lw_all := lw_g (lw_at lw_m5 225 rfl) rfl
theorem q1323 : (Jvm.Cond.code ({ cls := "TrailMarkers$Guide", name := "isTurn", desc := "(II)Z" } : Jvm.MethodName) prog_3_method_7_code (3 : Nat) (Option.some Jvm.ClassFile.FieldType.boolean)) ∈ lw_all := lw_g (lw_at lw_m5 226 rfl) rfl
theorem q1324 : (Jvm.Cond.methodLink "TrailMarkers$Guide" (122 : Nat) ({ cls := "TrailMarkers$Guide", name := "offerIfMet", desc := "(LTrailMarkers$Walk;I)V" } : Jvm.MethodName)) ∈ lw_all := lw_g (lw_at lw_m5 227 rfl) rfl
theorem q1326 : (Jvm.Cond.instanceMethod ({ cls := "TrailMarkers$Guide", name := "offerIfMet", desc := "(LTrailMarkers$Walk;I)V" } : Jvm.MethodName)) ∈ lw_all := lw_g (lw_at lw_m5 229 rfl) rfl
theorem q1327 : (Jvm.Cond.code ({ cls := "TrailMarkers$Guide", name := "offerIfMet", desc := "(LTrailMarkers$Walk;I)V" } : Jvm.MethodName) prog_3_method_6_code (3 : Nat) (Option.none : Option Jvm.ClassFile.FieldType)) ∈ lw_all := lw_g (lw_at lw_m5 230 rfl) rfl
theorem q1328 : (Jvm.Cond.methodLink "TrailMarkers$Guide" (126 : Nat) ({ cls := "TrailMarkers$Guide", name := "guessAgain", desc := "(LTrailMarkers$Post;IIII)V" } : Jvm.MethodName)) ∈ lw_all := lw_g (lw_at lw_m5 231 rfl) rfl
theorem q1330 : (Jvm.Cond.instanceMethod ({ cls := "TrailMarkers$Guide", name := "guessAgain", desc := "(LTrailMarkers$Post;IIII)V" } : Jvm.MethodName)) ∈ lw_all := lw_g (lw_at lw_m5 233 rfl) rfl
theorem q1331 : (Jvm.Cond.code ({ cls := "TrailMarkers$Guide", name := "guessAgain", desc := "(LTrailMarkers$Post;IIII)V" } : Jvm.MethodName) prog_3_method_5_code (9 : Nat) (Option.none : Option Jvm.ClassFile.FieldType)) ∈ lw_all := lw_g (lw_at lw_m5 234 rfl) rfl
theorem q1332 : (Jvm.Cond.methodLink "TrailMarkers$Guide" (167 : Nat) ({ cls := "TrailMarkers$Guide", name := "layWay", desc := "(LTrailMarkers$Post;)V" } : Jvm.MethodName)) ∈ lw_all := lw_g (lw_at lw_m5 235 rfl) rfl
theorem q1334 : (Jvm.Cond.instanceMethod ({ cls := "TrailMarkers$Guide", name := "layWay", desc := "(LTrailMarkers$Post;)V" } : Jvm.MethodName)) ∈ lw_all := lw_g (lw_at lw_m5 237 rfl) rfl
theorem q1335 : (Jvm.Cond.code ({ cls := "TrailMarkers$Guide", name := "layWay", desc := "(LTrailMarkers$Post;)V" } : Jvm.MethodName) prog_3_method_11_code (6 : Nat) (Option.none : Option Jvm.ClassFile.FieldType)) ∈ lw_all := lw_g (lw_at lw_m5 238 rfl) rfl
theorem q1336 : (Jvm.Cond.instantiable "TrailMarkers$Leg" (3 : Nat)) ∈ lw_all := lw_g (lw_at lw_m5 239 rfl) rfl
theorem q1337 : (Jvm.Cond.methodLink "TrailMarkers$Guide" (176 : Nat) ({ cls := "TrailMarkers$Leg", name := "<init>", desc := "(IIZ)V" } : Jvm.MethodName)) ∈ lw_all := lw_g (lw_at lw_m6 0 rfl) rfl
theorem q1338 : (Jvm.Cond.instanceMethod ({ cls := "TrailMarkers$Leg", name := "<init>", desc := "(IIZ)V" } : Jvm.MethodName)) ∈ lw_all := lw_g (lw_at lw_m6 1 rfl) rfl
theorem q1339 : (Jvm.Cond.code ({ cls := "TrailMarkers$Leg", name := "<init>", desc := "(IIZ)V" } : Jvm.MethodName) prog_4_method_1_code (4 : Nat) (Option.none : Option Jvm.ClassFile.FieldType)) ∈ lw_all := lw_g (lw_at lw_m6 2 rfl) rfl
theorem q1352 : (Jvm.Cond.methodLink "TrailMarkers$Guide" (182 : Nat) ({ cls := "java/lang/Math", name := "max", desc := "(II)I" } : Jvm.MethodName)) ∈ lw_all := lw_g (lw_at lw_m6 15 rfl) rfl
theorem q1370 : (Jvm.Cond.instanceMethod ({ cls := "TrailMarkers$Trails", name := "standing", desc := "(I)I" } : Jvm.MethodName)) ∈ lw_all := lw_g (lw_at lw_m6 33 rfl) rfl
theorem q1371 : (Jvm.Cond.selects "TrailMarkers$Trails" ({ cls := "TrailMarkers$Trails", name := "standing", desc := "(I)I" } : Jvm.MethodName) ({ cls := "TrailMarkers$Trails", name := "standing", desc := "(I)I" } : Jvm.MethodName)) ∈ lw_all := lw_g (lw_at lw_m6 34 rfl) rfl
theorem q1372 : (Jvm.Cond.code ({ cls := "TrailMarkers$Trails", name := "standing", desc := "(I)I" } : Jvm.MethodName) prog_9_method_14_code (4 : Nat) (Option.some Jvm.ClassFile.FieldType.int)) ∈ lw_all := lw_g (lw_at lw_m6 35 rfl) rfl
theorem q1375 : (Jvm.Cond.instanceMethod ({ cls := "TrailMarkers$Guide", name := "metOf", desc := "(I)I" } : Jvm.MethodName)) ∈ lw_all := lw_g (lw_at lw_m6 38 rfl) rfl
theorem q1376 : (Jvm.Cond.selects "TrailMarkers$Guide" ({ cls := "TrailMarkers$Guide", name := "metOf", desc := "(I)I" } : Jvm.MethodName) ({ cls := "TrailMarkers$Guide", name := "metOf", desc := "(I)I" } : Jvm.MethodName)) ∈ lw_all := lw_g (lw_at lw_m6 39 rfl) rfl
theorem q1377 : (Jvm.Cond.code ({ cls := "TrailMarkers$Guide", name := "metOf", desc := "(I)I" } : Jvm.MethodName) prog_3_method_14_code (3 : Nat) (Option.some Jvm.ClassFile.FieldType.int)) ∈ lw_all := lw_g (lw_at lw_m6 40 rfl) rfl
theorem q1378 : (Jvm.Cond.methodLink "TrailMarkers$Guide" (191 : Nat) ({ cls := "TrailMarkers$Trails", name := "begin", desc := "(I)I" } : Jvm.MethodName)) ∈ lw_all := lw_g (lw_at lw_m6 41 rfl) rfl
theorem q1379 : (Jvm.Cond.instanceMethod ({ cls := "TrailMarkers$Trails", name := "begin", desc := "(I)I" } : Jvm.MethodName)) ∈ lw_all := lw_g (lw_at lw_m6 42 rfl) rfl
theorem q1380 : (Jvm.Cond.selects "TrailMarkers$Trails" ({ cls := "TrailMarkers$Trails", name := "begin", desc := "(I)I" } : Jvm.MethodName) ({ cls := "TrailMarkers$Trails", name := "begin", desc := "(I)I" } : Jvm.MethodName)) ∈ lw_all := lw_g (lw_at lw_m6 43 rfl) rfl
theorem q1381 : (Jvm.Cond.code ({ cls := "TrailMarkers$Trails", name := "begin", desc := "(I)I" } : Jvm.MethodName) prog_9_method_15_code (3 : Nat) (Option.some Jvm.ClassFile.FieldType.int)) ∈ lw_all := lw_g (lw_at lw_m6 44 rfl) rfl
theorem q1382 : (Jvm.Cond.methodLink "TrailMarkers$Guide" (194 : Nat) ({ cls := "TrailMarkers$Guide", name := "follow", desc := "(I)LTrailMarkers$Guide;" } : Jvm.MethodName)) ∈ lw_all := lw_g (lw_at lw_m6 45 rfl) rfl
theorem q1587 : (Jvm.Cond.methodLink "TrailMarkers$Guide" (198 : Nat) ({ cls := "TrailMarkers$Guide", name := "metOf", desc := "(I)I" } : Jvm.MethodName)) ∈ lw_all := lw_g (lw_at lw_m7 10 rfl) rfl
theorem q1588 : (Jvm.Cond.methodLink "TrailMarkers$Guide" (188 : Nat) ({ cls := "TrailMarkers$Trails", name := "standing", desc := "(I)I" } : Jvm.MethodName)) ∈ lw_all := lw_g (lw_at lw_m7 11 rfl) rfl
theorem nw_X8_9 : NW "TrailMarkers$Guide" 9 8 5 [vI 0, vI 0, vI 0, vR none, vR none] := ⟨RX9, TX9, 5, tyX9, cf_X9, tyX9_ok, rfl, q1140, q1141, q167⟩
theorem cf_X8 : CF 7 RX8 TX8 19 := ⟨rfl, in_X8, ⟨tyX8, tyX8_ok⟩, nmX8⟩
theorem fp_X8_12 : FP "TrailMarkers$Guide" 12 7 1 (tyX8 1) true := ⟨RX8, TX8, 19, "TrailMarkers$Guide", cf_X8, by decide, q1203, Or.inl rfl, tyX8_ok 1 (by decide), rfl, fun _ => rfl⟩
theorem fp_X8_18 : FP "TrailMarkers$Guide" 18 7 5 (tyX8 5) true := ⟨RX8, TX8, 19, "TrailMarkers$Guide", cf_X8, by decide, q1207, Or.inl rfl, tyX8_ok 5 (by decide), rfl, fun _ => rfl⟩
theorem fp_X8_22 : FP "TrailMarkers$Guide" 22 7 6 (tyX8 6) true := ⟨RX8, TX8, 19, "TrailMarkers$Guide", cf_X8, by decide, q1208, Or.inl rfl, tyX8_ok 6 (by decide), rfl, fun _ => rfl⟩
theorem fp_X8_25 : FP "TrailMarkers$Guide" 25 7 7 (tyX8 7) true := ⟨RX8, TX8, 19, "TrailMarkers$Guide", cf_X8, by decide, q1209, Or.inl rfl, tyX8_ok 7 (by decide), rfl, fun _ => rfl⟩
theorem fp_X8_28 : FP "TrailMarkers$Guide" 28 7 9 (tyX8 9) true := ⟨RX8, TX8, 19, "TrailMarkers$Guide", cf_X8, by decide, q1213, Or.inl rfl, tyX8_ok 9 (by decide), rfl, fun _ => rfl⟩
theorem fp_X8_31 : FP "TrailMarkers$Guide" 31 7 11 (tyX8 11) true := ⟨RX8, TX8, 19, "TrailMarkers$Guide", cf_X8, by decide, q1217, Or.inl rfl, tyX8_ok 11 (by decide), rfl, fun _ => rfl⟩
theorem fp_X8_36 : FP "TrailMarkers$Guide" 36 7 13 (tyX8 13) true := ⟨RX8, TX8, 19, "TrailMarkers$Guide", cf_X8, by decide, q1221, Or.inl rfl, tyX8_ok 13 (by decide), rfl, fun _ => rfl⟩
theorem fp_X8_40 : FP "TrailMarkers$Guide" 40 7 0 (tyX8 0) true := ⟨RX8, TX8, 19, "TrailMarkers$Guide", cf_X8, by decide, q1202, Or.inl rfl, tyX8_ok 0 (by decide), rfl, fun _ => rfl⟩
theorem nw_X8_44 : NW "TrailMarkers$Guide" 44 9 6 [vR none, vI 0, vI 0, vI 0, vI 0, vI 0] := ⟨RX10, TX10, 6, tyX10, cf_X10, tyX10_ok, rfl, q1173, q1174, q168⟩
theorem fp_X8_49 : FP "TrailMarkers$Guide" 49 7 2 (tyX8 2) true := ⟨RX8, TX8, 19, "TrailMarkers$Guide", cf_X8, by decide, q1204, Or.inl rfl, tyX8_ok 2 (by decide), rfl, fun _ => rfl⟩
theorem fp_X8_53 : FP "TrailMarkers$Guide" 53 7 3 (tyX8 3) true := ⟨RX8, TX8, 19, "TrailMarkers$Guide", cf_X8, by decide, q1205, Or.inl rfl, tyX8_ok 3 (by decide), rfl, fun _ => rfl⟩
theorem fp_X8_56 : FP "TrailMarkers$Guide" 56 7 4 (tyX8 4) true := ⟨RX8, TX8, 19, "TrailMarkers$Guide", cf_X8, by decide, q1206, Or.inl rfl, tyX8_ok 4 (by decide), rfl, fun _ => rfl⟩
theorem m_X8_46 : MI "TrailMarkers$Guide" 46 yX10_init cX10_init 2 1 := ⟨q1175, q1176, rfl, q168, q1177, by decide +kernel, by decide +kernel, by decide +kernel⟩
theorem m_X8_11 : MIN "TrailMarkers$Guide" 11 yX9_init "TrailMarkers" cX9_init 1 0 := ⟨q1142, q1143, rfl, q167, q1144, by decide +kernel, by decide +kernel, by decide +kernel⟩
theorem fp_X8_133 : FP "TrailMarkers$Guide" 133 7 8 (tyX8 8) false := ⟨RX8, TX8, 19, "TrailMarkers$Guide", cf_X8, by decide, q1211, Or.inl rfl, tyX8_ok 8 (by decide), rfl, fun h9 => nomatch h9⟩
theorem fp_X8_130 : FP "TrailMarkers$Guide" 130 7 10 (tyX8 10) false := ⟨RX8, TX8, 19, "TrailMarkers$Guide", cf_X8, by decide, q1215, Or.inl rfl, tyX8_ok 10 (by decide), rfl, fun h9 => nomatch h9⟩
theorem fp_X8_136 : FP "TrailMarkers$Guide" 136 7 12 (tyX8 12) false := ⟨RX8, TX8, 19, "TrailMarkers$Guide", cf_X8, by decide, q1219, Or.inl rfl, tyX8_ok 12 (by decide), rfl, fun h9 => nomatch h9⟩
theorem fp_X8_139 : FP "TrailMarkers$Guide" 139 7 14 (tyX8 14) false := ⟨RX8, TX8, 19, "TrailMarkers$Guide", cf_X8, by decide, q1223, Or.inl rfl, tyX8_ok 14 (by decide), rfl, fun h9 => nomatch h9⟩
theorem fp_X8_142 : FP "TrailMarkers$Guide" 142 7 17 (tyX8 17) false := ⟨RX8, TX8, 19, "TrailMarkers$Guide", cf_X8, by decide, q1227, Or.inl rfl, tyX8_ok 17 (by decide), rfl, fun h9 => nomatch h9⟩
theorem fp_X8_145 : FP "TrailMarkers$Guide" 145 7 18 (tyX8 18) false := ⟨RX8, TX8, 19, "TrailMarkers$Guide", cf_X8, by decide, q1228, Or.inl rfl, tyX8_ok 18 (by decide), rfl, fun h9 => nomatch h9⟩
theorem fa_X8_28 : FA "TrailMarkers$Guide" 28 7 9 := ⟨RX8, TX8, 19, "TrailMarkers$Guide", cf_X8, by decide, q1213, Or.inl rfl⟩
theorem fa_X8_40 : FA "TrailMarkers$Guide" 40 7 0 := ⟨RX8, TX8, 19, "TrailMarkers$Guide", cf_X8, by decide, q1202, Or.inl rfl⟩
theorem fa_X8_59_X2 : FA "TrailMarkers$Guide" 59 1 2 := ⟨RX2, TX2, 7, "TrailMarkers$Trails", cf_X2, by decide, q220, Or.inl rfl⟩
theorem fa_X8_133 : FA "TrailMarkers$Guide" 133 7 8 := ⟨RX8, TX8, 19, "TrailMarkers$Guide", cf_X8, by decide, q1211, Or.inl rfl⟩
theorem fa_X8_25 : FA "TrailMarkers$Guide" 25 7 7 := ⟨RX8, TX8, 19, "TrailMarkers$Guide", cf_X8, by decide, q1209, Or.inl rfl⟩
theorem fp_X8_157 : FP "TrailMarkers$Guide" 157 7 16 (tyX8 16) false := ⟨RX8, TX8, 19, "TrailMarkers$Guide", cf_X8, by decide, q1226, Or.inl rfl, tyX8_ok 16 (by decide), rfl, fun h9 => nomatch h9⟩
theorem fa_X8_12 : FA "TrailMarkers$Guide" 12 7 1 := ⟨RX8, TX8, 19, "TrailMarkers$Guide", cf_X8, by decide, q1203, Or.inl rfl⟩
theorem fa_X8_104_X9 : FA "TrailMarkers$Guide" 104 8 0 := ⟨RX9, TX9, 5, "TrailMarkers$Way", cf_X9, by decide, q1147, Or.inl rfl⟩
theorem fa_X8_74_X3 : FA "TrailMarkers$Guide" 74 2 3 := ⟨RX3, TX3, 5, "TrailMarkers$Post", cf_X3, by decide, q299, Or.inl rfl⟩
theorem fp_X8_164 : FP "TrailMarkers$Guide" 164 7 15 (tyX8 15) false := ⟨RX8, TX8, 19, "TrailMarkers$Guide", cf_X8, by decide, q1225, Or.inl rfl, tyX8_ok 15 (by decide), rfl, fun h9 => nomatch h9⟩
theorem m_X8_167 : MV "TrailMarkers$Guide" 167 yX8_layWay cX8_layWay 6 (Option.none : Option Jvm.ClassFile.FieldType) 1 := ⟨q1332, q1334, qs28, q166, q1335, by decide +kernel, by decide +kernel, by decide +kernel⟩
theorem m_X8_160 : MV "TrailMarkers$Guide" 160 yX8_find cX8_find 4 (Option.some (Jvm.ClassFile.FieldType.object "TrailMarkers$Way")) 1 := ⟨q1284, q1285, q1286, q166, q1287, by decide +kernel, by decide +kernel, by decide +kernel⟩
theorem m_X8_155 : MV "TrailMarkers$Guide" 155 yX8_steps cX8_steps 1 (Option.some Jvm.ClassFile.FieldType.int) 0 := ⟨q1280, q1282, qs23, q166, q1283, by decide +kernel, by decide +kernel, by decide +kernel⟩
theorem m_X8_152 : MV "TrailMarkers$Guide" 152 yX8_place cX8_place 3 (Option.some Jvm.ClassFile.FieldType.int) 1 := ⟨q1276, q1277, q1278, q166, q1279, by decide +kernel, by decide +kernel, by decide +kernel⟩
theorem m_X8_148 : MV "TrailMarkers$Guide" 148 yX3_cell cX3_cell 1 (Option.some Jvm.ClassFile.FieldType.int) 0 := ⟨q1272, q1273, q1274, q142, q1275, by decide +kernel, by decide +kernel, by decide +kernel⟩
theorem fa_X8_130 : FA "TrailMarkers$Guide" 130 7 10 := ⟨RX8, TX8, 19, "TrailMarkers$Guide", cf_X8, by decide, q1215, Or.inl rfl⟩
theorem fa_X8_22 : FA "TrailMarkers$Guide" 22 7 6 := ⟨RX8, TX8, 19, "TrailMarkers$Guide", cf_X8, by decide, q1208, Or.inl rfl⟩
theorem fa_X8_18 : FA "TrailMarkers$Guide" 18 7 5 := ⟨RX8, TX8, 19, "TrailMarkers$Guide", cf_X8, by decide, q1207, Or.inl rfl⟩
theorem fa_X8_49 : FA "TrailMarkers$Guide" 49 7 2 := ⟨RX8, TX8, 19, "TrailMarkers$Guide", cf_X8, by decide, q1204, Or.inl rfl⟩
theorem fa_X8_91_X10 : FA "TrailMarkers$Guide" 91 9 3 := ⟨RX10, TX10, 6, "TrailMarkers$Walk", cf_X10, by decide, q1183, Or.inl rfl⟩
theorem fa_X8_94_X10 : FA "TrailMarkers$Guide" 94 9 5 := ⟨RX10, TX10, 6, "TrailMarkers$Walk", cf_X10, by decide, q1188, Or.inl rfl⟩
theorem fa_X8_101_X2 : FA "TrailMarkers$Guide" 101 1 6 := ⟨RX2, TX2, 7, "TrailMarkers$Trails", cf_X2, by decide, q232, Or.inl rfl⟩
theorem m_X8_107 : MV "TrailMarkers$Guide" 107 yX8_guess cX8_guess 9 (Option.none : Option Jvm.ClassFile.FieldType) 3 := ⟨q1314, q1316, qs24, q166, q1317, by decide +kernel, by decide +kernel, by decide +kernel⟩
theorem m_X8_97 : MV "TrailMarkers$Guide" 97 yX9_offer cX9_offer 7 (Option.none : Option Jvm.ClassFile.FieldType) 4 := ⟨q1309, q1310, q1311, q167, q1312, by decide +kernel, by decide +kernel, by decide +kernel⟩
theorem m_X8_87 : MV "TrailMarkers$Guide" 87 yX8_plainFrom cX8_plainFrom 3 (Option.some (Jvm.ClassFile.FieldType.object "TrailMarkers$Walk")) 1 := ⟨q1292, q1293, q1294, q166, q1295, by decide +kernel, by decide +kernel, by decide +kernel⟩
theorem m_X8_84 : MV "TrailMarkers$Guide" 84 yX9_clear cX9_clear 1 (Option.none : Option Jvm.ClassFile.FieldType) 0 := ⟨q1288, q1289, q1290, q167, q1291, by decide +kernel, by decide +kernel, by decide +kernel⟩
theorem fa_X8_65_X3 : FA "TrailMarkers$Guide" 65 2 0 := ⟨RX3, TX3, 5, "TrailMarkers$Post", cf_X3, by decide, q286, Or.inl rfl⟩
theorem fa_X8_71_X3 : FA "TrailMarkers$Guide" 71 2 1 := ⟨RX3, TX3, 5, "TrailMarkers$Post", cf_X3, by decide, q290, Or.inl rfl⟩
theorem fa_X8_77_X3 : FA "TrailMarkers$Guide" 77 2 2 := ⟨RX3, TX3, 5, "TrailMarkers$Post", cf_X3, by decide, q294, Or.inl rfl⟩
theorem m_X8_80 : MV "TrailMarkers$Guide" 80 yX10_go cX10_go 9 (Option.some (Jvm.ClassFile.FieldType.object "TrailMarkers$Walk")) 5 := ⟨q1296, q1297, q1298, q168, q1299, by decide +kernel, by decide +kernel, by decide +kernel⟩
theorem fa_X8_53 : FA "TrailMarkers$Guide" 53 7 3 := ⟨RX8, TX8, 19, "TrailMarkers$Guide", cf_X8, by decide, q1205, Or.inl rfl⟩
theorem m_X8_126 : MV "TrailMarkers$Guide" 126 yX8_guessAgain cX8_guessAgain 9 (Option.none : Option Jvm.ClassFile.FieldType) 5 := ⟨q1328, q1330, qs27, q166, q1331, by decide +kernel, by decide +kernel, by decide +kernel⟩
theorem m_X8_122 : MV "TrailMarkers$Guide" 122 yX8_offerIfMet cX8_offerIfMet 3 (Option.none : Option Jvm.ClassFile.FieldType) 2 := ⟨q1324, q1326, qs26, q166, q1327, by decide +kernel, by decide +kernel, by decide +kernel⟩
theorem m_X8_118 : MV "TrailMarkers$Guide" 118 yX8_isTurn cX8_isTurn 3 (Option.some Jvm.ClassFile.FieldType.boolean) 2 := ⟨q1320, q1322, qs25, q166, q1323, by decide +kernel, by decide +kernel, by decide +kernel⟩
theorem m_X8_115 : MSN "TrailMarkers$Guide" 115 yX1_stepY "TrailMarkers" cX1_stepY 1 (Option.some Jvm.ClassFile.FieldType.int) 1 := ⟨q1319, q976, q138, q977, by decide +kernel, by decide +kernel, by decide +kernel⟩
theorem m_X8_111 : MSN "TrailMarkers$Guide" 111 yX1_stepX "TrailMarkers" cX1_stepX 1 (Option.some Jvm.ClassFile.FieldType.int) 1 := ⟨q1318, q973, q138, q974, by decide +kernel, by decide +kernel, by decide +kernel⟩
theorem fa_X8_56 : FA "TrailMarkers$Guide" 56 7 4 := ⟨RX8, TX8, 19, "TrailMarkers$Guide", cf_X8, by decide, q1206, Or.inl rfl⟩
theorem fa_X8_171_X9 : FA "TrailMarkers$Guide" 171 8 2 := ⟨RX9, TX9, 5, "TrailMarkers$Way", cf_X9, by decide, q1153, Or.inl rfl⟩
theorem fa_X8_174_X9 : FA "TrailMarkers$Guide" 174 8 3 := ⟨RX9, TX9, 5, "TrailMarkers$Way", cf_X9, by decide, q1156, Or.inl rfl⟩
theorem fa_X8_175_X9 : FA "TrailMarkers$Guide" 175 8 4 := ⟨RX9, TX9, 5, "TrailMarkers$Way", cf_X9, by decide, q1159, Or.inl rfl⟩
theorem fa_X8_36 : FA "TrailMarkers$Guide" 36 7 13 := ⟨RX8, TX8, 19, "TrailMarkers$Guide", cf_X8, by decide, q1221, Or.inl rfl⟩
theorem fa_X8_139 : FA "TrailMarkers$Guide" 139 7 14 := ⟨RX8, TX8, 19, "TrailMarkers$Guide", cf_X8, by decide, q1223, Or.inl rfl⟩
theorem nw_X8_34 : NW "TrailMarkers$Guide" 34 10 3 [vI 0, vI 0, vI 0] := ⟨RX11, TX11, 3, tyX11, cf_X11, tyX11_ok, rfl, q1171, q1336, q169⟩
theorem fa_X8_31 : FA "TrailMarkers$Guide" 31 7 11 := ⟨RX8, TX8, 19, "TrailMarkers$Guide", cf_X8, by decide, q1217, Or.inl rfl⟩
theorem fa_X8_136 : FA "TrailMarkers$Guide" 136 7 12 := ⟨RX8, TX8, 19, "TrailMarkers$Guide", cf_X8, by decide, q1219, Or.inl rfl⟩
theorem fa_X8_142 : FA "TrailMarkers$Guide" 142 7 17 := ⟨RX8, TX8, 19, "TrailMarkers$Guide", cf_X8, by decide, q1227, Or.inl rfl⟩
theorem fa_X8_179_X9 : FA "TrailMarkers$Guide" 179 8 1 := ⟨RX9, TX9, 5, "TrailMarkers$Way", cf_X9, by decide, q1150, Or.inl rfl⟩
theorem m_X8_176 : MI "TrailMarkers$Guide" 176 yX11_init cX11_init 4 3 := ⟨q1337, q1338, rfl, q169, q1339, by decide +kernel, by decide +kernel, by decide +kernel⟩
theorem m_X8_194 : MV "TrailMarkers$Guide" 194 yX8_follow cX8_follow 4 (Option.some (Jvm.ClassFile.FieldType.object "TrailMarkers$Guide")) 1 := ⟨q1382, q1269, q1270, q166, q1271, by decide +kernel, by decide +kernel, by decide +kernel⟩
theorem m_X8_191 : MV "TrailMarkers$Guide" 191 yX2_begin cX2_begin 3 (Option.some Jvm.ClassFile.FieldType.int) 1 := ⟨q1378, q1379, q1380, q139, q1381, by decide +kernel, by decide +kernel, by decide +kernel⟩
theorem m_X8_188 : MV "TrailMarkers$Guide" 188 yX2_standing cX2_standing 4 (Option.some Jvm.ClassFile.FieldType.int) 1 := ⟨q1588, q1370, q1371, q139, q1372, by decide +kernel, by decide +kernel, by decide +kernel⟩
theorem m_X8_198 : MV "TrailMarkers$Guide" 198 yX8_metOf cX8_metOf 3 (Option.some Jvm.ClassFile.FieldType.int) 1 := ⟨q1587, q1375, q1376, q166, q1377, by decide +kernel, by decide +kernel, by decide +kernel⟩
theorem fa_X8_145 : FA "TrailMarkers$Guide" 145 7 18 := ⟨RX8, TX8, 19, "TrailMarkers$Guide", cf_X8, by decide, q1228, Or.inl rfl⟩
theorem fa_X8_157 : FA "TrailMarkers$Guide" 157 7 16 := ⟨RX8, TX8, 19, "TrailMarkers$Guide", cf_X8, by decide, q1226, Or.inl rfl⟩
theorem fa_X8_164 : FA "TrailMarkers$Guide" 164 7 15 := ⟨RX8, TX8, 19, "TrailMarkers$Guide", cf_X8, by decide, q1225, Or.inl rfl⟩
