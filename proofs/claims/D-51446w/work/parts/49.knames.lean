set_option maxRecDepth 100000
abbrev cX1_stepX : ByteArray := prog_1_method_1_code
def yX1_stepX : MethodName := ⟨RX1, "stepX", "(I)I"⟩
def dkwX1_stepX_0 : List UInt8 := [26, 4, 160, 0, 7, 4, 167, 0, 13, 26, 6, 160, 0, 7, 2, 167, 0, 4, 3, 172]
abbrev dktX1_stepX_0 : List UInt8 := dkwX1_stepX_0 ++ []
theorem dksX1_stepX_0 : cX1_stepX.data.toList.drop 0 = dktX1_stepX_0 := by decide +kernel
theorem dX1_stepX_0 : decode cX1_stepX 0 = .ok (.iload_n 0, 1) := dk_26 (dk_at dksX1_stepX_0 0 rfl rfl)
theorem dX1_stepX_1 : decode cX1_stepX 1 = .ok (.iconst 1, 1) := dk_4 (dk_at dksX1_stepX_0 1 rfl rfl)
theorem dX1_stepX_2 : decode cX1_stepX 2 = .ok (.if_icmp .ne 7, 3) := dk_160 0 7 (dk_at dksX1_stepX_0 2 rfl rfl)
theorem dX1_stepX_5 : decode cX1_stepX 5 = .ok (.iconst 1, 1) := dk_4 (dk_at dksX1_stepX_0 5 rfl rfl)
theorem dX1_stepX_6 : decode cX1_stepX 6 = .ok (.goto 13, 3) := dk_167 0 13 (dk_at dksX1_stepX_0 6 rfl rfl)
theorem dX1_stepX_9 : decode cX1_stepX 9 = .ok (.iload_n 0, 1) := dk_26 (dk_at dksX1_stepX_0 9 rfl rfl)
theorem dX1_stepX_10 : decode cX1_stepX 10 = .ok (.iconst 3, 1) := dk_6 (dk_at dksX1_stepX_0 10 rfl rfl)
theorem dX1_stepX_11 : decode cX1_stepX 11 = .ok (.if_icmp .ne 7, 3) := dk_160 0 7 (dk_at dksX1_stepX_0 11 rfl rfl)
theorem dX1_stepX_14 : decode cX1_stepX 14 = .ok (.iconst (-1), 1) := dk_2 (dk_at dksX1_stepX_0 14 rfl rfl)
theorem dX1_stepX_15 : decode cX1_stepX 15 = .ok (.goto 4, 3) := dk_167 0 4 (dk_at dksX1_stepX_0 15 rfl rfl)
theorem dX1_stepX_18 : decode cX1_stepX 18 = .ok (.iconst 0, 1) := dk_3 (dk_at dksX1_stepX_0 18 rfl rfl)
theorem dX1_stepX_19 : decode cX1_stepX 19 = .ok (.ireturn, 1) := dk_172 (dk_at dksX1_stepX_0 19 rfl rfl)
abbrev cX1_stepY : ByteArray := prog_1_method_2_code
def yX1_stepY : MethodName := ⟨RX1, "stepY", "(I)I"⟩
def dkwX1_stepY_0 : List UInt8 := [26, 5, 160, 0, 7, 4, 167, 0, 12, 26, 154, 0, 7, 2, 167, 0, 4, 3, 172]
abbrev dktX1_stepY_0 : List UInt8 := dkwX1_stepY_0 ++ []
theorem dksX1_stepY_0 : cX1_stepY.data.toList.drop 0 = dktX1_stepY_0 := by decide +kernel
theorem dX1_stepY_0 : decode cX1_stepY 0 = .ok (.iload_n 0, 1) := dk_26 (dk_at dksX1_stepY_0 0 rfl rfl)
theorem dX1_stepY_1 : decode cX1_stepY 1 = .ok (.iconst 2, 1) := dk_5 (dk_at dksX1_stepY_0 1 rfl rfl)
theorem dX1_stepY_2 : decode cX1_stepY 2 = .ok (.if_icmp .ne 7, 3) := dk_160 0 7 (dk_at dksX1_stepY_0 2 rfl rfl)
theorem dX1_stepY_5 : decode cX1_stepY 5 = .ok (.iconst 1, 1) := dk_4 (dk_at dksX1_stepY_0 5 rfl rfl)
theorem dX1_stepY_6 : decode cX1_stepY 6 = .ok (.goto 12, 3) := dk_167 0 12 (dk_at dksX1_stepY_0 6 rfl rfl)
theorem dX1_stepY_9 : decode cX1_stepY 9 = .ok (.iload_n 0, 1) := dk_26 (dk_at dksX1_stepY_0 9 rfl rfl)
theorem dX1_stepY_10 : decode cX1_stepY 10 = .ok (.ifCond .ne 7, 3) := dk_154 0 7 (dk_at dksX1_stepY_0 10 rfl rfl)
theorem dX1_stepY_13 : decode cX1_stepY 13 = .ok (.iconst (-1), 1) := dk_2 (dk_at dksX1_stepY_0 13 rfl rfl)
theorem dX1_stepY_14 : decode cX1_stepY 14 = .ok (.goto 4, 3) := dk_167 0 4 (dk_at dksX1_stepY_0 14 rfl rfl)
theorem dX1_stepY_17 : decode cX1_stepY 17 = .ok (.iconst 0, 1) := dk_3 (dk_at dksX1_stepY_0 17 rfl rfl)
theorem dX1_stepY_18 : decode cX1_stepY 18 = .ok (.ireturn, 1) := dk_172 (dk_at dksX1_stepY_0 18 rfl rfl)
abbrev cX10_init : ByteArray := prog_10_method_1_code
def yX10_init : MethodName := ⟨RX10, "<init>", "(LTrailMarkers$Trails;)V"⟩
def dkwX10_init_0 : List UInt8 := [42, 183, 0, 3, 42, 43, 181, 0, 9, 177]
abbrev dktX10_init_0 : List UInt8 := dkwX10_init_0 ++ []
theorem dksX10_init_0 : cX10_init.data.toList.drop 0 = dktX10_init_0 := by decide +kernel
theorem dX10_init_0 : decode cX10_init 0 = .ok (.aload_n 0, 1) := dk_42 (dk_at dksX10_init_0 0 rfl rfl)
theorem dX10_init_1 : decode cX10_init 1 = .ok (.invokespecial 3, 3) := dk_183 0 3 (dk_at dksX10_init_0 1 rfl rfl)
theorem dX10_init_4 : decode cX10_init 4 = .ok (.aload_n 0, 1) := dk_42 (dk_at dksX10_init_0 4 rfl rfl)
theorem dX10_init_5 : decode cX10_init 5 = .ok (.aload_n 1, 1) := dk_43 (dk_at dksX10_init_0 5 rfl rfl)
theorem dX10_init_6 : decode cX10_init 6 = .ok (.putfield 9, 3) := dk_181 0 9 (dk_at dksX10_init_0 6 rfl rfl)
theorem dX10_init_9 : decode cX10_init 9 = .ok (.return_, 1) := dk_177 (dk_at dksX10_init_0 9 rfl rfl)
abbrev cX2_isBlock : ByteArray := prog_9_method_4_code
def yX2_isBlock : MethodName := ⟨RX2, "isBlock", "(II)Z"⟩
def dkwX2_isBlock_0 : List UInt8 := [42, 180, 0, 17, 16, 20, 28, 104, 27, 96, 51, 156, 0, 7, 4, 167, 0, 4, 3, 172]
abbrev dktX2_isBlock_0 : List UInt8 := dkwX2_isBlock_0 ++ []
theorem dksX2_isBlock_0 : cX2_isBlock.data.toList.drop 0 = dktX2_isBlock_0 := by decide +kernel
theorem dX2_isBlock_0 : decode cX2_isBlock 0 = .ok (.aload_n 0, 1) := dk_42 (dk_at dksX2_isBlock_0 0 rfl rfl)
theorem dX2_isBlock_1 : decode cX2_isBlock 1 = .ok (.getfield 17, 3) := dk_180 0 17 (dk_at dksX2_isBlock_0 1 rfl rfl)
theorem dX2_isBlock_4 : decode cX2_isBlock 4 = .ok (.bipush 20, 2) := dk_16 20 (dk_at dksX2_isBlock_0 4 rfl rfl)
theorem dX2_isBlock_6 : decode cX2_isBlock 6 = .ok (.iload_n 2, 1) := dk_28 (dk_at dksX2_isBlock_0 6 rfl rfl)
theorem dX2_isBlock_7 : decode cX2_isBlock 7 = .ok (.imul, 1) := dk_104 (dk_at dksX2_isBlock_0 7 rfl rfl)
theorem dX2_isBlock_8 : decode cX2_isBlock 8 = .ok (.iload_n 1, 1) := dk_27 (dk_at dksX2_isBlock_0 8 rfl rfl)
theorem dX2_isBlock_9 : decode cX2_isBlock 9 = .ok (.iadd, 1) := dk_96 (dk_at dksX2_isBlock_0 9 rfl rfl)
theorem dX2_isBlock_10 : decode cX2_isBlock 10 = .ok (.baload, 1) := dk_51 (dk_at dksX2_isBlock_0 10 rfl rfl)
theorem dX2_isBlock_11 : decode cX2_isBlock 11 = .ok (.ifCond .ge 7, 3) := dk_156 0 7 (dk_at dksX2_isBlock_0 11 rfl rfl)
theorem dX2_isBlock_14 : decode cX2_isBlock 14 = .ok (.iconst 1, 1) := dk_4 (dk_at dksX2_isBlock_0 14 rfl rfl)
theorem dX2_isBlock_15 : decode cX2_isBlock 15 = .ok (.goto 4, 3) := dk_167 0 4 (dk_at dksX2_isBlock_0 15 rfl rfl)
theorem dX2_isBlock_18 : decode cX2_isBlock 18 = .ok (.iconst 0, 1) := dk_3 (dk_at dksX2_isBlock_0 18 rfl rfl)
theorem dX2_isBlock_19 : decode cX2_isBlock 19 = .ok (.ireturn, 1) := dk_172 (dk_at dksX2_isBlock_0 19 rfl rfl)
abbrev cX2_isOnMap : ByteArray := prog_9_method_3_code
def yX2_isOnMap : MethodName := ⟨RX2, "isOnMap", "(II)Z"⟩
def dkwX2_isOnMap_1 : List UInt8 := [4, 167, 0, 4, 3, 172]
abbrev dktX2_isOnMap_1 : List UInt8 := dkwX2_isOnMap_1 ++ []
def dkwX2_isOnMap_0 : List UInt8 := [27, 155, 0, 27, 27, 42, 180, 0, 25, 162, 0, 19, 28, 155, 0, 15, 28, 42, 180, 0, 29, 162, 0, 7]
abbrev dktX2_isOnMap_0 : List UInt8 := dkwX2_isOnMap_0 ++ dktX2_isOnMap_1
theorem dksX2_isOnMap_0 : cX2_isOnMap.data.toList.drop 0 = dktX2_isOnMap_0 := by decide +kernel
theorem dksX2_isOnMap_1 : cX2_isOnMap.data.toList.drop 24 = dktX2_isOnMap_1 := dk_seg dksX2_isOnMap_0 24 rfl rfl
theorem dX2_isOnMap_0 : decode cX2_isOnMap 0 = .ok (.iload_n 1, 1) := dk_27 (dk_at dksX2_isOnMap_0 0 rfl rfl)
theorem dX2_isOnMap_1 : decode cX2_isOnMap 1 = .ok (.ifCond .lt 27, 3) := dk_155 0 27 (dk_at dksX2_isOnMap_0 1 rfl rfl)
theorem dX2_isOnMap_4 : decode cX2_isOnMap 4 = .ok (.iload_n 1, 1) := dk_27 (dk_at dksX2_isOnMap_0 4 rfl rfl)
theorem dX2_isOnMap_5 : decode cX2_isOnMap 5 = .ok (.aload_n 0, 1) := dk_42 (dk_at dksX2_isOnMap_0 5 rfl rfl)
theorem dX2_isOnMap_6 : decode cX2_isOnMap 6 = .ok (.getfield 25, 3) := dk_180 0 25 (dk_at dksX2_isOnMap_0 6 rfl rfl)
theorem dX2_isOnMap_9 : decode cX2_isOnMap 9 = .ok (.if_icmp .ge 19, 3) := dk_162 0 19 (dk_at dksX2_isOnMap_0 9 rfl rfl)
theorem dX2_isOnMap_12 : decode cX2_isOnMap 12 = .ok (.iload_n 2, 1) := dk_28 (dk_at dksX2_isOnMap_0 12 rfl rfl)
theorem dX2_isOnMap_13 : decode cX2_isOnMap 13 = .ok (.ifCond .lt 15, 3) := dk_155 0 15 (dk_at dksX2_isOnMap_0 13 rfl rfl)
theorem dX2_isOnMap_16 : decode cX2_isOnMap 16 = .ok (.iload_n 2, 1) := dk_28 (dk_at dksX2_isOnMap_0 16 rfl rfl)
theorem dX2_isOnMap_17 : decode cX2_isOnMap 17 = .ok (.aload_n 0, 1) := dk_42 (dk_at dksX2_isOnMap_0 17 rfl rfl)
theorem dX2_isOnMap_18 : decode cX2_isOnMap 18 = .ok (.getfield 29, 3) := dk_180 0 29 (dk_at dksX2_isOnMap_0 18 rfl rfl)
theorem dX2_isOnMap_21 : decode cX2_isOnMap 21 = .ok (.if_icmp .ge 7, 3) := dk_162 0 7 (dk_at dksX2_isOnMap_0 21 rfl rfl)
theorem dX2_isOnMap_24 : decode cX2_isOnMap 24 = .ok (.iconst 1, 1) := dk_4 (dk_at dksX2_isOnMap_1 0 rfl rfl)
theorem dX2_isOnMap_25 : decode cX2_isOnMap 25 = .ok (.goto 4, 3) := dk_167 0 4 (dk_at dksX2_isOnMap_1 1 rfl rfl)
theorem dX2_isOnMap_28 : decode cX2_isOnMap 28 = .ok (.iconst 0, 1) := dk_3 (dk_at dksX2_isOnMap_1 4 rfl rfl)
theorem dX2_isOnMap_29 : decode cX2_isOnMap 29 = .ok (.ireturn, 1) := dk_172 (dk_at dksX2_isOnMap_1 5 rfl rfl)
abbrev cX2_postAt : ByteArray := prog_9_method_5_code
def yX2_postAt : MethodName := ⟨RX2, "postAt", "(II)I"⟩
def dkwX2_postAt_1 : List UInt8 := [28, 104, 27, 96, 51, 4, 100, 172]
abbrev dktX2_postAt_1 : List UInt8 := dkwX2_postAt_1 ++ []
def dkwX2_postAt_0 : List UInt8 := [42, 180, 0, 17, 16, 20, 28, 104, 27, 96, 51, 157, 0, 7, 2, 167, 0, 16, 42, 180, 0, 17, 16, 20]
abbrev dktX2_postAt_0 : List UInt8 := dkwX2_postAt_0 ++ dktX2_postAt_1
theorem dksX2_postAt_0 : cX2_postAt.data.toList.drop 0 = dktX2_postAt_0 := by decide +kernel
theorem dksX2_postAt_1 : cX2_postAt.data.toList.drop 24 = dktX2_postAt_1 := dk_seg dksX2_postAt_0 24 rfl rfl
theorem dX2_postAt_0 : decode cX2_postAt 0 = .ok (.aload_n 0, 1) := dk_42 (dk_at dksX2_postAt_0 0 rfl rfl)
theorem dX2_postAt_1 : decode cX2_postAt 1 = .ok (.getfield 17, 3) := dk_180 0 17 (dk_at dksX2_postAt_0 1 rfl rfl)
theorem dX2_postAt_4 : decode cX2_postAt 4 = .ok (.bipush 20, 2) := dk_16 20 (dk_at dksX2_postAt_0 4 rfl rfl)
theorem dX2_postAt_6 : decode cX2_postAt 6 = .ok (.iload_n 2, 1) := dk_28 (dk_at dksX2_postAt_0 6 rfl rfl)
theorem dX2_postAt_7 : decode cX2_postAt 7 = .ok (.imul, 1) := dk_104 (dk_at dksX2_postAt_0 7 rfl rfl)
theorem dX2_postAt_8 : decode cX2_postAt 8 = .ok (.iload_n 1, 1) := dk_27 (dk_at dksX2_postAt_0 8 rfl rfl)
theorem dX2_postAt_9 : decode cX2_postAt 9 = .ok (.iadd, 1) := dk_96 (dk_at dksX2_postAt_0 9 rfl rfl)
theorem dX2_postAt_10 : decode cX2_postAt 10 = .ok (.baload, 1) := dk_51 (dk_at dksX2_postAt_0 10 rfl rfl)
theorem dX2_postAt_11 : decode cX2_postAt 11 = .ok (.ifCond .gt 7, 3) := dk_157 0 7 (dk_at dksX2_postAt_0 11 rfl rfl)
theorem dX2_postAt_14 : decode cX2_postAt 14 = .ok (.iconst (-1), 1) := dk_2 (dk_at dksX2_postAt_0 14 rfl rfl)
theorem dX2_postAt_15 : decode cX2_postAt 15 = .ok (.goto 16, 3) := dk_167 0 16 (dk_at dksX2_postAt_0 15 rfl rfl)
theorem dX2_postAt_18 : decode cX2_postAt 18 = .ok (.aload_n 0, 1) := dk_42 (dk_at dksX2_postAt_0 18 rfl rfl)
theorem dX2_postAt_19 : decode cX2_postAt 19 = .ok (.getfield 17, 3) := dk_180 0 17 (dk_at dksX2_postAt_0 19 rfl rfl)
theorem dX2_postAt_22 : decode cX2_postAt 22 = .ok (.bipush 20, 2) := dk_16 20 (dk_at dksX2_postAt_0 22 rfl rfl)
theorem dX2_postAt_24 : decode cX2_postAt 24 = .ok (.iload_n 2, 1) := dk_28 (dk_at dksX2_postAt_1 0 rfl rfl)
theorem dX2_postAt_25 : decode cX2_postAt 25 = .ok (.imul, 1) := dk_104 (dk_at dksX2_postAt_1 1 rfl rfl)
theorem dX2_postAt_26 : decode cX2_postAt 26 = .ok (.iload_n 1, 1) := dk_27 (dk_at dksX2_postAt_1 2 rfl rfl)
theorem dX2_postAt_27 : decode cX2_postAt 27 = .ok (.iadd, 1) := dk_96 (dk_at dksX2_postAt_1 3 rfl rfl)
theorem dX2_postAt_28 : decode cX2_postAt 28 = .ok (.baload, 1) := dk_51 (dk_at dksX2_postAt_1 4 rfl rfl)
theorem dX2_postAt_29 : decode cX2_postAt 29 = .ok (.iconst 1, 1) := dk_4 (dk_at dksX2_postAt_1 5 rfl rfl)
theorem dX2_postAt_30 : decode cX2_postAt 30 = .ok (.isub, 1) := dk_100 (dk_at dksX2_postAt_1 6 rfl rfl)
theorem dX2_postAt_31 : decode cX2_postAt 31 = .ok (.ireturn, 1) := dk_172 (dk_at dksX2_postAt_1 7 rfl rfl)
abbrev cX3_standsFor : ByteArray := prog_6_method_4_code
def yX3_standsFor : MethodName := ⟨RX3, "standsFor", "(I)Z"⟩
def dkwX3_standsFor_0 : List UInt8 := [42, 180, 0, 22, 154, 0, 15, 42, 180, 0, 16, 27, 160, 0, 7, 4, 167, 0, 4, 3, 172]
abbrev dktX3_standsFor_0 : List UInt8 := dkwX3_standsFor_0 ++ []
theorem dksX3_standsFor_0 : cX3_standsFor.data.toList.drop 0 = dktX3_standsFor_0 := by decide +kernel
theorem dX3_standsFor_0 : decode cX3_standsFor 0 = .ok (.aload_n 0, 1) := dk_42 (dk_at dksX3_standsFor_0 0 rfl rfl)
theorem dX3_standsFor_1 : decode cX3_standsFor 1 = .ok (.getfield 22, 3) := dk_180 0 22 (dk_at dksX3_standsFor_0 1 rfl rfl)
theorem dX3_standsFor_4 : decode cX3_standsFor 4 = .ok (.ifCond .ne 15, 3) := dk_154 0 15 (dk_at dksX3_standsFor_0 4 rfl rfl)
theorem dX3_standsFor_7 : decode cX3_standsFor 7 = .ok (.aload_n 0, 1) := dk_42 (dk_at dksX3_standsFor_0 7 rfl rfl)
theorem dX3_standsFor_8 : decode cX3_standsFor 8 = .ok (.getfield 16, 3) := dk_180 0 16 (dk_at dksX3_standsFor_0 8 rfl rfl)
theorem dX3_standsFor_11 : decode cX3_standsFor 11 = .ok (.iload_n 1, 1) := dk_27 (dk_at dksX3_standsFor_0 11 rfl rfl)
theorem dX3_standsFor_12 : decode cX3_standsFor 12 = .ok (.if_icmp .ne 7, 3) := dk_160 0 7 (dk_at dksX3_standsFor_0 12 rfl rfl)
theorem dX3_standsFor_15 : decode cX3_standsFor 15 = .ok (.iconst 1, 1) := dk_4 (dk_at dksX3_standsFor_0 15 rfl rfl)
theorem dX3_standsFor_16 : decode cX3_standsFor 16 = .ok (.goto 4, 3) := dk_167 0 4 (dk_at dksX3_standsFor_0 16 rfl rfl)
theorem dX3_standsFor_19 : decode cX3_standsFor 19 = .ok (.iconst 0, 1) := dk_3 (dk_at dksX3_standsFor_0 19 rfl rfl)
theorem dX3_standsFor_20 : decode cX3_standsFor 20 = .ok (.ireturn, 1) := dk_172 (dk_at dksX3_standsFor_0 20 rfl rfl)
abbrev cX10_go : ByteArray := prog_10_method_2_code
def yX10_go : MethodName := ⟨RX10, "go", "(IIIII)LTrailMarkers$Walk;"⟩
def dkwX10_go_9 : List UInt8 := [167, 255, 75, 42, 176]
abbrev dktX10_go_9 : List UInt8 := dkwX10_go_9 ++ []
def dkwX10_go_8 : List UInt8 := [180, 0, 9, 180, 0, 55, 21, 8, 50, 21, 4, 182, 0, 59, 153, 0, 9, 42, 21, 8, 181, 0, 25]
abbrev dktX10_go_8 : List UInt8 := dkwX10_go_8 ++ dktX10_go_9
def dkwX10_go_7 : List UInt8 := [180, 0, 19, 182, 0, 51, 54, 8, 21, 8, 2, 159, 0, 34, 21, 8, 21, 5, 159, 0, 27, 42]
abbrev dktX10_go_7 : List UInt8 := dkwX10_go_7 ++ dktX10_go_8
def dkwX10_go_6 : List UInt8 := [21, 7, 181, 0, 19, 42, 89, 180, 0, 22, 4, 96, 181, 0, 22, 42, 180, 0, 9, 42, 180, 0, 15, 42]
abbrev dktX10_go_6 : List UInt8 := dkwX10_go_6 ++ dktX10_go_7
def dkwX10_go_5 : List UInt8 := [180, 0, 47, 3, 46, 160, 0, 11, 42, 6, 181, 0, 28, 167, 0, 79, 42, 21, 6, 181, 0, 15, 42]
abbrev dktX10_go_5 : List UInt8 := dkwX10_go_5 ++ dktX10_go_6
def dkwX10_go_4 : List UInt8 := [182, 0, 44, 153, 0, 11, 42, 5, 181, 0, 28, 167, 0, 103, 42, 180, 0, 22, 42, 180, 0, 9]
abbrev dktX10_go_4 : List UInt8 := dkwX10_go_4 ++ dktX10_go_5
def dkwX10_go_3 : List UInt8 := [21, 7, 182, 0, 38, 154, 0, 11, 42, 4, 181, 0, 28, 167, 0, 125, 42, 180, 0, 9, 21, 6, 21, 7]
abbrev dktX10_go_3 : List UInt8 := dkwX10_go_3 ++ dktX10_go_4
def dkwX10_go_2 : List UInt8 := [184, 0, 31, 96, 54, 6, 42, 180, 0, 19, 29, 184, 0, 35, 96, 54, 7, 42, 180, 0, 9, 21, 6]
abbrev dktX10_go_2 : List UInt8 := dkwX10_go_2 ++ dktX10_go_3
def dkwX10_go_1 : List UInt8 := [181, 0, 28, 42, 180, 0, 28, 154, 0, 180, 42, 180, 0, 25, 2, 160, 0, 172, 42, 180, 0, 15, 29]
abbrev dktX10_go_1 : List UInt8 := dkwX10_go_1 ++ dktX10_go_2
def dkwX10_go_0 : List UInt8 := [42, 27, 181, 0, 15, 42, 28, 181, 0, 19, 42, 3, 181, 0, 22, 42, 2, 181, 0, 25, 42, 3]
abbrev dktX10_go_0 : List UInt8 := dkwX10_go_0 ++ dktX10_go_1
theorem dksX10_go_0 : cX10_go.data.toList.drop 0 = dktX10_go_0 := by decide +kernel
theorem dksX10_go_1 : cX10_go.data.toList.drop 22 = dktX10_go_1 := dk_seg dksX10_go_0 22 rfl rfl
theorem dksX10_go_2 : cX10_go.data.toList.drop 45 = dktX10_go_2 := dk_seg dksX10_go_1 23 rfl rfl
theorem dksX10_go_3 : cX10_go.data.toList.drop 68 = dktX10_go_3 := dk_seg dksX10_go_2 23 rfl rfl
theorem dksX10_go_4 : cX10_go.data.toList.drop 92 = dktX10_go_4 := dk_seg dksX10_go_3 24 rfl rfl
theorem dksX10_go_5 : cX10_go.data.toList.drop 114 = dktX10_go_5 := dk_seg dksX10_go_4 22 rfl rfl
theorem dksX10_go_6 : cX10_go.data.toList.drop 137 = dktX10_go_6 := dk_seg dksX10_go_5 23 rfl rfl
theorem dksX10_go_7 : cX10_go.data.toList.drop 161 = dktX10_go_7 := dk_seg dksX10_go_6 24 rfl rfl
theorem dksX10_go_8 : cX10_go.data.toList.drop 183 = dktX10_go_8 := dk_seg dksX10_go_7 22 rfl rfl
theorem dksX10_go_9 : cX10_go.data.toList.drop 206 = dktX10_go_9 := dk_seg dksX10_go_8 23 rfl rfl
theorem dX10_go_0 : decode cX10_go 0 = .ok (.aload_n 0, 1) := dk_42 (dk_at dksX10_go_0 0 rfl rfl)
theorem dX10_go_1 : decode cX10_go 1 = .ok (.iload_n 1, 1) := dk_27 (dk_at dksX10_go_0 1 rfl rfl)
theorem dX10_go_2 : decode cX10_go 2 = .ok (.putfield 15, 3) := dk_181 0 15 (dk_at dksX10_go_0 2 rfl rfl)
theorem dX10_go_5 : decode cX10_go 5 = .ok (.aload_n 0, 1) := dk_42 (dk_at dksX10_go_0 5 rfl rfl)
theorem dX10_go_6 : decode cX10_go 6 = .ok (.iload_n 2, 1) := dk_28 (dk_at dksX10_go_0 6 rfl rfl)
theorem dX10_go_7 : decode cX10_go 7 = .ok (.putfield 19, 3) := dk_181 0 19 (dk_at dksX10_go_0 7 rfl rfl)
theorem dX10_go_10 : decode cX10_go 10 = .ok (.aload_n 0, 1) := dk_42 (dk_at dksX10_go_0 10 rfl rfl)
theorem dX10_go_11 : decode cX10_go 11 = .ok (.iconst 0, 1) := dk_3 (dk_at dksX10_go_0 11 rfl rfl)
theorem dX10_go_12 : decode cX10_go 12 = .ok (.putfield 22, 3) := dk_181 0 22 (dk_at dksX10_go_0 12 rfl rfl)
theorem dX10_go_15 : decode cX10_go 15 = .ok (.aload_n 0, 1) := dk_42 (dk_at dksX10_go_0 15 rfl rfl)
theorem dX10_go_16 : decode cX10_go 16 = .ok (.iconst (-1), 1) := dk_2 (dk_at dksX10_go_0 16 rfl rfl)
theorem dX10_go_17 : decode cX10_go 17 = .ok (.putfield 25, 3) := dk_181 0 25 (dk_at dksX10_go_0 17 rfl rfl)
theorem dX10_go_20 : decode cX10_go 20 = .ok (.aload_n 0, 1) := dk_42 (dk_at dksX10_go_0 20 rfl rfl)
theorem dX10_go_21 : decode cX10_go 21 = .ok (.iconst 0, 1) := dk_3 (dk_at dksX10_go_0 21 rfl rfl)
theorem dX10_go_22 : decode cX10_go 22 = .ok (.putfield 28, 3) := dk_181 0 28 (dk_at dksX10_go_1 0 rfl rfl)
theorem dX10_go_25 : decode cX10_go 25 = .ok (.aload_n 0, 1) := dk_42 (dk_at dksX10_go_1 3 rfl rfl)
theorem dX10_go_26 : decode cX10_go 26 = .ok (.getfield 28, 3) := dk_180 0 28 (dk_at dksX10_go_1 4 rfl rfl)
theorem dX10_go_29 : decode cX10_go 29 = .ok (.ifCond .ne 180, 3) := dk_154 0 180 (dk_at dksX10_go_1 7 rfl rfl)
theorem dX10_go_32 : decode cX10_go 32 = .ok (.aload_n 0, 1) := dk_42 (dk_at dksX10_go_1 10 rfl rfl)
theorem dX10_go_33 : decode cX10_go 33 = .ok (.getfield 25, 3) := dk_180 0 25 (dk_at dksX10_go_1 11 rfl rfl)
theorem dX10_go_36 : decode cX10_go 36 = .ok (.iconst (-1), 1) := dk_2 (dk_at dksX10_go_1 14 rfl rfl)
theorem dX10_go_37 : decode cX10_go 37 = .ok (.if_icmp .ne 172, 3) := dk_160 0 172 (dk_at dksX10_go_1 15 rfl rfl)
theorem dX10_go_40 : decode cX10_go 40 = .ok (.aload_n 0, 1) := dk_42 (dk_at dksX10_go_1 18 rfl rfl)
theorem dX10_go_41 : decode cX10_go 41 = .ok (.getfield 15, 3) := dk_180 0 15 (dk_at dksX10_go_1 19 rfl rfl)
theorem dX10_go_44 : decode cX10_go 44 = .ok (.iload_n 3, 1) := dk_29 (dk_at dksX10_go_1 22 rfl rfl)
theorem dX10_go_45 : decode cX10_go 45 = .ok (.invokestatic 31, 3) := dk_184 0 31 (dk_at dksX10_go_2 0 rfl rfl)
theorem dX10_go_48 : decode cX10_go 48 = .ok (.iadd, 1) := dk_96 (dk_at dksX10_go_2 3 rfl rfl)
theorem dX10_go_49 : decode cX10_go 49 = .ok (.istore 6, 2) := dk_54 6 (dk_at dksX10_go_2 4 rfl rfl)
theorem dX10_go_51 : decode cX10_go 51 = .ok (.aload_n 0, 1) := dk_42 (dk_at dksX10_go_2 6 rfl rfl)
theorem dX10_go_52 : decode cX10_go 52 = .ok (.getfield 19, 3) := dk_180 0 19 (dk_at dksX10_go_2 7 rfl rfl)
theorem dX10_go_55 : decode cX10_go 55 = .ok (.iload_n 3, 1) := dk_29 (dk_at dksX10_go_2 10 rfl rfl)
theorem dX10_go_56 : decode cX10_go 56 = .ok (.invokestatic 35, 3) := dk_184 0 35 (dk_at dksX10_go_2 11 rfl rfl)
theorem dX10_go_59 : decode cX10_go 59 = .ok (.iadd, 1) := dk_96 (dk_at dksX10_go_2 14 rfl rfl)
theorem dX10_go_60 : decode cX10_go 60 = .ok (.istore 7, 2) := dk_54 7 (dk_at dksX10_go_2 15 rfl rfl)
theorem dX10_go_62 : decode cX10_go 62 = .ok (.aload_n 0, 1) := dk_42 (dk_at dksX10_go_2 17 rfl rfl)
theorem dX10_go_63 : decode cX10_go 63 = .ok (.getfield 9, 3) := dk_180 0 9 (dk_at dksX10_go_2 18 rfl rfl)
theorem dX10_go_66 : decode cX10_go 66 = .ok (.iload 6, 2) := dk_21 6 (dk_at dksX10_go_2 21 rfl rfl)
theorem dX10_go_68 : decode cX10_go 68 = .ok (.iload 7, 2) := dk_21 7 (dk_at dksX10_go_3 0 rfl rfl)
theorem dX10_go_70 : decode cX10_go 70 = .ok (.invokevirtual 38, 3) := dk_182 0 38 (dk_at dksX10_go_3 2 rfl rfl)
theorem dX10_go_73 : decode cX10_go 73 = .ok (.ifCond .ne 11, 3) := dk_154 0 11 (dk_at dksX10_go_3 5 rfl rfl)
theorem dX10_go_76 : decode cX10_go 76 = .ok (.aload_n 0, 1) := dk_42 (dk_at dksX10_go_3 8 rfl rfl)
theorem dX10_go_77 : decode cX10_go 77 = .ok (.iconst 1, 1) := dk_4 (dk_at dksX10_go_3 9 rfl rfl)
theorem dX10_go_78 : decode cX10_go 78 = .ok (.putfield 28, 3) := dk_181 0 28 (dk_at dksX10_go_3 10 rfl rfl)
theorem dX10_go_81 : decode cX10_go 81 = .ok (.goto 125, 3) := dk_167 0 125 (dk_at dksX10_go_3 13 rfl rfl)
theorem dX10_go_84 : decode cX10_go 84 = .ok (.aload_n 0, 1) := dk_42 (dk_at dksX10_go_3 16 rfl rfl)
theorem dX10_go_85 : decode cX10_go 85 = .ok (.getfield 9, 3) := dk_180 0 9 (dk_at dksX10_go_3 17 rfl rfl)
theorem dX10_go_88 : decode cX10_go 88 = .ok (.iload 6, 2) := dk_21 6 (dk_at dksX10_go_3 20 rfl rfl)
theorem dX10_go_90 : decode cX10_go 90 = .ok (.iload 7, 2) := dk_21 7 (dk_at dksX10_go_3 22 rfl rfl)
theorem dX10_go_92 : decode cX10_go 92 = .ok (.invokevirtual 44, 3) := dk_182 0 44 (dk_at dksX10_go_4 0 rfl rfl)
theorem dX10_go_95 : decode cX10_go 95 = .ok (.ifCond .eq 11, 3) := dk_153 0 11 (dk_at dksX10_go_4 3 rfl rfl)
theorem dX10_go_98 : decode cX10_go 98 = .ok (.aload_n 0, 1) := dk_42 (dk_at dksX10_go_4 6 rfl rfl)
theorem dX10_go_99 : decode cX10_go 99 = .ok (.iconst 2, 1) := dk_5 (dk_at dksX10_go_4 7 rfl rfl)
theorem dX10_go_100 : decode cX10_go 100 = .ok (.putfield 28, 3) := dk_181 0 28 (dk_at dksX10_go_4 8 rfl rfl)
theorem dX10_go_103 : decode cX10_go 103 = .ok (.goto 103, 3) := dk_167 0 103 (dk_at dksX10_go_4 11 rfl rfl)
theorem dX10_go_106 : decode cX10_go 106 = .ok (.aload_n 0, 1) := dk_42 (dk_at dksX10_go_4 14 rfl rfl)
theorem dX10_go_107 : decode cX10_go 107 = .ok (.getfield 22, 3) := dk_180 0 22 (dk_at dksX10_go_4 15 rfl rfl)
theorem dX10_go_110 : decode cX10_go 110 = .ok (.aload_n 0, 1) := dk_42 (dk_at dksX10_go_4 18 rfl rfl)
theorem dX10_go_111 : decode cX10_go 111 = .ok (.getfield 9, 3) := dk_180 0 9 (dk_at dksX10_go_4 19 rfl rfl)
theorem dX10_go_114 : decode cX10_go 114 = .ok (.getfield 47, 3) := dk_180 0 47 (dk_at dksX10_go_5 0 rfl rfl)
theorem dX10_go_117 : decode cX10_go 117 = .ok (.iconst 0, 1) := dk_3 (dk_at dksX10_go_5 3 rfl rfl)
theorem dX10_go_118 : decode cX10_go 118 = .ok (.iaload, 1) := dk_46 (dk_at dksX10_go_5 4 rfl rfl)
theorem dX10_go_119 : decode cX10_go 119 = .ok (.if_icmp .ne 11, 3) := dk_160 0 11 (dk_at dksX10_go_5 5 rfl rfl)
theorem dX10_go_122 : decode cX10_go 122 = .ok (.aload_n 0, 1) := dk_42 (dk_at dksX10_go_5 8 rfl rfl)
theorem dX10_go_123 : decode cX10_go 123 = .ok (.iconst 3, 1) := dk_6 (dk_at dksX10_go_5 9 rfl rfl)
theorem dX10_go_124 : decode cX10_go 124 = .ok (.putfield 28, 3) := dk_181 0 28 (dk_at dksX10_go_5 10 rfl rfl)
theorem dX10_go_127 : decode cX10_go 127 = .ok (.goto 79, 3) := dk_167 0 79 (dk_at dksX10_go_5 13 rfl rfl)
theorem dX10_go_130 : decode cX10_go 130 = .ok (.aload_n 0, 1) := dk_42 (dk_at dksX10_go_5 16 rfl rfl)
theorem dX10_go_131 : decode cX10_go 131 = .ok (.iload 6, 2) := dk_21 6 (dk_at dksX10_go_5 17 rfl rfl)
theorem dX10_go_133 : decode cX10_go 133 = .ok (.putfield 15, 3) := dk_181 0 15 (dk_at dksX10_go_5 19 rfl rfl)
theorem dX10_go_136 : decode cX10_go 136 = .ok (.aload_n 0, 1) := dk_42 (dk_at dksX10_go_5 22 rfl rfl)
theorem dX10_go_137 : decode cX10_go 137 = .ok (.iload 7, 2) := dk_21 7 (dk_at dksX10_go_6 0 rfl rfl)
theorem dX10_go_139 : decode cX10_go 139 = .ok (.putfield 19, 3) := dk_181 0 19 (dk_at dksX10_go_6 2 rfl rfl)
theorem dX10_go_142 : decode cX10_go 142 = .ok (.aload_n 0, 1) := dk_42 (dk_at dksX10_go_6 5 rfl rfl)
theorem dX10_go_143 : decode cX10_go 143 = .ok (.dup, 1) := dk_89 (dk_at dksX10_go_6 6 rfl rfl)
theorem dX10_go_144 : decode cX10_go 144 = .ok (.getfield 22, 3) := dk_180 0 22 (dk_at dksX10_go_6 7 rfl rfl)
theorem dX10_go_147 : decode cX10_go 147 = .ok (.iconst 1, 1) := dk_4 (dk_at dksX10_go_6 10 rfl rfl)
theorem dX10_go_148 : decode cX10_go 148 = .ok (.iadd, 1) := dk_96 (dk_at dksX10_go_6 11 rfl rfl)
theorem dX10_go_149 : decode cX10_go 149 = .ok (.putfield 22, 3) := dk_181 0 22 (dk_at dksX10_go_6 12 rfl rfl)
theorem dX10_go_152 : decode cX10_go 152 = .ok (.aload_n 0, 1) := dk_42 (dk_at dksX10_go_6 15 rfl rfl)
theorem dX10_go_153 : decode cX10_go 153 = .ok (.getfield 9, 3) := dk_180 0 9 (dk_at dksX10_go_6 16 rfl rfl)
theorem dX10_go_156 : decode cX10_go 156 = .ok (.aload_n 0, 1) := dk_42 (dk_at dksX10_go_6 19 rfl rfl)
theorem dX10_go_157 : decode cX10_go 157 = .ok (.getfield 15, 3) := dk_180 0 15 (dk_at dksX10_go_6 20 rfl rfl)
theorem dX10_go_160 : decode cX10_go 160 = .ok (.aload_n 0, 1) := dk_42 (dk_at dksX10_go_6 23 rfl rfl)
theorem dX10_go_161 : decode cX10_go 161 = .ok (.getfield 19, 3) := dk_180 0 19 (dk_at dksX10_go_7 0 rfl rfl)
theorem dX10_go_164 : decode cX10_go 164 = .ok (.invokevirtual 51, 3) := dk_182 0 51 (dk_at dksX10_go_7 3 rfl rfl)
theorem dX10_go_167 : decode cX10_go 167 = .ok (.istore 8, 2) := dk_54 8 (dk_at dksX10_go_7 6 rfl rfl)
theorem dX10_go_169 : decode cX10_go 169 = .ok (.iload 8, 2) := dk_21 8 (dk_at dksX10_go_7 8 rfl rfl)
theorem dX10_go_171 : decode cX10_go 171 = .ok (.iconst (-1), 1) := dk_2 (dk_at dksX10_go_7 10 rfl rfl)
theorem dX10_go_172 : decode cX10_go 172 = .ok (.if_icmp .eq 34, 3) := dk_159 0 34 (dk_at dksX10_go_7 11 rfl rfl)
theorem dX10_go_175 : decode cX10_go 175 = .ok (.iload 8, 2) := dk_21 8 (dk_at dksX10_go_7 14 rfl rfl)
theorem dX10_go_177 : decode cX10_go 177 = .ok (.iload 5, 2) := dk_21 5 (dk_at dksX10_go_7 16 rfl rfl)
theorem dX10_go_179 : decode cX10_go 179 = .ok (.if_icmp .eq 27, 3) := dk_159 0 27 (dk_at dksX10_go_7 18 rfl rfl)
theorem dX10_go_182 : decode cX10_go 182 = .ok (.aload_n 0, 1) := dk_42 (dk_at dksX10_go_7 21 rfl rfl)
theorem dX10_go_183 : decode cX10_go 183 = .ok (.getfield 9, 3) := dk_180 0 9 (dk_at dksX10_go_8 0 rfl rfl)
theorem dX10_go_186 : decode cX10_go 186 = .ok (.getfield 55, 3) := dk_180 0 55 (dk_at dksX10_go_8 3 rfl rfl)
theorem dX10_go_189 : decode cX10_go 189 = .ok (.iload 8, 2) := dk_21 8 (dk_at dksX10_go_8 6 rfl rfl)
theorem dX10_go_191 : decode cX10_go 191 = .ok (.aaload, 1) := dk_50 (dk_at dksX10_go_8 8 rfl rfl)
theorem dX10_go_192 : decode cX10_go 192 = .ok (.iload 4, 2) := dk_21 4 (dk_at dksX10_go_8 9 rfl rfl)
theorem dX10_go_194 : decode cX10_go 194 = .ok (.invokevirtual 59, 3) := dk_182 0 59 (dk_at dksX10_go_8 11 rfl rfl)
theorem dX10_go_197 : decode cX10_go 197 = .ok (.ifCond .eq 9, 3) := dk_153 0 9 (dk_at dksX10_go_8 14 rfl rfl)
theorem dX10_go_200 : decode cX10_go 200 = .ok (.aload_n 0, 1) := dk_42 (dk_at dksX10_go_8 17 rfl rfl)
theorem dX10_go_201 : decode cX10_go 201 = .ok (.iload 8, 2) := dk_21 8 (dk_at dksX10_go_8 18 rfl rfl)
theorem dX10_go_203 : decode cX10_go 203 = .ok (.putfield 25, 3) := dk_181 0 25 (dk_at dksX10_go_8 20 rfl rfl)
theorem dX10_go_206 : decode cX10_go 206 = .ok (.goto (-181), 3) := dk_167 255 75 (dk_at dksX10_go_9 0 rfl rfl)
theorem dX10_go_209 : decode cX10_go 209 = .ok (.aload_n 0, 1) := dk_42 (dk_at dksX10_go_9 3 rfl rfl)
theorem dX10_go_210 : decode cX10_go 210 = .ok (.areturn, 1) := dk_176 (dk_at dksX10_go_9 4 rfl rfl)
abbrev cX2_init : ByteArray := prog_9_method_1_code
def yX2_init : MethodName := ⟨RX2, "<init>", "(IIII)V"⟩
def dkwX2_init_2 : List UInt8 := [180, 0, 21, 4, 21, 4, 79, 177]
abbrev dktX2_init_2 : List UInt8 := dkwX2_init_2 ++ []
def dkwX2_init_1 : List UInt8 := [188, 10, 181, 0, 21, 42, 27, 181, 0, 25, 42, 28, 181, 0, 29, 42, 180, 0, 21, 3, 29, 79, 42]
abbrev dktX2_init_1 : List UInt8 := dkwX2_init_1 ++ dktX2_init_2
def dkwX2_init_0 : List UInt8 := [42, 183, 0, 3, 42, 16, 24, 189, 0, 9, 181, 0, 11, 42, 17, 1, 144, 188, 8, 181, 0, 17, 42, 5]
abbrev dktX2_init_0 : List UInt8 := dkwX2_init_0 ++ dktX2_init_1
theorem dksX2_init_0 : cX2_init.data.toList.drop 0 = dktX2_init_0 := by decide +kernel
theorem dksX2_init_1 : cX2_init.data.toList.drop 24 = dktX2_init_1 := dk_seg dksX2_init_0 24 rfl rfl
theorem dksX2_init_2 : cX2_init.data.toList.drop 47 = dktX2_init_2 := dk_seg dksX2_init_1 23 rfl rfl
theorem dX2_init_0 : decode cX2_init 0 = .ok (.aload_n 0, 1) := dk_42 (dk_at dksX2_init_0 0 rfl rfl)
theorem dX2_init_1 : decode cX2_init 1 = .ok (.invokespecial 3, 3) := dk_183 0 3 (dk_at dksX2_init_0 1 rfl rfl)
theorem dX2_init_4 : decode cX2_init 4 = .ok (.aload_n 0, 1) := dk_42 (dk_at dksX2_init_0 4 rfl rfl)
theorem dX2_init_5 : decode cX2_init 5 = .ok (.bipush 24, 2) := dk_16 24 (dk_at dksX2_init_0 5 rfl rfl)
theorem dX2_init_7 : decode cX2_init 7 = .ok (.anewarray 9, 3) := dk_189 0 9 (dk_at dksX2_init_0 7 rfl rfl)
theorem dX2_init_10 : decode cX2_init 10 = .ok (.putfield 11, 3) := dk_181 0 11 (dk_at dksX2_init_0 10 rfl rfl)
theorem dX2_init_13 : decode cX2_init 13 = .ok (.aload_n 0, 1) := dk_42 (dk_at dksX2_init_0 13 rfl rfl)
theorem dX2_init_14 : decode cX2_init 14 = .ok (.sipush 400, 3) := dk_17 1 144 (dk_at dksX2_init_0 14 rfl rfl)
theorem dX2_init_17 : decode cX2_init 17 = .ok (.newarray .byte, 2) := dk_188_8 (dk_at dksX2_init_0 17 rfl rfl)
theorem dX2_init_19 : decode cX2_init 19 = .ok (.putfield 17, 3) := dk_181 0 17 (dk_at dksX2_init_0 19 rfl rfl)
theorem dX2_init_22 : decode cX2_init 22 = .ok (.aload_n 0, 1) := dk_42 (dk_at dksX2_init_0 22 rfl rfl)
theorem dX2_init_23 : decode cX2_init 23 = .ok (.iconst 2, 1) := dk_5 (dk_at dksX2_init_0 23 rfl rfl)
theorem dX2_init_24 : decode cX2_init 24 = .ok (.newarray .int, 2) := dk_188_10 (dk_at dksX2_init_1 0 rfl rfl)
theorem dX2_init_26 : decode cX2_init 26 = .ok (.putfield 21, 3) := dk_181 0 21 (dk_at dksX2_init_1 2 rfl rfl)
theorem dX2_init_29 : decode cX2_init 29 = .ok (.aload_n 0, 1) := dk_42 (dk_at dksX2_init_1 5 rfl rfl)
theorem dX2_init_30 : decode cX2_init 30 = .ok (.iload_n 1, 1) := dk_27 (dk_at dksX2_init_1 6 rfl rfl)
theorem dX2_init_31 : decode cX2_init 31 = .ok (.putfield 25, 3) := dk_181 0 25 (dk_at dksX2_init_1 7 rfl rfl)
theorem dX2_init_34 : decode cX2_init 34 = .ok (.aload_n 0, 1) := dk_42 (dk_at dksX2_init_1 10 rfl rfl)
theorem dX2_init_35 : decode cX2_init 35 = .ok (.iload_n 2, 1) := dk_28 (dk_at dksX2_init_1 11 rfl rfl)
theorem dX2_init_36 : decode cX2_init 36 = .ok (.putfield 29, 3) := dk_181 0 29 (dk_at dksX2_init_1 12 rfl rfl)
theorem dX2_init_39 : decode cX2_init 39 = .ok (.aload_n 0, 1) := dk_42 (dk_at dksX2_init_1 15 rfl rfl)
theorem dX2_init_40 : decode cX2_init 40 = .ok (.getfield 21, 3) := dk_180 0 21 (dk_at dksX2_init_1 16 rfl rfl)
theorem dX2_init_43 : decode cX2_init 43 = .ok (.iconst 0, 1) := dk_3 (dk_at dksX2_init_1 19 rfl rfl)
theorem dX2_init_44 : decode cX2_init 44 = .ok (.iload_n 3, 1) := dk_29 (dk_at dksX2_init_1 20 rfl rfl)
theorem dX2_init_45 : decode cX2_init 45 = .ok (.iastore, 1) := dk_79 (dk_at dksX2_init_1 21 rfl rfl)
theorem dX2_init_46 : decode cX2_init 46 = .ok (.aload_n 0, 1) := dk_42 (dk_at dksX2_init_1 22 rfl rfl)
theorem dX2_init_47 : decode cX2_init 47 = .ok (.getfield 21, 3) := dk_180 0 21 (dk_at dksX2_init_2 0 rfl rfl)
theorem dX2_init_50 : decode cX2_init 50 = .ok (.iconst 1, 1) := dk_4 (dk_at dksX2_init_2 3 rfl rfl)
theorem dX2_init_51 : decode cX2_init 51 = .ok (.iload 4, 2) := dk_21 4 (dk_at dksX2_init_2 4 rfl rfl)
theorem dX2_init_53 : decode cX2_init 53 = .ok (.iastore, 1) := dk_79 (dk_at dksX2_init_2 6 rfl rfl)
theorem dX2_init_54 : decode cX2_init 54 = .ok (.return_, 1) := dk_177 (dk_at dksX2_init_2 7 rfl rfl)
abbrev cX2_reasonNot : ByteArray := prog_9_method_7_code
def yX2_reasonNot : MethodName := ⟨RX2, "reasonNot", "(IIZ)I"⟩
def dkwX2_reasonNot_1 : List UInt8 := [28, 182, 0, 54, 2, 159, 0, 5, 6, 172, 29, 153, 0, 7, 7, 167, 0, 4, 3, 172]
abbrev dktX2_reasonNot_1 : List UInt8 := dkwX2_reasonNot_1 ++ []
def dkwX2_reasonNot_0 : List UInt8 := [42, 27, 28, 182, 0, 47, 154, 0, 5, 4, 172, 42, 27, 28, 182, 0, 51, 153, 0, 5, 5, 172, 42, 27]
abbrev dktX2_reasonNot_0 : List UInt8 := dkwX2_reasonNot_0 ++ dktX2_reasonNot_1
theorem dksX2_reasonNot_0 : cX2_reasonNot.data.toList.drop 0 = dktX2_reasonNot_0 := by decide +kernel
theorem dksX2_reasonNot_1 : cX2_reasonNot.data.toList.drop 24 = dktX2_reasonNot_1 := dk_seg dksX2_reasonNot_0 24 rfl rfl
theorem dX2_reasonNot_0 : decode cX2_reasonNot 0 = .ok (.aload_n 0, 1) := dk_42 (dk_at dksX2_reasonNot_0 0 rfl rfl)
theorem dX2_reasonNot_1 : decode cX2_reasonNot 1 = .ok (.iload_n 1, 1) := dk_27 (dk_at dksX2_reasonNot_0 1 rfl rfl)
theorem dX2_reasonNot_2 : decode cX2_reasonNot 2 = .ok (.iload_n 2, 1) := dk_28 (dk_at dksX2_reasonNot_0 2 rfl rfl)
theorem dX2_reasonNot_3 : decode cX2_reasonNot 3 = .ok (.invokevirtual 47, 3) := dk_182 0 47 (dk_at dksX2_reasonNot_0 3 rfl rfl)
theorem dX2_reasonNot_6 : decode cX2_reasonNot 6 = .ok (.ifCond .ne 5, 3) := dk_154 0 5 (dk_at dksX2_reasonNot_0 6 rfl rfl)
theorem dX2_reasonNot_9 : decode cX2_reasonNot 9 = .ok (.iconst 1, 1) := dk_4 (dk_at dksX2_reasonNot_0 9 rfl rfl)
theorem dX2_reasonNot_10 : decode cX2_reasonNot 10 = .ok (.ireturn, 1) := dk_172 (dk_at dksX2_reasonNot_0 10 rfl rfl)
theorem dX2_reasonNot_11 : decode cX2_reasonNot 11 = .ok (.aload_n 0, 1) := dk_42 (dk_at dksX2_reasonNot_0 11 rfl rfl)
theorem dX2_reasonNot_12 : decode cX2_reasonNot 12 = .ok (.iload_n 1, 1) := dk_27 (dk_at dksX2_reasonNot_0 12 rfl rfl)
theorem dX2_reasonNot_13 : decode cX2_reasonNot 13 = .ok (.iload_n 2, 1) := dk_28 (dk_at dksX2_reasonNot_0 13 rfl rfl)
theorem dX2_reasonNot_14 : decode cX2_reasonNot 14 = .ok (.invokevirtual 51, 3) := dk_182 0 51 (dk_at dksX2_reasonNot_0 14 rfl rfl)
theorem dX2_reasonNot_17 : decode cX2_reasonNot 17 = .ok (.ifCond .eq 5, 3) := dk_153 0 5 (dk_at dksX2_reasonNot_0 17 rfl rfl)
theorem dX2_reasonNot_20 : decode cX2_reasonNot 20 = .ok (.iconst 2, 1) := dk_5 (dk_at dksX2_reasonNot_0 20 rfl rfl)
theorem dX2_reasonNot_21 : decode cX2_reasonNot 21 = .ok (.ireturn, 1) := dk_172 (dk_at dksX2_reasonNot_0 21 rfl rfl)
theorem dX2_reasonNot_22 : decode cX2_reasonNot 22 = .ok (.aload_n 0, 1) := dk_42 (dk_at dksX2_reasonNot_0 22 rfl rfl)
theorem dX2_reasonNot_23 : decode cX2_reasonNot 23 = .ok (.iload_n 1, 1) := dk_27 (dk_at dksX2_reasonNot_0 23 rfl rfl)
theorem dX2_reasonNot_24 : decode cX2_reasonNot 24 = .ok (.iload_n 2, 1) := dk_28 (dk_at dksX2_reasonNot_1 0 rfl rfl)
theorem dX2_reasonNot_25 : decode cX2_reasonNot 25 = .ok (.invokevirtual 54, 3) := dk_182 0 54 (dk_at dksX2_reasonNot_1 1 rfl rfl)
theorem dX2_reasonNot_28 : decode cX2_reasonNot 28 = .ok (.iconst (-1), 1) := dk_2 (dk_at dksX2_reasonNot_1 4 rfl rfl)
theorem dX2_reasonNot_29 : decode cX2_reasonNot 29 = .ok (.if_icmp .eq 5, 3) := dk_159 0 5 (dk_at dksX2_reasonNot_1 5 rfl rfl)
theorem dX2_reasonNot_32 : decode cX2_reasonNot 32 = .ok (.iconst 3, 1) := dk_6 (dk_at dksX2_reasonNot_1 8 rfl rfl)
theorem dX2_reasonNot_33 : decode cX2_reasonNot 33 = .ok (.ireturn, 1) := dk_172 (dk_at dksX2_reasonNot_1 9 rfl rfl)
theorem dX2_reasonNot_34 : decode cX2_reasonNot 34 = .ok (.iload_n 3, 1) := dk_29 (dk_at dksX2_reasonNot_1 10 rfl rfl)
theorem dX2_reasonNot_35 : decode cX2_reasonNot 35 = .ok (.ifCond .eq 7, 3) := dk_153 0 7 (dk_at dksX2_reasonNot_1 11 rfl rfl)
theorem dX2_reasonNot_38 : decode cX2_reasonNot 38 = .ok (.iconst 4, 1) := dk_7 (dk_at dksX2_reasonNot_1 14 rfl rfl)
theorem dX2_reasonNot_39 : decode cX2_reasonNot 39 = .ok (.goto 4, 3) := dk_167 0 4 (dk_at dksX2_reasonNot_1 15 rfl rfl)
theorem dX2_reasonNot_42 : decode cX2_reasonNot 42 = .ok (.iconst 0, 1) := dk_3 (dk_at dksX2_reasonNot_1 18 rfl rfl)
theorem dX2_reasonNot_43 : decode cX2_reasonNot 43 = .ok (.ireturn, 1) := dk_172 (dk_at dksX2_reasonNot_1 19 rfl rfl)
abbrev cX2_needFree : ByteArray := prog_9_method_8_code
def yX2_needFree : MethodName := ⟨RX2, "needFree", "(IIZ)V"⟩
def dkwX2_needFree_1 : List UInt8 := [177]
abbrev dktX2_needFree_1 : List UInt8 := dkwX2_needFree_1 ++ []
def dkwX2_needFree_0 : List UInt8 := [42, 27, 28, 29, 182, 0, 58, 54, 4, 21, 4, 153, 0, 13, 187, 0, 62, 89, 21, 4, 183, 0, 64, 191]
abbrev dktX2_needFree_0 : List UInt8 := dkwX2_needFree_0 ++ dktX2_needFree_1
theorem dksX2_needFree_0 : cX2_needFree.data.toList.drop 0 = dktX2_needFree_0 := by decide +kernel
theorem dksX2_needFree_1 : cX2_needFree.data.toList.drop 24 = dktX2_needFree_1 := dk_seg dksX2_needFree_0 24 rfl rfl
theorem dX2_needFree_0 : decode cX2_needFree 0 = .ok (.aload_n 0, 1) := dk_42 (dk_at dksX2_needFree_0 0 rfl rfl)
theorem dX2_needFree_1 : decode cX2_needFree 1 = .ok (.iload_n 1, 1) := dk_27 (dk_at dksX2_needFree_0 1 rfl rfl)
theorem dX2_needFree_2 : decode cX2_needFree 2 = .ok (.iload_n 2, 1) := dk_28 (dk_at dksX2_needFree_0 2 rfl rfl)
theorem dX2_needFree_3 : decode cX2_needFree 3 = .ok (.iload_n 3, 1) := dk_29 (dk_at dksX2_needFree_0 3 rfl rfl)
theorem dX2_needFree_4 : decode cX2_needFree 4 = .ok (.invokevirtual 58, 3) := dk_182 0 58 (dk_at dksX2_needFree_0 4 rfl rfl)
theorem dX2_needFree_7 : decode cX2_needFree 7 = .ok (.istore 4, 2) := dk_54 4 (dk_at dksX2_needFree_0 7 rfl rfl)
theorem dX2_needFree_9 : decode cX2_needFree 9 = .ok (.iload 4, 2) := dk_21 4 (dk_at dksX2_needFree_0 9 rfl rfl)
theorem dX2_needFree_11 : decode cX2_needFree 11 = .ok (.ifCond .eq 13, 3) := dk_153 0 13 (dk_at dksX2_needFree_0 11 rfl rfl)
theorem dX2_needFree_14 : decode cX2_needFree 14 = .ok (.new 62, 3) := dk_187 0 62 (dk_at dksX2_needFree_0 14 rfl rfl)
theorem dX2_needFree_17 : decode cX2_needFree 17 = .ok (.dup, 1) := dk_89 (dk_at dksX2_needFree_0 17 rfl rfl)
theorem dX2_needFree_18 : decode cX2_needFree 18 = .ok (.iload 4, 2) := dk_21 4 (dk_at dksX2_needFree_0 18 rfl rfl)
theorem dX2_needFree_20 : decode cX2_needFree 20 = .ok (.invokespecial 64, 3) := dk_183 0 64 (dk_at dksX2_needFree_0 20 rfl rfl)
theorem dX2_needFree_23 : decode cX2_needFree 23 = .ok (.athrow, 1) := dk_191 (dk_at dksX2_needFree_0 23 rfl rfl)
theorem dX2_needFree_24 : decode cX2_needFree 24 = .ok (.return_, 1) := dk_177 (dk_at dksX2_needFree_1 0 rfl rfl)
abbrev cX2_put : ByteArray := prog_9_method_6_code
def yX2_put : MethodName := ⟨RX2, "put", "(III)V"⟩
def dkwX2_put_0 : List UInt8 := [42, 180, 0, 17, 16, 20, 28, 104, 27, 96, 29, 145, 84, 177]
abbrev dktX2_put_0 : List UInt8 := dkwX2_put_0 ++ []
theorem dksX2_put_0 : cX2_put.data.toList.drop 0 = dktX2_put_0 := by decide +kernel
theorem dX2_put_0 : decode cX2_put 0 = .ok (.aload_n 0, 1) := dk_42 (dk_at dksX2_put_0 0 rfl rfl)
theorem dX2_put_1 : decode cX2_put 1 = .ok (.getfield 17, 3) := dk_180 0 17 (dk_at dksX2_put_0 1 rfl rfl)
theorem dX2_put_4 : decode cX2_put 4 = .ok (.bipush 20, 2) := dk_16 20 (dk_at dksX2_put_0 4 rfl rfl)
theorem dX2_put_6 : decode cX2_put 6 = .ok (.iload_n 2, 1) := dk_28 (dk_at dksX2_put_0 6 rfl rfl)
theorem dX2_put_7 : decode cX2_put 7 = .ok (.imul, 1) := dk_104 (dk_at dksX2_put_0 7 rfl rfl)
theorem dX2_put_8 : decode cX2_put 8 = .ok (.iload_n 1, 1) := dk_27 (dk_at dksX2_put_0 8 rfl rfl)
theorem dX2_put_9 : decode cX2_put 9 = .ok (.iadd, 1) := dk_96 (dk_at dksX2_put_0 9 rfl rfl)
theorem dX2_put_10 : decode cX2_put 10 = .ok (.iload_n 3, 1) := dk_29 (dk_at dksX2_put_0 10 rfl rfl)
theorem dX2_put_11 : decode cX2_put 11 = .ok (.i2b, 1) := dk_145 (dk_at dksX2_put_0 11 rfl rfl)
theorem dX2_put_12 : decode cX2_put 12 = .ok (.bastore, 1) := dk_84 (dk_at dksX2_put_0 12 rfl rfl)
theorem dX2_put_13 : decode cX2_put 13 = .ok (.return_, 1) := dk_177 (dk_at dksX2_put_0 13 rfl rfl)
abbrev cX2_add : ByteArray := prog_9_method_9_code
def yX2_add : MethodName := ⟨RX2, "add", "(LTrailMarkers$Post;)I"⟩
def dkwX2_add_2 : List UInt8 := [43, 180, 0, 67, 43, 180, 0, 70, 42, 180, 0, 35, 182, 0, 77, 42, 180, 0, 35, 4, 100, 172]
abbrev dktX2_add_2 : List UInt8 := dkwX2_add_2 ++ []
def dkwX2_add_1 : List UInt8 := [182, 0, 73, 42, 180, 0, 11, 42, 180, 0, 35, 43, 83, 42, 89, 180, 0, 35, 4, 96, 181, 0, 35, 42]
abbrev dktX2_add_1 : List UInt8 := dkwX2_add_1 ++ dktX2_add_2
def dkwX2_add_0 : List UInt8 := [42, 43, 180, 0, 67, 43, 180, 0, 70, 42, 180, 0, 35, 16, 24, 160, 0, 7, 4, 167, 0, 4, 3]
abbrev dktX2_add_0 : List UInt8 := dkwX2_add_0 ++ dktX2_add_1
theorem dksX2_add_0 : cX2_add.data.toList.drop 0 = dktX2_add_0 := by decide +kernel
theorem dksX2_add_1 : cX2_add.data.toList.drop 23 = dktX2_add_1 := dk_seg dksX2_add_0 23 rfl rfl
theorem dksX2_add_2 : cX2_add.data.toList.drop 47 = dktX2_add_2 := dk_seg dksX2_add_1 24 rfl rfl
theorem dX2_add_0 : decode cX2_add 0 = .ok (.aload_n 0, 1) := dk_42 (dk_at dksX2_add_0 0 rfl rfl)
theorem dX2_add_1 : decode cX2_add 1 = .ok (.aload_n 1, 1) := dk_43 (dk_at dksX2_add_0 1 rfl rfl)
theorem dX2_add_2 : decode cX2_add 2 = .ok (.getfield 67, 3) := dk_180 0 67 (dk_at dksX2_add_0 2 rfl rfl)
theorem dX2_add_5 : decode cX2_add 5 = .ok (.aload_n 1, 1) := dk_43 (dk_at dksX2_add_0 5 rfl rfl)
theorem dX2_add_6 : decode cX2_add 6 = .ok (.getfield 70, 3) := dk_180 0 70 (dk_at dksX2_add_0 6 rfl rfl)
theorem dX2_add_9 : decode cX2_add 9 = .ok (.aload_n 0, 1) := dk_42 (dk_at dksX2_add_0 9 rfl rfl)
theorem dX2_add_10 : decode cX2_add 10 = .ok (.getfield 35, 3) := dk_180 0 35 (dk_at dksX2_add_0 10 rfl rfl)
theorem dX2_add_13 : decode cX2_add 13 = .ok (.bipush 24, 2) := dk_16 24 (dk_at dksX2_add_0 13 rfl rfl)
theorem dX2_add_15 : decode cX2_add 15 = .ok (.if_icmp .ne 7, 3) := dk_160 0 7 (dk_at dksX2_add_0 15 rfl rfl)
theorem dX2_add_18 : decode cX2_add 18 = .ok (.iconst 1, 1) := dk_4 (dk_at dksX2_add_0 18 rfl rfl)
theorem dX2_add_19 : decode cX2_add 19 = .ok (.goto 4, 3) := dk_167 0 4 (dk_at dksX2_add_0 19 rfl rfl)
theorem dX2_add_22 : decode cX2_add 22 = .ok (.iconst 0, 1) := dk_3 (dk_at dksX2_add_0 22 rfl rfl)
theorem dX2_add_23 : decode cX2_add 23 = .ok (.invokevirtual 73, 3) := dk_182 0 73 (dk_at dksX2_add_1 0 rfl rfl)
theorem dX2_add_26 : decode cX2_add 26 = .ok (.aload_n 0, 1) := dk_42 (dk_at dksX2_add_1 3 rfl rfl)
theorem dX2_add_27 : decode cX2_add 27 = .ok (.getfield 11, 3) := dk_180 0 11 (dk_at dksX2_add_1 4 rfl rfl)
theorem dX2_add_30 : decode cX2_add 30 = .ok (.aload_n 0, 1) := dk_42 (dk_at dksX2_add_1 7 rfl rfl)
theorem dX2_add_31 : decode cX2_add 31 = .ok (.getfield 35, 3) := dk_180 0 35 (dk_at dksX2_add_1 8 rfl rfl)
theorem dX2_add_34 : decode cX2_add 34 = .ok (.aload_n 1, 1) := dk_43 (dk_at dksX2_add_1 11 rfl rfl)
theorem dX2_add_35 : decode cX2_add 35 = .ok (.aastore, 1) := dk_83 (dk_at dksX2_add_1 12 rfl rfl)
theorem dX2_add_36 : decode cX2_add 36 = .ok (.aload_n 0, 1) := dk_42 (dk_at dksX2_add_1 13 rfl rfl)
theorem dX2_add_37 : decode cX2_add 37 = .ok (.dup, 1) := dk_89 (dk_at dksX2_add_1 14 rfl rfl)
theorem dX2_add_38 : decode cX2_add 38 = .ok (.getfield 35, 3) := dk_180 0 35 (dk_at dksX2_add_1 15 rfl rfl)
theorem dX2_add_41 : decode cX2_add 41 = .ok (.iconst 1, 1) := dk_4 (dk_at dksX2_add_1 18 rfl rfl)
theorem dX2_add_42 : decode cX2_add 42 = .ok (.iadd, 1) := dk_96 (dk_at dksX2_add_1 19 rfl rfl)
theorem dX2_add_43 : decode cX2_add 43 = .ok (.putfield 35, 3) := dk_181 0 35 (dk_at dksX2_add_1 20 rfl rfl)
theorem dX2_add_46 : decode cX2_add 46 = .ok (.aload_n 0, 1) := dk_42 (dk_at dksX2_add_1 23 rfl rfl)
theorem dX2_add_47 : decode cX2_add 47 = .ok (.aload_n 1, 1) := dk_43 (dk_at dksX2_add_2 0 rfl rfl)
theorem dX2_add_48 : decode cX2_add 48 = .ok (.getfield 67, 3) := dk_180 0 67 (dk_at dksX2_add_2 1 rfl rfl)
theorem dX2_add_51 : decode cX2_add 51 = .ok (.aload_n 1, 1) := dk_43 (dk_at dksX2_add_2 4 rfl rfl)
theorem dX2_add_52 : decode cX2_add 52 = .ok (.getfield 70, 3) := dk_180 0 70 (dk_at dksX2_add_2 5 rfl rfl)
theorem dX2_add_55 : decode cX2_add 55 = .ok (.aload_n 0, 1) := dk_42 (dk_at dksX2_add_2 8 rfl rfl)
theorem dX2_add_56 : decode cX2_add 56 = .ok (.getfield 35, 3) := dk_180 0 35 (dk_at dksX2_add_2 9 rfl rfl)
theorem dX2_add_59 : decode cX2_add 59 = .ok (.invokevirtual 77, 3) := dk_182 0 77 (dk_at dksX2_add_2 12 rfl rfl)
theorem dX2_add_62 : decode cX2_add 62 = .ok (.aload_n 0, 1) := dk_42 (dk_at dksX2_add_2 15 rfl rfl)
theorem dX2_add_63 : decode cX2_add 63 = .ok (.getfield 35, 3) := dk_180 0 35 (dk_at dksX2_add_2 16 rfl rfl)
theorem dX2_add_66 : decode cX2_add 66 = .ok (.iconst 1, 1) := dk_4 (dk_at dksX2_add_2 19 rfl rfl)
theorem dX2_add_67 : decode cX2_add 67 = .ok (.isub, 1) := dk_100 (dk_at dksX2_add_2 20 rfl rfl)
theorem dX2_add_68 : decode cX2_add 68 = .ok (.ireturn, 1) := dk_172 (dk_at dksX2_add_2 21 rfl rfl)
abbrev cX3_init : ByteArray := prog_6_method_1_code
def yX3_init : MethodName := ⟨RX3, "<init>", "(IIIIZ)V"⟩
def dkwX3_init_1 : List UInt8 := [181, 0, 19, 42, 21, 5, 181, 0, 22, 177]
abbrev dktX3_init_1 : List UInt8 := dkwX3_init_1 ++ []
def dkwX3_init_0 : List UInt8 := [42, 183, 0, 1, 42, 27, 181, 0, 7, 42, 28, 181, 0, 13, 42, 29, 181, 0, 16, 42, 21, 4]
abbrev dktX3_init_0 : List UInt8 := dkwX3_init_0 ++ dktX3_init_1
theorem dksX3_init_0 : cX3_init.data.toList.drop 0 = dktX3_init_0 := by decide +kernel
theorem dksX3_init_1 : cX3_init.data.toList.drop 22 = dktX3_init_1 := dk_seg dksX3_init_0 22 rfl rfl
theorem dX3_init_0 : decode cX3_init 0 = .ok (.aload_n 0, 1) := dk_42 (dk_at dksX3_init_0 0 rfl rfl)
theorem dX3_init_1 : decode cX3_init 1 = .ok (.invokespecial 1, 3) := dk_183 0 1 (dk_at dksX3_init_0 1 rfl rfl)
theorem dX3_init_4 : decode cX3_init 4 = .ok (.aload_n 0, 1) := dk_42 (dk_at dksX3_init_0 4 rfl rfl)
theorem dX3_init_5 : decode cX3_init 5 = .ok (.iload_n 1, 1) := dk_27 (dk_at dksX3_init_0 5 rfl rfl)
theorem dX3_init_6 : decode cX3_init 6 = .ok (.putfield 7, 3) := dk_181 0 7 (dk_at dksX3_init_0 6 rfl rfl)
theorem dX3_init_9 : decode cX3_init 9 = .ok (.aload_n 0, 1) := dk_42 (dk_at dksX3_init_0 9 rfl rfl)
theorem dX3_init_10 : decode cX3_init 10 = .ok (.iload_n 2, 1) := dk_28 (dk_at dksX3_init_0 10 rfl rfl)
theorem dX3_init_11 : decode cX3_init 11 = .ok (.putfield 13, 3) := dk_181 0 13 (dk_at dksX3_init_0 11 rfl rfl)
theorem dX3_init_14 : decode cX3_init 14 = .ok (.aload_n 0, 1) := dk_42 (dk_at dksX3_init_0 14 rfl rfl)
theorem dX3_init_15 : decode cX3_init 15 = .ok (.iload_n 3, 1) := dk_29 (dk_at dksX3_init_0 15 rfl rfl)
theorem dX3_init_16 : decode cX3_init 16 = .ok (.putfield 16, 3) := dk_181 0 16 (dk_at dksX3_init_0 16 rfl rfl)
theorem dX3_init_19 : decode cX3_init 19 = .ok (.aload_n 0, 1) := dk_42 (dk_at dksX3_init_0 19 rfl rfl)
theorem dX3_init_20 : decode cX3_init 20 = .ok (.iload 4, 2) := dk_21 4 (dk_at dksX3_init_0 20 rfl rfl)
theorem dX3_init_22 : decode cX3_init 22 = .ok (.putfield 19, 3) := dk_181 0 19 (dk_at dksX3_init_1 0 rfl rfl)
theorem dX3_init_25 : decode cX3_init 25 = .ok (.aload_n 0, 1) := dk_42 (dk_at dksX3_init_1 3 rfl rfl)
theorem dX3_init_26 : decode cX3_init 26 = .ok (.iload 5, 2) := dk_21 5 (dk_at dksX3_init_1 4 rfl rfl)
theorem dX3_init_28 : decode cX3_init 28 = .ok (.putfield 22, 3) := dk_181 0 22 (dk_at dksX3_init_1 6 rfl rfl)
theorem dX3_init_31 : decode cX3_init 31 = .ok (.return_, 1) := dk_177 (dk_at dksX3_init_1 9 rfl rfl)
abbrev cX3_inState : ByteArray := prog_6_method_3_code
def yX3_inState : MethodName := ⟨RX3, "inState", "(Z)LTrailMarkers$Post;"⟩
def dkwX3_inState_1 : List UInt8 := [176]
abbrev dktX3_inState_1 : List UInt8 := dkwX3_inState_1 ++ []
def dkwX3_inState_0 : List UInt8 := [187, 0, 8, 89, 42, 180, 0, 7, 42, 180, 0, 13, 42, 180, 0, 16, 42, 180, 0, 19, 27, 183, 0, 26]
abbrev dktX3_inState_0 : List UInt8 := dkwX3_inState_0 ++ dktX3_inState_1
theorem dksX3_inState_0 : cX3_inState.data.toList.drop 0 = dktX3_inState_0 := by decide +kernel
theorem dksX3_inState_1 : cX3_inState.data.toList.drop 24 = dktX3_inState_1 := dk_seg dksX3_inState_0 24 rfl rfl
theorem dX3_inState_0 : decode cX3_inState 0 = .ok (.new 8, 3) := dk_187 0 8 (dk_at dksX3_inState_0 0 rfl rfl)
theorem dX3_inState_3 : decode cX3_inState 3 = .ok (.dup, 1) := dk_89 (dk_at dksX3_inState_0 3 rfl rfl)
theorem dX3_inState_4 : decode cX3_inState 4 = .ok (.aload_n 0, 1) := dk_42 (dk_at dksX3_inState_0 4 rfl rfl)
theorem dX3_inState_5 : decode cX3_inState 5 = .ok (.getfield 7, 3) := dk_180 0 7 (dk_at dksX3_inState_0 5 rfl rfl)
theorem dX3_inState_8 : decode cX3_inState 8 = .ok (.aload_n 0, 1) := dk_42 (dk_at dksX3_inState_0 8 rfl rfl)
theorem dX3_inState_9 : decode cX3_inState 9 = .ok (.getfield 13, 3) := dk_180 0 13 (dk_at dksX3_inState_0 9 rfl rfl)
theorem dX3_inState_12 : decode cX3_inState 12 = .ok (.aload_n 0, 1) := dk_42 (dk_at dksX3_inState_0 12 rfl rfl)
theorem dX3_inState_13 : decode cX3_inState 13 = .ok (.getfield 16, 3) := dk_180 0 16 (dk_at dksX3_inState_0 13 rfl rfl)
theorem dX3_inState_16 : decode cX3_inState 16 = .ok (.aload_n 0, 1) := dk_42 (dk_at dksX3_inState_0 16 rfl rfl)
theorem dX3_inState_17 : decode cX3_inState 17 = .ok (.getfield 19, 3) := dk_180 0 19 (dk_at dksX3_inState_0 17 rfl rfl)
theorem dX3_inState_20 : decode cX3_inState 20 = .ok (.iload_n 1, 1) := dk_27 (dk_at dksX3_inState_0 20 rfl rfl)
theorem dX3_inState_21 : decode cX3_inState 21 = .ok (.invokespecial 26, 3) := dk_183 0 26 (dk_at dksX3_inState_0 21 rfl rfl)
theorem dX3_inState_24 : decode cX3_inState 24 = .ok (.areturn, 1) := dk_176 (dk_at dksX3_inState_1 0 rfl rfl)
abbrev cX2_change : ByteArray := prog_9_method_13_code
def yX2_change : MethodName := ⟨RX2, "change", "(IZ)V"⟩
def dkwX2_change_1 : List UInt8 := [180, 0, 11, 27, 42, 180, 0, 11, 27, 50, 28, 182, 0, 85, 83, 177]
abbrev dktX2_change_1 : List UInt8 := dkwX2_change_1 ++ []
def dkwX2_change_0 : List UInt8 := [42, 180, 0, 11, 27, 50, 180, 0, 81, 28, 160, 0, 12, 187, 0, 62, 89, 8, 183, 0, 64, 191, 42]
abbrev dktX2_change_0 : List UInt8 := dkwX2_change_0 ++ dktX2_change_1
theorem dksX2_change_0 : cX2_change.data.toList.drop 0 = dktX2_change_0 := by decide +kernel
theorem dksX2_change_1 : cX2_change.data.toList.drop 23 = dktX2_change_1 := dk_seg dksX2_change_0 23 rfl rfl
theorem dX2_change_0 : decode cX2_change 0 = .ok (.aload_n 0, 1) := dk_42 (dk_at dksX2_change_0 0 rfl rfl)
theorem dX2_change_1 : decode cX2_change 1 = .ok (.getfield 11, 3) := dk_180 0 11 (dk_at dksX2_change_0 1 rfl rfl)
theorem dX2_change_4 : decode cX2_change 4 = .ok (.iload_n 1, 1) := dk_27 (dk_at dksX2_change_0 4 rfl rfl)
theorem dX2_change_5 : decode cX2_change 5 = .ok (.aaload, 1) := dk_50 (dk_at dksX2_change_0 5 rfl rfl)
theorem dX2_change_6 : decode cX2_change 6 = .ok (.getfield 81, 3) := dk_180 0 81 (dk_at dksX2_change_0 6 rfl rfl)
theorem dX2_change_9 : decode cX2_change 9 = .ok (.iload_n 2, 1) := dk_28 (dk_at dksX2_change_0 9 rfl rfl)
theorem dX2_change_10 : decode cX2_change 10 = .ok (.if_icmp .ne 12, 3) := dk_160 0 12 (dk_at dksX2_change_0 10 rfl rfl)
theorem dX2_change_13 : decode cX2_change 13 = .ok (.new 62, 3) := dk_187 0 62 (dk_at dksX2_change_0 13 rfl rfl)
theorem dX2_change_16 : decode cX2_change 16 = .ok (.dup, 1) := dk_89 (dk_at dksX2_change_0 16 rfl rfl)
theorem dX2_change_17 : decode cX2_change 17 = .ok (.iconst 5, 1) := dk_8 (dk_at dksX2_change_0 17 rfl rfl)
theorem dX2_change_18 : decode cX2_change 18 = .ok (.invokespecial 64, 3) := dk_183 0 64 (dk_at dksX2_change_0 18 rfl rfl)
theorem dX2_change_21 : decode cX2_change 21 = .ok (.athrow, 1) := dk_191 (dk_at dksX2_change_0 21 rfl rfl)
theorem dX2_change_22 : decode cX2_change 22 = .ok (.aload_n 0, 1) := dk_42 (dk_at dksX2_change_0 22 rfl rfl)
theorem dX2_change_23 : decode cX2_change 23 = .ok (.getfield 11, 3) := dk_180 0 11 (dk_at dksX2_change_1 0 rfl rfl)
theorem dX2_change_26 : decode cX2_change 26 = .ok (.iload_n 1, 1) := dk_27 (dk_at dksX2_change_1 3 rfl rfl)
theorem dX2_change_27 : decode cX2_change 27 = .ok (.aload_n 0, 1) := dk_42 (dk_at dksX2_change_1 4 rfl rfl)
theorem dX2_change_28 : decode cX2_change 28 = .ok (.getfield 11, 3) := dk_180 0 11 (dk_at dksX2_change_1 5 rfl rfl)
theorem dX2_change_31 : decode cX2_change 31 = .ok (.iload_n 1, 1) := dk_27 (dk_at dksX2_change_1 8 rfl rfl)
theorem dX2_change_32 : decode cX2_change 32 = .ok (.aaload, 1) := dk_50 (dk_at dksX2_change_1 9 rfl rfl)
theorem dX2_change_33 : decode cX2_change 33 = .ok (.iload_n 2, 1) := dk_28 (dk_at dksX2_change_1 10 rfl rfl)
theorem dX2_change_34 : decode cX2_change 34 = .ok (.invokevirtual 85, 3) := dk_182 0 85 (dk_at dksX2_change_1 11 rfl rfl)
theorem dX2_change_37 : decode cX2_change 37 = .ok (.aastore, 1) := dk_83 (dk_at dksX2_change_1 14 rfl rfl)
theorem dX2_change_38 : decode cX2_change 38 = .ok (.return_, 1) := dk_177 (dk_at dksX2_change_1 15 rfl rfl)
abbrev cX2_layBlock : ByteArray := prog_9_method_11_code
def yX2_layBlock : MethodName := ⟨RX2, "layBlock", "(II)V"⟩
def dkwX2_layBlock_1 : List UInt8 := [182, 0, 77, 42, 89, 180, 0, 44, 4, 96, 181, 0, 44, 177]
abbrev dktX2_layBlock_1 : List UInt8 := dkwX2_layBlock_1 ++ []
def dkwX2_layBlock_0 : List UInt8 := [42, 27, 28, 42, 180, 0, 44, 16, 20, 160, 0, 7, 4, 167, 0, 4, 3, 182, 0, 73, 42, 27, 28, 2]
abbrev dktX2_layBlock_0 : List UInt8 := dkwX2_layBlock_0 ++ dktX2_layBlock_1
theorem dksX2_layBlock_0 : cX2_layBlock.data.toList.drop 0 = dktX2_layBlock_0 := by decide +kernel
theorem dksX2_layBlock_1 : cX2_layBlock.data.toList.drop 24 = dktX2_layBlock_1 := dk_seg dksX2_layBlock_0 24 rfl rfl
theorem dX2_layBlock_0 : decode cX2_layBlock 0 = .ok (.aload_n 0, 1) := dk_42 (dk_at dksX2_layBlock_0 0 rfl rfl)
theorem dX2_layBlock_1 : decode cX2_layBlock 1 = .ok (.iload_n 1, 1) := dk_27 (dk_at dksX2_layBlock_0 1 rfl rfl)
theorem dX2_layBlock_2 : decode cX2_layBlock 2 = .ok (.iload_n 2, 1) := dk_28 (dk_at dksX2_layBlock_0 2 rfl rfl)
theorem dX2_layBlock_3 : decode cX2_layBlock 3 = .ok (.aload_n 0, 1) := dk_42 (dk_at dksX2_layBlock_0 3 rfl rfl)
theorem dX2_layBlock_4 : decode cX2_layBlock 4 = .ok (.getfield 44, 3) := dk_180 0 44 (dk_at dksX2_layBlock_0 4 rfl rfl)
theorem dX2_layBlock_7 : decode cX2_layBlock 7 = .ok (.bipush 20, 2) := dk_16 20 (dk_at dksX2_layBlock_0 7 rfl rfl)
theorem dX2_layBlock_9 : decode cX2_layBlock 9 = .ok (.if_icmp .ne 7, 3) := dk_160 0 7 (dk_at dksX2_layBlock_0 9 rfl rfl)
theorem dX2_layBlock_12 : decode cX2_layBlock 12 = .ok (.iconst 1, 1) := dk_4 (dk_at dksX2_layBlock_0 12 rfl rfl)
theorem dX2_layBlock_13 : decode cX2_layBlock 13 = .ok (.goto 4, 3) := dk_167 0 4 (dk_at dksX2_layBlock_0 13 rfl rfl)
theorem dX2_layBlock_16 : decode cX2_layBlock 16 = .ok (.iconst 0, 1) := dk_3 (dk_at dksX2_layBlock_0 16 rfl rfl)
theorem dX2_layBlock_17 : decode cX2_layBlock 17 = .ok (.invokevirtual 73, 3) := dk_182 0 73 (dk_at dksX2_layBlock_0 17 rfl rfl)
theorem dX2_layBlock_20 : decode cX2_layBlock 20 = .ok (.aload_n 0, 1) := dk_42 (dk_at dksX2_layBlock_0 20 rfl rfl)
theorem dX2_layBlock_21 : decode cX2_layBlock 21 = .ok (.iload_n 1, 1) := dk_27 (dk_at dksX2_layBlock_0 21 rfl rfl)
theorem dX2_layBlock_22 : decode cX2_layBlock 22 = .ok (.iload_n 2, 1) := dk_28 (dk_at dksX2_layBlock_0 22 rfl rfl)
theorem dX2_layBlock_23 : decode cX2_layBlock 23 = .ok (.iconst (-1), 1) := dk_2 (dk_at dksX2_layBlock_0 23 rfl rfl)
theorem dX2_layBlock_24 : decode cX2_layBlock 24 = .ok (.invokevirtual 77, 3) := dk_182 0 77 (dk_at dksX2_layBlock_1 0 rfl rfl)
theorem dX2_layBlock_27 : decode cX2_layBlock 27 = .ok (.aload_n 0, 1) := dk_42 (dk_at dksX2_layBlock_1 3 rfl rfl)
theorem dX2_layBlock_28 : decode cX2_layBlock 28 = .ok (.dup, 1) := dk_89 (dk_at dksX2_layBlock_1 4 rfl rfl)
theorem dX2_layBlock_29 : decode cX2_layBlock 29 = .ok (.getfield 44, 3) := dk_180 0 44 (dk_at dksX2_layBlock_1 5 rfl rfl)
theorem dX2_layBlock_32 : decode cX2_layBlock 32 = .ok (.iconst 1, 1) := dk_4 (dk_at dksX2_layBlock_1 8 rfl rfl)
theorem dX2_layBlock_33 : decode cX2_layBlock 33 = .ok (.iadd, 1) := dk_96 (dk_at dksX2_layBlock_1 9 rfl rfl)
theorem dX2_layBlock_34 : decode cX2_layBlock 34 = .ok (.putfield 44, 3) := dk_181 0 44 (dk_at dksX2_layBlock_1 10 rfl rfl)
theorem dX2_layBlock_37 : decode cX2_layBlock 37 = .ok (.return_, 1) := dk_177 (dk_at dksX2_layBlock_1 13 rfl rfl)
abbrev cX2_copy : ByteArray := prog_9_method_2_code
def yX2_copy : MethodName := ⟨RX2, "copy", "()LTrailMarkers$Trails;"⟩
def dkwX2_copy_3 : List UInt8 := [43, 42, 180, 0, 44, 181, 0, 44, 43, 176]
abbrev dktX2_copy_3 : List UInt8 := dkwX2_copy_3 ++ []
def dkwX2_copy_2 : List UInt8 := [180, 0, 35, 181, 0, 35, 42, 180, 0, 17, 3, 43, 180, 0, 17, 3, 42, 180, 0, 17, 190, 184, 0, 38]
abbrev dktX2_copy_2 : List UInt8 := dkwX2_copy_2 ++ dktX2_copy_3
def dkwX2_copy_1 : List UInt8 := [183, 0, 32, 76, 42, 180, 0, 11, 3, 43, 180, 0, 11, 3, 42, 180, 0, 35, 184, 0, 38, 43, 42]
abbrev dktX2_copy_1 : List UInt8 := dkwX2_copy_1 ++ dktX2_copy_2
def dkwX2_copy_0 : List UInt8 := [187, 0, 12, 89, 42, 180, 0, 25, 42, 180, 0, 29, 42, 180, 0, 21, 3, 46, 42, 180, 0, 21, 4, 46]
abbrev dktX2_copy_0 : List UInt8 := dkwX2_copy_0 ++ dktX2_copy_1
theorem dksX2_copy_0 : cX2_copy.data.toList.drop 0 = dktX2_copy_0 := by decide +kernel
theorem dksX2_copy_1 : cX2_copy.data.toList.drop 24 = dktX2_copy_1 := dk_seg dksX2_copy_0 24 rfl rfl
theorem dksX2_copy_2 : cX2_copy.data.toList.drop 47 = dktX2_copy_2 := dk_seg dksX2_copy_1 23 rfl rfl
theorem dksX2_copy_3 : cX2_copy.data.toList.drop 71 = dktX2_copy_3 := dk_seg dksX2_copy_2 24 rfl rfl
theorem dX2_copy_0 : decode cX2_copy 0 = .ok (.new 12, 3) := dk_187 0 12 (dk_at dksX2_copy_0 0 rfl rfl)
theorem dX2_copy_3 : decode cX2_copy 3 = .ok (.dup, 1) := dk_89 (dk_at dksX2_copy_0 3 rfl rfl)
theorem dX2_copy_4 : decode cX2_copy 4 = .ok (.aload_n 0, 1) := dk_42 (dk_at dksX2_copy_0 4 rfl rfl)
theorem dX2_copy_5 : decode cX2_copy 5 = .ok (.getfield 25, 3) := dk_180 0 25 (dk_at dksX2_copy_0 5 rfl rfl)
theorem dX2_copy_8 : decode cX2_copy 8 = .ok (.aload_n 0, 1) := dk_42 (dk_at dksX2_copy_0 8 rfl rfl)
theorem dX2_copy_9 : decode cX2_copy 9 = .ok (.getfield 29, 3) := dk_180 0 29 (dk_at dksX2_copy_0 9 rfl rfl)
theorem dX2_copy_12 : decode cX2_copy 12 = .ok (.aload_n 0, 1) := dk_42 (dk_at dksX2_copy_0 12 rfl rfl)
theorem dX2_copy_13 : decode cX2_copy 13 = .ok (.getfield 21, 3) := dk_180 0 21 (dk_at dksX2_copy_0 13 rfl rfl)
theorem dX2_copy_16 : decode cX2_copy 16 = .ok (.iconst 0, 1) := dk_3 (dk_at dksX2_copy_0 16 rfl rfl)
theorem dX2_copy_17 : decode cX2_copy 17 = .ok (.iaload, 1) := dk_46 (dk_at dksX2_copy_0 17 rfl rfl)
theorem dX2_copy_18 : decode cX2_copy 18 = .ok (.aload_n 0, 1) := dk_42 (dk_at dksX2_copy_0 18 rfl rfl)
theorem dX2_copy_19 : decode cX2_copy 19 = .ok (.getfield 21, 3) := dk_180 0 21 (dk_at dksX2_copy_0 19 rfl rfl)
theorem dX2_copy_22 : decode cX2_copy 22 = .ok (.iconst 1, 1) := dk_4 (dk_at dksX2_copy_0 22 rfl rfl)
theorem dX2_copy_23 : decode cX2_copy 23 = .ok (.iaload, 1) := dk_46 (dk_at dksX2_copy_0 23 rfl rfl)
theorem dX2_copy_24 : decode cX2_copy 24 = .ok (.invokespecial 32, 3) := dk_183 0 32 (dk_at dksX2_copy_1 0 rfl rfl)
theorem dX2_copy_27 : decode cX2_copy 27 = .ok (.astore_n 1, 1) := dk_76 (dk_at dksX2_copy_1 3 rfl rfl)
theorem dX2_copy_28 : decode cX2_copy 28 = .ok (.aload_n 0, 1) := dk_42 (dk_at dksX2_copy_1 4 rfl rfl)
theorem dX2_copy_29 : decode cX2_copy 29 = .ok (.getfield 11, 3) := dk_180 0 11 (dk_at dksX2_copy_1 5 rfl rfl)
theorem dX2_copy_32 : decode cX2_copy 32 = .ok (.iconst 0, 1) := dk_3 (dk_at dksX2_copy_1 8 rfl rfl)
theorem dX2_copy_33 : decode cX2_copy 33 = .ok (.aload_n 1, 1) := dk_43 (dk_at dksX2_copy_1 9 rfl rfl)
theorem dX2_copy_34 : decode cX2_copy 34 = .ok (.getfield 11, 3) := dk_180 0 11 (dk_at dksX2_copy_1 10 rfl rfl)
theorem dX2_copy_37 : decode cX2_copy 37 = .ok (.iconst 0, 1) := dk_3 (dk_at dksX2_copy_1 13 rfl rfl)
theorem dX2_copy_38 : decode cX2_copy 38 = .ok (.aload_n 0, 1) := dk_42 (dk_at dksX2_copy_1 14 rfl rfl)
theorem dX2_copy_39 : decode cX2_copy 39 = .ok (.getfield 35, 3) := dk_180 0 35 (dk_at dksX2_copy_1 15 rfl rfl)
theorem dX2_copy_42 : decode cX2_copy 42 = .ok (.invokestatic 38, 3) := dk_184 0 38 (dk_at dksX2_copy_1 18 rfl rfl)
theorem dX2_copy_45 : decode cX2_copy 45 = .ok (.aload_n 1, 1) := dk_43 (dk_at dksX2_copy_1 21 rfl rfl)
theorem dX2_copy_46 : decode cX2_copy 46 = .ok (.aload_n 0, 1) := dk_42 (dk_at dksX2_copy_1 22 rfl rfl)
theorem dX2_copy_47 : decode cX2_copy 47 = .ok (.getfield 35, 3) := dk_180 0 35 (dk_at dksX2_copy_2 0 rfl rfl)
theorem dX2_copy_50 : decode cX2_copy 50 = .ok (.putfield 35, 3) := dk_181 0 35 (dk_at dksX2_copy_2 3 rfl rfl)
theorem dX2_copy_53 : decode cX2_copy 53 = .ok (.aload_n 0, 1) := dk_42 (dk_at dksX2_copy_2 6 rfl rfl)
theorem dX2_copy_54 : decode cX2_copy 54 = .ok (.getfield 17, 3) := dk_180 0 17 (dk_at dksX2_copy_2 7 rfl rfl)
theorem dX2_copy_57 : decode cX2_copy 57 = .ok (.iconst 0, 1) := dk_3 (dk_at dksX2_copy_2 10 rfl rfl)
theorem dX2_copy_58 : decode cX2_copy 58 = .ok (.aload_n 1, 1) := dk_43 (dk_at dksX2_copy_2 11 rfl rfl)
theorem dX2_copy_59 : decode cX2_copy 59 = .ok (.getfield 17, 3) := dk_180 0 17 (dk_at dksX2_copy_2 12 rfl rfl)
theorem dX2_copy_62 : decode cX2_copy 62 = .ok (.iconst 0, 1) := dk_3 (dk_at dksX2_copy_2 15 rfl rfl)
theorem dX2_copy_63 : decode cX2_copy 63 = .ok (.aload_n 0, 1) := dk_42 (dk_at dksX2_copy_2 16 rfl rfl)
theorem dX2_copy_64 : decode cX2_copy 64 = .ok (.getfield 17, 3) := dk_180 0 17 (dk_at dksX2_copy_2 17 rfl rfl)
theorem dX2_copy_67 : decode cX2_copy 67 = .ok (.arraylength, 1) := dk_190 (dk_at dksX2_copy_2 20 rfl rfl)
theorem dX2_copy_68 : decode cX2_copy 68 = .ok (.invokestatic 38, 3) := dk_184 0 38 (dk_at dksX2_copy_2 21 rfl rfl)
theorem dX2_copy_71 : decode cX2_copy 71 = .ok (.aload_n 1, 1) := dk_43 (dk_at dksX2_copy_3 0 rfl rfl)
theorem dX2_copy_72 : decode cX2_copy 72 = .ok (.aload_n 0, 1) := dk_42 (dk_at dksX2_copy_3 1 rfl rfl)
theorem dX2_copy_73 : decode cX2_copy 73 = .ok (.getfield 44, 3) := dk_180 0 44 (dk_at dksX2_copy_3 2 rfl rfl)
theorem dX2_copy_76 : decode cX2_copy 76 = .ok (.putfield 44, 3) := dk_181 0 44 (dk_at dksX2_copy_3 5 rfl rfl)
theorem dX2_copy_79 : decode cX2_copy 79 = .ok (.aload_n 1, 1) := dk_43 (dk_at dksX2_copy_3 8 rfl rfl)
theorem dX2_copy_80 : decode cX2_copy 80 = .ok (.areturn, 1) := dk_176 (dk_at dksX2_copy_3 9 rfl rfl)
abbrev cX2_standing : ByteArray := prog_9_method_14_code
def yX2_standing : MethodName := ⟨RX2, "standing", "(I)I"⟩
def dkwX2_standing_1 : List UInt8 := [153, 0, 6, 132, 2, 1, 132, 3, 1, 167, 255, 229, 28, 172]
abbrev dktX2_standing_1 : List UInt8 := dkwX2_standing_1 ++ []
def dkwX2_standing_0 : List UInt8 := [3, 61, 3, 62, 29, 42, 180, 0, 35, 162, 0, 25, 42, 180, 0, 11, 29, 50, 27, 182, 0, 89]
abbrev dktX2_standing_0 : List UInt8 := dkwX2_standing_0 ++ dktX2_standing_1
theorem dksX2_standing_0 : cX2_standing.data.toList.drop 0 = dktX2_standing_0 := by decide +kernel
theorem dksX2_standing_1 : cX2_standing.data.toList.drop 22 = dktX2_standing_1 := dk_seg dksX2_standing_0 22 rfl rfl
theorem dX2_standing_0 : decode cX2_standing 0 = .ok (.iconst 0, 1) := dk_3 (dk_at dksX2_standing_0 0 rfl rfl)
theorem dX2_standing_1 : decode cX2_standing 1 = .ok (.istore_n 2, 1) := dk_61 (dk_at dksX2_standing_0 1 rfl rfl)
theorem dX2_standing_2 : decode cX2_standing 2 = .ok (.iconst 0, 1) := dk_3 (dk_at dksX2_standing_0 2 rfl rfl)
theorem dX2_standing_3 : decode cX2_standing 3 = .ok (.istore_n 3, 1) := dk_62 (dk_at dksX2_standing_0 3 rfl rfl)
theorem dX2_standing_4 : decode cX2_standing 4 = .ok (.iload_n 3, 1) := dk_29 (dk_at dksX2_standing_0 4 rfl rfl)
theorem dX2_standing_5 : decode cX2_standing 5 = .ok (.aload_n 0, 1) := dk_42 (dk_at dksX2_standing_0 5 rfl rfl)
theorem dX2_standing_6 : decode cX2_standing 6 = .ok (.getfield 35, 3) := dk_180 0 35 (dk_at dksX2_standing_0 6 rfl rfl)
theorem dX2_standing_9 : decode cX2_standing 9 = .ok (.if_icmp .ge 25, 3) := dk_162 0 25 (dk_at dksX2_standing_0 9 rfl rfl)
theorem dX2_standing_12 : decode cX2_standing 12 = .ok (.aload_n 0, 1) := dk_42 (dk_at dksX2_standing_0 12 rfl rfl)
theorem dX2_standing_13 : decode cX2_standing 13 = .ok (.getfield 11, 3) := dk_180 0 11 (dk_at dksX2_standing_0 13 rfl rfl)
theorem dX2_standing_16 : decode cX2_standing 16 = .ok (.iload_n 3, 1) := dk_29 (dk_at dksX2_standing_0 16 rfl rfl)
theorem dX2_standing_17 : decode cX2_standing 17 = .ok (.aaload, 1) := dk_50 (dk_at dksX2_standing_0 17 rfl rfl)
theorem dX2_standing_18 : decode cX2_standing 18 = .ok (.iload_n 1, 1) := dk_27 (dk_at dksX2_standing_0 18 rfl rfl)
theorem dX2_standing_19 : decode cX2_standing 19 = .ok (.invokevirtual 89, 3) := dk_182 0 89 (dk_at dksX2_standing_0 19 rfl rfl)
theorem dX2_standing_22 : decode cX2_standing 22 = .ok (.ifCond .eq 6, 3) := dk_153 0 6 (dk_at dksX2_standing_1 0 rfl rfl)
theorem dX2_standing_25 : decode cX2_standing 25 = .ok (.iinc 2 1, 3) := dk_132 2 1 (dk_at dksX2_standing_1 3 rfl rfl)
theorem dX2_standing_28 : decode cX2_standing 28 = .ok (.iinc 3 1, 3) := dk_132 3 1 (dk_at dksX2_standing_1 6 rfl rfl)
theorem dX2_standing_31 : decode cX2_standing 31 = .ok (.goto (-27), 3) := dk_167 255 229 (dk_at dksX2_standing_1 9 rfl rfl)
theorem dX2_standing_34 : decode cX2_standing 34 = .ok (.iload_n 2, 1) := dk_28 (dk_at dksX2_standing_1 12 rfl rfl)
theorem dX2_standing_35 : decode cX2_standing 35 = .ok (.ireturn, 1) := dk_172 (dk_at dksX2_standing_1 13 rfl rfl)
abbrev cX2_begin : ByteArray := prog_9_method_15_code
def yX2_begin : MethodName := ⟨RX2, "begin", "(I)I"⟩
def dkwX2_begin_1 : List UInt8 := [172, 132, 2, 1, 167, 255, 230, 2, 172]
abbrev dktX2_begin_1 : List UInt8 := dkwX2_begin_1 ++ []
def dkwX2_begin_0 : List UInt8 := [3, 61, 28, 42, 180, 0, 35, 162, 0, 24, 42, 180, 0, 11, 28, 50, 27, 182, 0, 89, 153, 0, 5, 28]
abbrev dktX2_begin_0 : List UInt8 := dkwX2_begin_0 ++ dktX2_begin_1
theorem dksX2_begin_0 : cX2_begin.data.toList.drop 0 = dktX2_begin_0 := by decide +kernel
theorem dksX2_begin_1 : cX2_begin.data.toList.drop 24 = dktX2_begin_1 := dk_seg dksX2_begin_0 24 rfl rfl
theorem dX2_begin_0 : decode cX2_begin 0 = .ok (.iconst 0, 1) := dk_3 (dk_at dksX2_begin_0 0 rfl rfl)
theorem dX2_begin_1 : decode cX2_begin 1 = .ok (.istore_n 2, 1) := dk_61 (dk_at dksX2_begin_0 1 rfl rfl)
theorem dX2_begin_2 : decode cX2_begin 2 = .ok (.iload_n 2, 1) := dk_28 (dk_at dksX2_begin_0 2 rfl rfl)
theorem dX2_begin_3 : decode cX2_begin 3 = .ok (.aload_n 0, 1) := dk_42 (dk_at dksX2_begin_0 3 rfl rfl)
theorem dX2_begin_4 : decode cX2_begin 4 = .ok (.getfield 35, 3) := dk_180 0 35 (dk_at dksX2_begin_0 4 rfl rfl)
theorem dX2_begin_7 : decode cX2_begin 7 = .ok (.if_icmp .ge 24, 3) := dk_162 0 24 (dk_at dksX2_begin_0 7 rfl rfl)
theorem dX2_begin_10 : decode cX2_begin 10 = .ok (.aload_n 0, 1) := dk_42 (dk_at dksX2_begin_0 10 rfl rfl)
theorem dX2_begin_11 : decode cX2_begin 11 = .ok (.getfield 11, 3) := dk_180 0 11 (dk_at dksX2_begin_0 11 rfl rfl)
theorem dX2_begin_14 : decode cX2_begin 14 = .ok (.iload_n 2, 1) := dk_28 (dk_at dksX2_begin_0 14 rfl rfl)
theorem dX2_begin_15 : decode cX2_begin 15 = .ok (.aaload, 1) := dk_50 (dk_at dksX2_begin_0 15 rfl rfl)
theorem dX2_begin_16 : decode cX2_begin 16 = .ok (.iload_n 1, 1) := dk_27 (dk_at dksX2_begin_0 16 rfl rfl)
theorem dX2_begin_17 : decode cX2_begin 17 = .ok (.invokevirtual 89, 3) := dk_182 0 89 (dk_at dksX2_begin_0 17 rfl rfl)
theorem dX2_begin_20 : decode cX2_begin 20 = .ok (.ifCond .eq 5, 3) := dk_153 0 5 (dk_at dksX2_begin_0 20 rfl rfl)
theorem dX2_begin_23 : decode cX2_begin 23 = .ok (.iload_n 2, 1) := dk_28 (dk_at dksX2_begin_0 23 rfl rfl)
theorem dX2_begin_24 : decode cX2_begin 24 = .ok (.ireturn, 1) := dk_172 (dk_at dksX2_begin_1 0 rfl rfl)
theorem dX2_begin_25 : decode cX2_begin 25 = .ok (.iinc 2 1, 3) := dk_132 2 1 (dk_at dksX2_begin_1 1 rfl rfl)
theorem dX2_begin_28 : decode cX2_begin 28 = .ok (.goto (-26), 3) := dk_167 255 230 (dk_at dksX2_begin_1 4 rfl rfl)
theorem dX2_begin_31 : decode cX2_begin 31 = .ok (.iconst (-1), 1) := dk_2 (dk_at dksX2_begin_1 7 rfl rfl)
theorem dX2_begin_32 : decode cX2_begin 32 = .ok (.ireturn, 1) := dk_172 (dk_at dksX2_begin_1 8 rfl rfl)
abbrev cX2_drop : ByteArray := prog_9_method_10_code
def yX2_drop : MethodName := ⟨RX2, "drop", "(I)V"⟩
def dkwX2_drop_3 : List UInt8 := [50, 180, 0, 70, 28, 4, 96, 182, 0, 77, 132, 2, 1, 167, 255, 206, 177]
abbrev dktX2_drop_3 : List UInt8 := dkwX2_drop_3 ++ []
def dkwX2_drop_2 : List UInt8 := [42, 180, 0, 11, 28, 4, 96, 50, 83, 42, 42, 180, 0, 11, 28, 50, 180, 0, 67, 42, 180, 0, 11, 28]
abbrev dktX2_drop_2 : List UInt8 := dkwX2_drop_2 ++ dktX2_drop_3
def dkwX2_drop_1 : List UInt8 := [89, 180, 0, 35, 4, 100, 181, 0, 35, 27, 61, 28, 42, 180, 0, 35, 162, 0, 48, 42, 180, 0, 11, 28]
abbrev dktX2_drop_1 : List UInt8 := dkwX2_drop_1 ++ dktX2_drop_2
def dkwX2_drop_0 : List UInt8 := [42, 42, 180, 0, 11, 27, 50, 180, 0, 67, 42, 180, 0, 11, 27, 50, 180, 0, 70, 3, 182, 0, 77, 42]
abbrev dktX2_drop_0 : List UInt8 := dkwX2_drop_0 ++ dktX2_drop_1
theorem dksX2_drop_0 : cX2_drop.data.toList.drop 0 = dktX2_drop_0 := by decide +kernel
theorem dksX2_drop_1 : cX2_drop.data.toList.drop 24 = dktX2_drop_1 := dk_seg dksX2_drop_0 24 rfl rfl
theorem dksX2_drop_2 : cX2_drop.data.toList.drop 48 = dktX2_drop_2 := dk_seg dksX2_drop_1 24 rfl rfl
theorem dksX2_drop_3 : cX2_drop.data.toList.drop 72 = dktX2_drop_3 := dk_seg dksX2_drop_2 24 rfl rfl
theorem dX2_drop_0 : decode cX2_drop 0 = .ok (.aload_n 0, 1) := dk_42 (dk_at dksX2_drop_0 0 rfl rfl)
theorem dX2_drop_1 : decode cX2_drop 1 = .ok (.aload_n 0, 1) := dk_42 (dk_at dksX2_drop_0 1 rfl rfl)
theorem dX2_drop_2 : decode cX2_drop 2 = .ok (.getfield 11, 3) := dk_180 0 11 (dk_at dksX2_drop_0 2 rfl rfl)
theorem dX2_drop_5 : decode cX2_drop 5 = .ok (.iload_n 1, 1) := dk_27 (dk_at dksX2_drop_0 5 rfl rfl)
theorem dX2_drop_6 : decode cX2_drop 6 = .ok (.aaload, 1) := dk_50 (dk_at dksX2_drop_0 6 rfl rfl)
theorem dX2_drop_7 : decode cX2_drop 7 = .ok (.getfield 67, 3) := dk_180 0 67 (dk_at dksX2_drop_0 7 rfl rfl)
theorem dX2_drop_10 : decode cX2_drop 10 = .ok (.aload_n 0, 1) := dk_42 (dk_at dksX2_drop_0 10 rfl rfl)
theorem dX2_drop_11 : decode cX2_drop 11 = .ok (.getfield 11, 3) := dk_180 0 11 (dk_at dksX2_drop_0 11 rfl rfl)
theorem dX2_drop_14 : decode cX2_drop 14 = .ok (.iload_n 1, 1) := dk_27 (dk_at dksX2_drop_0 14 rfl rfl)
theorem dX2_drop_15 : decode cX2_drop 15 = .ok (.aaload, 1) := dk_50 (dk_at dksX2_drop_0 15 rfl rfl)
theorem dX2_drop_16 : decode cX2_drop 16 = .ok (.getfield 70, 3) := dk_180 0 70 (dk_at dksX2_drop_0 16 rfl rfl)
theorem dX2_drop_19 : decode cX2_drop 19 = .ok (.iconst 0, 1) := dk_3 (dk_at dksX2_drop_0 19 rfl rfl)
theorem dX2_drop_20 : decode cX2_drop 20 = .ok (.invokevirtual 77, 3) := dk_182 0 77 (dk_at dksX2_drop_0 20 rfl rfl)
theorem dX2_drop_23 : decode cX2_drop 23 = .ok (.aload_n 0, 1) := dk_42 (dk_at dksX2_drop_0 23 rfl rfl)
theorem dX2_drop_24 : decode cX2_drop 24 = .ok (.dup, 1) := dk_89 (dk_at dksX2_drop_1 0 rfl rfl)
theorem dX2_drop_25 : decode cX2_drop 25 = .ok (.getfield 35, 3) := dk_180 0 35 (dk_at dksX2_drop_1 1 rfl rfl)
theorem dX2_drop_28 : decode cX2_drop 28 = .ok (.iconst 1, 1) := dk_4 (dk_at dksX2_drop_1 4 rfl rfl)
theorem dX2_drop_29 : decode cX2_drop 29 = .ok (.isub, 1) := dk_100 (dk_at dksX2_drop_1 5 rfl rfl)
theorem dX2_drop_30 : decode cX2_drop 30 = .ok (.putfield 35, 3) := dk_181 0 35 (dk_at dksX2_drop_1 6 rfl rfl)
theorem dX2_drop_33 : decode cX2_drop 33 = .ok (.iload_n 1, 1) := dk_27 (dk_at dksX2_drop_1 9 rfl rfl)
theorem dX2_drop_34 : decode cX2_drop 34 = .ok (.istore_n 2, 1) := dk_61 (dk_at dksX2_drop_1 10 rfl rfl)
theorem dX2_drop_35 : decode cX2_drop 35 = .ok (.iload_n 2, 1) := dk_28 (dk_at dksX2_drop_1 11 rfl rfl)
theorem dX2_drop_36 : decode cX2_drop 36 = .ok (.aload_n 0, 1) := dk_42 (dk_at dksX2_drop_1 12 rfl rfl)
theorem dX2_drop_37 : decode cX2_drop 37 = .ok (.getfield 35, 3) := dk_180 0 35 (dk_at dksX2_drop_1 13 rfl rfl)
theorem dX2_drop_40 : decode cX2_drop 40 = .ok (.if_icmp .ge 48, 3) := dk_162 0 48 (dk_at dksX2_drop_1 16 rfl rfl)
theorem dX2_drop_43 : decode cX2_drop 43 = .ok (.aload_n 0, 1) := dk_42 (dk_at dksX2_drop_1 19 rfl rfl)
theorem dX2_drop_44 : decode cX2_drop 44 = .ok (.getfield 11, 3) := dk_180 0 11 (dk_at dksX2_drop_1 20 rfl rfl)
theorem dX2_drop_47 : decode cX2_drop 47 = .ok (.iload_n 2, 1) := dk_28 (dk_at dksX2_drop_1 23 rfl rfl)
theorem dX2_drop_48 : decode cX2_drop 48 = .ok (.aload_n 0, 1) := dk_42 (dk_at dksX2_drop_2 0 rfl rfl)
theorem dX2_drop_49 : decode cX2_drop 49 = .ok (.getfield 11, 3) := dk_180 0 11 (dk_at dksX2_drop_2 1 rfl rfl)
theorem dX2_drop_52 : decode cX2_drop 52 = .ok (.iload_n 2, 1) := dk_28 (dk_at dksX2_drop_2 4 rfl rfl)
theorem dX2_drop_53 : decode cX2_drop 53 = .ok (.iconst 1, 1) := dk_4 (dk_at dksX2_drop_2 5 rfl rfl)
theorem dX2_drop_54 : decode cX2_drop 54 = .ok (.iadd, 1) := dk_96 (dk_at dksX2_drop_2 6 rfl rfl)
theorem dX2_drop_55 : decode cX2_drop 55 = .ok (.aaload, 1) := dk_50 (dk_at dksX2_drop_2 7 rfl rfl)
theorem dX2_drop_56 : decode cX2_drop 56 = .ok (.aastore, 1) := dk_83 (dk_at dksX2_drop_2 8 rfl rfl)
theorem dX2_drop_57 : decode cX2_drop 57 = .ok (.aload_n 0, 1) := dk_42 (dk_at dksX2_drop_2 9 rfl rfl)
theorem dX2_drop_58 : decode cX2_drop 58 = .ok (.aload_n 0, 1) := dk_42 (dk_at dksX2_drop_2 10 rfl rfl)
theorem dX2_drop_59 : decode cX2_drop 59 = .ok (.getfield 11, 3) := dk_180 0 11 (dk_at dksX2_drop_2 11 rfl rfl)
theorem dX2_drop_62 : decode cX2_drop 62 = .ok (.iload_n 2, 1) := dk_28 (dk_at dksX2_drop_2 14 rfl rfl)
theorem dX2_drop_63 : decode cX2_drop 63 = .ok (.aaload, 1) := dk_50 (dk_at dksX2_drop_2 15 rfl rfl)
theorem dX2_drop_64 : decode cX2_drop 64 = .ok (.getfield 67, 3) := dk_180 0 67 (dk_at dksX2_drop_2 16 rfl rfl)
theorem dX2_drop_67 : decode cX2_drop 67 = .ok (.aload_n 0, 1) := dk_42 (dk_at dksX2_drop_2 19 rfl rfl)
theorem dX2_drop_68 : decode cX2_drop 68 = .ok (.getfield 11, 3) := dk_180 0 11 (dk_at dksX2_drop_2 20 rfl rfl)
theorem dX2_drop_71 : decode cX2_drop 71 = .ok (.iload_n 2, 1) := dk_28 (dk_at dksX2_drop_2 23 rfl rfl)
theorem dX2_drop_72 : decode cX2_drop 72 = .ok (.aaload, 1) := dk_50 (dk_at dksX2_drop_3 0 rfl rfl)
theorem dX2_drop_73 : decode cX2_drop 73 = .ok (.getfield 70, 3) := dk_180 0 70 (dk_at dksX2_drop_3 1 rfl rfl)
theorem dX2_drop_76 : decode cX2_drop 76 = .ok (.iload_n 2, 1) := dk_28 (dk_at dksX2_drop_3 4 rfl rfl)
theorem dX2_drop_77 : decode cX2_drop 77 = .ok (.iconst 1, 1) := dk_4 (dk_at dksX2_drop_3 5 rfl rfl)
theorem dX2_drop_78 : decode cX2_drop 78 = .ok (.iadd, 1) := dk_96 (dk_at dksX2_drop_3 6 rfl rfl)
theorem dX2_drop_79 : decode cX2_drop 79 = .ok (.invokevirtual 77, 3) := dk_182 0 77 (dk_at dksX2_drop_3 7 rfl rfl)
theorem dX2_drop_82 : decode cX2_drop 82 = .ok (.iinc 2 1, 3) := dk_132 2 1 (dk_at dksX2_drop_3 10 rfl rfl)
theorem dX2_drop_85 : decode cX2_drop 85 = .ok (.goto (-50), 3) := dk_167 255 206 (dk_at dksX2_drop_3 13 rfl rfl)
theorem dX2_drop_88 : decode cX2_drop 88 = .ok (.return_, 1) := dk_177 (dk_at dksX2_drop_3 16 rfl rfl)
abbrev cX2_takeBlock : ByteArray := prog_9_method_12_code
def yX2_takeBlock : MethodName := ⟨RX2, "takeBlock", "(II)V"⟩
def dkwX2_takeBlock_0 : List UInt8 := [42, 27, 28, 3, 182, 0, 77, 42, 89, 180, 0, 44, 4, 100, 181, 0, 44, 177]
abbrev dktX2_takeBlock_0 : List UInt8 := dkwX2_takeBlock_0 ++ []
theorem dksX2_takeBlock_0 : cX2_takeBlock.data.toList.drop 0 = dktX2_takeBlock_0 := by decide +kernel
theorem dX2_takeBlock_0 : decode cX2_takeBlock 0 = .ok (.aload_n 0, 1) := dk_42 (dk_at dksX2_takeBlock_0 0 rfl rfl)
theorem dX2_takeBlock_1 : decode cX2_takeBlock 1 = .ok (.iload_n 1, 1) := dk_27 (dk_at dksX2_takeBlock_0 1 rfl rfl)
theorem dX2_takeBlock_2 : decode cX2_takeBlock 2 = .ok (.iload_n 2, 1) := dk_28 (dk_at dksX2_takeBlock_0 2 rfl rfl)
theorem dX2_takeBlock_3 : decode cX2_takeBlock 3 = .ok (.iconst 0, 1) := dk_3 (dk_at dksX2_takeBlock_0 3 rfl rfl)
theorem dX2_takeBlock_4 : decode cX2_takeBlock 4 = .ok (.invokevirtual 77, 3) := dk_182 0 77 (dk_at dksX2_takeBlock_0 4 rfl rfl)
theorem dX2_takeBlock_7 : decode cX2_takeBlock 7 = .ok (.aload_n 0, 1) := dk_42 (dk_at dksX2_takeBlock_0 7 rfl rfl)
theorem dX2_takeBlock_8 : decode cX2_takeBlock 8 = .ok (.dup, 1) := dk_89 (dk_at dksX2_takeBlock_0 8 rfl rfl)
theorem dX2_takeBlock_9 : decode cX2_takeBlock 9 = .ok (.getfield 44, 3) := dk_180 0 44 (dk_at dksX2_takeBlock_0 9 rfl rfl)
theorem dX2_takeBlock_12 : decode cX2_takeBlock 12 = .ok (.iconst 1, 1) := dk_4 (dk_at dksX2_takeBlock_0 12 rfl rfl)
theorem dX2_takeBlock_13 : decode cX2_takeBlock 13 = .ok (.isub, 1) := dk_100 (dk_at dksX2_takeBlock_0 13 rfl rfl)
theorem dX2_takeBlock_14 : decode cX2_takeBlock 14 = .ok (.putfield 44, 3) := dk_181 0 44 (dk_at dksX2_takeBlock_0 14 rfl rfl)
theorem dX2_takeBlock_17 : decode cX2_takeBlock 17 = .ok (.return_, 1) := dk_177 (dk_at dksX2_takeBlock_0 17 rfl rfl)
abbrev cX2_hasMissingAt : ByteArray := prog_9_method_16_code
def yX2_hasMissingAt : MethodName := ⟨RX2, "hasMissingAt", "(II)Z"⟩
def dkwX2_hasMissingAt_2 : List UInt8 := [172]
abbrev dktX2_hasMissingAt_2 : List UInt8 := dkwX2_hasMissingAt_2 ++ []
def dkwX2_hasMissingAt_1 : List UInt8 := [180, 0, 81, 153, 0, 20, 42, 180, 0, 11, 29, 50, 180, 0, 93, 28, 160, 0, 7, 4, 167, 0, 4, 3]
abbrev dktX2_hasMissingAt_1 : List UInt8 := dkwX2_hasMissingAt_1 ++ dktX2_hasMissingAt_2
def dkwX2_hasMissingAt_0 : List UInt8 := [42, 27, 16, 100, 108, 27, 16, 100, 112, 182, 0, 54, 62, 29, 2, 159, 0, 32, 42, 180, 0, 11, 29, 50]
abbrev dktX2_hasMissingAt_0 : List UInt8 := dkwX2_hasMissingAt_0 ++ dktX2_hasMissingAt_1
theorem dksX2_hasMissingAt_0 : cX2_hasMissingAt.data.toList.drop 0 = dktX2_hasMissingAt_0 := by decide +kernel
theorem dksX2_hasMissingAt_1 : cX2_hasMissingAt.data.toList.drop 24 = dktX2_hasMissingAt_1 := dk_seg dksX2_hasMissingAt_0 24 rfl rfl
theorem dksX2_hasMissingAt_2 : cX2_hasMissingAt.data.toList.drop 48 = dktX2_hasMissingAt_2 := dk_seg dksX2_hasMissingAt_1 24 rfl rfl
theorem dX2_hasMissingAt_0 : decode cX2_hasMissingAt 0 = .ok (.aload_n 0, 1) := dk_42 (dk_at dksX2_hasMissingAt_0 0 rfl rfl)
theorem dX2_hasMissingAt_1 : decode cX2_hasMissingAt 1 = .ok (.iload_n 1, 1) := dk_27 (dk_at dksX2_hasMissingAt_0 1 rfl rfl)
theorem dX2_hasMissingAt_2 : decode cX2_hasMissingAt 2 = .ok (.bipush 100, 2) := dk_16 100 (dk_at dksX2_hasMissingAt_0 2 rfl rfl)
theorem dX2_hasMissingAt_4 : decode cX2_hasMissingAt 4 = .ok (.idiv, 1) := dk_108 (dk_at dksX2_hasMissingAt_0 4 rfl rfl)
theorem dX2_hasMissingAt_5 : decode cX2_hasMissingAt 5 = .ok (.iload_n 1, 1) := dk_27 (dk_at dksX2_hasMissingAt_0 5 rfl rfl)
theorem dX2_hasMissingAt_6 : decode cX2_hasMissingAt 6 = .ok (.bipush 100, 2) := dk_16 100 (dk_at dksX2_hasMissingAt_0 6 rfl rfl)
theorem dX2_hasMissingAt_8 : decode cX2_hasMissingAt 8 = .ok (.irem, 1) := dk_112 (dk_at dksX2_hasMissingAt_0 8 rfl rfl)
theorem dX2_hasMissingAt_9 : decode cX2_hasMissingAt 9 = .ok (.invokevirtual 54, 3) := dk_182 0 54 (dk_at dksX2_hasMissingAt_0 9 rfl rfl)
theorem dX2_hasMissingAt_12 : decode cX2_hasMissingAt 12 = .ok (.istore_n 3, 1) := dk_62 (dk_at dksX2_hasMissingAt_0 12 rfl rfl)
theorem dX2_hasMissingAt_13 : decode cX2_hasMissingAt 13 = .ok (.iload_n 3, 1) := dk_29 (dk_at dksX2_hasMissingAt_0 13 rfl rfl)
theorem dX2_hasMissingAt_14 : decode cX2_hasMissingAt 14 = .ok (.iconst (-1), 1) := dk_2 (dk_at dksX2_hasMissingAt_0 14 rfl rfl)
theorem dX2_hasMissingAt_15 : decode cX2_hasMissingAt 15 = .ok (.if_icmp .eq 32, 3) := dk_159 0 32 (dk_at dksX2_hasMissingAt_0 15 rfl rfl)
theorem dX2_hasMissingAt_18 : decode cX2_hasMissingAt 18 = .ok (.aload_n 0, 1) := dk_42 (dk_at dksX2_hasMissingAt_0 18 rfl rfl)
theorem dX2_hasMissingAt_19 : decode cX2_hasMissingAt 19 = .ok (.getfield 11, 3) := dk_180 0 11 (dk_at dksX2_hasMissingAt_0 19 rfl rfl)
theorem dX2_hasMissingAt_22 : decode cX2_hasMissingAt 22 = .ok (.iload_n 3, 1) := dk_29 (dk_at dksX2_hasMissingAt_0 22 rfl rfl)
theorem dX2_hasMissingAt_23 : decode cX2_hasMissingAt 23 = .ok (.aaload, 1) := dk_50 (dk_at dksX2_hasMissingAt_0 23 rfl rfl)
theorem dX2_hasMissingAt_24 : decode cX2_hasMissingAt 24 = .ok (.getfield 81, 3) := dk_180 0 81 (dk_at dksX2_hasMissingAt_1 0 rfl rfl)
theorem dX2_hasMissingAt_27 : decode cX2_hasMissingAt 27 = .ok (.ifCond .eq 20, 3) := dk_153 0 20 (dk_at dksX2_hasMissingAt_1 3 rfl rfl)
theorem dX2_hasMissingAt_30 : decode cX2_hasMissingAt 30 = .ok (.aload_n 0, 1) := dk_42 (dk_at dksX2_hasMissingAt_1 6 rfl rfl)
theorem dX2_hasMissingAt_31 : decode cX2_hasMissingAt 31 = .ok (.getfield 11, 3) := dk_180 0 11 (dk_at dksX2_hasMissingAt_1 7 rfl rfl)
theorem dX2_hasMissingAt_34 : decode cX2_hasMissingAt 34 = .ok (.iload_n 3, 1) := dk_29 (dk_at dksX2_hasMissingAt_1 10 rfl rfl)
theorem dX2_hasMissingAt_35 : decode cX2_hasMissingAt 35 = .ok (.aaload, 1) := dk_50 (dk_at dksX2_hasMissingAt_1 11 rfl rfl)
theorem dX2_hasMissingAt_36 : decode cX2_hasMissingAt 36 = .ok (.getfield 93, 3) := dk_180 0 93 (dk_at dksX2_hasMissingAt_1 12 rfl rfl)
theorem dX2_hasMissingAt_39 : decode cX2_hasMissingAt 39 = .ok (.iload_n 2, 1) := dk_28 (dk_at dksX2_hasMissingAt_1 15 rfl rfl)
theorem dX2_hasMissingAt_40 : decode cX2_hasMissingAt 40 = .ok (.if_icmp .ne 7, 3) := dk_160 0 7 (dk_at dksX2_hasMissingAt_1 16 rfl rfl)
theorem dX2_hasMissingAt_43 : decode cX2_hasMissingAt 43 = .ok (.iconst 1, 1) := dk_4 (dk_at dksX2_hasMissingAt_1 19 rfl rfl)
theorem dX2_hasMissingAt_44 : decode cX2_hasMissingAt 44 = .ok (.goto 4, 3) := dk_167 0 4 (dk_at dksX2_hasMissingAt_1 20 rfl rfl)
theorem dX2_hasMissingAt_47 : decode cX2_hasMissingAt 47 = .ok (.iconst 0, 1) := dk_3 (dk_at dksX2_hasMissingAt_1 23 rfl rfl)
theorem dX2_hasMissingAt_48 : decode cX2_hasMissingAt 48 = .ok (.ireturn, 1) := dk_172 (dk_at dksX2_hasMissingAt_2 0 rfl rfl)
abbrev cX3_turned : ByteArray := prog_6_method_2_code
def yX3_turned : MethodName := ⟨RX3, "turned", "(I)LTrailMarkers$Post;"⟩
def dkwX3_turned_1 : List UInt8 := [176]
abbrev dktX3_turned_1 : List UInt8 := dkwX3_turned_1 ++ []
def dkwX3_turned_0 : List UInt8 := [187, 0, 8, 89, 42, 180, 0, 7, 42, 180, 0, 13, 42, 180, 0, 16, 27, 42, 180, 0, 22, 183, 0, 26]
abbrev dktX3_turned_0 : List UInt8 := dkwX3_turned_0 ++ dktX3_turned_1
theorem dksX3_turned_0 : cX3_turned.data.toList.drop 0 = dktX3_turned_0 := by decide +kernel
theorem dksX3_turned_1 : cX3_turned.data.toList.drop 24 = dktX3_turned_1 := dk_seg dksX3_turned_0 24 rfl rfl
theorem dX3_turned_0 : decode cX3_turned 0 = .ok (.new 8, 3) := dk_187 0 8 (dk_at dksX3_turned_0 0 rfl rfl)
theorem dX3_turned_3 : decode cX3_turned 3 = .ok (.dup, 1) := dk_89 (dk_at dksX3_turned_0 3 rfl rfl)
theorem dX3_turned_4 : decode cX3_turned 4 = .ok (.aload_n 0, 1) := dk_42 (dk_at dksX3_turned_0 4 rfl rfl)
theorem dX3_turned_5 : decode cX3_turned 5 = .ok (.getfield 7, 3) := dk_180 0 7 (dk_at dksX3_turned_0 5 rfl rfl)
theorem dX3_turned_8 : decode cX3_turned 8 = .ok (.aload_n 0, 1) := dk_42 (dk_at dksX3_turned_0 8 rfl rfl)
theorem dX3_turned_9 : decode cX3_turned 9 = .ok (.getfield 13, 3) := dk_180 0 13 (dk_at dksX3_turned_0 9 rfl rfl)
theorem dX3_turned_12 : decode cX3_turned 12 = .ok (.aload_n 0, 1) := dk_42 (dk_at dksX3_turned_0 12 rfl rfl)
theorem dX3_turned_13 : decode cX3_turned 13 = .ok (.getfield 16, 3) := dk_180 0 16 (dk_at dksX3_turned_0 13 rfl rfl)
theorem dX3_turned_16 : decode cX3_turned 16 = .ok (.iload_n 1, 1) := dk_27 (dk_at dksX3_turned_0 16 rfl rfl)
theorem dX3_turned_17 : decode cX3_turned 17 = .ok (.aload_n 0, 1) := dk_42 (dk_at dksX3_turned_0 17 rfl rfl)
theorem dX3_turned_18 : decode cX3_turned 18 = .ok (.getfield 22, 3) := dk_180 0 22 (dk_at dksX3_turned_0 18 rfl rfl)
theorem dX3_turned_21 : decode cX3_turned 21 = .ok (.invokespecial 26, 3) := dk_183 0 26 (dk_at dksX3_turned_0 21 rfl rfl)
theorem dX3_turned_24 : decode cX3_turned 24 = .ok (.areturn, 1) := dk_176 (dk_at dksX3_turned_1 0 rfl rfl)
abbrev cX3_cell : ByteArray := prog_6_method_5_code
def yX3_cell : MethodName := ⟨RX3, "cell", "()I"⟩
def dkwX3_cell_0 : List UInt8 := [16, 100, 42, 180, 0, 7, 104, 42, 180, 0, 13, 96, 172]
abbrev dktX3_cell_0 : List UInt8 := dkwX3_cell_0 ++ []
theorem dksX3_cell_0 : cX3_cell.data.toList.drop 0 = dktX3_cell_0 := by decide +kernel
theorem dX3_cell_0 : decode cX3_cell 0 = .ok (.bipush 100, 2) := dk_16 100 (dk_at dksX3_cell_0 0 rfl rfl)
theorem dX3_cell_2 : decode cX3_cell 2 = .ok (.aload_n 0, 1) := dk_42 (dk_at dksX3_cell_0 2 rfl rfl)
theorem dX3_cell_3 : decode cX3_cell 3 = .ok (.getfield 7, 3) := dk_180 0 7 (dk_at dksX3_cell_0 3 rfl rfl)
theorem dX3_cell_6 : decode cX3_cell 6 = .ok (.imul, 1) := dk_104 (dk_at dksX3_cell_0 6 rfl rfl)
theorem dX3_cell_7 : decode cX3_cell 7 = .ok (.aload_n 0, 1) := dk_42 (dk_at dksX3_cell_0 7 rfl rfl)
theorem dX3_cell_8 : decode cX3_cell 8 = .ok (.getfield 13, 3) := dk_180 0 13 (dk_at dksX3_cell_0 8 rfl rfl)
theorem dX3_cell_11 : decode cX3_cell 11 = .ok (.iadd, 1) := dk_96 (dk_at dksX3_cell_0 11 rfl rfl)
theorem dX3_cell_12 : decode cX3_cell 12 = .ok (.ireturn, 1) := dk_172 (dk_at dksX3_cell_0 12 rfl rfl)
abbrev cX9_init : ByteArray := prog_11_method_1_code
def yX9_init : MethodName := ⟨RX9, "<init>", "()V"⟩
def dkwX9_init_0 : List UInt8 := [42, 183, 0, 3, 42, 6, 188, 10, 181, 0, 9, 42, 6, 188, 10, 181, 0, 15, 177]
abbrev dktX9_init_0 : List UInt8 := dkwX9_init_0 ++ []
theorem dksX9_init_0 : cX9_init.data.toList.drop 0 = dktX9_init_0 := by decide +kernel
theorem dX9_init_0 : decode cX9_init 0 = .ok (.aload_n 0, 1) := dk_42 (dk_at dksX9_init_0 0 rfl rfl)
theorem dX9_init_1 : decode cX9_init 1 = .ok (.invokespecial 3, 3) := dk_183 0 3 (dk_at dksX9_init_0 1 rfl rfl)
theorem dX9_init_4 : decode cX9_init 4 = .ok (.aload_n 0, 1) := dk_42 (dk_at dksX9_init_0 4 rfl rfl)
theorem dX9_init_5 : decode cX9_init 5 = .ok (.iconst 3, 1) := dk_6 (dk_at dksX9_init_0 5 rfl rfl)
theorem dX9_init_6 : decode cX9_init 6 = .ok (.newarray .int, 2) := dk_188_10 (dk_at dksX9_init_0 6 rfl rfl)
theorem dX9_init_8 : decode cX9_init 8 = .ok (.putfield 9, 3) := dk_181 0 9 (dk_at dksX9_init_0 8 rfl rfl)
theorem dX9_init_11 : decode cX9_init 11 = .ok (.aload_n 0, 1) := dk_42 (dk_at dksX9_init_0 11 rfl rfl)
theorem dX9_init_12 : decode cX9_init 12 = .ok (.iconst 3, 1) := dk_6 (dk_at dksX9_init_0 12 rfl rfl)
theorem dX9_init_13 : decode cX9_init 13 = .ok (.newarray .int, 2) := dk_188_10 (dk_at dksX9_init_0 13 rfl rfl)
theorem dX9_init_15 : decode cX9_init 15 = .ok (.putfield 15, 3) := dk_181 0 15 (dk_at dksX9_init_0 15 rfl rfl)
theorem dX9_init_18 : decode cX9_init 18 = .ok (.return_, 1) := dk_177 (dk_at dksX9_init_0 18 rfl rfl)
abbrev cX9_clear : ByteArray := prog_11_method_2_code
def yX9_clear : MethodName := ⟨RX9, "clear", "()V"⟩
def dkwX9_clear_0 : List UInt8 := [42, 2, 181, 0, 18, 42, 3, 181, 0, 22, 42, 3, 181, 0, 25, 177]
abbrev dktX9_clear_0 : List UInt8 := dkwX9_clear_0 ++ []
theorem dksX9_clear_0 : cX9_clear.data.toList.drop 0 = dktX9_clear_0 := by decide +kernel
theorem dX9_clear_0 : decode cX9_clear 0 = .ok (.aload_n 0, 1) := dk_42 (dk_at dksX9_clear_0 0 rfl rfl)
theorem dX9_clear_1 : decode cX9_clear 1 = .ok (.iconst (-1), 1) := dk_2 (dk_at dksX9_clear_0 1 rfl rfl)
theorem dX9_clear_2 : decode cX9_clear 2 = .ok (.putfield 18, 3) := dk_181 0 18 (dk_at dksX9_clear_0 2 rfl rfl)
theorem dX9_clear_5 : decode cX9_clear 5 = .ok (.aload_n 0, 1) := dk_42 (dk_at dksX9_clear_0 5 rfl rfl)
theorem dX9_clear_6 : decode cX9_clear 6 = .ok (.iconst 0, 1) := dk_3 (dk_at dksX9_clear_0 6 rfl rfl)
theorem dX9_clear_7 : decode cX9_clear 7 = .ok (.putfield 22, 3) := dk_181 0 22 (dk_at dksX9_clear_0 7 rfl rfl)
theorem dX9_clear_10 : decode cX9_clear 10 = .ok (.aload_n 0, 1) := dk_42 (dk_at dksX9_clear_0 10 rfl rfl)
theorem dX9_clear_11 : decode cX9_clear 11 = .ok (.iconst 0, 1) := dk_3 (dk_at dksX9_clear_0 11 rfl rfl)
theorem dX9_clear_12 : decode cX9_clear 12 = .ok (.putfield 25, 3) := dk_181 0 25 (dk_at dksX9_clear_0 12 rfl rfl)
theorem dX9_clear_15 : decode cX9_clear 15 = .ok (.return_, 1) := dk_177 (dk_at dksX9_clear_0 15 rfl rfl)
abbrev cX9_offer : ByteArray := prog_11_method_3_code
def yX9_offer : MethodName := ⟨RX9, "offer", "(II[I[I)V"⟩
def dkwX9_offer_3 : List UInt8 := [180, 0, 9, 190, 184, 0, 28, 25, 4, 3, 42, 180, 0, 15, 3, 42, 180, 0, 15, 190, 184, 0, 28, 177]
abbrev dktX9_offer_3 : List UInt8 := dkwX9_offer_3 ++ []
def dkwX9_offer_2 : List UInt8 := [181, 0, 18, 42, 21, 5, 181, 0, 22, 42, 28, 181, 0, 25, 45, 3, 42, 180, 0, 9, 3, 42]
abbrev dktX9_offer_2 : List UInt8 := dkwX9_offer_2 ++ dktX9_offer_3
def dkwX9_offer_1 : List UInt8 := [167, 255, 238, 42, 180, 0, 18, 2, 159, 0, 13, 21, 5, 42, 180, 0, 22, 161, 0, 4, 177, 42, 27]
abbrev dktX9_offer_1 : List UInt8 := dkwX9_offer_1 ++ dktX9_offer_2
def dkwX9_offer_0 : List UInt8 := [3, 54, 5, 3, 54, 6, 21, 6, 28, 163, 0, 18, 21, 5, 45, 21, 6, 46, 96, 54, 5, 132, 6, 1]
abbrev dktX9_offer_0 : List UInt8 := dkwX9_offer_0 ++ dktX9_offer_1
theorem dksX9_offer_0 : cX9_offer.data.toList.drop 0 = dktX9_offer_0 := by decide +kernel
theorem dksX9_offer_1 : cX9_offer.data.toList.drop 24 = dktX9_offer_1 := dk_seg dksX9_offer_0 24 rfl rfl
theorem dksX9_offer_2 : cX9_offer.data.toList.drop 47 = dktX9_offer_2 := dk_seg dksX9_offer_1 23 rfl rfl
theorem dksX9_offer_3 : cX9_offer.data.toList.drop 69 = dktX9_offer_3 := dk_seg dksX9_offer_2 22 rfl rfl
theorem dX9_offer_0 : decode cX9_offer 0 = .ok (.iconst 0, 1) := dk_3 (dk_at dksX9_offer_0 0 rfl rfl)
theorem dX9_offer_1 : decode cX9_offer 1 = .ok (.istore 5, 2) := dk_54 5 (dk_at dksX9_offer_0 1 rfl rfl)
theorem dX9_offer_3 : decode cX9_offer 3 = .ok (.iconst 0, 1) := dk_3 (dk_at dksX9_offer_0 3 rfl rfl)
theorem dX9_offer_4 : decode cX9_offer 4 = .ok (.istore 6, 2) := dk_54 6 (dk_at dksX9_offer_0 4 rfl rfl)
theorem dX9_offer_6 : decode cX9_offer 6 = .ok (.iload 6, 2) := dk_21 6 (dk_at dksX9_offer_0 6 rfl rfl)
theorem dX9_offer_8 : decode cX9_offer 8 = .ok (.iload_n 2, 1) := dk_28 (dk_at dksX9_offer_0 8 rfl rfl)
theorem dX9_offer_9 : decode cX9_offer 9 = .ok (.if_icmp .gt 18, 3) := dk_163 0 18 (dk_at dksX9_offer_0 9 rfl rfl)
theorem dX9_offer_12 : decode cX9_offer 12 = .ok (.iload 5, 2) := dk_21 5 (dk_at dksX9_offer_0 12 rfl rfl)
theorem dX9_offer_14 : decode cX9_offer 14 = .ok (.aload_n 3, 1) := dk_45 (dk_at dksX9_offer_0 14 rfl rfl)
theorem dX9_offer_15 : decode cX9_offer 15 = .ok (.iload 6, 2) := dk_21 6 (dk_at dksX9_offer_0 15 rfl rfl)
theorem dX9_offer_17 : decode cX9_offer 17 = .ok (.iaload, 1) := dk_46 (dk_at dksX9_offer_0 17 rfl rfl)
theorem dX9_offer_18 : decode cX9_offer 18 = .ok (.iadd, 1) := dk_96 (dk_at dksX9_offer_0 18 rfl rfl)
theorem dX9_offer_19 : decode cX9_offer 19 = .ok (.istore 5, 2) := dk_54 5 (dk_at dksX9_offer_0 19 rfl rfl)
theorem dX9_offer_21 : decode cX9_offer 21 = .ok (.iinc 6 1, 3) := dk_132 6 1 (dk_at dksX9_offer_0 21 rfl rfl)
theorem dX9_offer_24 : decode cX9_offer 24 = .ok (.goto (-18), 3) := dk_167 255 238 (dk_at dksX9_offer_1 0 rfl rfl)
theorem dX9_offer_27 : decode cX9_offer 27 = .ok (.aload_n 0, 1) := dk_42 (dk_at dksX9_offer_1 3 rfl rfl)
theorem dX9_offer_28 : decode cX9_offer 28 = .ok (.getfield 18, 3) := dk_180 0 18 (dk_at dksX9_offer_1 4 rfl rfl)
theorem dX9_offer_31 : decode cX9_offer 31 = .ok (.iconst (-1), 1) := dk_2 (dk_at dksX9_offer_1 7 rfl rfl)
theorem dX9_offer_32 : decode cX9_offer 32 = .ok (.if_icmp .eq 13, 3) := dk_159 0 13 (dk_at dksX9_offer_1 8 rfl rfl)
theorem dX9_offer_35 : decode cX9_offer 35 = .ok (.iload 5, 2) := dk_21 5 (dk_at dksX9_offer_1 11 rfl rfl)
theorem dX9_offer_37 : decode cX9_offer 37 = .ok (.aload_n 0, 1) := dk_42 (dk_at dksX9_offer_1 13 rfl rfl)
theorem dX9_offer_38 : decode cX9_offer 38 = .ok (.getfield 22, 3) := dk_180 0 22 (dk_at dksX9_offer_1 14 rfl rfl)
theorem dX9_offer_41 : decode cX9_offer 41 = .ok (.if_icmp .lt 4, 3) := dk_161 0 4 (dk_at dksX9_offer_1 17 rfl rfl)
theorem dX9_offer_44 : decode cX9_offer 44 = .ok (.return_, 1) := dk_177 (dk_at dksX9_offer_1 20 rfl rfl)
theorem dX9_offer_45 : decode cX9_offer 45 = .ok (.aload_n 0, 1) := dk_42 (dk_at dksX9_offer_1 21 rfl rfl)
theorem dX9_offer_46 : decode cX9_offer 46 = .ok (.iload_n 1, 1) := dk_27 (dk_at dksX9_offer_1 22 rfl rfl)
theorem dX9_offer_47 : decode cX9_offer 47 = .ok (.putfield 18, 3) := dk_181 0 18 (dk_at dksX9_offer_2 0 rfl rfl)
theorem dX9_offer_50 : decode cX9_offer 50 = .ok (.aload_n 0, 1) := dk_42 (dk_at dksX9_offer_2 3 rfl rfl)
theorem dX9_offer_51 : decode cX9_offer 51 = .ok (.iload 5, 2) := dk_21 5 (dk_at dksX9_offer_2 4 rfl rfl)
theorem dX9_offer_53 : decode cX9_offer 53 = .ok (.putfield 22, 3) := dk_181 0 22 (dk_at dksX9_offer_2 6 rfl rfl)
theorem dX9_offer_56 : decode cX9_offer 56 = .ok (.aload_n 0, 1) := dk_42 (dk_at dksX9_offer_2 9 rfl rfl)
theorem dX9_offer_57 : decode cX9_offer 57 = .ok (.iload_n 2, 1) := dk_28 (dk_at dksX9_offer_2 10 rfl rfl)
theorem dX9_offer_58 : decode cX9_offer 58 = .ok (.putfield 25, 3) := dk_181 0 25 (dk_at dksX9_offer_2 11 rfl rfl)
theorem dX9_offer_61 : decode cX9_offer 61 = .ok (.aload_n 3, 1) := dk_45 (dk_at dksX9_offer_2 14 rfl rfl)
theorem dX9_offer_62 : decode cX9_offer 62 = .ok (.iconst 0, 1) := dk_3 (dk_at dksX9_offer_2 15 rfl rfl)
theorem dX9_offer_63 : decode cX9_offer 63 = .ok (.aload_n 0, 1) := dk_42 (dk_at dksX9_offer_2 16 rfl rfl)
theorem dX9_offer_64 : decode cX9_offer 64 = .ok (.getfield 9, 3) := dk_180 0 9 (dk_at dksX9_offer_2 17 rfl rfl)
theorem dX9_offer_67 : decode cX9_offer 67 = .ok (.iconst 0, 1) := dk_3 (dk_at dksX9_offer_2 20 rfl rfl)
theorem dX9_offer_68 : decode cX9_offer 68 = .ok (.aload_n 0, 1) := dk_42 (dk_at dksX9_offer_2 21 rfl rfl)
theorem dX9_offer_69 : decode cX9_offer 69 = .ok (.getfield 9, 3) := dk_180 0 9 (dk_at dksX9_offer_3 0 rfl rfl)
theorem dX9_offer_72 : decode cX9_offer 72 = .ok (.arraylength, 1) := dk_190 (dk_at dksX9_offer_3 3 rfl rfl)
theorem dX9_offer_73 : decode cX9_offer 73 = .ok (.invokestatic 28, 3) := dk_184 0 28 (dk_at dksX9_offer_3 4 rfl rfl)
theorem dX9_offer_76 : decode cX9_offer 76 = .ok (.aload 4, 2) := dk_25 4 (dk_at dksX9_offer_3 7 rfl rfl)
theorem dX9_offer_78 : decode cX9_offer 78 = .ok (.iconst 0, 1) := dk_3 (dk_at dksX9_offer_3 9 rfl rfl)
theorem dX9_offer_79 : decode cX9_offer 79 = .ok (.aload_n 0, 1) := dk_42 (dk_at dksX9_offer_3 10 rfl rfl)
theorem dX9_offer_80 : decode cX9_offer 80 = .ok (.getfield 15, 3) := dk_180 0 15 (dk_at dksX9_offer_3 11 rfl rfl)
theorem dX9_offer_83 : decode cX9_offer 83 = .ok (.iconst 0, 1) := dk_3 (dk_at dksX9_offer_3 14 rfl rfl)
theorem dX9_offer_84 : decode cX9_offer 84 = .ok (.aload_n 0, 1) := dk_42 (dk_at dksX9_offer_3 15 rfl rfl)
theorem dX9_offer_85 : decode cX9_offer 85 = .ok (.getfield 15, 3) := dk_180 0 15 (dk_at dksX9_offer_3 16 rfl rfl)
theorem dX9_offer_88 : decode cX9_offer 88 = .ok (.arraylength, 1) := dk_190 (dk_at dksX9_offer_3 19 rfl rfl)
theorem dX9_offer_89 : decode cX9_offer 89 = .ok (.invokestatic 28, 3) := dk_184 0 28 (dk_at dksX9_offer_3 20 rfl rfl)
theorem dX9_offer_92 : decode cX9_offer 92 = .ok (.return_, 1) := dk_177 (dk_at dksX9_offer_3 23 rfl rfl)
theorem q138 : (Jvm.Cond.initialized "TrailMarkers") ∈ lw_all := lw_g (lw_at lw_m1 1 rfl) rfl
theorem q139 : (Jvm.Cond.initialized "TrailMarkers$Trails") ∈ lw_all := lw_g (lw_at lw_m1 2 rfl) rfl
theorem q142 : (Jvm.Cond.initialized "TrailMarkers$Post") ∈ lw_all := lw_g (lw_at lw_m1 5 rfl) rfl
theorem q145 : (Jvm.Cond.initialized "TrailMarkers$PlaceException") ∈ lw_all := lw_g (lw_at lw_m1 8 rfl) rfl
theorem q206 : (Jvm.Cond.instantiable "TrailMarkers$Trails" (7 : Nat)) ∈ lw_all := lw_g (lw_at lw_m1 69 rfl) rfl
theorem q208 : (Jvm.Cond.instanceMethod ({ cls := "TrailMarkers$Trails", name := "<init>", desc := "(IIII)V" } : Jvm.MethodName)) ∈ lw_all := lw_g (lw_at lw_m1 71 rfl) rfl
theorem q209 : (Jvm.Cond.code ({ cls := "TrailMarkers$Trails", name := "<init>", desc := "(IIII)V" } : Jvm.MethodName) prog_9_method_1_code (5 : Nat) (Option.none : Option Jvm.ClassFile.FieldType)) ∈ lw_all := lw_g (lw_at lw_m1 72 rfl) rfl
theorem q210 : (Jvm.Cond.methodLink "TrailMarkers$Trails" (3 : Nat) ({ cls := "java/lang/Object", name := "<init>", desc := "()V" } : Jvm.MethodName)) ∈ lw_all := lw_g (lw_at lw_m1 73 rfl) rfl
theorem q211 : (Jvm.Cond.classLink "TrailMarkers$Trails" (9 : Nat) "TrailMarkers$Post") ∈ lw_all := lw_g (lw_at lw_m1 74 rfl) rfl
theorem q212 : (Jvm.Cond.arrayOver (Jvm.ClassFile.FieldType.object "TrailMarkers$Post")) ∈ lw_tbl := lw_at lw_m1 75 rfl
theorem q213 : (Jvm.Cond.fieldLink "TrailMarkers$Trails" (25 : Nat) "TrailMarkers$Trails" "width" "I") ∈ lw_all := lw_g (lw_at lw_m1 76 rfl) rfl
theorem q216 : (Jvm.Cond.fieldLink "TrailMarkers$Trails" (29 : Nat) "TrailMarkers$Trails" "height" "I") ∈ lw_all := lw_g (lw_at lw_m1 79 rfl) rfl
theorem q219 : (Jvm.Cond.fieldLink "TrailMarkers$Trails" (11 : Nat) "TrailMarkers$Trails" "posts" "[LTrailMarkers$Post;") ∈ lw_all := lw_g (lw_at lw_m1 82 rfl) rfl
theorem q221 : (Jvm.Cond.fieldLink "TrailMarkers$Walk" (55 : Nat) "TrailMarkers$Trails" "posts" "[LTrailMarkers$Post;") ∈ lw_all := lw_g (lw_at lw_m1 84 rfl) rfl
theorem q224 : (Jvm.Cond.fieldLink "TrailMarkers$Trails" (35 : Nat) "TrailMarkers$Trails" "postCount" "I") ∈ lw_all := lw_g (lw_at lw_m1 87 rfl) rfl
theorem q227 : (Jvm.Cond.fieldLink "TrailMarkers$Trails" (17 : Nat) "TrailMarkers$Trails" "grid" "[B") ∈ lw_all := lw_g (lw_at lw_m1 90 rfl) rfl
theorem q228 : (Jvm.Cond.fieldLink "TrailMarkers$Trails" (44 : Nat) "TrailMarkers$Trails" "blocks" "I") ∈ lw_all := lw_g (lw_at lw_m1 91 rfl) rfl
theorem q230 : (Jvm.Cond.fieldLink "TrailMarkers$Trails" (21 : Nat) "TrailMarkers$Trails" "settings" "[I") ∈ lw_all := lw_g (lw_at lw_m1 93 rfl) rfl
theorem q231 : (Jvm.Cond.fieldLink "TrailMarkers$Walk" (47 : Nat) "TrailMarkers$Trails" "settings" "[I") ∈ lw_all := lw_g (lw_at lw_m1 94 rfl) rfl
theorem q251 : (Jvm.Cond.arrayClass Jvm.ClassFile.FieldType.int) ∈ lw_all := lw_g (lw_at lw_m1 114 rfl) rfl
theorem q280 : (Jvm.Cond.instantiable "TrailMarkers$Post" (5 : Nat)) ∈ lw_all := lw_g (lw_at lw_m1 143 rfl) rfl
theorem q282 : (Jvm.Cond.instanceMethod ({ cls := "TrailMarkers$Post", name := "<init>", desc := "(IIIIZ)V" } : Jvm.MethodName)) ∈ lw_all := lw_g (lw_at lw_m1 145 rfl) rfl
theorem q283 : (Jvm.Cond.code ({ cls := "TrailMarkers$Post", name := "<init>", desc := "(IIIIZ)V" } : Jvm.MethodName) prog_6_method_1_code (6 : Nat) (Option.none : Option Jvm.ClassFile.FieldType)) ∈ lw_all := lw_g (lw_at lw_m1 146 rfl) rfl
theorem q284 : (Jvm.Cond.methodLink "TrailMarkers$Post" (1 : Nat) ({ cls := "java/lang/Object", name := "<init>", desc := "()V" } : Jvm.MethodName)) ∈ lw_all := lw_g (lw_at lw_m1 147 rfl) rfl
theorem q285 : (Jvm.Cond.fieldLink "TrailMarkers$Post" (7 : Nat) "TrailMarkers$Post" "x" "I") ∈ lw_all := lw_g (lw_at lw_m1 148 rfl) rfl
theorem q287 : (Jvm.Cond.fieldLink "TrailMarkers$Trails" (67 : Nat) "TrailMarkers$Post" "x" "I") ∈ lw_all := lw_g (lw_at lw_m1 150 rfl) rfl
theorem q289 : (Jvm.Cond.fieldLink "TrailMarkers$Post" (13 : Nat) "TrailMarkers$Post" "y" "I") ∈ lw_all := lw_g (lw_at lw_m1 152 rfl) rfl
theorem q291 : (Jvm.Cond.fieldLink "TrailMarkers$Trails" (70 : Nat) "TrailMarkers$Post" "y" "I") ∈ lw_all := lw_g (lw_at lw_m1 154 rfl) rfl
theorem q293 : (Jvm.Cond.fieldLink "TrailMarkers$Post" (16 : Nat) "TrailMarkers$Post" "colour" "I") ∈ lw_all := lw_g (lw_at lw_m1 156 rfl) rfl
theorem q296 : (Jvm.Cond.fieldLink "TrailMarkers$Trails" (93 : Nat) "TrailMarkers$Post" "colour" "I") ∈ lw_all := lw_g (lw_at lw_m1 159 rfl) rfl
theorem q298 : (Jvm.Cond.fieldLink "TrailMarkers$Post" (19 : Nat) "TrailMarkers$Post" "arrow" "I") ∈ lw_all := lw_g (lw_at lw_m1 161 rfl) rfl
theorem q301 : (Jvm.Cond.fieldLink "TrailMarkers$Post" (22 : Nat) "TrailMarkers$Post" "isMissing" "Z") ∈ lw_all := lw_g (lw_at lw_m1 164 rfl) rfl
theorem q302 : (Jvm.Cond.fieldLink "TrailMarkers$Trails" (81 : Nat) "TrailMarkers$Post" "isMissing" "Z") ∈ lw_all := lw_g (lw_at lw_m1 165 rfl) rfl
theorem q319 : (Jvm.Cond.methodLink "TrailMarkers$Trails" (73 : Nat) ({ cls := "TrailMarkers$Trails", name := "needFree", desc := "(IIZ)V" } : Jvm.MethodName)) ∈ lw_all := lw_g (lw_at lw_m1 182 rfl) rfl
theorem q321 : (Jvm.Cond.instanceMethod ({ cls := "TrailMarkers$Trails", name := "needFree", desc := "(IIZ)V" } : Jvm.MethodName)) ∈ lw_all := lw_g (lw_at lw_m1 184 rfl) rfl
theorem q322 : (Jvm.Cond.code ({ cls := "TrailMarkers$Trails", name := "needFree", desc := "(IIZ)V" } : Jvm.MethodName) prog_9_method_8_code (5 : Nat) (Option.none : Option Jvm.ClassFile.FieldType)) ∈ lw_all := lw_g (lw_at lw_m1 185 rfl) rfl
theorem q323 : (Jvm.Cond.methodLink "TrailMarkers$Trails" (58 : Nat) ({ cls := "TrailMarkers$Trails", name := "reasonNot", desc := "(IIZ)I" } : Jvm.MethodName)) ∈ lw_all := lw_g (lw_at lw_m1 186 rfl) rfl
theorem q325 : (Jvm.Cond.instanceMethod ({ cls := "TrailMarkers$Trails", name := "reasonNot", desc := "(IIZ)I" } : Jvm.MethodName)) ∈ lw_all := lw_g (lw_at lw_m1 188 rfl) rfl
theorem q326 : (Jvm.Cond.code ({ cls := "TrailMarkers$Trails", name := "reasonNot", desc := "(IIZ)I" } : Jvm.MethodName) prog_9_method_7_code (4 : Nat) (Option.some Jvm.ClassFile.FieldType.int)) ∈ lw_all := lw_g (lw_at lw_m1 189 rfl) rfl
theorem q327 : (Jvm.Cond.methodLink "TrailMarkers$Trails" (47 : Nat) ({ cls := "TrailMarkers$Trails", name := "isOnMap", desc := "(II)Z" } : Jvm.MethodName)) ∈ lw_all := lw_g (lw_at lw_m1 190 rfl) rfl
theorem q328 : (Jvm.Cond.instanceMethod ({ cls := "TrailMarkers$Trails", name := "isOnMap", desc := "(II)Z" } : Jvm.MethodName)) ∈ lw_all := lw_g (lw_at lw_m1 191 rfl) rfl
theorem q329 : (Jvm.Cond.selects "TrailMarkers$Trails" ({ cls := "TrailMarkers$Trails", name := "isOnMap", desc := "(II)Z" } : Jvm.MethodName) ({ cls := "TrailMarkers$Trails", name := "isOnMap", desc := "(II)Z" } : Jvm.MethodName)) ∈ lw_all := lw_g (lw_at lw_m1 192 rfl) rfl
theorem q330 : (Jvm.Cond.code ({ cls := "TrailMarkers$Trails", name := "isOnMap", desc := "(II)Z" } : Jvm.MethodName) prog_9_method_3_code (3 : Nat) (Option.some Jvm.ClassFile.FieldType.boolean)) ∈ lw_all := lw_g (lw_at lw_m1 193 rfl) rfl
theorem q331 : (Jvm.Cond.methodLink "TrailMarkers$Trails" (51 : Nat) ({ cls := "TrailMarkers$Trails", name := "isBlock", desc := "(II)Z" } : Jvm.MethodName)) ∈ lw_all := lw_g (lw_at lw_m1 194 rfl) rfl
theorem q332 : (Jvm.Cond.instanceMethod ({ cls := "TrailMarkers$Trails", name := "isBlock", desc := "(II)Z" } : Jvm.MethodName)) ∈ lw_all := lw_g (lw_at lw_m1 195 rfl) rfl
theorem q333 : (Jvm.Cond.selects "TrailMarkers$Trails" ({ cls := "TrailMarkers$Trails", name := "isBlock", desc := "(II)Z" } : Jvm.MethodName) ({ cls := "TrailMarkers$Trails", name := "isBlock", desc := "(II)Z" } : Jvm.MethodName)) ∈ lw_all := lw_g (lw_at lw_m1 196 rfl) rfl
theorem q334 : (Jvm.Cond.code ({ cls := "TrailMarkers$Trails", name := "isBlock", desc := "(II)Z" } : Jvm.MethodName) prog_9_method_4_code (3 : Nat) (Option.some Jvm.ClassFile.FieldType.boolean)) ∈ lw_all := lw_g (lw_at lw_m1 197 rfl) rfl
theorem q335 : (Jvm.Cond.methodLink "TrailMarkers$Trails" (54 : Nat) ({ cls := "TrailMarkers$Trails", name := "postAt", desc := "(II)I" } : Jvm.MethodName)) ∈ lw_all := lw_g (lw_at lw_m1 198 rfl) rfl
theorem q336 : (Jvm.Cond.instanceMethod ({ cls := "TrailMarkers$Trails", name := "postAt", desc := "(II)I" } : Jvm.MethodName)) ∈ lw_all := lw_g (lw_at lw_m1 199 rfl) rfl
theorem q337 : (Jvm.Cond.selects "TrailMarkers$Trails" ({ cls := "TrailMarkers$Trails", name := "postAt", desc := "(II)I" } : Jvm.MethodName) ({ cls := "TrailMarkers$Trails", name := "postAt", desc := "(II)I" } : Jvm.MethodName)) ∈ lw_all := lw_g (lw_at lw_m1 200 rfl) rfl
theorem q338 : (Jvm.Cond.code ({ cls := "TrailMarkers$Trails", name := "postAt", desc := "(II)I" } : Jvm.MethodName) prog_9_method_5_code (3 : Nat) (Option.some Jvm.ClassFile.FieldType.int)) ∈ lw_all := lw_g (lw_at lw_m1 201 rfl) rfl
theorem q339 : (Jvm.Cond.classLink "TrailMarkers$Trails" (62 : Nat) "TrailMarkers$PlaceException") ∈ lw_all := lw_g (lw_at lw_m1 202 rfl) rfl
theorem q340 : (Jvm.Cond.instantiable "TrailMarkers$PlaceException" (7 : Nat)) ∈ lw_all := lw_g (lw_at lw_m1 203 rfl) rfl
theorem q382 : (Jvm.Cond.methodLink "TrailMarkers$Trails" (64 : Nat) ({ cls := "TrailMarkers$PlaceException", name := "<init>", desc := "(I)V" } : Jvm.MethodName)) ∈ lw_all := lw_g (lw_at lw_m2 5 rfl) rfl
theorem q383 : (Jvm.Cond.instanceMethod ({ cls := "TrailMarkers$PlaceException", name := "<init>", desc := "(I)V" } : Jvm.MethodName)) ∈ lw_all := lw_g (lw_at lw_m2 6 rfl) rfl
theorem q384 : (Jvm.Cond.code ({ cls := "TrailMarkers$PlaceException", name := "<init>", desc := "(I)V" } : Jvm.MethodName) prog_5_method_1_code (2 : Nat) (Option.none : Option Jvm.ClassFile.FieldType)) ∈ lw_all := lw_g (lw_at lw_m2 7 rfl) rfl
theorem q406 : (Jvm.Cond.methodLink "TrailMarkers$Trails" (77 : Nat) ({ cls := "TrailMarkers$Trails", name := "put", desc := "(III)V" } : Jvm.MethodName)) ∈ lw_all := lw_g (lw_at lw_m2 29 rfl) rfl
theorem q408 : (Jvm.Cond.instanceMethod ({ cls := "TrailMarkers$Trails", name := "put", desc := "(III)V" } : Jvm.MethodName)) ∈ lw_all := lw_g (lw_at lw_m2 31 rfl) rfl
theorem q409 : (Jvm.Cond.code ({ cls := "TrailMarkers$Trails", name := "put", desc := "(III)V" } : Jvm.MethodName) prog_9_method_6_code (4 : Nat) (Option.none : Option Jvm.ClassFile.FieldType)) ∈ lw_all := lw_g (lw_at lw_m2 32 rfl) rfl
theorem q414 : (Jvm.Cond.methodLink "TrailMarkers$Trails" (85 : Nat) ({ cls := "TrailMarkers$Post", name := "inState", desc := "(Z)LTrailMarkers$Post;" } : Jvm.MethodName)) ∈ lw_all := lw_g (lw_at lw_m2 37 rfl) rfl
theorem q415 : (Jvm.Cond.instanceMethod ({ cls := "TrailMarkers$Post", name := "inState", desc := "(Z)LTrailMarkers$Post;" } : Jvm.MethodName)) ∈ lw_all := lw_g (lw_at lw_m2 38 rfl) rfl
theorem q416 : (Jvm.Cond.selects "TrailMarkers$Post" ({ cls := "TrailMarkers$Post", name := "inState", desc := "(Z)LTrailMarkers$Post;" } : Jvm.MethodName) ({ cls := "TrailMarkers$Post", name := "inState", desc := "(Z)LTrailMarkers$Post;" } : Jvm.MethodName)) ∈ lw_all := lw_g (lw_at lw_m2 39 rfl) rfl
theorem q417 : (Jvm.Cond.code ({ cls := "TrailMarkers$Post", name := "inState", desc := "(Z)LTrailMarkers$Post;" } : Jvm.MethodName) prog_6_method_3_code (2 : Nat) (Option.some (Jvm.ClassFile.FieldType.object "TrailMarkers$Post"))) ∈ lw_all := lw_g (lw_at lw_m2 40 rfl) rfl
theorem q418 : (Jvm.Cond.classLink "TrailMarkers$Post" (8 : Nat) "TrailMarkers$Post") ∈ lw_all := lw_g (lw_at lw_m2 41 rfl) rfl
theorem q419 : (Jvm.Cond.methodLink "TrailMarkers$Post" (26 : Nat) ({ cls := "TrailMarkers$Post", name := "<init>", desc := "(IIIIZ)V" } : Jvm.MethodName)) ∈ lw_all := lw_g (lw_at lw_m2 42 rfl) rfl
theorem q973 : (Jvm.Cond.static ({ cls := "TrailMarkers", name := "stepX", desc := "(I)I" } : Jvm.MethodName)) ∈ lw_all := lw_g (lw_at lw_m4 116 rfl) rfl
theorem q974 : (Jvm.Cond.code ({ cls := "TrailMarkers", name := "stepX", desc := "(I)I" } : Jvm.MethodName) prog_1_method_1_code (1 : Nat) (Option.some Jvm.ClassFile.FieldType.int)) ∈ lw_all := lw_g (lw_at lw_m4 117 rfl) rfl
theorem q976 : (Jvm.Cond.static ({ cls := "TrailMarkers", name := "stepY", desc := "(I)I" } : Jvm.MethodName)) ∈ lw_all := lw_g (lw_at lw_m4 119 rfl) rfl
theorem q977 : (Jvm.Cond.code ({ cls := "TrailMarkers", name := "stepY", desc := "(I)I" } : Jvm.MethodName) prog_1_method_2_code (1 : Nat) (Option.some Jvm.ClassFile.FieldType.int)) ∈ lw_all := lw_g (lw_at lw_m4 120 rfl) rfl
theorem q1126 : (Jvm.Cond.classLink "TrailMarkers$Trails" (12 : Nat) "TrailMarkers$Trails") ∈ lw_all := lw_g (lw_at lw_m5 29 rfl) rfl
theorem q1127 : (Jvm.Cond.methodLink "TrailMarkers$Trails" (32 : Nat) ({ cls := "TrailMarkers$Trails", name := "<init>", desc := "(IIII)V" } : Jvm.MethodName)) ∈ lw_all := lw_g (lw_at lw_m5 30 rfl) rfl
theorem q1128 : (Jvm.Cond.methodLink "TrailMarkers$Trails" (38 : Nat) ({ cls := "java/lang/System", name := "arraycopy", desc := "(Ljava/lang/Object;ILjava/lang/Object;II)V" } : Jvm.MethodName)) ∈ lw_all := lw_g (lw_at lw_m5 31 rfl) rfl
theorem q1145 : (Jvm.Cond.methodLink "TrailMarkers$Way" (3 : Nat) ({ cls := "java/lang/Object", name := "<init>", desc := "()V" } : Jvm.MethodName)) ∈ lw_all := lw_g (lw_at lw_m5 48 rfl) rfl
theorem q1146 : (Jvm.Cond.fieldLink "TrailMarkers$Way" (18 : Nat) "TrailMarkers$Way" "next" "I") ∈ lw_all := lw_g (lw_at lw_m5 49 rfl) rfl
theorem q1149 : (Jvm.Cond.fieldLink "TrailMarkers$Way" (22 : Nat) "TrailMarkers$Way" "total" "I") ∈ lw_all := lw_g (lw_at lw_m5 52 rfl) rfl
theorem q1152 : (Jvm.Cond.fieldLink "TrailMarkers$Way" (25 : Nat) "TrailMarkers$Way" "turns" "I") ∈ lw_all := lw_g (lw_at lw_m5 55 rfl) rfl
theorem q1155 : (Jvm.Cond.fieldLink "TrailMarkers$Way" (9 : Nat) "TrailMarkers$Way" "lengths" "[I") ∈ lw_all := lw_g (lw_at lw_m5 58 rfl) rfl
theorem q1158 : (Jvm.Cond.fieldLink "TrailMarkers$Way" (15 : Nat) "TrailMarkers$Way" "directions" "[I") ∈ lw_all := lw_g (lw_at lw_m5 61 rfl) rfl
theorem q1178 : (Jvm.Cond.methodLink "TrailMarkers$Walk" (3 : Nat) ({ cls := "java/lang/Object", name := "<init>", desc := "()V" } : Jvm.MethodName)) ∈ lw_all := lw_g (lw_at lw_m5 81 rfl) rfl
theorem q1179 : (Jvm.Cond.fieldLink "TrailMarkers$Walk" (9 : Nat) "TrailMarkers$Walk" "trails" "LTrailMarkers$Trails;") ∈ lw_all := lw_g (lw_at lw_m5 82 rfl) rfl
theorem q1180 : (Jvm.Cond.fieldLink "TrailMarkers$Walk" (15 : Nat) "TrailMarkers$Walk" "x" "I") ∈ lw_all := lw_g (lw_at lw_m5 83 rfl) rfl
theorem q1181 : (Jvm.Cond.fieldLink "TrailMarkers$Walk" (19 : Nat) "TrailMarkers$Walk" "y" "I") ∈ lw_all := lw_g (lw_at lw_m5 84 rfl) rfl
theorem q1182 : (Jvm.Cond.fieldLink "TrailMarkers$Walk" (22 : Nat) "TrailMarkers$Walk" "steps" "I") ∈ lw_all := lw_g (lw_at lw_m5 85 rfl) rfl
theorem q1185 : (Jvm.Cond.fieldLink "TrailMarkers$Walk" (28 : Nat) "TrailMarkers$Walk" "stop" "I") ∈ lw_all := lw_g (lw_at lw_m5 88 rfl) rfl
theorem q1187 : (Jvm.Cond.fieldLink "TrailMarkers$Walk" (25 : Nat) "TrailMarkers$Walk" "met" "I") ∈ lw_all := lw_g (lw_at lw_m5 90 rfl) rfl
theorem q1300 : (Jvm.Cond.methodLinkNest "TrailMarkers$Walk" (31 : Nat) ({ cls := "TrailMarkers", name := "stepX", desc := "(I)I" } : Jvm.MethodName) "TrailMarkers") ∈ lw_tbl := lw_at lw_m5 203 rfl
theorem q1301 : (Jvm.Cond.methodLinkNest "TrailMarkers$Walk" (35 : Nat) ({ cls := "TrailMarkers", name := "stepY", desc := "(I)I" } : Jvm.MethodName) "TrailMarkers") ∈ lw_tbl := lw_at lw_m5 204 rfl
theorem q1302 : (Jvm.Cond.methodLink "TrailMarkers$Walk" (38 : Nat) ({ cls := "TrailMarkers$Trails", name := "isOnMap", desc := "(II)Z" } : Jvm.MethodName)) ∈ lw_all := lw_g (lw_at lw_m5 205 rfl) rfl
theorem q1303 : (Jvm.Cond.methodLink "TrailMarkers$Walk" (44 : Nat) ({ cls := "TrailMarkers$Trails", name := "isBlock", desc := "(II)Z" } : Jvm.MethodName)) ∈ lw_all := lw_g (lw_at lw_m5 206 rfl) rfl
theorem q1304 : (Jvm.Cond.methodLink "TrailMarkers$Walk" (51 : Nat) ({ cls := "TrailMarkers$Trails", name := "postAt", desc := "(II)I" } : Jvm.MethodName)) ∈ lw_all := lw_g (lw_at lw_m5 207 rfl) rfl
theorem q1305 : (Jvm.Cond.methodLink "TrailMarkers$Walk" (59 : Nat) ({ cls := "TrailMarkers$Post", name := "standsFor", desc := "(I)Z" } : Jvm.MethodName)) ∈ lw_all := lw_g (lw_at lw_m5 208 rfl) rfl
theorem q1306 : (Jvm.Cond.instanceMethod ({ cls := "TrailMarkers$Post", name := "standsFor", desc := "(I)Z" } : Jvm.MethodName)) ∈ lw_all := lw_g (lw_at lw_m5 209 rfl) rfl
theorem q1307 : (Jvm.Cond.selects "TrailMarkers$Post" ({ cls := "TrailMarkers$Post", name := "standsFor", desc := "(I)Z" } : Jvm.MethodName) ({ cls := "TrailMarkers$Post", name := "standsFor", desc := "(I)Z" } : Jvm.MethodName)) ∈ lw_all := lw_g (lw_at lw_m5 210 rfl) rfl
theorem q1308 : (Jvm.Cond.code ({ cls := "TrailMarkers$Post", name := "standsFor", desc := "(I)Z" } : Jvm.MethodName) prog_6_method_4_code (2 : Nat) (Option.some Jvm.ClassFile.FieldType.boolean)) ∈ lw_all := lw_g (lw_at lw_m5 211 rfl) rfl
theorem q1313 : (Jvm.Cond.methodLink "TrailMarkers$Way" (28 : Nat) ({ cls := "java/lang/System", name := "arraycopy", desc := "(Ljava/lang/Object;ILjava/lang/Object;II)V" } : Jvm.MethodName)) ∈ lw_all := lw_g (lw_at lw_m5 216 rfl) rfl
theorem q1373 : (Jvm.Cond.methodLink "TrailMarkers$Trails" (89 : Nat) ({ cls := "TrailMarkers$Post", name := "standsFor", desc := "(I)Z" } : Jvm.MethodName)) ∈ lw_all := lw_g (lw_at lw_m6 36 rfl) rfl
theorem cf_X10 : CF 9 RX10 TX10 6 := ⟨rfl, in_X10, ⟨tyX10, tyX10_ok⟩, nmX10⟩
theorem fp_X10_9 : FP "TrailMarkers$Walk" 9 9 0 (tyX10 0) true := ⟨RX10, TX10, 6, "TrailMarkers$Walk", cf_X10, by decide, q1179, Or.inl rfl, tyX10_ok 0 (by decide), rfl, fun _ => rfl⟩
theorem fp_X10_15 : FP "TrailMarkers$Walk" 15 9 1 (tyX10 1) false := ⟨RX10, TX10, 6, "TrailMarkers$Walk", cf_X10, by decide, q1180, Or.inl rfl, tyX10_ok 1 (by decide), rfl, fun h9 => nomatch h9⟩
theorem fp_X10_19 : FP "TrailMarkers$Walk" 19 9 2 (tyX10 2) false := ⟨RX10, TX10, 6, "TrailMarkers$Walk", cf_X10, by decide, q1181, Or.inl rfl, tyX10_ok 2 (by decide), rfl, fun h9 => nomatch h9⟩
theorem fp_X10_22 : FP "TrailMarkers$Walk" 22 9 3 (tyX10 3) false := ⟨RX10, TX10, 6, "TrailMarkers$Walk", cf_X10, by decide, q1182, Or.inl rfl, tyX10_ok 3 (by decide), rfl, fun h9 => nomatch h9⟩
theorem fp_X10_25 : FP "TrailMarkers$Walk" 25 9 5 (tyX10 5) false := ⟨RX10, TX10, 6, "TrailMarkers$Walk", cf_X10, by decide, q1187, Or.inl rfl, tyX10_ok 5 (by decide), rfl, fun h9 => nomatch h9⟩
theorem fp_X10_28 : FP "TrailMarkers$Walk" 28 9 4 (tyX10 4) false := ⟨RX10, TX10, 6, "TrailMarkers$Walk", cf_X10, by decide, q1185, Or.inl rfl, tyX10_ok 4 (by decide), rfl, fun h9 => nomatch h9⟩
theorem fa_X10_28 : FA "TrailMarkers$Walk" 28 9 4 := ⟨RX10, TX10, 6, "TrailMarkers$Walk", cf_X10, by decide, q1185, Or.inl rfl⟩
theorem fa_X10_25 : FA "TrailMarkers$Walk" 25 9 5 := ⟨RX10, TX10, 6, "TrailMarkers$Walk", cf_X10, by decide, q1187, Or.inl rfl⟩
theorem fa_X10_15 : FA "TrailMarkers$Walk" 15 9 1 := ⟨RX10, TX10, 6, "TrailMarkers$Walk", cf_X10, by decide, q1180, Or.inl rfl⟩
theorem fa_X10_19 : FA "TrailMarkers$Walk" 19 9 2 := ⟨RX10, TX10, 6, "TrailMarkers$Walk", cf_X10, by decide, q1181, Or.inl rfl⟩
theorem fa_X10_9 : FA "TrailMarkers$Walk" 9 9 0 := ⟨RX10, TX10, 6, "TrailMarkers$Walk", cf_X10, by decide, q1179, Or.inl rfl⟩
theorem fa_X10_22 : FA "TrailMarkers$Walk" 22 9 3 := ⟨RX10, TX10, 6, "TrailMarkers$Walk", cf_X10, by decide, q1182, Or.inl rfl⟩
theorem cf_X2 : CF 1 RX2 TX2 7 := ⟨rfl, in_X2, ⟨tyX2, tyX2_ok⟩, nmX2⟩
theorem fa_X10_47_X2 : FA "TrailMarkers$Walk" 47 1 6 := ⟨RX2, TX2, 7, "TrailMarkers$Trails", cf_X2, by decide, q231, Or.inl rfl⟩
theorem fa_X10_55_X2 : FA "TrailMarkers$Walk" 55 1 2 := ⟨RX2, TX2, 7, "TrailMarkers$Trails", cf_X2, by decide, q221, Or.inl rfl⟩
theorem m_X10_59 : MV "TrailMarkers$Walk" 59 yX3_standsFor cX3_standsFor 2 (Option.some Jvm.ClassFile.FieldType.boolean) 1 := ⟨q1305, q1306, q1307, q142, q1308, by decide +kernel, by decide +kernel, by decide +kernel⟩
theorem m_X10_51 : MV "TrailMarkers$Walk" 51 yX2_postAt cX2_postAt 3 (Option.some Jvm.ClassFile.FieldType.int) 2 := ⟨q1304, q336, q337, q139, q338, by decide +kernel, by decide +kernel, by decide +kernel⟩
theorem m_X10_44 : MV "TrailMarkers$Walk" 44 yX2_isBlock cX2_isBlock 3 (Option.some Jvm.ClassFile.FieldType.boolean) 2 := ⟨q1303, q332, q333, q139, q334, by decide +kernel, by decide +kernel, by decide +kernel⟩
theorem m_X10_38 : MV "TrailMarkers$Walk" 38 yX2_isOnMap cX2_isOnMap 3 (Option.some Jvm.ClassFile.FieldType.boolean) 2 := ⟨q1302, q328, q329, q139, q330, by decide +kernel, by decide +kernel, by decide +kernel⟩
theorem m_X10_35 : MSN "TrailMarkers$Walk" 35 yX1_stepY "TrailMarkers" cX1_stepY 1 (Option.some Jvm.ClassFile.FieldType.int) 1 := ⟨q1301, q976, q138, q977, by decide +kernel, by decide +kernel, by decide +kernel⟩
theorem m_X10_31 : MSN "TrailMarkers$Walk" 31 yX1_stepX "TrailMarkers" cX1_stepX 1 (Option.some Jvm.ClassFile.FieldType.int) 1 := ⟨q1300, q973, q138, q974, by decide +kernel, by decide +kernel, by decide +kernel⟩
theorem fp_X2_11 : FP "TrailMarkers$Trails" 11 1 2 (tyX2 2) true := ⟨RX2, TX2, 7, "TrailMarkers$Trails", cf_X2, by decide, q219, Or.inl rfl, tyX2_ok 2 (by decide), rfl, fun _ => rfl⟩
theorem fp_X2_17 : FP "TrailMarkers$Trails" 17 1 4 (tyX2 4) true := ⟨RX2, TX2, 7, "TrailMarkers$Trails", cf_X2, by decide, q227, Or.inl rfl, tyX2_ok 4 (by decide), rfl, fun _ => rfl⟩
theorem fp_X2_21 : FP "TrailMarkers$Trails" 21 1 6 (tyX2 6) true := ⟨RX2, TX2, 7, "TrailMarkers$Trails", cf_X2, by decide, q230, Or.inl rfl, tyX2_ok 6 (by decide), rfl, fun _ => rfl⟩
theorem fp_X2_25 : FP "TrailMarkers$Trails" 25 1 0 (tyX2 0) true := ⟨RX2, TX2, 7, "TrailMarkers$Trails", cf_X2, by decide, q213, Or.inl rfl, tyX2_ok 0 (by decide), rfl, fun _ => rfl⟩
theorem fp_X2_29 : FP "TrailMarkers$Trails" 29 1 1 (tyX2 1) true := ⟨RX2, TX2, 7, "TrailMarkers$Trails", cf_X2, by decide, q216, Or.inl rfl, tyX2_ok 1 (by decide), rfl, fun _ => rfl⟩
theorem fa_X2_21 : FA "TrailMarkers$Trails" 21 1 6 := ⟨RX2, TX2, 7, "TrailMarkers$Trails", cf_X2, by decide, q230, Or.inl rfl⟩
theorem cf_X3 : CF 2 RX3 TX3 5 := ⟨rfl, in_X3, ⟨tyX3, tyX3_ok⟩, nmX3⟩
theorem fa_X2_67_X3 : FA "TrailMarkers$Trails" 67 2 0 := ⟨RX3, TX3, 5, "TrailMarkers$Post", cf_X3, by decide, q287, Or.inl rfl⟩
theorem fa_X2_70_X3 : FA "TrailMarkers$Trails" 70 2 1 := ⟨RX3, TX3, 5, "TrailMarkers$Post", cf_X3, by decide, q291, Or.inl rfl⟩
theorem fa_X2_35 : FA "TrailMarkers$Trails" 35 1 3 := ⟨RX2, TX2, 7, "TrailMarkers$Trails", cf_X2, by decide, q224, Or.inl rfl⟩
theorem fa_X2_11 : FA "TrailMarkers$Trails" 11 1 2 := ⟨RX2, TX2, 7, "TrailMarkers$Trails", cf_X2, by decide, q219, Or.inl rfl⟩
theorem co_2_TrailMarkers_Post : CO 2 "TrailMarkers$Post" := ⟨_, rfl, Or.inl rfl⟩
theorem cos_TrailMarkers_Post_2 : ∀ ci ∈ [2], CO ci "TrailMarkers$Post" := List.forall_mem_cons.mpr ⟨co_2_TrailMarkers_Post, fun _ h => nomatch h⟩
theorem fp_X2_35 : FP "TrailMarkers$Trails" 35 1 3 (tyX2 3) false := ⟨RX2, TX2, 7, "TrailMarkers$Trails", cf_X2, by decide, q224, Or.inl rfl, tyX2_ok 3 (by decide), rfl, fun h9 => nomatch h9⟩
theorem m_X2_77 : MV "TrailMarkers$Trails" 77 yX2_put cX2_put 4 (Option.none : Option Jvm.ClassFile.FieldType) 3 := ⟨q406, q408, qs4, q139, q409, by decide +kernel, by decide +kernel, by decide +kernel⟩
theorem m_X2_73 : MV "TrailMarkers$Trails" 73 yX2_needFree cX2_needFree 5 (Option.none : Option Jvm.ClassFile.FieldType) 3 := ⟨q319, q321, qs1, q139, q322, by decide +kernel, by decide +kernel, by decide +kernel⟩
theorem nw_X2_62 : NW "TrailMarkers$Trails" 62 3 7 [vR none, vR none, vR none, vR none, vR none, vI 0, vI 0] := ⟨RX4, TX4, 7, tyX4, cf_X4, tyX4_ok, rfl, q339, q340, q145⟩
theorem m_X2_64 : MI "TrailMarkers$Trails" 64 yX4_init cX4_init 2 1 := ⟨q382, q383, rfl, q145, q384, by decide +kernel, by decide +kernel, by decide +kernel⟩
theorem m_X2_58 : MV "TrailMarkers$Trails" 58 yX2_reasonNot cX2_reasonNot 4 (Option.some Jvm.ClassFile.FieldType.int) 3 := ⟨q323, q325, qs2, q139, q326, by decide +kernel, by decide +kernel, by decide +kernel⟩
theorem m_X2_54 : MV "TrailMarkers$Trails" 54 yX2_postAt cX2_postAt 3 (Option.some Jvm.ClassFile.FieldType.int) 2 := ⟨q335, q336, q337, q139, q338, by decide +kernel, by decide +kernel, by decide +kernel⟩
theorem m_X2_51 : MV "TrailMarkers$Trails" 51 yX2_isBlock cX2_isBlock 3 (Option.some Jvm.ClassFile.FieldType.boolean) 2 := ⟨q331, q332, q333, q139, q334, by decide +kernel, by decide +kernel, by decide +kernel⟩
theorem m_X2_47 : MV "TrailMarkers$Trails" 47 yX2_isOnMap cX2_isOnMap 3 (Option.some Jvm.ClassFile.FieldType.boolean) 2 := ⟨q327, q328, q329, q139, q330, by decide +kernel, by decide +kernel, by decide +kernel⟩
theorem fa_X2_25 : FA "TrailMarkers$Trails" 25 1 0 := ⟨RX2, TX2, 7, "TrailMarkers$Trails", cf_X2, by decide, q213, Or.inl rfl⟩
theorem fa_X2_29 : FA "TrailMarkers$Trails" 29 1 1 := ⟨RX2, TX2, 7, "TrailMarkers$Trails", cf_X2, by decide, q216, Or.inl rfl⟩
theorem fa_X2_17 : FA "TrailMarkers$Trails" 17 1 4 := ⟨RX2, TX2, 7, "TrailMarkers$Trails", cf_X2, by decide, q227, Or.inl rfl⟩
theorem fa_X2_81_X3 : FA "TrailMarkers$Trails" 81 2 4 := ⟨RX3, TX3, 5, "TrailMarkers$Post", cf_X3, by decide, q302, Or.inl rfl⟩
theorem m_X2_85 : MV "TrailMarkers$Trails" 85 yX3_inState cX3_inState 2 (Option.some (Jvm.ClassFile.FieldType.object "TrailMarkers$Post")) 1 := ⟨q414, q415, q416, q142, q417, by decide +kernel, by decide +kernel, by decide +kernel⟩
theorem fa_X2_44 : FA "TrailMarkers$Trails" 44 1 5 := ⟨RX2, TX2, 7, "TrailMarkers$Trails", cf_X2, by decide, q228, Or.inl rfl⟩
theorem fp_X2_44 : FP "TrailMarkers$Trails" 44 1 5 (tyX2 5) false := ⟨RX2, TX2, 7, "TrailMarkers$Trails", cf_X2, by decide, q228, Or.inl rfl, tyX2_ok 5 (by decide), rfl, fun h9 => nomatch h9⟩
theorem nw_X2_12 : NW "TrailMarkers$Trails" 12 1 7 [vI 0, vI 0, vR none, vI 0, vR none, vI 0, vR none] := ⟨RX2, TX2, 7, tyX2, cf_X2, tyX2_ok, rfl, q1126, q206, q139⟩
theorem m_X2_32 : MI "TrailMarkers$Trails" 32 yX2_init cX2_init 5 4 := ⟨q1127, q208, rfl, q139, q209, by decide +kernel, by decide +kernel, by decide +kernel⟩
theorem m_X2_89 : MV "TrailMarkers$Trails" 89 yX3_standsFor cX3_standsFor 2 (Option.some Jvm.ClassFile.FieldType.boolean) 1 := ⟨q1373, q1306, q1307, q142, q1308, by decide +kernel, by decide +kernel, by decide +kernel⟩
theorem fa_X2_93_X3 : FA "TrailMarkers$Trails" 93 2 2 := ⟨RX3, TX3, 5, "TrailMarkers$Post", cf_X3, by decide, q296, Or.inl rfl⟩
theorem fp_X3_7 : FP "TrailMarkers$Post" 7 2 0 (tyX3 0) true := ⟨RX3, TX3, 5, "TrailMarkers$Post", cf_X3, by decide, q285, Or.inl rfl, tyX3_ok 0 (by decide), rfl, fun _ => rfl⟩
theorem fp_X3_13 : FP "TrailMarkers$Post" 13 2 1 (tyX3 1) true := ⟨RX3, TX3, 5, "TrailMarkers$Post", cf_X3, by decide, q289, Or.inl rfl, tyX3_ok 1 (by decide), rfl, fun _ => rfl⟩
theorem fp_X3_16 : FP "TrailMarkers$Post" 16 2 2 (tyX3 2) true := ⟨RX3, TX3, 5, "TrailMarkers$Post", cf_X3, by decide, q293, Or.inl rfl, tyX3_ok 2 (by decide), rfl, fun _ => rfl⟩
theorem fp_X3_19 : FP "TrailMarkers$Post" 19 2 3 (tyX3 3) true := ⟨RX3, TX3, 5, "TrailMarkers$Post", cf_X3, by decide, q298, Or.inl rfl, tyX3_ok 3 (by decide), rfl, fun _ => rfl⟩
theorem fp_X3_22 : FP "TrailMarkers$Post" 22 2 4 (tyX3 4) true := ⟨RX3, TX3, 5, "TrailMarkers$Post", cf_X3, by decide, q301, Or.inl rfl, tyX3_ok 4 (by decide), rfl, fun _ => rfl⟩
theorem nw_X3_8 : NW "TrailMarkers$Post" 8 2 5 [vI 0, vI 0, vI 0, vI 0, vI 0] := ⟨RX3, TX3, 5, tyX3, cf_X3, tyX3_ok, rfl, q418, q280, q142⟩
theorem fa_X3_7 : FA "TrailMarkers$Post" 7 2 0 := ⟨RX3, TX3, 5, "TrailMarkers$Post", cf_X3, by decide, q285, Or.inl rfl⟩
theorem fa_X3_13 : FA "TrailMarkers$Post" 13 2 1 := ⟨RX3, TX3, 5, "TrailMarkers$Post", cf_X3, by decide, q289, Or.inl rfl⟩
theorem fa_X3_16 : FA "TrailMarkers$Post" 16 2 2 := ⟨RX3, TX3, 5, "TrailMarkers$Post", cf_X3, by decide, q293, Or.inl rfl⟩
theorem fa_X3_19 : FA "TrailMarkers$Post" 19 2 3 := ⟨RX3, TX3, 5, "TrailMarkers$Post", cf_X3, by decide, q298, Or.inl rfl⟩
theorem m_X3_26 : MI "TrailMarkers$Post" 26 yX3_init cX3_init 6 5 := ⟨q419, q282, rfl, q142, q283, by decide +kernel, by decide +kernel, by decide +kernel⟩
theorem fa_X3_22 : FA "TrailMarkers$Post" 22 2 4 := ⟨RX3, TX3, 5, "TrailMarkers$Post", cf_X3, by decide, q301, Or.inl rfl⟩
theorem cf_X9 : CF 8 RX9 TX9 5 := ⟨rfl, in_X9, ⟨tyX9, tyX9_ok⟩, nmX9⟩
theorem fp_X9_9 : FP "TrailMarkers$Way" 9 8 3 (tyX9 3) true := ⟨RX9, TX9, 5, "TrailMarkers$Way", cf_X9, by decide, q1155, Or.inl rfl, tyX9_ok 3 (by decide), rfl, fun _ => rfl⟩
theorem fp_X9_15 : FP "TrailMarkers$Way" 15 8 4 (tyX9 4) true := ⟨RX9, TX9, 5, "TrailMarkers$Way", cf_X9, by decide, q1158, Or.inl rfl, tyX9_ok 4 (by decide), rfl, fun _ => rfl⟩
theorem fp_X9_18 : FP "TrailMarkers$Way" 18 8 0 (tyX9 0) false := ⟨RX9, TX9, 5, "TrailMarkers$Way", cf_X9, by decide, q1146, Or.inl rfl, tyX9_ok 0 (by decide), rfl, fun h9 => nomatch h9⟩
theorem fp_X9_22 : FP "TrailMarkers$Way" 22 8 1 (tyX9 1) false := ⟨RX9, TX9, 5, "TrailMarkers$Way", cf_X9, by decide, q1149, Or.inl rfl, tyX9_ok 1 (by decide), rfl, fun h9 => nomatch h9⟩
theorem fp_X9_25 : FP "TrailMarkers$Way" 25 8 2 (tyX9 2) false := ⟨RX9, TX9, 5, "TrailMarkers$Way", cf_X9, by decide, q1152, Or.inl rfl, tyX9_ok 2 (by decide), rfl, fun h9 => nomatch h9⟩
theorem fa_X9_18 : FA "TrailMarkers$Way" 18 8 0 := ⟨RX9, TX9, 5, "TrailMarkers$Way", cf_X9, by decide, q1146, Or.inl rfl⟩
theorem fa_X9_22 : FA "TrailMarkers$Way" 22 8 1 := ⟨RX9, TX9, 5, "TrailMarkers$Way", cf_X9, by decide, q1149, Or.inl rfl⟩
theorem fa_X9_9 : FA "TrailMarkers$Way" 9 8 3 := ⟨RX9, TX9, 5, "TrailMarkers$Way", cf_X9, by decide, q1155, Or.inl rfl⟩
theorem fa_X9_15 : FA "TrailMarkers$Way" 15 8 4 := ⟨RX9, TX9, 5, "TrailMarkers$Way", cf_X9, by decide, q1158, Or.inl rfl⟩
