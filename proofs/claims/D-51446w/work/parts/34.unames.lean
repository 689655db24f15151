set_option maxRecDepth 100000
abbrev cX5_items : ByteArray := prog_13_method_54_code
def yX5_items : MethodName := ⟨RX5, "items", "()V"⟩
def dkwX5_items_1 : List UInt8 := [167, 255, 237, 177]
abbrev dktX5_items_1 : List UInt8 := dkwX5_items_1 ++ []
def dkwX5_items_0 : List UInt8 := [42, 182, 1, 97, 42, 180, 1, 32, 154, 0, 18, 42, 180, 1, 12, 5, 160, 0, 10, 42, 182, 1, 97]
abbrev dktX5_items_0 : List UInt8 := dkwX5_items_0 ++ dktX5_items_1
theorem dksX5_items_0 : cX5_items.data.toList.drop 0 = dktX5_items_0 := by decide +kernel
theorem dksX5_items_1 : cX5_items.data.toList.drop 23 = dktX5_items_1 := dk_seg dksX5_items_0 23 rfl rfl
theorem dX5_items_0 : decode cX5_items 0 = .ok (.aload_n 0, 1) := dk_42 (dk_at dksX5_items_0 0 rfl rfl)
theorem dX5_items_1 : decode cX5_items 1 = .ok (.invokevirtual 353, 3) := dk_182 1 97 (dk_at dksX5_items_0 1 rfl rfl)
theorem dX5_items_4 : decode cX5_items 4 = .ok (.aload_n 0, 1) := dk_42 (dk_at dksX5_items_0 4 rfl rfl)
theorem dX5_items_5 : decode cX5_items 5 = .ok (.getfield 288, 3) := dk_180 1 32 (dk_at dksX5_items_0 5 rfl rfl)
theorem dX5_items_8 : decode cX5_items 8 = .ok (.ifCond .ne 18, 3) := dk_154 0 18 (dk_at dksX5_items_0 8 rfl rfl)
theorem dX5_items_11 : decode cX5_items 11 = .ok (.aload_n 0, 1) := dk_42 (dk_at dksX5_items_0 11 rfl rfl)
theorem dX5_items_12 : decode cX5_items 12 = .ok (.getfield 268, 3) := dk_180 1 12 (dk_at dksX5_items_0 12 rfl rfl)
theorem dX5_items_15 : decode cX5_items 15 = .ok (.iconst 2, 1) := dk_5 (dk_at dksX5_items_0 15 rfl rfl)
theorem dX5_items_16 : decode cX5_items 16 = .ok (.if_icmp .ne 10, 3) := dk_160 0 10 (dk_at dksX5_items_0 16 rfl rfl)
theorem dX5_items_19 : decode cX5_items 19 = .ok (.aload_n 0, 1) := dk_42 (dk_at dksX5_items_0 19 rfl rfl)
theorem dX5_items_20 : decode cX5_items 20 = .ok (.invokevirtual 353, 3) := dk_182 1 97 (dk_at dksX5_items_0 20 rfl rfl)
theorem dX5_items_23 : decode cX5_items 23 = .ok (.goto (-19), 3) := dk_167 255 237 (dk_at dksX5_items_1 0 rfl rfl)
theorem dX5_items_26 : decode cX5_items 26 = .ok (.return_, 1) := dk_177 (dk_at dksX5_items_1 3 rfl rfl)
abbrev cX5_group : ByteArray := prog_13_method_55_code
def yX5_group : MethodName := ⟨RX5, "group", "(I)V"⟩
def dkwX5_group_7 : List UInt8 := [182, 1, 48, 177]
abbrev dktX5_group_7 : List UInt8 := dkwX5_group_7 ++ []
def dkwX5_group_6 : List UInt8 := [132, 5, 1, 167, 255, 208, 132, 4, 1, 167, 255, 186, 42, 89, 180, 1, 100, 4, 100, 181, 1, 100, 42]
abbrev dktX5_group_6 : List UInt8 := dkwX5_group_6 ++ dktX5_group_7
def dkwX5_group_5 : List UInt8 := [42, 180, 0, 66, 21, 5, 46, 42, 180, 0, 72, 21, 5, 51, 42, 180, 0, 69, 21, 5, 46, 182, 1, 91]
abbrev dktX5_group_5 : List UInt8 := dkwX5_group_5 ++ dktX5_group_6
def dkwX5_group_4 : List UInt8 := [28, 54, 5, 21, 5, 29, 162, 0, 48, 42, 180, 1, 32, 154, 0, 41, 42, 42, 180, 0, 63, 21, 5, 46]
abbrev dktX5_group_4 : List UInt8 := dkwX5_group_4 ++ dktX5_group_5
def dkwX5_group_3 : List UInt8 := [182, 1, 41, 42, 180, 1, 68, 62, 4, 54, 4, 21, 4, 27, 162, 0, 70, 42, 180, 1, 32, 154, 0, 63]
abbrev dktX5_group_3 : List UInt8 := dkwX5_group_3 ++ dktX5_group_4
def dkwX5_group_2 : List UInt8 := [42, 42, 180, 1, 32, 154, 0, 16, 42, 16, 41, 182, 1, 51, 154, 0, 7, 4, 167, 0, 4, 3, 4]
abbrev dktX5_group_2 : List UInt8 := dkwX5_group_2 ++ dktX5_group_3
def dkwX5_group_1 : List UInt8 := [180, 1, 100, 4, 96, 181, 1, 100, 42, 180, 1, 68, 61, 42, 180, 1, 32, 154, 0, 7, 42, 182, 1, 103]
abbrev dktX5_group_1 : List UInt8 := dkwX5_group_1 ++ dktX5_group_2
def dkwX5_group_0 : List UInt8 := [42, 42, 180, 1, 100, 7, 160, 0, 7, 4, 167, 0, 4, 3, 7, 182, 1, 41, 42, 182, 1, 48, 42, 89]
abbrev dktX5_group_0 : List UInt8 := dkwX5_group_0 ++ dktX5_group_1
theorem dksX5_group_0 : cX5_group.data.toList.drop 0 = dktX5_group_0 := by decide +kernel
theorem dksX5_group_1 : cX5_group.data.toList.drop 24 = dktX5_group_1 := dk_seg dksX5_group_0 24 rfl rfl
theorem dksX5_group_2 : cX5_group.data.toList.drop 48 = dktX5_group_2 := dk_seg dksX5_group_1 24 rfl rfl
theorem dksX5_group_3 : cX5_group.data.toList.drop 71 = dktX5_group_3 := dk_seg dksX5_group_2 23 rfl rfl
theorem dksX5_group_4 : cX5_group.data.toList.drop 95 = dktX5_group_4 := dk_seg dksX5_group_3 24 rfl rfl
theorem dksX5_group_5 : cX5_group.data.toList.drop 119 = dktX5_group_5 := dk_seg dksX5_group_4 24 rfl rfl
theorem dksX5_group_6 : cX5_group.data.toList.drop 143 = dktX5_group_6 := dk_seg dksX5_group_5 24 rfl rfl
theorem dksX5_group_7 : cX5_group.data.toList.drop 166 = dktX5_group_7 := dk_seg dksX5_group_6 23 rfl rfl
theorem dX5_group_0 : decode cX5_group 0 = .ok (.aload_n 0, 1) := dk_42 (dk_at dksX5_group_0 0 rfl rfl)
theorem dX5_group_1 : decode cX5_group 1 = .ok (.aload_n 0, 1) := dk_42 (dk_at dksX5_group_0 1 rfl rfl)
theorem dX5_group_2 : decode cX5_group 2 = .ok (.getfield 356, 3) := dk_180 1 100 (dk_at dksX5_group_0 2 rfl rfl)
theorem dX5_group_5 : decode cX5_group 5 = .ok (.iconst 4, 1) := dk_7 (dk_at dksX5_group_0 5 rfl rfl)
theorem dX5_group_6 : decode cX5_group 6 = .ok (.if_icmp .ne 7, 3) := dk_160 0 7 (dk_at dksX5_group_0 6 rfl rfl)
theorem dX5_group_9 : decode cX5_group 9 = .ok (.iconst 1, 1) := dk_4 (dk_at dksX5_group_0 9 rfl rfl)
theorem dX5_group_10 : decode cX5_group 10 = .ok (.goto 4, 3) := dk_167 0 4 (dk_at dksX5_group_0 10 rfl rfl)
theorem dX5_group_13 : decode cX5_group 13 = .ok (.iconst 0, 1) := dk_3 (dk_at dksX5_group_0 13 rfl rfl)
theorem dX5_group_14 : decode cX5_group 14 = .ok (.iconst 4, 1) := dk_7 (dk_at dksX5_group_0 14 rfl rfl)
theorem dX5_group_15 : decode cX5_group 15 = .ok (.invokevirtual 297, 3) := dk_182 1 41 (dk_at dksX5_group_0 15 rfl rfl)
theorem dX5_group_18 : decode cX5_group 18 = .ok (.aload_n 0, 1) := dk_42 (dk_at dksX5_group_0 18 rfl rfl)
theorem dX5_group_19 : decode cX5_group 19 = .ok (.invokevirtual 304, 3) := dk_182 1 48 (dk_at dksX5_group_0 19 rfl rfl)
theorem dX5_group_22 : decode cX5_group 22 = .ok (.aload_n 0, 1) := dk_42 (dk_at dksX5_group_0 22 rfl rfl)
theorem dX5_group_23 : decode cX5_group 23 = .ok (.dup, 1) := dk_89 (dk_at dksX5_group_0 23 rfl rfl)
theorem dX5_group_24 : decode cX5_group 24 = .ok (.getfield 356, 3) := dk_180 1 100 (dk_at dksX5_group_1 0 rfl rfl)
theorem dX5_group_27 : decode cX5_group 27 = .ok (.iconst 1, 1) := dk_4 (dk_at dksX5_group_1 3 rfl rfl)
theorem dX5_group_28 : decode cX5_group 28 = .ok (.iadd, 1) := dk_96 (dk_at dksX5_group_1 4 rfl rfl)
theorem dX5_group_29 : decode cX5_group 29 = .ok (.putfield 356, 3) := dk_181 1 100 (dk_at dksX5_group_1 5 rfl rfl)
theorem dX5_group_32 : decode cX5_group 32 = .ok (.aload_n 0, 1) := dk_42 (dk_at dksX5_group_1 8 rfl rfl)
theorem dX5_group_33 : decode cX5_group 33 = .ok (.getfield 324, 3) := dk_180 1 68 (dk_at dksX5_group_1 9 rfl rfl)
theorem dX5_group_36 : decode cX5_group 36 = .ok (.istore_n 2, 1) := dk_61 (dk_at dksX5_group_1 12 rfl rfl)
theorem dX5_group_37 : decode cX5_group 37 = .ok (.aload_n 0, 1) := dk_42 (dk_at dksX5_group_1 13 rfl rfl)
theorem dX5_group_38 : decode cX5_group 38 = .ok (.getfield 288, 3) := dk_180 1 32 (dk_at dksX5_group_1 14 rfl rfl)
theorem dX5_group_41 : decode cX5_group 41 = .ok (.ifCond .ne 7, 3) := dk_154 0 7 (dk_at dksX5_group_1 17 rfl rfl)
theorem dX5_group_44 : decode cX5_group 44 = .ok (.aload_n 0, 1) := dk_42 (dk_at dksX5_group_1 20 rfl rfl)
theorem dX5_group_45 : decode cX5_group 45 = .ok (.invokevirtual 359, 3) := dk_182 1 103 (dk_at dksX5_group_1 21 rfl rfl)
theorem dX5_group_48 : decode cX5_group 48 = .ok (.aload_n 0, 1) := dk_42 (dk_at dksX5_group_2 0 rfl rfl)
theorem dX5_group_49 : decode cX5_group 49 = .ok (.aload_n 0, 1) := dk_42 (dk_at dksX5_group_2 1 rfl rfl)
theorem dX5_group_50 : decode cX5_group 50 = .ok (.getfield 288, 3) := dk_180 1 32 (dk_at dksX5_group_2 2 rfl rfl)
theorem dX5_group_53 : decode cX5_group 53 = .ok (.ifCond .ne 16, 3) := dk_154 0 16 (dk_at dksX5_group_2 5 rfl rfl)
theorem dX5_group_56 : decode cX5_group 56 = .ok (.aload_n 0, 1) := dk_42 (dk_at dksX5_group_2 8 rfl rfl)
theorem dX5_group_57 : decode cX5_group 57 = .ok (.bipush 41, 2) := dk_16 41 (dk_at dksX5_group_2 9 rfl rfl)
theorem dX5_group_59 : decode cX5_group 59 = .ok (.invokevirtual 307, 3) := dk_182 1 51 (dk_at dksX5_group_2 11 rfl rfl)
theorem dX5_group_62 : decode cX5_group 62 = .ok (.ifCond .ne 7, 3) := dk_154 0 7 (dk_at dksX5_group_2 14 rfl rfl)
theorem dX5_group_65 : decode cX5_group 65 = .ok (.iconst 1, 1) := dk_4 (dk_at dksX5_group_2 17 rfl rfl)
theorem dX5_group_66 : decode cX5_group 66 = .ok (.goto 4, 3) := dk_167 0 4 (dk_at dksX5_group_2 18 rfl rfl)
theorem dX5_group_69 : decode cX5_group 69 = .ok (.iconst 0, 1) := dk_3 (dk_at dksX5_group_2 21 rfl rfl)
theorem dX5_group_70 : decode cX5_group 70 = .ok (.iconst 1, 1) := dk_4 (dk_at dksX5_group_2 22 rfl rfl)
theorem dX5_group_71 : decode cX5_group 71 = .ok (.invokevirtual 297, 3) := dk_182 1 41 (dk_at dksX5_group_3 0 rfl rfl)
theorem dX5_group_74 : decode cX5_group 74 = .ok (.aload_n 0, 1) := dk_42 (dk_at dksX5_group_3 3 rfl rfl)
theorem dX5_group_75 : decode cX5_group 75 = .ok (.getfield 324, 3) := dk_180 1 68 (dk_at dksX5_group_3 4 rfl rfl)
theorem dX5_group_78 : decode cX5_group 78 = .ok (.istore_n 3, 1) := dk_62 (dk_at dksX5_group_3 7 rfl rfl)
theorem dX5_group_79 : decode cX5_group 79 = .ok (.iconst 1, 1) := dk_4 (dk_at dksX5_group_3 8 rfl rfl)
theorem dX5_group_80 : decode cX5_group 80 = .ok (.istore 4, 2) := dk_54 4 (dk_at dksX5_group_3 9 rfl rfl)
theorem dX5_group_82 : decode cX5_group 82 = .ok (.iload 4, 2) := dk_21 4 (dk_at dksX5_group_3 11 rfl rfl)
theorem dX5_group_84 : decode cX5_group 84 = .ok (.iload_n 1, 1) := dk_27 (dk_at dksX5_group_3 13 rfl rfl)
theorem dX5_group_85 : decode cX5_group 85 = .ok (.if_icmp .ge 70, 3) := dk_162 0 70 (dk_at dksX5_group_3 14 rfl rfl)
theorem dX5_group_88 : decode cX5_group 88 = .ok (.aload_n 0, 1) := dk_42 (dk_at dksX5_group_3 17 rfl rfl)
theorem dX5_group_89 : decode cX5_group 89 = .ok (.getfield 288, 3) := dk_180 1 32 (dk_at dksX5_group_3 18 rfl rfl)
theorem dX5_group_92 : decode cX5_group 92 = .ok (.ifCond .ne 63, 3) := dk_154 0 63 (dk_at dksX5_group_3 21 rfl rfl)
theorem dX5_group_95 : decode cX5_group 95 = .ok (.iload_n 2, 1) := dk_28 (dk_at dksX5_group_4 0 rfl rfl)
theorem dX5_group_96 : decode cX5_group 96 = .ok (.istore 5, 2) := dk_54 5 (dk_at dksX5_group_4 1 rfl rfl)
theorem dX5_group_98 : decode cX5_group 98 = .ok (.iload 5, 2) := dk_21 5 (dk_at dksX5_group_4 3 rfl rfl)
theorem dX5_group_100 : decode cX5_group 100 = .ok (.iload_n 3, 1) := dk_29 (dk_at dksX5_group_4 5 rfl rfl)
theorem dX5_group_101 : decode cX5_group 101 = .ok (.if_icmp .ge 48, 3) := dk_162 0 48 (dk_at dksX5_group_4 6 rfl rfl)
theorem dX5_group_104 : decode cX5_group 104 = .ok (.aload_n 0, 1) := dk_42 (dk_at dksX5_group_4 9 rfl rfl)
theorem dX5_group_105 : decode cX5_group 105 = .ok (.getfield 288, 3) := dk_180 1 32 (dk_at dksX5_group_4 10 rfl rfl)
theorem dX5_group_108 : decode cX5_group 108 = .ok (.ifCond .ne 41, 3) := dk_154 0 41 (dk_at dksX5_group_4 13 rfl rfl)
theorem dX5_group_111 : decode cX5_group 111 = .ok (.aload_n 0, 1) := dk_42 (dk_at dksX5_group_4 16 rfl rfl)
theorem dX5_group_112 : decode cX5_group 112 = .ok (.aload_n 0, 1) := dk_42 (dk_at dksX5_group_4 17 rfl rfl)
theorem dX5_group_113 : decode cX5_group 113 = .ok (.getfield 63, 3) := dk_180 0 63 (dk_at dksX5_group_4 18 rfl rfl)
theorem dX5_group_116 : decode cX5_group 116 = .ok (.iload 5, 2) := dk_21 5 (dk_at dksX5_group_4 21 rfl rfl)
theorem dX5_group_118 : decode cX5_group 118 = .ok (.iaload, 1) := dk_46 (dk_at dksX5_group_4 23 rfl rfl)
theorem dX5_group_119 : decode cX5_group 119 = .ok (.aload_n 0, 1) := dk_42 (dk_at dksX5_group_5 0 rfl rfl)
theorem dX5_group_120 : decode cX5_group 120 = .ok (.getfield 66, 3) := dk_180 0 66 (dk_at dksX5_group_5 1 rfl rfl)
theorem dX5_group_123 : decode cX5_group 123 = .ok (.iload 5, 2) := dk_21 5 (dk_at dksX5_group_5 4 rfl rfl)
theorem dX5_group_125 : decode cX5_group 125 = .ok (.iaload, 1) := dk_46 (dk_at dksX5_group_5 6 rfl rfl)
theorem dX5_group_126 : decode cX5_group 126 = .ok (.aload_n 0, 1) := dk_42 (dk_at dksX5_group_5 7 rfl rfl)
theorem dX5_group_127 : decode cX5_group 127 = .ok (.getfield 72, 3) := dk_180 0 72 (dk_at dksX5_group_5 8 rfl rfl)
theorem dX5_group_130 : decode cX5_group 130 = .ok (.iload 5, 2) := dk_21 5 (dk_at dksX5_group_5 11 rfl rfl)
theorem dX5_group_132 : decode cX5_group 132 = .ok (.baload, 1) := dk_51 (dk_at dksX5_group_5 13 rfl rfl)
theorem dX5_group_133 : decode cX5_group 133 = .ok (.aload_n 0, 1) := dk_42 (dk_at dksX5_group_5 14 rfl rfl)
theorem dX5_group_134 : decode cX5_group 134 = .ok (.getfield 69, 3) := dk_180 0 69 (dk_at dksX5_group_5 15 rfl rfl)
theorem dX5_group_137 : decode cX5_group 137 = .ok (.iload 5, 2) := dk_21 5 (dk_at dksX5_group_5 18 rfl rfl)
theorem dX5_group_139 : decode cX5_group 139 = .ok (.iaload, 1) := dk_46 (dk_at dksX5_group_5 20 rfl rfl)
theorem dX5_group_140 : decode cX5_group 140 = .ok (.invokevirtual 347, 3) := dk_182 1 91 (dk_at dksX5_group_5 21 rfl rfl)
theorem dX5_group_143 : decode cX5_group 143 = .ok (.iinc 5 1, 3) := dk_132 5 1 (dk_at dksX5_group_6 0 rfl rfl)
theorem dX5_group_146 : decode cX5_group 146 = .ok (.goto (-48), 3) := dk_167 255 208 (dk_at dksX5_group_6 3 rfl rfl)
theorem dX5_group_149 : decode cX5_group 149 = .ok (.iinc 4 1, 3) := dk_132 4 1 (dk_at dksX5_group_6 6 rfl rfl)
theorem dX5_group_152 : decode cX5_group 152 = .ok (.goto (-70), 3) := dk_167 255 186 (dk_at dksX5_group_6 9 rfl rfl)
theorem dX5_group_155 : decode cX5_group 155 = .ok (.aload_n 0, 1) := dk_42 (dk_at dksX5_group_6 12 rfl rfl)
theorem dX5_group_156 : decode cX5_group 156 = .ok (.dup, 1) := dk_89 (dk_at dksX5_group_6 13 rfl rfl)
theorem dX5_group_157 : decode cX5_group 157 = .ok (.getfield 356, 3) := dk_180 1 100 (dk_at dksX5_group_6 14 rfl rfl)
theorem dX5_group_160 : decode cX5_group 160 = .ok (.iconst 1, 1) := dk_4 (dk_at dksX5_group_6 17 rfl rfl)
theorem dX5_group_161 : decode cX5_group 161 = .ok (.isub, 1) := dk_100 (dk_at dksX5_group_6 18 rfl rfl)
theorem dX5_group_162 : decode cX5_group 162 = .ok (.putfield 356, 3) := dk_181 1 100 (dk_at dksX5_group_6 19 rfl rfl)
theorem dX5_group_165 : decode cX5_group 165 = .ok (.aload_n 0, 1) := dk_42 (dk_at dksX5_group_6 22 rfl rfl)
theorem dX5_group_166 : decode cX5_group 166 = .ok (.invokevirtual 304, 3) := dk_182 1 48 (dk_at dksX5_group_7 0 rfl rfl)
theorem dX5_group_169 : decode cX5_group 169 = .ok (.return_, 1) := dk_177 (dk_at dksX5_group_7 3 rfl rfl)
abbrev cX5_is : ByteArray := prog_13_method_41_code
def yX5_is : MethodName := ⟨RX5, "is", "(Ljava/lang/String;)Z"⟩
def dkwX5_is_2 : List UInt8 := [28, 182, 0, 96, 159, 0, 5, 3, 172, 132, 2, 1, 167, 255, 224, 4, 172]
abbrev dktX5_is_2 : List UInt8 := dkwX5_is_2 ++ []
def dkwX5_is_1 : List UInt8 := [3, 172, 3, 61, 28, 43, 182, 0, 87, 162, 0, 30, 42, 180, 0, 29, 42, 180, 1, 9, 28, 96, 46, 43]
abbrev dktX5_is_1 : List UInt8 := dkwX5_is_1 ++ dktX5_is_2
def dkwX5_is_0 : List UInt8 := [42, 180, 1, 12, 4, 160, 0, 19, 42, 180, 1, 6, 42, 180, 1, 9, 100, 43, 182, 0, 87, 159, 0, 5]
abbrev dktX5_is_0 : List UInt8 := dkwX5_is_0 ++ dktX5_is_1
theorem dksX5_is_0 : cX5_is.data.toList.drop 0 = dktX5_is_0 := by decide +kernel
theorem dksX5_is_1 : cX5_is.data.toList.drop 24 = dktX5_is_1 := dk_seg dksX5_is_0 24 rfl rfl
theorem dksX5_is_2 : cX5_is.data.toList.drop 48 = dktX5_is_2 := dk_seg dksX5_is_1 24 rfl rfl
theorem dX5_is_0 : decode cX5_is 0 = .ok (.aload_n 0, 1) := dk_42 (dk_at dksX5_is_0 0 rfl rfl)
theorem dX5_is_1 : decode cX5_is 1 = .ok (.getfield 268, 3) := dk_180 1 12 (dk_at dksX5_is_0 1 rfl rfl)
theorem dX5_is_4 : decode cX5_is 4 = .ok (.iconst 1, 1) := dk_4 (dk_at dksX5_is_0 4 rfl rfl)
theorem dX5_is_5 : decode cX5_is 5 = .ok (.if_icmp .ne 19, 3) := dk_160 0 19 (dk_at dksX5_is_0 5 rfl rfl)
theorem dX5_is_8 : decode cX5_is 8 = .ok (.aload_n 0, 1) := dk_42 (dk_at dksX5_is_0 8 rfl rfl)
theorem dX5_is_9 : decode cX5_is 9 = .ok (.getfield 262, 3) := dk_180 1 6 (dk_at dksX5_is_0 9 rfl rfl)
theorem dX5_is_12 : decode cX5_is 12 = .ok (.aload_n 0, 1) := dk_42 (dk_at dksX5_is_0 12 rfl rfl)
theorem dX5_is_13 : decode cX5_is 13 = .ok (.getfield 265, 3) := dk_180 1 9 (dk_at dksX5_is_0 13 rfl rfl)
theorem dX5_is_16 : decode cX5_is 16 = .ok (.isub, 1) := dk_100 (dk_at dksX5_is_0 16 rfl rfl)
theorem dX5_is_17 : decode cX5_is 17 = .ok (.aload_n 1, 1) := dk_43 (dk_at dksX5_is_0 17 rfl rfl)
theorem dX5_is_18 : decode cX5_is 18 = .ok (.invokevirtual 87, 3) := dk_182 0 87 (dk_at dksX5_is_0 18 rfl rfl)
theorem dX5_is_21 : decode cX5_is 21 = .ok (.if_icmp .eq 5, 3) := dk_159 0 5 (dk_at dksX5_is_0 21 rfl rfl)
theorem dX5_is_24 : decode cX5_is 24 = .ok (.iconst 0, 1) := dk_3 (dk_at dksX5_is_1 0 rfl rfl)
theorem dX5_is_25 : decode cX5_is 25 = .ok (.ireturn, 1) := dk_172 (dk_at dksX5_is_1 1 rfl rfl)
theorem dX5_is_26 : decode cX5_is 26 = .ok (.iconst 0, 1) := dk_3 (dk_at dksX5_is_1 2 rfl rfl)
theorem dX5_is_27 : decode cX5_is 27 = .ok (.istore_n 2, 1) := dk_61 (dk_at dksX5_is_1 3 rfl rfl)
theorem dX5_is_28 : decode cX5_is 28 = .ok (.iload_n 2, 1) := dk_28 (dk_at dksX5_is_1 4 rfl rfl)
theorem dX5_is_29 : decode cX5_is 29 = .ok (.aload_n 1, 1) := dk_43 (dk_at dksX5_is_1 5 rfl rfl)
theorem dX5_is_30 : decode cX5_is 30 = .ok (.invokevirtual 87, 3) := dk_182 0 87 (dk_at dksX5_is_1 6 rfl rfl)
theorem dX5_is_33 : decode cX5_is 33 = .ok (.if_icmp .ge 30, 3) := dk_162 0 30 (dk_at dksX5_is_1 9 rfl rfl)
theorem dX5_is_36 : decode cX5_is 36 = .ok (.aload_n 0, 1) := dk_42 (dk_at dksX5_is_1 12 rfl rfl)
theorem dX5_is_37 : decode cX5_is 37 = .ok (.getfield 29, 3) := dk_180 0 29 (dk_at dksX5_is_1 13 rfl rfl)
theorem dX5_is_40 : decode cX5_is 40 = .ok (.aload_n 0, 1) := dk_42 (dk_at dksX5_is_1 16 rfl rfl)
theorem dX5_is_41 : decode cX5_is 41 = .ok (.getfield 265, 3) := dk_180 1 9 (dk_at dksX5_is_1 17 rfl rfl)
theorem dX5_is_44 : decode cX5_is 44 = .ok (.iload_n 2, 1) := dk_28 (dk_at dksX5_is_1 20 rfl rfl)
theorem dX5_is_45 : decode cX5_is 45 = .ok (.iadd, 1) := dk_96 (dk_at dksX5_is_1 21 rfl rfl)
theorem dX5_is_46 : decode cX5_is 46 = .ok (.iaload, 1) := dk_46 (dk_at dksX5_is_1 22 rfl rfl)
theorem dX5_is_47 : decode cX5_is 47 = .ok (.aload_n 1, 1) := dk_43 (dk_at dksX5_is_1 23 rfl rfl)
theorem dX5_is_48 : decode cX5_is 48 = .ok (.iload_n 2, 1) := dk_28 (dk_at dksX5_is_2 0 rfl rfl)
theorem dX5_is_49 : decode cX5_is 49 = .ok (.invokevirtual 96, 3) := dk_182 0 96 (dk_at dksX5_is_2 1 rfl rfl)
theorem dX5_is_52 : decode cX5_is 52 = .ok (.if_icmp .eq 5, 3) := dk_159 0 5 (dk_at dksX5_is_2 4 rfl rfl)
theorem dX5_is_55 : decode cX5_is 55 = .ok (.iconst 0, 1) := dk_3 (dk_at dksX5_is_2 7 rfl rfl)
theorem dX5_is_56 : decode cX5_is 56 = .ok (.ireturn, 1) := dk_172 (dk_at dksX5_is_2 8 rfl rfl)
theorem dX5_is_57 : decode cX5_is 57 = .ok (.iinc 2 1, 3) := dk_132 2 1 (dk_at dksX5_is_2 9 rfl rfl)
theorem dX5_is_60 : decode cX5_is 60 = .ok (.goto (-32), 3) := dk_167 255 224 (dk_at dksX5_is_2 12 rfl rfl)
theorem dX5_is_63 : decode cX5_is 63 = .ok (.iconst 1, 1) := dk_4 (dk_at dksX5_is_2 15 rfl rfl)
theorem dX5_is_64 : decode cX5_is 64 = .ok (.ireturn, 1) := dk_172 (dk_at dksX5_is_2 16 rfl rfl)
abbrev cX5_side : ByteArray := prog_13_method_52_code
def yX5_side : MethodName := ⟨RX5, "side", "()I"⟩
def dkwX5_side_2 : List UInt8 := [182, 1, 73, 153, 0, 7, 6, 167, 0, 4, 2, 172]
abbrev dktX5_side_2 : List UInt8 := dkwX5_side_2 ++ []
def dkwX5_side_1 : List UInt8 := [4, 167, 0, 32, 42, 19, 1, 79, 182, 1, 73, 153, 0, 7, 5, 167, 0, 18, 42, 19, 1, 80]
abbrev dktX5_side_1 : List UInt8 := dkwX5_side_1 ++ dktX5_side_2
def dkwX5_side_0 : List UInt8 := [42, 19, 1, 71, 182, 1, 73, 153, 0, 7, 3, 167, 0, 46, 42, 19, 1, 77, 182, 1, 73, 153, 0, 7]
abbrev dktX5_side_0 : List UInt8 := dkwX5_side_0 ++ dktX5_side_1
theorem dksX5_side_0 : cX5_side.data.toList.drop 0 = dktX5_side_0 := by decide +kernel
theorem dksX5_side_1 : cX5_side.data.toList.drop 24 = dktX5_side_1 := dk_seg dksX5_side_0 24 rfl rfl
theorem dksX5_side_2 : cX5_side.data.toList.drop 46 = dktX5_side_2 := dk_seg dksX5_side_1 22 rfl rfl
theorem dX5_side_0 : decode cX5_side 0 = .ok (.aload_n 0, 1) := dk_42 (dk_at dksX5_side_0 0 rfl rfl)
theorem dX5_side_1 : decode cX5_side 1 = .ok (.ldc_w 327, 3) := dk_19 1 71 (dk_at dksX5_side_0 1 rfl rfl)
theorem dX5_side_4 : decode cX5_side 4 = .ok (.invokevirtual 329, 3) := dk_182 1 73 (dk_at dksX5_side_0 4 rfl rfl)
theorem dX5_side_7 : decode cX5_side 7 = .ok (.ifCond .eq 7, 3) := dk_153 0 7 (dk_at dksX5_side_0 7 rfl rfl)
theorem dX5_side_10 : decode cX5_side 10 = .ok (.iconst 0, 1) := dk_3 (dk_at dksX5_side_0 10 rfl rfl)
theorem dX5_side_11 : decode cX5_side 11 = .ok (.goto 46, 3) := dk_167 0 46 (dk_at dksX5_side_0 11 rfl rfl)
theorem dX5_side_14 : decode cX5_side 14 = .ok (.aload_n 0, 1) := dk_42 (dk_at dksX5_side_0 14 rfl rfl)
theorem dX5_side_15 : decode cX5_side 15 = .ok (.ldc_w 333, 3) := dk_19 1 77 (dk_at dksX5_side_0 15 rfl rfl)
theorem dX5_side_18 : decode cX5_side 18 = .ok (.invokevirtual 329, 3) := dk_182 1 73 (dk_at dksX5_side_0 18 rfl rfl)
theorem dX5_side_21 : decode cX5_side 21 = .ok (.ifCond .eq 7, 3) := dk_153 0 7 (dk_at dksX5_side_0 21 rfl rfl)
theorem dX5_side_24 : decode cX5_side 24 = .ok (.iconst 1, 1) := dk_4 (dk_at dksX5_side_1 0 rfl rfl)
theorem dX5_side_25 : decode cX5_side 25 = .ok (.goto 32, 3) := dk_167 0 32 (dk_at dksX5_side_1 1 rfl rfl)
theorem dX5_side_28 : decode cX5_side 28 = .ok (.aload_n 0, 1) := dk_42 (dk_at dksX5_side_1 4 rfl rfl)
theorem dX5_side_29 : decode cX5_side 29 = .ok (.ldc_w 335, 3) := dk_19 1 79 (dk_at dksX5_side_1 5 rfl rfl)
theorem dX5_side_32 : decode cX5_side 32 = .ok (.invokevirtual 329, 3) := dk_182 1 73 (dk_at dksX5_side_1 8 rfl rfl)
theorem dX5_side_35 : decode cX5_side 35 = .ok (.ifCond .eq 7, 3) := dk_153 0 7 (dk_at dksX5_side_1 11 rfl rfl)
theorem dX5_side_38 : decode cX5_side 38 = .ok (.iconst 2, 1) := dk_5 (dk_at dksX5_side_1 14 rfl rfl)
theorem dX5_side_39 : decode cX5_side 39 = .ok (.goto 18, 3) := dk_167 0 18 (dk_at dksX5_side_1 15 rfl rfl)
theorem dX5_side_42 : decode cX5_side 42 = .ok (.aload_n 0, 1) := dk_42 (dk_at dksX5_side_1 18 rfl rfl)
theorem dX5_side_43 : decode cX5_side 43 = .ok (.ldc_w 336, 3) := dk_19 1 80 (dk_at dksX5_side_1 19 rfl rfl)
theorem dX5_side_46 : decode cX5_side 46 = .ok (.invokevirtual 329, 3) := dk_182 1 73 (dk_at dksX5_side_2 0 rfl rfl)
theorem dX5_side_49 : decode cX5_side 49 = .ok (.ifCond .eq 7, 3) := dk_153 0 7 (dk_at dksX5_side_2 3 rfl rfl)
theorem dX5_side_52 : decode cX5_side 52 = .ok (.iconst 3, 1) := dk_6 (dk_at dksX5_side_2 6 rfl rfl)
theorem dX5_side_53 : decode cX5_side 53 = .ok (.goto 4, 3) := dk_167 0 4 (dk_at dksX5_side_2 7 rfl rfl)
theorem dX5_side_56 : decode cX5_side 56 = .ok (.iconst (-1), 1) := dk_2 (dk_at dksX5_side_2 10 rfl rfl)
theorem dX5_side_57 : decode cX5_side 57 = .ok (.ireturn, 1) := dk_172 (dk_at dksX5_side_2 11 rfl rfl)
abbrev cX5_item : ByteArray := prog_13_method_53_code
def yX5_item : MethodName := ⟨RX5, "item", "()V"⟩
def dkwX5_item_4 : List UInt8 := [42, 180, 0, 72, 42, 180, 1, 68, 4, 100, 4, 84, 42, 182, 1, 48, 177]
abbrev dktX5_item_4 : List UInt8 := dkwX5_item_4 ++ []
def dkwX5_item_3 : List UInt8 := [154, 0, 13, 42, 19, 1, 95, 182, 1, 73, 154, 0, 4, 177, 42, 42, 180, 1, 58, 7, 4, 182, 1, 54]
abbrev dktX5_item_3 : List UInt8 := dkwX5_item_3 ++ dktX5_item_4
def dkwX5_item_2 : List UInt8 := [3, 4, 182, 1, 41, 42, 27, 28, 3, 42, 180, 1, 9, 182, 1, 91, 42, 182, 1, 48, 42, 180, 1, 32]
abbrev dktX5_item_2 : List UInt8 := dkwX5_item_2 ++ dktX5_item_3
def dkwX5_item_1 : List UInt8 := [153, 0, 9, 42, 27, 182, 1, 85, 177, 42, 182, 1, 88, 61, 42, 28, 2, 160, 0, 7, 4, 167, 0, 4]
abbrev dktX5_item_1 : List UInt8 := dkwX5_item_1 ++ dktX5_item_2
def dkwX5_item_0 : List UInt8 := [42, 4, 16, 19, 182, 1, 82, 60, 42, 180, 1, 32, 153, 0, 4, 177, 42, 16, 40, 182, 1, 51]
abbrev dktX5_item_0 : List UInt8 := dkwX5_item_0 ++ dktX5_item_1
theorem dksX5_item_0 : cX5_item.data.toList.drop 0 = dktX5_item_0 := by decide +kernel
theorem dksX5_item_1 : cX5_item.data.toList.drop 22 = dktX5_item_1 := dk_seg dksX5_item_0 22 rfl rfl
theorem dksX5_item_2 : cX5_item.data.toList.drop 46 = dktX5_item_2 := dk_seg dksX5_item_1 24 rfl rfl
theorem dksX5_item_3 : cX5_item.data.toList.drop 70 = dktX5_item_3 := dk_seg dksX5_item_2 24 rfl rfl
theorem dksX5_item_4 : cX5_item.data.toList.drop 94 = dktX5_item_4 := dk_seg dksX5_item_3 24 rfl rfl
theorem dX5_item_0 : decode cX5_item 0 = .ok (.aload_n 0, 1) := dk_42 (dk_at dksX5_item_0 0 rfl rfl)
theorem dX5_item_1 : decode cX5_item 1 = .ok (.iconst 1, 1) := dk_4 (dk_at dksX5_item_0 1 rfl rfl)
theorem dX5_item_2 : decode cX5_item 2 = .ok (.bipush 19, 2) := dk_16 19 (dk_at dksX5_item_0 2 rfl rfl)
theorem dX5_item_4 : decode cX5_item 4 = .ok (.invokevirtual 338, 3) := dk_182 1 82 (dk_at dksX5_item_0 4 rfl rfl)
theorem dX5_item_7 : decode cX5_item 7 = .ok (.istore_n 1, 1) := dk_60 (dk_at dksX5_item_0 7 rfl rfl)
theorem dX5_item_8 : decode cX5_item 8 = .ok (.aload_n 0, 1) := dk_42 (dk_at dksX5_item_0 8 rfl rfl)
theorem dX5_item_9 : decode cX5_item 9 = .ok (.getfield 288, 3) := dk_180 1 32 (dk_at dksX5_item_0 9 rfl rfl)
theorem dX5_item_12 : decode cX5_item 12 = .ok (.ifCond .eq 4, 3) := dk_153 0 4 (dk_at dksX5_item_0 12 rfl rfl)
theorem dX5_item_15 : decode cX5_item 15 = .ok (.return_, 1) := dk_177 (dk_at dksX5_item_0 15 rfl rfl)
theorem dX5_item_16 : decode cX5_item 16 = .ok (.aload_n 0, 1) := dk_42 (dk_at dksX5_item_0 16 rfl rfl)
theorem dX5_item_17 : decode cX5_item 17 = .ok (.bipush 40, 2) := dk_16 40 (dk_at dksX5_item_0 17 rfl rfl)
theorem dX5_item_19 : decode cX5_item 19 = .ok (.invokevirtual 307, 3) := dk_182 1 51 (dk_at dksX5_item_0 19 rfl rfl)
theorem dX5_item_22 : decode cX5_item 22 = .ok (.ifCond .eq 9, 3) := dk_153 0 9 (dk_at dksX5_item_1 0 rfl rfl)
theorem dX5_item_25 : decode cX5_item 25 = .ok (.aload_n 0, 1) := dk_42 (dk_at dksX5_item_1 3 rfl rfl)
theorem dX5_item_26 : decode cX5_item 26 = .ok (.iload_n 1, 1) := dk_27 (dk_at dksX5_item_1 4 rfl rfl)
theorem dX5_item_27 : decode cX5_item 27 = .ok (.invokevirtual 341, 3) := dk_182 1 85 (dk_at dksX5_item_1 5 rfl rfl)
theorem dX5_item_30 : decode cX5_item 30 = .ok (.return_, 1) := dk_177 (dk_at dksX5_item_1 8 rfl rfl)
theorem dX5_item_31 : decode cX5_item 31 = .ok (.aload_n 0, 1) := dk_42 (dk_at dksX5_item_1 9 rfl rfl)
theorem dX5_item_32 : decode cX5_item 32 = .ok (.invokevirtual 344, 3) := dk_182 1 88 (dk_at dksX5_item_1 10 rfl rfl)
theorem dX5_item_35 : decode cX5_item 35 = .ok (.istore_n 2, 1) := dk_61 (dk_at dksX5_item_1 13 rfl rfl)
theorem dX5_item_36 : decode cX5_item 36 = .ok (.aload_n 0, 1) := dk_42 (dk_at dksX5_item_1 14 rfl rfl)
theorem dX5_item_37 : decode cX5_item 37 = .ok (.iload_n 2, 1) := dk_28 (dk_at dksX5_item_1 15 rfl rfl)
theorem dX5_item_38 : decode cX5_item 38 = .ok (.iconst (-1), 1) := dk_2 (dk_at dksX5_item_1 16 rfl rfl)
theorem dX5_item_39 : decode cX5_item 39 = .ok (.if_icmp .ne 7, 3) := dk_160 0 7 (dk_at dksX5_item_1 17 rfl rfl)
theorem dX5_item_42 : decode cX5_item 42 = .ok (.iconst 1, 1) := dk_4 (dk_at dksX5_item_1 20 rfl rfl)
theorem dX5_item_43 : decode cX5_item 43 = .ok (.goto 4, 3) := dk_167 0 4 (dk_at dksX5_item_1 21 rfl rfl)
theorem dX5_item_46 : decode cX5_item 46 = .ok (.iconst 0, 1) := dk_3 (dk_at dksX5_item_2 0 rfl rfl)
theorem dX5_item_47 : decode cX5_item 47 = .ok (.iconst 1, 1) := dk_4 (dk_at dksX5_item_2 1 rfl rfl)
theorem dX5_item_48 : decode cX5_item 48 = .ok (.invokevirtual 297, 3) := dk_182 1 41 (dk_at dksX5_item_2 2 rfl rfl)
theorem dX5_item_51 : decode cX5_item 51 = .ok (.aload_n 0, 1) := dk_42 (dk_at dksX5_item_2 5 rfl rfl)
theorem dX5_item_52 : decode cX5_item 52 = .ok (.iload_n 1, 1) := dk_27 (dk_at dksX5_item_2 6 rfl rfl)
theorem dX5_item_53 : decode cX5_item 53 = .ok (.iload_n 2, 1) := dk_28 (dk_at dksX5_item_2 7 rfl rfl)
theorem dX5_item_54 : decode cX5_item 54 = .ok (.iconst 0, 1) := dk_3 (dk_at dksX5_item_2 8 rfl rfl)
theorem dX5_item_55 : decode cX5_item 55 = .ok (.aload_n 0, 1) := dk_42 (dk_at dksX5_item_2 9 rfl rfl)
theorem dX5_item_56 : decode cX5_item 56 = .ok (.getfield 265, 3) := dk_180 1 9 (dk_at dksX5_item_2 10 rfl rfl)
theorem dX5_item_59 : decode cX5_item 59 = .ok (.invokevirtual 347, 3) := dk_182 1 91 (dk_at dksX5_item_2 13 rfl rfl)
theorem dX5_item_62 : decode cX5_item 62 = .ok (.aload_n 0, 1) := dk_42 (dk_at dksX5_item_2 16 rfl rfl)
theorem dX5_item_63 : decode cX5_item 63 = .ok (.invokevirtual 304, 3) := dk_182 1 48 (dk_at dksX5_item_2 17 rfl rfl)
theorem dX5_item_66 : decode cX5_item 66 = .ok (.aload_n 0, 1) := dk_42 (dk_at dksX5_item_2 20 rfl rfl)
theorem dX5_item_67 : decode cX5_item 67 = .ok (.getfield 288, 3) := dk_180 1 32 (dk_at dksX5_item_2 21 rfl rfl)
theorem dX5_item_70 : decode cX5_item 70 = .ok (.ifCond .ne 13, 3) := dk_154 0 13 (dk_at dksX5_item_3 0 rfl rfl)
theorem dX5_item_73 : decode cX5_item 73 = .ok (.aload_n 0, 1) := dk_42 (dk_at dksX5_item_3 3 rfl rfl)
theorem dX5_item_74 : decode cX5_item 74 = .ok (.ldc_w 351, 3) := dk_19 1 95 (dk_at dksX5_item_3 4 rfl rfl)
theorem dX5_item_77 : decode cX5_item 77 = .ok (.invokevirtual 329, 3) := dk_182 1 73 (dk_at dksX5_item_3 7 rfl rfl)
theorem dX5_item_80 : decode cX5_item 80 = .ok (.ifCond .ne 4, 3) := dk_154 0 4 (dk_at dksX5_item_3 10 rfl rfl)
theorem dX5_item_83 : decode cX5_item 83 = .ok (.return_, 1) := dk_177 (dk_at dksX5_item_3 13 rfl rfl)
theorem dX5_item_84 : decode cX5_item 84 = .ok (.aload_n 0, 1) := dk_42 (dk_at dksX5_item_3 14 rfl rfl)
theorem dX5_item_85 : decode cX5_item 85 = .ok (.aload_n 0, 1) := dk_42 (dk_at dksX5_item_3 15 rfl rfl)
theorem dX5_item_86 : decode cX5_item 86 = .ok (.getfield 314, 3) := dk_180 1 58 (dk_at dksX5_item_3 16 rfl rfl)
theorem dX5_item_89 : decode cX5_item 89 = .ok (.iconst 4, 1) := dk_7 (dk_at dksX5_item_3 19 rfl rfl)
theorem dX5_item_90 : decode cX5_item 90 = .ok (.iconst 1, 1) := dk_4 (dk_at dksX5_item_3 20 rfl rfl)
theorem dX5_item_91 : decode cX5_item 91 = .ok (.invokevirtual 310, 3) := dk_182 1 54 (dk_at dksX5_item_3 21 rfl rfl)
theorem dX5_item_94 : decode cX5_item 94 = .ok (.aload_n 0, 1) := dk_42 (dk_at dksX5_item_4 0 rfl rfl)
theorem dX5_item_95 : decode cX5_item 95 = .ok (.getfield 72, 3) := dk_180 0 72 (dk_at dksX5_item_4 1 rfl rfl)
theorem dX5_item_98 : decode cX5_item 98 = .ok (.aload_n 0, 1) := dk_42 (dk_at dksX5_item_4 4 rfl rfl)
theorem dX5_item_99 : decode cX5_item 99 = .ok (.getfield 324, 3) := dk_180 1 68 (dk_at dksX5_item_4 5 rfl rfl)
theorem dX5_item_102 : decode cX5_item 102 = .ok (.iconst 1, 1) := dk_4 (dk_at dksX5_item_4 8 rfl rfl)
theorem dX5_item_103 : decode cX5_item 103 = .ok (.isub, 1) := dk_100 (dk_at dksX5_item_4 9 rfl rfl)
theorem dX5_item_104 : decode cX5_item 104 = .ok (.iconst 1, 1) := dk_4 (dk_at dksX5_item_4 10 rfl rfl)
theorem dX5_item_105 : decode cX5_item 105 = .ok (.bastore, 1) := dk_84 (dk_at dksX5_item_4 11 rfl rfl)
theorem dX5_item_106 : decode cX5_item 106 = .ok (.aload_n 0, 1) := dk_42 (dk_at dksX5_item_4 12 rfl rfl)
theorem dX5_item_107 : decode cX5_item 107 = .ok (.invokevirtual 304, 3) := dk_182 1 48 (dk_at dksX5_item_4 13 rfl rfl)
theorem dX5_item_110 : decode cX5_item 110 = .ok (.return_, 1) := dk_177 (dk_at dksX5_item_4 16 rfl rfl)
abbrev cX5_blazed : ByteArray := prog_13_method_56_code
def yX5_blazed : MethodName := ⟨RX5, "blazed", "()V"⟩
def dkwX5_blazed_8 : List UInt8 := [29, 27, 7, 182, 1, 64, 181, 1, 58, 42, 182, 1, 48, 42, 182, 1, 103, 177]
abbrev dktX5_blazed_8 : List UInt8 := dkwX5_blazed_8 ++ []
def dkwX5_blazed_7 : List UInt8 := [182, 1, 28, 42, 180, 1, 32, 153, 0, 4, 177, 42, 3, 181, 1, 68, 42, 3, 181, 1, 100, 42, 42, 28]
abbrev dktX5_blazed_7 : List UInt8 := dkwX5_blazed_7 ++ dktX5_blazed_8
def dkwX5_blazed_6 : List UInt8 := [182, 1, 61, 54, 4, 42, 21, 4, 158, 0, 7, 4, 167, 0, 4, 3, 8, 21, 4, 42, 180, 1, 9]
abbrev dktX5_blazed_6 : List UInt8 := dkwX5_blazed_6 ++ dktX5_blazed_7
def dkwX5_blazed_5 : List UInt8 := [4, 46, 4, 100, 182, 1, 45, 62, 42, 180, 1, 32, 153, 0, 7, 3, 167, 0, 9, 42, 28, 29]
abbrev dktX5_blazed_5 : List UInt8 := dkwX5_blazed_5 ++ dktX5_blazed_6
def dkwX5_blazed_4 : List UInt8 := [42, 182, 1, 48, 42, 3, 42, 180, 0, 9, 3, 46, 4, 100, 182, 1, 82, 61, 42, 3, 42, 180, 0, 9]
abbrev dktX5_blazed_4 : List UInt8 := dkwX5_blazed_4 ++ dktX5_blazed_5
def dkwX5_blazed_3 : List UInt8 := [153, 0, 7, 6, 167, 0, 4, 2, 60, 42, 27, 2, 160, 0, 7, 4, 167, 0, 4, 3, 6, 182, 1, 41]
abbrev dktX5_blazed_3 : List UInt8 := dkwX5_blazed_3 ++ dktX5_blazed_4
def dkwX5_blazed_2 : List UInt8 := [167, 0, 32, 42, 19, 1, 110, 182, 1, 73, 153, 0, 7, 5, 167, 0, 18, 42, 19, 1, 112, 182, 1, 73]
abbrev dktX5_blazed_2 : List UInt8 := dkwX5_blazed_2 ++ dktX5_blazed_3
def dkwX5_blazed_1 : List UInt8 := [19, 1, 106, 182, 1, 73, 153, 0, 7, 3, 167, 0, 46, 42, 19, 1, 108, 182, 1, 73, 153, 0, 7, 4]
abbrev dktX5_blazed_1 : List UInt8 := dkwX5_blazed_1 ++ dktX5_blazed_2
def dkwX5_blazed_0 : List UInt8 := [42, 182, 1, 48, 42, 42, 180, 1, 12, 4, 159, 0, 7, 4, 167, 0, 4, 3, 4, 182, 1, 41, 42]
abbrev dktX5_blazed_0 : List UInt8 := dkwX5_blazed_0 ++ dktX5_blazed_1
theorem dksX5_blazed_0 : cX5_blazed.data.toList.drop 0 = dktX5_blazed_0 := by decide +kernel
theorem dksX5_blazed_1 : cX5_blazed.data.toList.drop 23 = dktX5_blazed_1 := dk_seg dksX5_blazed_0 23 rfl rfl
theorem dksX5_blazed_2 : cX5_blazed.data.toList.drop 47 = dktX5_blazed_2 := dk_seg dksX5_blazed_1 24 rfl rfl
theorem dksX5_blazed_3 : cX5_blazed.data.toList.drop 71 = dktX5_blazed_3 := dk_seg dksX5_blazed_2 24 rfl rfl
theorem dksX5_blazed_4 : cX5_blazed.data.toList.drop 95 = dktX5_blazed_4 := dk_seg dksX5_blazed_3 24 rfl rfl
theorem dksX5_blazed_5 : cX5_blazed.data.toList.drop 119 = dktX5_blazed_5 := dk_seg dksX5_blazed_4 24 rfl rfl
theorem dksX5_blazed_6 : cX5_blazed.data.toList.drop 141 = dktX5_blazed_6 := dk_seg dksX5_blazed_5 22 rfl rfl
theorem dksX5_blazed_7 : cX5_blazed.data.toList.drop 164 = dktX5_blazed_7 := dk_seg dksX5_blazed_6 23 rfl rfl
theorem dksX5_blazed_8 : cX5_blazed.data.toList.drop 188 = dktX5_blazed_8 := dk_seg dksX5_blazed_7 24 rfl rfl
theorem dX5_blazed_0 : decode cX5_blazed 0 = .ok (.aload_n 0, 1) := dk_42 (dk_at dksX5_blazed_0 0 rfl rfl)
theorem dX5_blazed_1 : decode cX5_blazed 1 = .ok (.invokevirtual 304, 3) := dk_182 1 48 (dk_at dksX5_blazed_0 1 rfl rfl)
theorem dX5_blazed_4 : decode cX5_blazed 4 = .ok (.aload_n 0, 1) := dk_42 (dk_at dksX5_blazed_0 4 rfl rfl)
theorem dX5_blazed_5 : decode cX5_blazed 5 = .ok (.aload_n 0, 1) := dk_42 (dk_at dksX5_blazed_0 5 rfl rfl)
theorem dX5_blazed_6 : decode cX5_blazed 6 = .ok (.getfield 268, 3) := dk_180 1 12 (dk_at dksX5_blazed_0 6 rfl rfl)
theorem dX5_blazed_9 : decode cX5_blazed 9 = .ok (.iconst 1, 1) := dk_4 (dk_at dksX5_blazed_0 9 rfl rfl)
theorem dX5_blazed_10 : decode cX5_blazed 10 = .ok (.if_icmp .eq 7, 3) := dk_159 0 7 (dk_at dksX5_blazed_0 10 rfl rfl)
theorem dX5_blazed_13 : decode cX5_blazed 13 = .ok (.iconst 1, 1) := dk_4 (dk_at dksX5_blazed_0 13 rfl rfl)
theorem dX5_blazed_14 : decode cX5_blazed 14 = .ok (.goto 4, 3) := dk_167 0 4 (dk_at dksX5_blazed_0 14 rfl rfl)
theorem dX5_blazed_17 : decode cX5_blazed 17 = .ok (.iconst 0, 1) := dk_3 (dk_at dksX5_blazed_0 17 rfl rfl)
theorem dX5_blazed_18 : decode cX5_blazed 18 = .ok (.iconst 1, 1) := dk_4 (dk_at dksX5_blazed_0 18 rfl rfl)
theorem dX5_blazed_19 : decode cX5_blazed 19 = .ok (.invokevirtual 297, 3) := dk_182 1 41 (dk_at dksX5_blazed_0 19 rfl rfl)
theorem dX5_blazed_22 : decode cX5_blazed 22 = .ok (.aload_n 0, 1) := dk_42 (dk_at dksX5_blazed_0 22 rfl rfl)
theorem dX5_blazed_23 : decode cX5_blazed 23 = .ok (.ldc_w 362, 3) := dk_19 1 106 (dk_at dksX5_blazed_1 0 rfl rfl)
theorem dX5_blazed_26 : decode cX5_blazed 26 = .ok (.invokevirtual 329, 3) := dk_182 1 73 (dk_at dksX5_blazed_1 3 rfl rfl)
theorem dX5_blazed_29 : decode cX5_blazed 29 = .ok (.ifCond .eq 7, 3) := dk_153 0 7 (dk_at dksX5_blazed_1 6 rfl rfl)
theorem dX5_blazed_32 : decode cX5_blazed 32 = .ok (.iconst 0, 1) := dk_3 (dk_at dksX5_blazed_1 9 rfl rfl)
theorem dX5_blazed_33 : decode cX5_blazed 33 = .ok (.goto 46, 3) := dk_167 0 46 (dk_at dksX5_blazed_1 10 rfl rfl)
theorem dX5_blazed_36 : decode cX5_blazed 36 = .ok (.aload_n 0, 1) := dk_42 (dk_at dksX5_blazed_1 13 rfl rfl)
theorem dX5_blazed_37 : decode cX5_blazed 37 = .ok (.ldc_w 364, 3) := dk_19 1 108 (dk_at dksX5_blazed_1 14 rfl rfl)
theorem dX5_blazed_40 : decode cX5_blazed 40 = .ok (.invokevirtual 329, 3) := dk_182 1 73 (dk_at dksX5_blazed_1 17 rfl rfl)
theorem dX5_blazed_43 : decode cX5_blazed 43 = .ok (.ifCond .eq 7, 3) := dk_153 0 7 (dk_at dksX5_blazed_1 20 rfl rfl)
theorem dX5_blazed_46 : decode cX5_blazed 46 = .ok (.iconst 1, 1) := dk_4 (dk_at dksX5_blazed_1 23 rfl rfl)
theorem dX5_blazed_47 : decode cX5_blazed 47 = .ok (.goto 32, 3) := dk_167 0 32 (dk_at dksX5_blazed_2 0 rfl rfl)
theorem dX5_blazed_50 : decode cX5_blazed 50 = .ok (.aload_n 0, 1) := dk_42 (dk_at dksX5_blazed_2 3 rfl rfl)
theorem dX5_blazed_51 : decode cX5_blazed 51 = .ok (.ldc_w 366, 3) := dk_19 1 110 (dk_at dksX5_blazed_2 4 rfl rfl)
theorem dX5_blazed_54 : decode cX5_blazed 54 = .ok (.invokevirtual 329, 3) := dk_182 1 73 (dk_at dksX5_blazed_2 7 rfl rfl)
theorem dX5_blazed_57 : decode cX5_blazed 57 = .ok (.ifCond .eq 7, 3) := dk_153 0 7 (dk_at dksX5_blazed_2 10 rfl rfl)
theorem dX5_blazed_60 : decode cX5_blazed 60 = .ok (.iconst 2, 1) := dk_5 (dk_at dksX5_blazed_2 13 rfl rfl)
theorem dX5_blazed_61 : decode cX5_blazed 61 = .ok (.goto 18, 3) := dk_167 0 18 (dk_at dksX5_blazed_2 14 rfl rfl)
theorem dX5_blazed_64 : decode cX5_blazed 64 = .ok (.aload_n 0, 1) := dk_42 (dk_at dksX5_blazed_2 17 rfl rfl)
theorem dX5_blazed_65 : decode cX5_blazed 65 = .ok (.ldc_w 368, 3) := dk_19 1 112 (dk_at dksX5_blazed_2 18 rfl rfl)
theorem dX5_blazed_68 : decode cX5_blazed 68 = .ok (.invokevirtual 329, 3) := dk_182 1 73 (dk_at dksX5_blazed_2 21 rfl rfl)
theorem dX5_blazed_71 : decode cX5_blazed 71 = .ok (.ifCond .eq 7, 3) := dk_153 0 7 (dk_at dksX5_blazed_3 0 rfl rfl)
theorem dX5_blazed_74 : decode cX5_blazed 74 = .ok (.iconst 3, 1) := dk_6 (dk_at dksX5_blazed_3 3 rfl rfl)
theorem dX5_blazed_75 : decode cX5_blazed 75 = .ok (.goto 4, 3) := dk_167 0 4 (dk_at dksX5_blazed_3 4 rfl rfl)
theorem dX5_blazed_78 : decode cX5_blazed 78 = .ok (.iconst (-1), 1) := dk_2 (dk_at dksX5_blazed_3 7 rfl rfl)
theorem dX5_blazed_79 : decode cX5_blazed 79 = .ok (.istore_n 1, 1) := dk_60 (dk_at dksX5_blazed_3 8 rfl rfl)
theorem dX5_blazed_80 : decode cX5_blazed 80 = .ok (.aload_n 0, 1) := dk_42 (dk_at dksX5_blazed_3 9 rfl rfl)
theorem dX5_blazed_81 : decode cX5_blazed 81 = .ok (.iload_n 1, 1) := dk_27 (dk_at dksX5_blazed_3 10 rfl rfl)
theorem dX5_blazed_82 : decode cX5_blazed 82 = .ok (.iconst (-1), 1) := dk_2 (dk_at dksX5_blazed_3 11 rfl rfl)
theorem dX5_blazed_83 : decode cX5_blazed 83 = .ok (.if_icmp .ne 7, 3) := dk_160 0 7 (dk_at dksX5_blazed_3 12 rfl rfl)
theorem dX5_blazed_86 : decode cX5_blazed 86 = .ok (.iconst 1, 1) := dk_4 (dk_at dksX5_blazed_3 15 rfl rfl)
theorem dX5_blazed_87 : decode cX5_blazed 87 = .ok (.goto 4, 3) := dk_167 0 4 (dk_at dksX5_blazed_3 16 rfl rfl)
theorem dX5_blazed_90 : decode cX5_blazed 90 = .ok (.iconst 0, 1) := dk_3 (dk_at dksX5_blazed_3 19 rfl rfl)
theorem dX5_blazed_91 : decode cX5_blazed 91 = .ok (.iconst 3, 1) := dk_6 (dk_at dksX5_blazed_3 20 rfl rfl)
theorem dX5_blazed_92 : decode cX5_blazed 92 = .ok (.invokevirtual 297, 3) := dk_182 1 41 (dk_at dksX5_blazed_3 21 rfl rfl)
theorem dX5_blazed_95 : decode cX5_blazed 95 = .ok (.aload_n 0, 1) := dk_42 (dk_at dksX5_blazed_4 0 rfl rfl)
theorem dX5_blazed_96 : decode cX5_blazed 96 = .ok (.invokevirtual 304, 3) := dk_182 1 48 (dk_at dksX5_blazed_4 1 rfl rfl)
theorem dX5_blazed_99 : decode cX5_blazed 99 = .ok (.aload_n 0, 1) := dk_42 (dk_at dksX5_blazed_4 4 rfl rfl)
theorem dX5_blazed_100 : decode cX5_blazed 100 = .ok (.iconst 0, 1) := dk_3 (dk_at dksX5_blazed_4 5 rfl rfl)
theorem dX5_blazed_101 : decode cX5_blazed 101 = .ok (.aload_n 0, 1) := dk_42 (dk_at dksX5_blazed_4 6 rfl rfl)
theorem dX5_blazed_102 : decode cX5_blazed 102 = .ok (.getfield 9, 3) := dk_180 0 9 (dk_at dksX5_blazed_4 7 rfl rfl)
theorem dX5_blazed_105 : decode cX5_blazed 105 = .ok (.iconst 0, 1) := dk_3 (dk_at dksX5_blazed_4 10 rfl rfl)
theorem dX5_blazed_106 : decode cX5_blazed 106 = .ok (.iaload, 1) := dk_46 (dk_at dksX5_blazed_4 11 rfl rfl)
theorem dX5_blazed_107 : decode cX5_blazed 107 = .ok (.iconst 1, 1) := dk_4 (dk_at dksX5_blazed_4 12 rfl rfl)
theorem dX5_blazed_108 : decode cX5_blazed 108 = .ok (.isub, 1) := dk_100 (dk_at dksX5_blazed_4 13 rfl rfl)
theorem dX5_blazed_109 : decode cX5_blazed 109 = .ok (.invokevirtual 338, 3) := dk_182 1 82 (dk_at dksX5_blazed_4 14 rfl rfl)
theorem dX5_blazed_112 : decode cX5_blazed 112 = .ok (.istore_n 2, 1) := dk_61 (dk_at dksX5_blazed_4 17 rfl rfl)
theorem dX5_blazed_113 : decode cX5_blazed 113 = .ok (.aload_n 0, 1) := dk_42 (dk_at dksX5_blazed_4 18 rfl rfl)
theorem dX5_blazed_114 : decode cX5_blazed 114 = .ok (.iconst 0, 1) := dk_3 (dk_at dksX5_blazed_4 19 rfl rfl)
theorem dX5_blazed_115 : decode cX5_blazed 115 = .ok (.aload_n 0, 1) := dk_42 (dk_at dksX5_blazed_4 20 rfl rfl)
theorem dX5_blazed_116 : decode cX5_blazed 116 = .ok (.getfield 9, 3) := dk_180 0 9 (dk_at dksX5_blazed_4 21 rfl rfl)
theorem dX5_blazed_119 : decode cX5_blazed 119 = .ok (.iconst 1, 1) := dk_4 (dk_at dksX5_blazed_5 0 rfl rfl)
theorem dX5_blazed_120 : decode cX5_blazed 120 = .ok (.iaload, 1) := dk_46 (dk_at dksX5_blazed_5 1 rfl rfl)
theorem dX5_blazed_121 : decode cX5_blazed 121 = .ok (.iconst 1, 1) := dk_4 (dk_at dksX5_blazed_5 2 rfl rfl)
theorem dX5_blazed_122 : decode cX5_blazed 122 = .ok (.isub, 1) := dk_100 (dk_at dksX5_blazed_5 3 rfl rfl)
theorem dX5_blazed_123 : decode cX5_blazed 123 = .ok (.invokevirtual 301, 3) := dk_182 1 45 (dk_at dksX5_blazed_5 4 rfl rfl)
theorem dX5_blazed_126 : decode cX5_blazed 126 = .ok (.istore_n 3, 1) := dk_62 (dk_at dksX5_blazed_5 7 rfl rfl)
theorem dX5_blazed_127 : decode cX5_blazed 127 = .ok (.aload_n 0, 1) := dk_42 (dk_at dksX5_blazed_5 8 rfl rfl)
theorem dX5_blazed_128 : decode cX5_blazed 128 = .ok (.getfield 288, 3) := dk_180 1 32 (dk_at dksX5_blazed_5 9 rfl rfl)
theorem dX5_blazed_131 : decode cX5_blazed 131 = .ok (.ifCond .eq 7, 3) := dk_153 0 7 (dk_at dksX5_blazed_5 12 rfl rfl)
theorem dX5_blazed_134 : decode cX5_blazed 134 = .ok (.iconst 0, 1) := dk_3 (dk_at dksX5_blazed_5 15 rfl rfl)
theorem dX5_blazed_135 : decode cX5_blazed 135 = .ok (.goto 9, 3) := dk_167 0 9 (dk_at dksX5_blazed_5 16 rfl rfl)
theorem dX5_blazed_138 : decode cX5_blazed 138 = .ok (.aload_n 0, 1) := dk_42 (dk_at dksX5_blazed_5 19 rfl rfl)
theorem dX5_blazed_139 : decode cX5_blazed 139 = .ok (.iload_n 2, 1) := dk_28 (dk_at dksX5_blazed_5 20 rfl rfl)
theorem dX5_blazed_140 : decode cX5_blazed 140 = .ok (.iload_n 3, 1) := dk_29 (dk_at dksX5_blazed_5 21 rfl rfl)
theorem dX5_blazed_141 : decode cX5_blazed 141 = .ok (.invokevirtual 317, 3) := dk_182 1 61 (dk_at dksX5_blazed_6 0 rfl rfl)
theorem dX5_blazed_144 : decode cX5_blazed 144 = .ok (.istore 4, 2) := dk_54 4 (dk_at dksX5_blazed_6 3 rfl rfl)
theorem dX5_blazed_146 : decode cX5_blazed 146 = .ok (.aload_n 0, 1) := dk_42 (dk_at dksX5_blazed_6 5 rfl rfl)
theorem dX5_blazed_147 : decode cX5_blazed 147 = .ok (.iload 4, 2) := dk_21 4 (dk_at dksX5_blazed_6 6 rfl rfl)
theorem dX5_blazed_149 : decode cX5_blazed 149 = .ok (.ifCond .le 7, 3) := dk_158 0 7 (dk_at dksX5_blazed_6 8 rfl rfl)
theorem dX5_blazed_152 : decode cX5_blazed 152 = .ok (.iconst 1, 1) := dk_4 (dk_at dksX5_blazed_6 11 rfl rfl)
theorem dX5_blazed_153 : decode cX5_blazed 153 = .ok (.goto 4, 3) := dk_167 0 4 (dk_at dksX5_blazed_6 12 rfl rfl)
theorem dX5_blazed_156 : decode cX5_blazed 156 = .ok (.iconst 0, 1) := dk_3 (dk_at dksX5_blazed_6 15 rfl rfl)
theorem dX5_blazed_157 : decode cX5_blazed 157 = .ok (.iconst 5, 1) := dk_8 (dk_at dksX5_blazed_6 16 rfl rfl)
theorem dX5_blazed_158 : decode cX5_blazed 158 = .ok (.iload 4, 2) := dk_21 4 (dk_at dksX5_blazed_6 17 rfl rfl)
theorem dX5_blazed_160 : decode cX5_blazed 160 = .ok (.aload_n 0, 1) := dk_42 (dk_at dksX5_blazed_6 19 rfl rfl)
theorem dX5_blazed_161 : decode cX5_blazed 161 = .ok (.getfield 265, 3) := dk_180 1 9 (dk_at dksX5_blazed_6 20 rfl rfl)
theorem dX5_blazed_164 : decode cX5_blazed 164 = .ok (.invokevirtual 284, 3) := dk_182 1 28 (dk_at dksX5_blazed_7 0 rfl rfl)
theorem dX5_blazed_167 : decode cX5_blazed 167 = .ok (.aload_n 0, 1) := dk_42 (dk_at dksX5_blazed_7 3 rfl rfl)
theorem dX5_blazed_168 : decode cX5_blazed 168 = .ok (.getfield 288, 3) := dk_180 1 32 (dk_at dksX5_blazed_7 4 rfl rfl)
theorem dX5_blazed_171 : decode cX5_blazed 171 = .ok (.ifCond .eq 4, 3) := dk_153 0 4 (dk_at dksX5_blazed_7 7 rfl rfl)
theorem dX5_blazed_174 : decode cX5_blazed 174 = .ok (.return_, 1) := dk_177 (dk_at dksX5_blazed_7 10 rfl rfl)
theorem dX5_blazed_175 : decode cX5_blazed 175 = .ok (.aload_n 0, 1) := dk_42 (dk_at dksX5_blazed_7 11 rfl rfl)
theorem dX5_blazed_176 : decode cX5_blazed 176 = .ok (.iconst 0, 1) := dk_3 (dk_at dksX5_blazed_7 12 rfl rfl)
theorem dX5_blazed_177 : decode cX5_blazed 177 = .ok (.putfield 324, 3) := dk_181 1 68 (dk_at dksX5_blazed_7 13 rfl rfl)
theorem dX5_blazed_180 : decode cX5_blazed 180 = .ok (.aload_n 0, 1) := dk_42 (dk_at dksX5_blazed_7 16 rfl rfl)
theorem dX5_blazed_181 : decode cX5_blazed 181 = .ok (.iconst 0, 1) := dk_3 (dk_at dksX5_blazed_7 17 rfl rfl)
theorem dX5_blazed_182 : decode cX5_blazed 182 = .ok (.putfield 356, 3) := dk_181 1 100 (dk_at dksX5_blazed_7 18 rfl rfl)
theorem dX5_blazed_185 : decode cX5_blazed 185 = .ok (.aload_n 0, 1) := dk_42 (dk_at dksX5_blazed_7 21 rfl rfl)
theorem dX5_blazed_186 : decode cX5_blazed 186 = .ok (.aload_n 0, 1) := dk_42 (dk_at dksX5_blazed_7 22 rfl rfl)
theorem dX5_blazed_187 : decode cX5_blazed 187 = .ok (.iload_n 2, 1) := dk_28 (dk_at dksX5_blazed_7 23 rfl rfl)
theorem dX5_blazed_188 : decode cX5_blazed 188 = .ok (.iload_n 3, 1) := dk_29 (dk_at dksX5_blazed_8 0 rfl rfl)
theorem dX5_blazed_189 : decode cX5_blazed 189 = .ok (.iload_n 1, 1) := dk_27 (dk_at dksX5_blazed_8 1 rfl rfl)
theorem dX5_blazed_190 : decode cX5_blazed 190 = .ok (.iconst 4, 1) := dk_7 (dk_at dksX5_blazed_8 2 rfl rfl)
theorem dX5_blazed_191 : decode cX5_blazed 191 = .ok (.invokevirtual 320, 3) := dk_182 1 64 (dk_at dksX5_blazed_8 3 rfl rfl)
theorem dX5_blazed_194 : decode cX5_blazed 194 = .ok (.putfield 314, 3) := dk_181 1 58 (dk_at dksX5_blazed_8 6 rfl rfl)
theorem dX5_blazed_197 : decode cX5_blazed 197 = .ok (.aload_n 0, 1) := dk_42 (dk_at dksX5_blazed_8 9 rfl rfl)
theorem dX5_blazed_198 : decode cX5_blazed 198 = .ok (.invokevirtual 304, 3) := dk_182 1 48 (dk_at dksX5_blazed_8 10 rfl rfl)
theorem dX5_blazed_201 : decode cX5_blazed 201 = .ok (.aload_n 0, 1) := dk_42 (dk_at dksX5_blazed_8 13 rfl rfl)
theorem dX5_blazed_202 : decode cX5_blazed 202 = .ok (.invokevirtual 359, 3) := dk_182 1 103 (dk_at dksX5_blazed_8 14 rfl rfl)
theorem dX5_blazed_205 : decode cX5_blazed 205 = .ok (.return_, 1) := dk_177 (dk_at dksX5_blazed_8 17 rfl rfl)
abbrev cX5_command : ByteArray := prog_13_method_61_code
def yX5_command : MethodName := ⟨RX5, "command", "()V"⟩
def dkwX5_command_7 : List UInt8 := [42, 16, 59, 182, 1, 140, 177]
abbrev dktX5_command_7 : List UInt8 := dkwX5_command_7 ++ []
def dkwX5_command_6 : List UInt8 := [61, 42, 180, 1, 32, 154, 0, 10, 42, 180, 0, 9, 27, 28, 79, 167, 0, 9, 42, 4, 4, 182, 1, 41]
abbrev dktX5_command_6 : List UInt8 := dkwX5_command_6 ++ dktX5_command_7
def dkwX5_command_5 : List UInt8 := [27, 5, 160, 0, 7, 4, 167, 0, 4, 3, 27, 5, 160, 0, 8, 16, 12, 167, 0, 4, 5, 182, 1, 82]
abbrev dktX5_command_5 : List UInt8 := dkwX5_command_5 ++ dktX5_command_6
def dkwX5_command_4 : List UInt8 := [153, 0, 66, 42, 19, 1, 136, 182, 1, 73, 153, 0, 7, 5, 167, 0, 4, 6, 60, 42, 182, 1, 48, 42]
abbrev dktX5_command_4 : List UInt8 := dkwX5_command_4 ++ dktX5_command_5
def dkwX5_command_3 : List UInt8 := [182, 1, 133, 167, 0, 92, 42, 19, 1, 136, 182, 1, 73, 154, 0, 13, 42, 19, 1, 138, 182, 1, 73]
abbrev dktX5_command_3 : List UInt8 := dkwX5_command_3 ++ dktX5_command_4
def dkwX5_command_2 : List UInt8 := [182, 1, 73, 153, 0, 25, 42, 42, 19, 1, 129, 182, 1, 73, 153, 0, 7, 4, 167, 0, 4, 3]
abbrev dktX5_command_2 : List UInt8 := dkwX5_command_2 ++ dktX5_command_3
def dkwX5_command_1 : List UInt8 := [153, 0, 10, 42, 182, 1, 126, 167, 0, 134, 42, 19, 1, 129, 182, 1, 73, 154, 0, 13, 42, 19, 1, 131]
abbrev dktX5_command_1 : List UInt8 := dkwX5_command_1 ++ dktX5_command_2
def dkwX5_command_0 : List UInt8 := [42, 19, 1, 120, 182, 1, 73, 153, 0, 10, 42, 182, 1, 122, 167, 0, 151, 42, 19, 1, 125, 182, 1, 73]
abbrev dktX5_command_0 : List UInt8 := dkwX5_command_0 ++ dktX5_command_1
theorem dksX5_command_0 : cX5_command.data.toList.drop 0 = dktX5_command_0 := by decide +kernel
theorem dksX5_command_1 : cX5_command.data.toList.drop 24 = dktX5_command_1 := dk_seg dksX5_command_0 24 rfl rfl
theorem dksX5_command_2 : cX5_command.data.toList.drop 48 = dktX5_command_2 := dk_seg dksX5_command_1 24 rfl rfl
theorem dksX5_command_3 : cX5_command.data.toList.drop 70 = dktX5_command_3 := dk_seg dksX5_command_2 22 rfl rfl
theorem dksX5_command_4 : cX5_command.data.toList.drop 93 = dktX5_command_4 := dk_seg dksX5_command_3 23 rfl rfl
theorem dksX5_command_5 : cX5_command.data.toList.drop 117 = dktX5_command_5 := dk_seg dksX5_command_4 24 rfl rfl
theorem dksX5_command_6 : cX5_command.data.toList.drop 141 = dktX5_command_6 := dk_seg dksX5_command_5 24 rfl rfl
theorem dksX5_command_7 : cX5_command.data.toList.drop 165 = dktX5_command_7 := dk_seg dksX5_command_6 24 rfl rfl
theorem dX5_command_0 : decode cX5_command 0 = .ok (.aload_n 0, 1) := dk_42 (dk_at dksX5_command_0 0 rfl rfl)
theorem dX5_command_1 : decode cX5_command 1 = .ok (.ldc_w 376, 3) := dk_19 1 120 (dk_at dksX5_command_0 1 rfl rfl)
theorem dX5_command_4 : decode cX5_command 4 = .ok (.invokevirtual 329, 3) := dk_182 1 73 (dk_at dksX5_command_0 4 rfl rfl)
theorem dX5_command_7 : decode cX5_command 7 = .ok (.ifCond .eq 10, 3) := dk_153 0 10 (dk_at dksX5_command_0 7 rfl rfl)
theorem dX5_command_10 : decode cX5_command 10 = .ok (.aload_n 0, 1) := dk_42 (dk_at dksX5_command_0 10 rfl rfl)
theorem dX5_command_11 : decode cX5_command 11 = .ok (.invokevirtual 378, 3) := dk_182 1 122 (dk_at dksX5_command_0 11 rfl rfl)
theorem dX5_command_14 : decode cX5_command 14 = .ok (.goto 151, 3) := dk_167 0 151 (dk_at dksX5_command_0 14 rfl rfl)
theorem dX5_command_17 : decode cX5_command 17 = .ok (.aload_n 0, 1) := dk_42 (dk_at dksX5_command_0 17 rfl rfl)
theorem dX5_command_18 : decode cX5_command 18 = .ok (.ldc_w 381, 3) := dk_19 1 125 (dk_at dksX5_command_0 18 rfl rfl)
theorem dX5_command_21 : decode cX5_command 21 = .ok (.invokevirtual 329, 3) := dk_182 1 73 (dk_at dksX5_command_0 21 rfl rfl)
theorem dX5_command_24 : decode cX5_command 24 = .ok (.ifCond .eq 10, 3) := dk_153 0 10 (dk_at dksX5_command_1 0 rfl rfl)
theorem dX5_command_27 : decode cX5_command 27 = .ok (.aload_n 0, 1) := dk_42 (dk_at dksX5_command_1 3 rfl rfl)
theorem dX5_command_28 : decode cX5_command 28 = .ok (.invokevirtual 382, 3) := dk_182 1 126 (dk_at dksX5_command_1 4 rfl rfl)
theorem dX5_command_31 : decode cX5_command 31 = .ok (.goto 134, 3) := dk_167 0 134 (dk_at dksX5_command_1 7 rfl rfl)
theorem dX5_command_34 : decode cX5_command 34 = .ok (.aload_n 0, 1) := dk_42 (dk_at dksX5_command_1 10 rfl rfl)
theorem dX5_command_35 : decode cX5_command 35 = .ok (.ldc_w 385, 3) := dk_19 1 129 (dk_at dksX5_command_1 11 rfl rfl)
theorem dX5_command_38 : decode cX5_command 38 = .ok (.invokevirtual 329, 3) := dk_182 1 73 (dk_at dksX5_command_1 14 rfl rfl)
theorem dX5_command_41 : decode cX5_command 41 = .ok (.ifCond .ne 13, 3) := dk_154 0 13 (dk_at dksX5_command_1 17 rfl rfl)
theorem dX5_command_44 : decode cX5_command 44 = .ok (.aload_n 0, 1) := dk_42 (dk_at dksX5_command_1 20 rfl rfl)
theorem dX5_command_45 : decode cX5_command 45 = .ok (.ldc_w 387, 3) := dk_19 1 131 (dk_at dksX5_command_1 21 rfl rfl)
theorem dX5_command_48 : decode cX5_command 48 = .ok (.invokevirtual 329, 3) := dk_182 1 73 (dk_at dksX5_command_2 0 rfl rfl)
theorem dX5_command_51 : decode cX5_command 51 = .ok (.ifCond .eq 25, 3) := dk_153 0 25 (dk_at dksX5_command_2 3 rfl rfl)
theorem dX5_command_54 : decode cX5_command 54 = .ok (.aload_n 0, 1) := dk_42 (dk_at dksX5_command_2 6 rfl rfl)
theorem dX5_command_55 : decode cX5_command 55 = .ok (.aload_n 0, 1) := dk_42 (dk_at dksX5_command_2 7 rfl rfl)
theorem dX5_command_56 : decode cX5_command 56 = .ok (.ldc_w 385, 3) := dk_19 1 129 (dk_at dksX5_command_2 8 rfl rfl)
theorem dX5_command_59 : decode cX5_command 59 = .ok (.invokevirtual 329, 3) := dk_182 1 73 (dk_at dksX5_command_2 11 rfl rfl)
theorem dX5_command_62 : decode cX5_command 62 = .ok (.ifCond .eq 7, 3) := dk_153 0 7 (dk_at dksX5_command_2 14 rfl rfl)
theorem dX5_command_65 : decode cX5_command 65 = .ok (.iconst 1, 1) := dk_4 (dk_at dksX5_command_2 17 rfl rfl)
theorem dX5_command_66 : decode cX5_command 66 = .ok (.goto 4, 3) := dk_167 0 4 (dk_at dksX5_command_2 18 rfl rfl)
theorem dX5_command_69 : decode cX5_command 69 = .ok (.iconst 0, 1) := dk_3 (dk_at dksX5_command_2 21 rfl rfl)
theorem dX5_command_70 : decode cX5_command 70 = .ok (.invokevirtual 389, 3) := dk_182 1 133 (dk_at dksX5_command_3 0 rfl rfl)
theorem dX5_command_73 : decode cX5_command 73 = .ok (.goto 92, 3) := dk_167 0 92 (dk_at dksX5_command_3 3 rfl rfl)
theorem dX5_command_76 : decode cX5_command 76 = .ok (.aload_n 0, 1) := dk_42 (dk_at dksX5_command_3 6 rfl rfl)
theorem dX5_command_77 : decode cX5_command 77 = .ok (.ldc_w 392, 3) := dk_19 1 136 (dk_at dksX5_command_3 7 rfl rfl)
theorem dX5_command_80 : decode cX5_command 80 = .ok (.invokevirtual 329, 3) := dk_182 1 73 (dk_at dksX5_command_3 10 rfl rfl)
theorem dX5_command_83 : decode cX5_command 83 = .ok (.ifCond .ne 13, 3) := dk_154 0 13 (dk_at dksX5_command_3 13 rfl rfl)
theorem dX5_command_86 : decode cX5_command 86 = .ok (.aload_n 0, 1) := dk_42 (dk_at dksX5_command_3 16 rfl rfl)
theorem dX5_command_87 : decode cX5_command 87 = .ok (.ldc_w 394, 3) := dk_19 1 138 (dk_at dksX5_command_3 17 rfl rfl)
theorem dX5_command_90 : decode cX5_command 90 = .ok (.invokevirtual 329, 3) := dk_182 1 73 (dk_at dksX5_command_3 20 rfl rfl)
theorem dX5_command_93 : decode cX5_command 93 = .ok (.ifCond .eq 66, 3) := dk_153 0 66 (dk_at dksX5_command_4 0 rfl rfl)
theorem dX5_command_96 : decode cX5_command 96 = .ok (.aload_n 0, 1) := dk_42 (dk_at dksX5_command_4 3 rfl rfl)
theorem dX5_command_97 : decode cX5_command 97 = .ok (.ldc_w 392, 3) := dk_19 1 136 (dk_at dksX5_command_4 4 rfl rfl)
theorem dX5_command_100 : decode cX5_command 100 = .ok (.invokevirtual 329, 3) := dk_182 1 73 (dk_at dksX5_command_4 7 rfl rfl)
theorem dX5_command_103 : decode cX5_command 103 = .ok (.ifCond .eq 7, 3) := dk_153 0 7 (dk_at dksX5_command_4 10 rfl rfl)
theorem dX5_command_106 : decode cX5_command 106 = .ok (.iconst 2, 1) := dk_5 (dk_at dksX5_command_4 13 rfl rfl)
theorem dX5_command_107 : decode cX5_command 107 = .ok (.goto 4, 3) := dk_167 0 4 (dk_at dksX5_command_4 14 rfl rfl)
theorem dX5_command_110 : decode cX5_command 110 = .ok (.iconst 3, 1) := dk_6 (dk_at dksX5_command_4 17 rfl rfl)
theorem dX5_command_111 : decode cX5_command 111 = .ok (.istore_n 1, 1) := dk_60 (dk_at dksX5_command_4 18 rfl rfl)
theorem dX5_command_112 : decode cX5_command 112 = .ok (.aload_n 0, 1) := dk_42 (dk_at dksX5_command_4 19 rfl rfl)
theorem dX5_command_113 : decode cX5_command 113 = .ok (.invokevirtual 304, 3) := dk_182 1 48 (dk_at dksX5_command_4 20 rfl rfl)
theorem dX5_command_116 : decode cX5_command 116 = .ok (.aload_n 0, 1) := dk_42 (dk_at dksX5_command_4 23 rfl rfl)
theorem dX5_command_117 : decode cX5_command 117 = .ok (.iload_n 1, 1) := dk_27 (dk_at dksX5_command_5 0 rfl rfl)
theorem dX5_command_118 : decode cX5_command 118 = .ok (.iconst 2, 1) := dk_5 (dk_at dksX5_command_5 1 rfl rfl)
theorem dX5_command_119 : decode cX5_command 119 = .ok (.if_icmp .ne 7, 3) := dk_160 0 7 (dk_at dksX5_command_5 2 rfl rfl)
theorem dX5_command_122 : decode cX5_command 122 = .ok (.iconst 1, 1) := dk_4 (dk_at dksX5_command_5 5 rfl rfl)
theorem dX5_command_123 : decode cX5_command 123 = .ok (.goto 4, 3) := dk_167 0 4 (dk_at dksX5_command_5 6 rfl rfl)
theorem dX5_command_126 : decode cX5_command 126 = .ok (.iconst 0, 1) := dk_3 (dk_at dksX5_command_5 9 rfl rfl)
theorem dX5_command_127 : decode cX5_command 127 = .ok (.iload_n 1, 1) := dk_27 (dk_at dksX5_command_5 10 rfl rfl)
theorem dX5_command_128 : decode cX5_command 128 = .ok (.iconst 2, 1) := dk_5 (dk_at dksX5_command_5 11 rfl rfl)
theorem dX5_command_129 : decode cX5_command 129 = .ok (.if_icmp .ne 8, 3) := dk_160 0 8 (dk_at dksX5_command_5 12 rfl rfl)
theorem dX5_command_132 : decode cX5_command 132 = .ok (.bipush 12, 2) := dk_16 12 (dk_at dksX5_command_5 15 rfl rfl)
theorem dX5_command_134 : decode cX5_command 134 = .ok (.goto 4, 3) := dk_167 0 4 (dk_at dksX5_command_5 17 rfl rfl)
theorem dX5_command_137 : decode cX5_command 137 = .ok (.iconst 2, 1) := dk_5 (dk_at dksX5_command_5 20 rfl rfl)
theorem dX5_command_138 : decode cX5_command 138 = .ok (.invokevirtual 338, 3) := dk_182 1 82 (dk_at dksX5_command_5 21 rfl rfl)
theorem dX5_command_141 : decode cX5_command 141 = .ok (.istore_n 2, 1) := dk_61 (dk_at dksX5_command_6 0 rfl rfl)
theorem dX5_command_142 : decode cX5_command 142 = .ok (.aload_n 0, 1) := dk_42 (dk_at dksX5_command_6 1 rfl rfl)
theorem dX5_command_143 : decode cX5_command 143 = .ok (.getfield 288, 3) := dk_180 1 32 (dk_at dksX5_command_6 2 rfl rfl)
theorem dX5_command_146 : decode cX5_command 146 = .ok (.ifCond .ne 10, 3) := dk_154 0 10 (dk_at dksX5_command_6 5 rfl rfl)
theorem dX5_command_149 : decode cX5_command 149 = .ok (.aload_n 0, 1) := dk_42 (dk_at dksX5_command_6 8 rfl rfl)
theorem dX5_command_150 : decode cX5_command 150 = .ok (.getfield 9, 3) := dk_180 0 9 (dk_at dksX5_command_6 9 rfl rfl)
theorem dX5_command_153 : decode cX5_command 153 = .ok (.iload_n 1, 1) := dk_27 (dk_at dksX5_command_6 12 rfl rfl)
theorem dX5_command_154 : decode cX5_command 154 = .ok (.iload_n 2, 1) := dk_28 (dk_at dksX5_command_6 13 rfl rfl)
theorem dX5_command_155 : decode cX5_command 155 = .ok (.iastore, 1) := dk_79 (dk_at dksX5_command_6 14 rfl rfl)
theorem dX5_command_156 : decode cX5_command 156 = .ok (.goto 9, 3) := dk_167 0 9 (dk_at dksX5_command_6 15 rfl rfl)
theorem dX5_command_159 : decode cX5_command 159 = .ok (.aload_n 0, 1) := dk_42 (dk_at dksX5_command_6 18 rfl rfl)
theorem dX5_command_160 : decode cX5_command 160 = .ok (.iconst 1, 1) := dk_4 (dk_at dksX5_command_6 19 rfl rfl)
theorem dX5_command_161 : decode cX5_command 161 = .ok (.iconst 1, 1) := dk_4 (dk_at dksX5_command_6 20 rfl rfl)
theorem dX5_command_162 : decode cX5_command 162 = .ok (.invokevirtual 297, 3) := dk_182 1 41 (dk_at dksX5_command_6 21 rfl rfl)
theorem dX5_command_165 : decode cX5_command 165 = .ok (.aload_n 0, 1) := dk_42 (dk_at dksX5_command_7 0 rfl rfl)
theorem dX5_command_166 : decode cX5_command 166 = .ok (.bipush 59, 2) := dk_16 59 (dk_at dksX5_command_7 1 rfl rfl)
theorem dX5_command_168 : decode cX5_command 168 = .ok (.invokevirtual 396, 3) := dk_182 1 140 (dk_at dksX5_command_7 3 rfl rfl)
theorem dX5_command_171 : decode cX5_command 171 = .ok (.return_, 1) := dk_177 (dk_at dksX5_command_7 6 rfl rfl)
abbrev cX5_commands : ByteArray := prog_13_method_63_code
def yX5_commands : MethodName := ⟨RX5, "commands", "()I"⟩
def dkwX5_commands_3 : List UInt8 := [167, 0, 4, 27, 172]
abbrev dktX5_commands_3 : List UInt8 := dkwX5_commands_3 ++ []
def dkwX5_commands_2 : List UInt8 := [3, 184, 0, 115, 167, 0, 11, 42, 42, 180, 0, 22, 182, 1, 146, 42, 180, 1, 32, 153, 0, 7, 2]
abbrev dktX5_commands_2 : List UInt8 := dkwX5_commands_2 ++ dktX5_commands_3
def dkwX5_commands_1 : List UInt8 := [167, 255, 235, 42, 3, 181, 0, 93, 42, 180, 1, 32, 153, 0, 19, 42, 180, 0, 22, 3, 42, 180, 0, 9]
abbrev dktX5_commands_1 : List UInt8 := dkwX5_commands_1 ++ dktX5_commands_2
def dkwX5_commands_0 : List UInt8 := [3, 60, 42, 180, 1, 32, 154, 0, 20, 42, 180, 1, 12, 153, 0, 13, 42, 182, 1, 143, 132, 1, 1]
abbrev dktX5_commands_0 : List UInt8 := dkwX5_commands_0 ++ dktX5_commands_1
theorem dksX5_commands_0 : cX5_commands.data.toList.drop 0 = dktX5_commands_0 := by decide +kernel
theorem dksX5_commands_1 : cX5_commands.data.toList.drop 23 = dktX5_commands_1 := dk_seg dksX5_commands_0 23 rfl rfl
theorem dksX5_commands_2 : cX5_commands.data.toList.drop 47 = dktX5_commands_2 := dk_seg dksX5_commands_1 24 rfl rfl
theorem dksX5_commands_3 : cX5_commands.data.toList.drop 70 = dktX5_commands_3 := dk_seg dksX5_commands_2 23 rfl rfl
theorem dX5_commands_0 : decode cX5_commands 0 = .ok (.iconst 0, 1) := dk_3 (dk_at dksX5_commands_0 0 rfl rfl)
theorem dX5_commands_1 : decode cX5_commands 1 = .ok (.istore_n 1, 1) := dk_60 (dk_at dksX5_commands_0 1 rfl rfl)
theorem dX5_commands_2 : decode cX5_commands 2 = .ok (.aload_n 0, 1) := dk_42 (dk_at dksX5_commands_0 2 rfl rfl)
theorem dX5_commands_3 : decode cX5_commands 3 = .ok (.getfield 288, 3) := dk_180 1 32 (dk_at dksX5_commands_0 3 rfl rfl)
theorem dX5_commands_6 : decode cX5_commands 6 = .ok (.ifCond .ne 20, 3) := dk_154 0 20 (dk_at dksX5_commands_0 6 rfl rfl)
theorem dX5_commands_9 : decode cX5_commands 9 = .ok (.aload_n 0, 1) := dk_42 (dk_at dksX5_commands_0 9 rfl rfl)
theorem dX5_commands_10 : decode cX5_commands 10 = .ok (.getfield 268, 3) := dk_180 1 12 (dk_at dksX5_commands_0 10 rfl rfl)
theorem dX5_commands_13 : decode cX5_commands 13 = .ok (.ifCond .eq 13, 3) := dk_153 0 13 (dk_at dksX5_commands_0 13 rfl rfl)
theorem dX5_commands_16 : decode cX5_commands 16 = .ok (.aload_n 0, 1) := dk_42 (dk_at dksX5_commands_0 16 rfl rfl)
theorem dX5_commands_17 : decode cX5_commands 17 = .ok (.invokevirtual 399, 3) := dk_182 1 143 (dk_at dksX5_commands_0 17 rfl rfl)
theorem dX5_commands_20 : decode cX5_commands 20 = .ok (.iinc 1 1, 3) := dk_132 1 1 (dk_at dksX5_commands_0 20 rfl rfl)
theorem dX5_commands_23 : decode cX5_commands 23 = .ok (.goto (-21), 3) := dk_167 255 235 (dk_at dksX5_commands_1 0 rfl rfl)
theorem dX5_commands_26 : decode cX5_commands 26 = .ok (.aload_n 0, 1) := dk_42 (dk_at dksX5_commands_1 3 rfl rfl)
theorem dX5_commands_27 : decode cX5_commands 27 = .ok (.iconst 0, 1) := dk_3 (dk_at dksX5_commands_1 4 rfl rfl)
theorem dX5_commands_28 : decode cX5_commands 28 = .ok (.putfield 93, 3) := dk_181 0 93 (dk_at dksX5_commands_1 5 rfl rfl)
theorem dX5_commands_31 : decode cX5_commands 31 = .ok (.aload_n 0, 1) := dk_42 (dk_at dksX5_commands_1 8 rfl rfl)
theorem dX5_commands_32 : decode cX5_commands 32 = .ok (.getfield 288, 3) := dk_180 1 32 (dk_at dksX5_commands_1 9 rfl rfl)
theorem dX5_commands_35 : decode cX5_commands 35 = .ok (.ifCond .eq 19, 3) := dk_153 0 19 (dk_at dksX5_commands_1 12 rfl rfl)
theorem dX5_commands_38 : decode cX5_commands 38 = .ok (.aload_n 0, 1) := dk_42 (dk_at dksX5_commands_1 15 rfl rfl)
theorem dX5_commands_39 : decode cX5_commands 39 = .ok (.getfield 22, 3) := dk_180 0 22 (dk_at dksX5_commands_1 16 rfl rfl)
theorem dX5_commands_42 : decode cX5_commands 42 = .ok (.iconst 0, 1) := dk_3 (dk_at dksX5_commands_1 19 rfl rfl)
theorem dX5_commands_43 : decode cX5_commands 43 = .ok (.aload_n 0, 1) := dk_42 (dk_at dksX5_commands_1 20 rfl rfl)
theorem dX5_commands_44 : decode cX5_commands 44 = .ok (.getfield 9, 3) := dk_180 0 9 (dk_at dksX5_commands_1 21 rfl rfl)
theorem dX5_commands_47 : decode cX5_commands 47 = .ok (.iconst 0, 1) := dk_3 (dk_at dksX5_commands_2 0 rfl rfl)
theorem dX5_commands_48 : decode cX5_commands 48 = .ok (.invokestatic 115, 3) := dk_184 0 115 (dk_at dksX5_commands_2 1 rfl rfl)
theorem dX5_commands_51 : decode cX5_commands 51 = .ok (.goto 11, 3) := dk_167 0 11 (dk_at dksX5_commands_2 4 rfl rfl)
theorem dX5_commands_54 : decode cX5_commands 54 = .ok (.aload_n 0, 1) := dk_42 (dk_at dksX5_commands_2 7 rfl rfl)
theorem dX5_commands_55 : decode cX5_commands 55 = .ok (.aload_n 0, 1) := dk_42 (dk_at dksX5_commands_2 8 rfl rfl)
theorem dX5_commands_56 : decode cX5_commands 56 = .ok (.getfield 22, 3) := dk_180 0 22 (dk_at dksX5_commands_2 9 rfl rfl)
theorem dX5_commands_59 : decode cX5_commands 59 = .ok (.invokevirtual 402, 3) := dk_182 1 146 (dk_at dksX5_commands_2 12 rfl rfl)
theorem dX5_commands_62 : decode cX5_commands 62 = .ok (.aload_n 0, 1) := dk_42 (dk_at dksX5_commands_2 15 rfl rfl)
theorem dX5_commands_63 : decode cX5_commands 63 = .ok (.getfield 288, 3) := dk_180 1 32 (dk_at dksX5_commands_2 16 rfl rfl)
theorem dX5_commands_66 : decode cX5_commands 66 = .ok (.ifCond .eq 7, 3) := dk_153 0 7 (dk_at dksX5_commands_2 19 rfl rfl)
theorem dX5_commands_69 : decode cX5_commands 69 = .ok (.iconst (-1), 1) := dk_2 (dk_at dksX5_commands_2 22 rfl rfl)
theorem dX5_commands_70 : decode cX5_commands 70 = .ok (.goto 4, 3) := dk_167 0 4 (dk_at dksX5_commands_3 0 rfl rfl)
theorem dX5_commands_73 : decode cX5_commands 73 = .ok (.iload_n 1, 1) := dk_27 (dk_at dksX5_commands_3 3 rfl rfl)
theorem dX5_commands_74 : decode cX5_commands 74 = .ok (.ireturn, 1) := dk_172 (dk_at dksX5_commands_3 4 rfl rfl)
abbrev cX5_load : ByteArray := prog_13_method_64_code
def yX5_load : MethodName := ⟨RX5, "load", "()I"⟩
def dkwX5_load_5 : List UInt8 := [167, 0, 9, 42, 180, 0, 9, 7, 46, 172]
abbrev dktX5_load_5 : List UInt8 := dkwX5_load_5 ++ []
def dkwX5_load_4 : List UInt8 := [42, 3, 5, 182, 1, 82, 79, 42, 16, 59, 182, 1, 140, 42, 182, 1, 155, 2, 160, 0, 7, 2]
abbrev dktX5_load_4 : List UInt8 := dkwX5_load_4 ++ dktX5_load_5
def dkwX5_load_3 : List UInt8 := [16, 20, 182, 1, 82, 79, 42, 180, 0, 9, 5, 42, 4, 16, 12, 182, 1, 82, 79, 42, 180, 0, 9, 6]
abbrev dktX5_load_3 : List UInt8 := dkwX5_load_3 ++ dktX5_load_4
def dkwX5_load_2 : List UInt8 := [182, 1, 48, 42, 180, 0, 9, 3, 42, 7, 16, 20, 182, 1, 82, 79, 42, 180, 0, 9, 4, 42, 7]
abbrev dktX5_load_2 : List UInt8 := dkwX5_load_2 ++ dktX5_load_3
def dkwX5_load_1 : List UInt8 := [167, 255, 239, 42, 42, 19, 1, 153, 182, 1, 73, 154, 0, 7, 4, 167, 0, 4, 3, 4, 182, 1, 41, 42]
abbrev dktX5_load_1 : List UInt8 := dkwX5_load_1 ++ dktX5_load_2
def dkwX5_load_0 : List UInt8 := [42, 182, 1, 150, 3, 60, 27, 17, 2, 14, 162, 0, 16, 42, 180, 0, 9, 27, 3, 79, 132, 1, 1]
abbrev dktX5_load_0 : List UInt8 := dkwX5_load_0 ++ dktX5_load_1
theorem dksX5_load_0 : cX5_load.data.toList.drop 0 = dktX5_load_0 := by decide +kernel
theorem dksX5_load_1 : cX5_load.data.toList.drop 23 = dktX5_load_1 := dk_seg dksX5_load_0 23 rfl rfl
theorem dksX5_load_2 : cX5_load.data.toList.drop 47 = dktX5_load_2 := dk_seg dksX5_load_1 24 rfl rfl
theorem dksX5_load_3 : cX5_load.data.toList.drop 70 = dktX5_load_3 := dk_seg dksX5_load_2 23 rfl rfl
theorem dksX5_load_4 : cX5_load.data.toList.drop 94 = dktX5_load_4 := dk_seg dksX5_load_3 24 rfl rfl
theorem dksX5_load_5 : cX5_load.data.toList.drop 116 = dktX5_load_5 := dk_seg dksX5_load_4 22 rfl rfl
theorem dX5_load_0 : decode cX5_load 0 = .ok (.aload_n 0, 1) := dk_42 (dk_at dksX5_load_0 0 rfl rfl)
theorem dX5_load_1 : decode cX5_load 1 = .ok (.invokevirtual 406, 3) := dk_182 1 150 (dk_at dksX5_load_0 1 rfl rfl)
theorem dX5_load_4 : decode cX5_load 4 = .ok (.iconst 0, 1) := dk_3 (dk_at dksX5_load_0 4 rfl rfl)
theorem dX5_load_5 : decode cX5_load 5 = .ok (.istore_n 1, 1) := dk_60 (dk_at dksX5_load_0 5 rfl rfl)
theorem dX5_load_6 : decode cX5_load 6 = .ok (.iload_n 1, 1) := dk_27 (dk_at dksX5_load_0 6 rfl rfl)
theorem dX5_load_7 : decode cX5_load 7 = .ok (.sipush 526, 3) := dk_17 2 14 (dk_at dksX5_load_0 7 rfl rfl)
theorem dX5_load_10 : decode cX5_load 10 = .ok (.if_icmp .ge 16, 3) := dk_162 0 16 (dk_at dksX5_load_0 10 rfl rfl)
theorem dX5_load_13 : decode cX5_load 13 = .ok (.aload_n 0, 1) := dk_42 (dk_at dksX5_load_0 13 rfl rfl)
theorem dX5_load_14 : decode cX5_load 14 = .ok (.getfield 9, 3) := dk_180 0 9 (dk_at dksX5_load_0 14 rfl rfl)
theorem dX5_load_17 : decode cX5_load 17 = .ok (.iload_n 1, 1) := dk_27 (dk_at dksX5_load_0 17 rfl rfl)
theorem dX5_load_18 : decode cX5_load 18 = .ok (.iconst 0, 1) := dk_3 (dk_at dksX5_load_0 18 rfl rfl)
theorem dX5_load_19 : decode cX5_load 19 = .ok (.iastore, 1) := dk_79 (dk_at dksX5_load_0 19 rfl rfl)
theorem dX5_load_20 : decode cX5_load 20 = .ok (.iinc 1 1, 3) := dk_132 1 1 (dk_at dksX5_load_0 20 rfl rfl)
theorem dX5_load_23 : decode cX5_load 23 = .ok (.goto (-17), 3) := dk_167 255 239 (dk_at dksX5_load_1 0 rfl rfl)
theorem dX5_load_26 : decode cX5_load 26 = .ok (.aload_n 0, 1) := dk_42 (dk_at dksX5_load_1 3 rfl rfl)
theorem dX5_load_27 : decode cX5_load 27 = .ok (.aload_n 0, 1) := dk_42 (dk_at dksX5_load_1 4 rfl rfl)
theorem dX5_load_28 : decode cX5_load 28 = .ok (.ldc_w 409, 3) := dk_19 1 153 (dk_at dksX5_load_1 5 rfl rfl)
theorem dX5_load_31 : decode cX5_load 31 = .ok (.invokevirtual 329, 3) := dk_182 1 73 (dk_at dksX5_load_1 8 rfl rfl)
theorem dX5_load_34 : decode cX5_load 34 = .ok (.ifCond .ne 7, 3) := dk_154 0 7 (dk_at dksX5_load_1 11 rfl rfl)
theorem dX5_load_37 : decode cX5_load 37 = .ok (.iconst 1, 1) := dk_4 (dk_at dksX5_load_1 14 rfl rfl)
theorem dX5_load_38 : decode cX5_load 38 = .ok (.goto 4, 3) := dk_167 0 4 (dk_at dksX5_load_1 15 rfl rfl)
theorem dX5_load_41 : decode cX5_load 41 = .ok (.iconst 0, 1) := dk_3 (dk_at dksX5_load_1 18 rfl rfl)
theorem dX5_load_42 : decode cX5_load 42 = .ok (.iconst 1, 1) := dk_4 (dk_at dksX5_load_1 19 rfl rfl)
theorem dX5_load_43 : decode cX5_load 43 = .ok (.invokevirtual 297, 3) := dk_182 1 41 (dk_at dksX5_load_1 20 rfl rfl)
theorem dX5_load_46 : decode cX5_load 46 = .ok (.aload_n 0, 1) := dk_42 (dk_at dksX5_load_1 23 rfl rfl)
theorem dX5_load_47 : decode cX5_load 47 = .ok (.invokevirtual 304, 3) := dk_182 1 48 (dk_at dksX5_load_2 0 rfl rfl)
theorem dX5_load_50 : decode cX5_load 50 = .ok (.aload_n 0, 1) := dk_42 (dk_at dksX5_load_2 3 rfl rfl)
theorem dX5_load_51 : decode cX5_load 51 = .ok (.getfield 9, 3) := dk_180 0 9 (dk_at dksX5_load_2 4 rfl rfl)
theorem dX5_load_54 : decode cX5_load 54 = .ok (.iconst 0, 1) := dk_3 (dk_at dksX5_load_2 7 rfl rfl)
theorem dX5_load_55 : decode cX5_load 55 = .ok (.aload_n 0, 1) := dk_42 (dk_at dksX5_load_2 8 rfl rfl)
theorem dX5_load_56 : decode cX5_load 56 = .ok (.iconst 4, 1) := dk_7 (dk_at dksX5_load_2 9 rfl rfl)
theorem dX5_load_57 : decode cX5_load 57 = .ok (.bipush 20, 2) := dk_16 20 (dk_at dksX5_load_2 10 rfl rfl)
theorem dX5_load_59 : decode cX5_load 59 = .ok (.invokevirtual 338, 3) := dk_182 1 82 (dk_at dksX5_load_2 12 rfl rfl)
theorem dX5_load_62 : decode cX5_load 62 = .ok (.iastore, 1) := dk_79 (dk_at dksX5_load_2 15 rfl rfl)
theorem dX5_load_63 : decode cX5_load 63 = .ok (.aload_n 0, 1) := dk_42 (dk_at dksX5_load_2 16 rfl rfl)
theorem dX5_load_64 : decode cX5_load 64 = .ok (.getfield 9, 3) := dk_180 0 9 (dk_at dksX5_load_2 17 rfl rfl)
theorem dX5_load_67 : decode cX5_load 67 = .ok (.iconst 1, 1) := dk_4 (dk_at dksX5_load_2 20 rfl rfl)
theorem dX5_load_68 : decode cX5_load 68 = .ok (.aload_n 0, 1) := dk_42 (dk_at dksX5_load_2 21 rfl rfl)
theorem dX5_load_69 : decode cX5_load 69 = .ok (.iconst 4, 1) := dk_7 (dk_at dksX5_load_2 22 rfl rfl)
theorem dX5_load_70 : decode cX5_load 70 = .ok (.bipush 20, 2) := dk_16 20 (dk_at dksX5_load_3 0 rfl rfl)
theorem dX5_load_72 : decode cX5_load 72 = .ok (.invokevirtual 338, 3) := dk_182 1 82 (dk_at dksX5_load_3 2 rfl rfl)
theorem dX5_load_75 : decode cX5_load 75 = .ok (.iastore, 1) := dk_79 (dk_at dksX5_load_3 5 rfl rfl)
theorem dX5_load_76 : decode cX5_load 76 = .ok (.aload_n 0, 1) := dk_42 (dk_at dksX5_load_3 6 rfl rfl)
theorem dX5_load_77 : decode cX5_load 77 = .ok (.getfield 9, 3) := dk_180 0 9 (dk_at dksX5_load_3 7 rfl rfl)
theorem dX5_load_80 : decode cX5_load 80 = .ok (.iconst 2, 1) := dk_5 (dk_at dksX5_load_3 10 rfl rfl)
theorem dX5_load_81 : decode cX5_load 81 = .ok (.aload_n 0, 1) := dk_42 (dk_at dksX5_load_3 11 rfl rfl)
theorem dX5_load_82 : decode cX5_load 82 = .ok (.iconst 1, 1) := dk_4 (dk_at dksX5_load_3 12 rfl rfl)
theorem dX5_load_83 : decode cX5_load 83 = .ok (.bipush 12, 2) := dk_16 12 (dk_at dksX5_load_3 13 rfl rfl)
theorem dX5_load_85 : decode cX5_load 85 = .ok (.invokevirtual 338, 3) := dk_182 1 82 (dk_at dksX5_load_3 15 rfl rfl)
theorem dX5_load_88 : decode cX5_load 88 = .ok (.iastore, 1) := dk_79 (dk_at dksX5_load_3 18 rfl rfl)
theorem dX5_load_89 : decode cX5_load 89 = .ok (.aload_n 0, 1) := dk_42 (dk_at dksX5_load_3 19 rfl rfl)
theorem dX5_load_90 : decode cX5_load 90 = .ok (.getfield 9, 3) := dk_180 0 9 (dk_at dksX5_load_3 20 rfl rfl)
theorem dX5_load_93 : decode cX5_load 93 = .ok (.iconst 3, 1) := dk_6 (dk_at dksX5_load_3 23 rfl rfl)
theorem dX5_load_94 : decode cX5_load 94 = .ok (.aload_n 0, 1) := dk_42 (dk_at dksX5_load_4 0 rfl rfl)
theorem dX5_load_95 : decode cX5_load 95 = .ok (.iconst 0, 1) := dk_3 (dk_at dksX5_load_4 1 rfl rfl)
theorem dX5_load_96 : decode cX5_load 96 = .ok (.iconst 2, 1) := dk_5 (dk_at dksX5_load_4 2 rfl rfl)
theorem dX5_load_97 : decode cX5_load 97 = .ok (.invokevirtual 338, 3) := dk_182 1 82 (dk_at dksX5_load_4 3 rfl rfl)
theorem dX5_load_100 : decode cX5_load 100 = .ok (.iastore, 1) := dk_79 (dk_at dksX5_load_4 6 rfl rfl)
theorem dX5_load_101 : decode cX5_load 101 = .ok (.aload_n 0, 1) := dk_42 (dk_at dksX5_load_4 7 rfl rfl)
theorem dX5_load_102 : decode cX5_load 102 = .ok (.bipush 59, 2) := dk_16 59 (dk_at dksX5_load_4 8 rfl rfl)
theorem dX5_load_104 : decode cX5_load 104 = .ok (.invokevirtual 396, 3) := dk_182 1 140 (dk_at dksX5_load_4 10 rfl rfl)
theorem dX5_load_107 : decode cX5_load 107 = .ok (.aload_n 0, 1) := dk_42 (dk_at dksX5_load_4 13 rfl rfl)
theorem dX5_load_108 : decode cX5_load 108 = .ok (.invokevirtual 411, 3) := dk_182 1 155 (dk_at dksX5_load_4 14 rfl rfl)
theorem dX5_load_111 : decode cX5_load 111 = .ok (.iconst (-1), 1) := dk_2 (dk_at dksX5_load_4 17 rfl rfl)
theorem dX5_load_112 : decode cX5_load 112 = .ok (.if_icmp .ne 7, 3) := dk_160 0 7 (dk_at dksX5_load_4 18 rfl rfl)
theorem dX5_load_115 : decode cX5_load 115 = .ok (.iconst (-1), 1) := dk_2 (dk_at dksX5_load_4 21 rfl rfl)
theorem dX5_load_116 : decode cX5_load 116 = .ok (.goto 9, 3) := dk_167 0 9 (dk_at dksX5_load_5 0 rfl rfl)
theorem dX5_load_119 : decode cX5_load 119 = .ok (.aload_n 0, 1) := dk_42 (dk_at dksX5_load_5 3 rfl rfl)
theorem dX5_load_120 : decode cX5_load 120 = .ok (.getfield 9, 3) := dk_180 0 9 (dk_at dksX5_load_5 4 rfl rfl)
theorem dX5_load_123 : decode cX5_load 123 = .ok (.iconst 4, 1) := dk_7 (dk_at dksX5_load_5 7 rfl rfl)
theorem dX5_load_124 : decode cX5_load 124 = .ok (.iaload, 1) := dk_46 (dk_at dksX5_load_5 8 rfl rfl)
theorem dX5_load_125 : decode cX5_load 125 = .ok (.ireturn, 1) := dk_172 (dk_at dksX5_load_5 9 rfl rfl)
abbrev cX5_play : ByteArray := prog_13_method_65_code
def yX5_play : MethodName := ⟨RX5, "play", "()I"⟩
def dkwX5_play_0 : List UInt8 := [42, 182, 1, 150, 42, 182, 1, 155, 172]
abbrev dktX5_play_0 : List UInt8 := dkwX5_play_0 ++ []
theorem dksX5_play_0 : cX5_play.data.toList.drop 0 = dktX5_play_0 := by decide +kernel
theorem dX5_play_0 : decode cX5_play 0 = .ok (.aload_n 0, 1) := dk_42 (dk_at dksX5_play_0 0 rfl rfl)
theorem dX5_play_1 : decode cX5_play 1 = .ok (.invokevirtual 406, 3) := dk_182 1 150 (dk_at dksX5_play_0 1 rfl rfl)
theorem dX5_play_4 : decode cX5_play 4 = .ok (.aload_n 0, 1) := dk_42 (dk_at dksX5_play_0 4 rfl rfl)
theorem dX5_play_5 : decode cX5_play 5 = .ok (.invokevirtual 411, 3) := dk_182 1 155 (dk_at dksX5_play_0 5 rfl rfl)
theorem dX5_play_8 : decode cX5_play 8 = .ok (.ireturn, 1) := dk_172 (dk_at dksX5_play_0 8 rfl rfl)
abbrev cX5_outLeg : ByteArray := prog_13_method_112_code
def yX5_outLeg : MethodName := ⟨RX5, "outLeg", "(I)V"⟩
def dkwX5_outLeg_3 : List UInt8 := [182, 1, 227, 177]
abbrev dktX5_outLeg_3 : List UInt8 := dkwX5_outLeg_3 ++ []
def dkwX5_outLeg_2 : List UInt8 := [180, 0, 51, 27, 46, 182, 0, 96, 182, 1, 227, 42, 180, 0, 57, 27, 51, 153, 0, 9, 42, 16, 120]
abbrev dktX5_outLeg_2 : List UInt8 := dkwX5_outLeg_2 ++ dktX5_outLeg_3
def dkwX5_outLeg_1 : List UInt8 := [182, 1, 227, 42, 16, 48, 42, 180, 0, 48, 27, 46, 16, 10, 112, 96, 182, 1, 227, 42, 19, 1, 230, 42]
abbrev dktX5_outLeg_1 : List UInt8 := dkwX5_outLeg_1 ++ dktX5_outLeg_2
def dkwX5_outLeg_0 : List UInt8 := [42, 180, 0, 48, 27, 46, 16, 9, 164, 0, 19, 42, 16, 48, 42, 180, 0, 48, 27, 46, 16, 10, 108, 96]
abbrev dktX5_outLeg_0 : List UInt8 := dkwX5_outLeg_0 ++ dktX5_outLeg_1
theorem dksX5_outLeg_0 : cX5_outLeg.data.toList.drop 0 = dktX5_outLeg_0 := by decide +kernel
theorem dksX5_outLeg_1 : cX5_outLeg.data.toList.drop 24 = dktX5_outLeg_1 := dk_seg dksX5_outLeg_0 24 rfl rfl
theorem dksX5_outLeg_2 : cX5_outLeg.data.toList.drop 48 = dktX5_outLeg_2 := dk_seg dksX5_outLeg_1 24 rfl rfl
theorem dksX5_outLeg_3 : cX5_outLeg.data.toList.drop 71 = dktX5_outLeg_3 := dk_seg dksX5_outLeg_2 23 rfl rfl
theorem dX5_outLeg_0 : decode cX5_outLeg 0 = .ok (.aload_n 0, 1) := dk_42 (dk_at dksX5_outLeg_0 0 rfl rfl)
theorem dX5_outLeg_1 : decode cX5_outLeg 1 = .ok (.getfield 48, 3) := dk_180 0 48 (dk_at dksX5_outLeg_0 1 rfl rfl)
theorem dX5_outLeg_4 : decode cX5_outLeg 4 = .ok (.iload_n 1, 1) := dk_27 (dk_at dksX5_outLeg_0 4 rfl rfl)
theorem dX5_outLeg_5 : decode cX5_outLeg 5 = .ok (.iaload, 1) := dk_46 (dk_at dksX5_outLeg_0 5 rfl rfl)
theorem dX5_outLeg_6 : decode cX5_outLeg 6 = .ok (.bipush 9, 2) := dk_16 9 (dk_at dksX5_outLeg_0 6 rfl rfl)
theorem dX5_outLeg_8 : decode cX5_outLeg 8 = .ok (.if_icmp .le 19, 3) := dk_164 0 19 (dk_at dksX5_outLeg_0 8 rfl rfl)
theorem dX5_outLeg_11 : decode cX5_outLeg 11 = .ok (.aload_n 0, 1) := dk_42 (dk_at dksX5_outLeg_0 11 rfl rfl)
theorem dX5_outLeg_12 : decode cX5_outLeg 12 = .ok (.bipush 48, 2) := dk_16 48 (dk_at dksX5_outLeg_0 12 rfl rfl)
theorem dX5_outLeg_14 : decode cX5_outLeg 14 = .ok (.aload_n 0, 1) := dk_42 (dk_at dksX5_outLeg_0 14 rfl rfl)
theorem dX5_outLeg_15 : decode cX5_outLeg 15 = .ok (.getfield 48, 3) := dk_180 0 48 (dk_at dksX5_outLeg_0 15 rfl rfl)
theorem dX5_outLeg_18 : decode cX5_outLeg 18 = .ok (.iload_n 1, 1) := dk_27 (dk_at dksX5_outLeg_0 18 rfl rfl)
theorem dX5_outLeg_19 : decode cX5_outLeg 19 = .ok (.iaload, 1) := dk_46 (dk_at dksX5_outLeg_0 19 rfl rfl)
theorem dX5_outLeg_20 : decode cX5_outLeg 20 = .ok (.bipush 10, 2) := dk_16 10 (dk_at dksX5_outLeg_0 20 rfl rfl)
theorem dX5_outLeg_22 : decode cX5_outLeg 22 = .ok (.idiv, 1) := dk_108 (dk_at dksX5_outLeg_0 22 rfl rfl)
theorem dX5_outLeg_23 : decode cX5_outLeg 23 = .ok (.iadd, 1) := dk_96 (dk_at dksX5_outLeg_0 23 rfl rfl)
theorem dX5_outLeg_24 : decode cX5_outLeg 24 = .ok (.invokevirtual 483, 3) := dk_182 1 227 (dk_at dksX5_outLeg_1 0 rfl rfl)
theorem dX5_outLeg_27 : decode cX5_outLeg 27 = .ok (.aload_n 0, 1) := dk_42 (dk_at dksX5_outLeg_1 3 rfl rfl)
theorem dX5_outLeg_28 : decode cX5_outLeg 28 = .ok (.bipush 48, 2) := dk_16 48 (dk_at dksX5_outLeg_1 4 rfl rfl)
theorem dX5_outLeg_30 : decode cX5_outLeg 30 = .ok (.aload_n 0, 1) := dk_42 (dk_at dksX5_outLeg_1 6 rfl rfl)
theorem dX5_outLeg_31 : decode cX5_outLeg 31 = .ok (.getfield 48, 3) := dk_180 0 48 (dk_at dksX5_outLeg_1 7 rfl rfl)
theorem dX5_outLeg_34 : decode cX5_outLeg 34 = .ok (.iload_n 1, 1) := dk_27 (dk_at dksX5_outLeg_1 10 rfl rfl)
theorem dX5_outLeg_35 : decode cX5_outLeg 35 = .ok (.iaload, 1) := dk_46 (dk_at dksX5_outLeg_1 11 rfl rfl)
theorem dX5_outLeg_36 : decode cX5_outLeg 36 = .ok (.bipush 10, 2) := dk_16 10 (dk_at dksX5_outLeg_1 12 rfl rfl)
theorem dX5_outLeg_38 : decode cX5_outLeg 38 = .ok (.irem, 1) := dk_112 (dk_at dksX5_outLeg_1 14 rfl rfl)
theorem dX5_outLeg_39 : decode cX5_outLeg 39 = .ok (.iadd, 1) := dk_96 (dk_at dksX5_outLeg_1 15 rfl rfl)
theorem dX5_outLeg_40 : decode cX5_outLeg 40 = .ok (.invokevirtual 483, 3) := dk_182 1 227 (dk_at dksX5_outLeg_1 16 rfl rfl)
theorem dX5_outLeg_43 : decode cX5_outLeg 43 = .ok (.aload_n 0, 1) := dk_42 (dk_at dksX5_outLeg_1 19 rfl rfl)
theorem dX5_outLeg_44 : decode cX5_outLeg 44 = .ok (.ldc_w 486, 3) := dk_19 1 230 (dk_at dksX5_outLeg_1 20 rfl rfl)
theorem dX5_outLeg_47 : decode cX5_outLeg 47 = .ok (.aload_n 0, 1) := dk_42 (dk_at dksX5_outLeg_1 23 rfl rfl)
theorem dX5_outLeg_48 : decode cX5_outLeg 48 = .ok (.getfield 51, 3) := dk_180 0 51 (dk_at dksX5_outLeg_2 0 rfl rfl)
theorem dX5_outLeg_51 : decode cX5_outLeg 51 = .ok (.iload_n 1, 1) := dk_27 (dk_at dksX5_outLeg_2 3 rfl rfl)
theorem dX5_outLeg_52 : decode cX5_outLeg 52 = .ok (.iaload, 1) := dk_46 (dk_at dksX5_outLeg_2 4 rfl rfl)
theorem dX5_outLeg_53 : decode cX5_outLeg 53 = .ok (.invokevirtual 96, 3) := dk_182 0 96 (dk_at dksX5_outLeg_2 5 rfl rfl)
theorem dX5_outLeg_56 : decode cX5_outLeg 56 = .ok (.invokevirtual 483, 3) := dk_182 1 227 (dk_at dksX5_outLeg_2 8 rfl rfl)
theorem dX5_outLeg_59 : decode cX5_outLeg 59 = .ok (.aload_n 0, 1) := dk_42 (dk_at dksX5_outLeg_2 11 rfl rfl)
theorem dX5_outLeg_60 : decode cX5_outLeg 60 = .ok (.getfield 57, 3) := dk_180 0 57 (dk_at dksX5_outLeg_2 12 rfl rfl)
theorem dX5_outLeg_63 : decode cX5_outLeg 63 = .ok (.iload_n 1, 1) := dk_27 (dk_at dksX5_outLeg_2 15 rfl rfl)
theorem dX5_outLeg_64 : decode cX5_outLeg 64 = .ok (.baload, 1) := dk_51 (dk_at dksX5_outLeg_2 16 rfl rfl)
theorem dX5_outLeg_65 : decode cX5_outLeg 65 = .ok (.ifCond .eq 9, 3) := dk_153 0 9 (dk_at dksX5_outLeg_2 17 rfl rfl)
theorem dX5_outLeg_68 : decode cX5_outLeg 68 = .ok (.aload_n 0, 1) := dk_42 (dk_at dksX5_outLeg_2 20 rfl rfl)
theorem dX5_outLeg_69 : decode cX5_outLeg 69 = .ok (.bipush 120, 2) := dk_16 120 (dk_at dksX5_outLeg_2 21 rfl rfl)
theorem dX5_outLeg_71 : decode cX5_outLeg 71 = .ok (.invokevirtual 483, 3) := dk_182 1 227 (dk_at dksX5_outLeg_3 0 rfl rfl)
theorem dX5_outLeg_74 : decode cX5_outLeg 74 = .ok (.return_, 1) := dk_177 (dk_at dksX5_outLeg_3 3 rfl rfl)
abbrev cX5_outLegs : ByteArray := prog_13_method_114_code
def yX5_outLegs : MethodName := ⟨RX5, "outLegs", "(I)I"⟩
def dkwX5_outLegs_5 : List UInt8 := [182, 1, 227, 27, 29, 96, 172]
abbrev dktX5_outLegs_5 : List UInt8 := dkwX5_outLegs_5 ++ []
def dkwX5_outLegs_4 : List UInt8 := [21, 4, 28, 162, 0, 17, 42, 27, 21, 4, 96, 182, 1, 238, 132, 4, 1, 167, 255, 239, 42, 16, 41]
abbrev dktX5_outLegs_4 : List UInt8 := dkwX5_outLegs_4 ++ dktX5_outLegs_5
def dkwX5_outLegs_3 : List UInt8 := [27, 4, 96, 172, 42, 16, 48, 29, 28, 108, 96, 182, 1, 227, 42, 16, 40, 182, 1, 227, 3, 54, 4]
abbrev dktX5_outLegs_3 : List UInt8 := dkwX5_outLegs_3 ++ dktX5_outLegs_4
def dkwX5_outLegs_2 : List UInt8 := [21, 4, 61, 21, 5, 21, 4, 104, 62, 132, 4, 1, 167, 255, 204, 28, 154, 0, 12, 42, 27, 182, 1, 238]
abbrev dktX5_outLegs_2 : List UInt8 := dkwX5_outLegs_2 ++ dktX5_outLegs_3
def dkwX5_outLegs_1 : List UInt8 := [182, 1, 235, 54, 5, 21, 5, 5, 161, 0, 24, 21, 5, 21, 4, 104, 29, 163, 0, 6, 167, 0, 12]
abbrev dktX5_outLegs_1 : List UInt8 := dkwX5_outLegs_1 ++ dktX5_outLegs_2
def dkwX5_outLegs_0 : List UInt8 := [3, 61, 3, 62, 4, 54, 4, 27, 5, 21, 4, 104, 96, 42, 180, 0, 202, 163, 0, 45, 42, 27, 21, 4]
abbrev dktX5_outLegs_0 : List UInt8 := dkwX5_outLegs_0 ++ dktX5_outLegs_1
theorem dksX5_outLegs_0 : cX5_outLegs.data.toList.drop 0 = dktX5_outLegs_0 := by decide +kernel
theorem dksX5_outLegs_1 : cX5_outLegs.data.toList.drop 24 = dktX5_outLegs_1 := dk_seg dksX5_outLegs_0 24 rfl rfl
theorem dksX5_outLegs_2 : cX5_outLegs.data.toList.drop 47 = dktX5_outLegs_2 := dk_seg dksX5_outLegs_1 23 rfl rfl
theorem dksX5_outLegs_3 : cX5_outLegs.data.toList.drop 71 = dktX5_outLegs_3 := dk_seg dksX5_outLegs_2 24 rfl rfl
theorem dksX5_outLegs_4 : cX5_outLegs.data.toList.drop 94 = dktX5_outLegs_4 := dk_seg dksX5_outLegs_3 23 rfl rfl
theorem dksX5_outLegs_5 : cX5_outLegs.data.toList.drop 117 = dktX5_outLegs_5 := dk_seg dksX5_outLegs_4 23 rfl rfl
theorem dX5_outLegs_0 : decode cX5_outLegs 0 = .ok (.iconst 0, 1) := dk_3 (dk_at dksX5_outLegs_0 0 rfl rfl)
theorem dX5_outLegs_1 : decode cX5_outLegs 1 = .ok (.istore_n 2, 1) := dk_61 (dk_at dksX5_outLegs_0 1 rfl rfl)
theorem dX5_outLegs_2 : decode cX5_outLegs 2 = .ok (.iconst 0, 1) := dk_3 (dk_at dksX5_outLegs_0 2 rfl rfl)
theorem dX5_outLegs_3 : decode cX5_outLegs 3 = .ok (.istore_n 3, 1) := dk_62 (dk_at dksX5_outLegs_0 3 rfl rfl)
theorem dX5_outLegs_4 : decode cX5_outLegs 4 = .ok (.iconst 1, 1) := dk_4 (dk_at dksX5_outLegs_0 4 rfl rfl)
theorem dX5_outLegs_5 : decode cX5_outLegs 5 = .ok (.istore 4, 2) := dk_54 4 (dk_at dksX5_outLegs_0 5 rfl rfl)
theorem dX5_outLegs_7 : decode cX5_outLegs 7 = .ok (.iload_n 1, 1) := dk_27 (dk_at dksX5_outLegs_0 7 rfl rfl)
theorem dX5_outLegs_8 : decode cX5_outLegs 8 = .ok (.iconst 2, 1) := dk_5 (dk_at dksX5_outLegs_0 8 rfl rfl)
theorem dX5_outLegs_9 : decode cX5_outLegs 9 = .ok (.iload 4, 2) := dk_21 4 (dk_at dksX5_outLegs_0 9 rfl rfl)
theorem dX5_outLegs_11 : decode cX5_outLegs 11 = .ok (.imul, 1) := dk_104 (dk_at dksX5_outLegs_0 11 rfl rfl)
theorem dX5_outLegs_12 : decode cX5_outLegs 12 = .ok (.iadd, 1) := dk_96 (dk_at dksX5_outLegs_0 12 rfl rfl)
theorem dX5_outLegs_13 : decode cX5_outLegs 13 = .ok (.aload_n 0, 1) := dk_42 (dk_at dksX5_outLegs_0 13 rfl rfl)
theorem dX5_outLegs_14 : decode cX5_outLegs 14 = .ok (.getfield 202, 3) := dk_180 0 202 (dk_at dksX5_outLegs_0 14 rfl rfl)
theorem dX5_outLegs_17 : decode cX5_outLegs 17 = .ok (.if_icmp .gt 45, 3) := dk_163 0 45 (dk_at dksX5_outLegs_0 17 rfl rfl)
theorem dX5_outLegs_20 : decode cX5_outLegs 20 = .ok (.aload_n 0, 1) := dk_42 (dk_at dksX5_outLegs_0 20 rfl rfl)
theorem dX5_outLegs_21 : decode cX5_outLegs 21 = .ok (.iload_n 1, 1) := dk_27 (dk_at dksX5_outLegs_0 21 rfl rfl)
theorem dX5_outLegs_22 : decode cX5_outLegs 22 = .ok (.iload 4, 2) := dk_21 4 (dk_at dksX5_outLegs_0 22 rfl rfl)
theorem dX5_outLegs_24 : decode cX5_outLegs 24 = .ok (.invokevirtual 491, 3) := dk_182 1 235 (dk_at dksX5_outLegs_1 0 rfl rfl)
theorem dX5_outLegs_27 : decode cX5_outLegs 27 = .ok (.istore 5, 2) := dk_54 5 (dk_at dksX5_outLegs_1 3 rfl rfl)
theorem dX5_outLegs_29 : decode cX5_outLegs 29 = .ok (.iload 5, 2) := dk_21 5 (dk_at dksX5_outLegs_1 5 rfl rfl)
theorem dX5_outLegs_31 : decode cX5_outLegs 31 = .ok (.iconst 2, 1) := dk_5 (dk_at dksX5_outLegs_1 7 rfl rfl)
theorem dX5_outLegs_32 : decode cX5_outLegs 32 = .ok (.if_icmp .lt 24, 3) := dk_161 0 24 (dk_at dksX5_outLegs_1 8 rfl rfl)
theorem dX5_outLegs_35 : decode cX5_outLegs 35 = .ok (.iload 5, 2) := dk_21 5 (dk_at dksX5_outLegs_1 11 rfl rfl)
theorem dX5_outLegs_37 : decode cX5_outLegs 37 = .ok (.iload 4, 2) := dk_21 4 (dk_at dksX5_outLegs_1 13 rfl rfl)
theorem dX5_outLegs_39 : decode cX5_outLegs 39 = .ok (.imul, 1) := dk_104 (dk_at dksX5_outLegs_1 15 rfl rfl)
theorem dX5_outLegs_40 : decode cX5_outLegs 40 = .ok (.iload_n 3, 1) := dk_29 (dk_at dksX5_outLegs_1 16 rfl rfl)
theorem dX5_outLegs_41 : decode cX5_outLegs 41 = .ok (.if_icmp .gt 6, 3) := dk_163 0 6 (dk_at dksX5_outLegs_1 17 rfl rfl)
theorem dX5_outLegs_44 : decode cX5_outLegs 44 = .ok (.goto 12, 3) := dk_167 0 12 (dk_at dksX5_outLegs_1 20 rfl rfl)
theorem dX5_outLegs_47 : decode cX5_outLegs 47 = .ok (.iload 4, 2) := dk_21 4 (dk_at dksX5_outLegs_2 0 rfl rfl)
theorem dX5_outLegs_49 : decode cX5_outLegs 49 = .ok (.istore_n 2, 1) := dk_61 (dk_at dksX5_outLegs_2 2 rfl rfl)
theorem dX5_outLegs_50 : decode cX5_outLegs 50 = .ok (.iload 5, 2) := dk_21 5 (dk_at dksX5_outLegs_2 3 rfl rfl)
theorem dX5_outLegs_52 : decode cX5_outLegs 52 = .ok (.iload 4, 2) := dk_21 4 (dk_at dksX5_outLegs_2 5 rfl rfl)
theorem dX5_outLegs_54 : decode cX5_outLegs 54 = .ok (.imul, 1) := dk_104 (dk_at dksX5_outLegs_2 7 rfl rfl)
theorem dX5_outLegs_55 : decode cX5_outLegs 55 = .ok (.istore_n 3, 1) := dk_62 (dk_at dksX5_outLegs_2 8 rfl rfl)
theorem dX5_outLegs_56 : decode cX5_outLegs 56 = .ok (.iinc 4 1, 3) := dk_132 4 1 (dk_at dksX5_outLegs_2 9 rfl rfl)
theorem dX5_outLegs_59 : decode cX5_outLegs 59 = .ok (.goto (-52), 3) := dk_167 255 204 (dk_at dksX5_outLegs_2 12 rfl rfl)
theorem dX5_outLegs_62 : decode cX5_outLegs 62 = .ok (.iload_n 2, 1) := dk_28 (dk_at dksX5_outLegs_2 15 rfl rfl)
theorem dX5_outLegs_63 : decode cX5_outLegs 63 = .ok (.ifCond .ne 12, 3) := dk_154 0 12 (dk_at dksX5_outLegs_2 16 rfl rfl)
theorem dX5_outLegs_66 : decode cX5_outLegs 66 = .ok (.aload_n 0, 1) := dk_42 (dk_at dksX5_outLegs_2 19 rfl rfl)
theorem dX5_outLegs_67 : decode cX5_outLegs 67 = .ok (.iload_n 1, 1) := dk_27 (dk_at dksX5_outLegs_2 20 rfl rfl)
theorem dX5_outLegs_68 : decode cX5_outLegs 68 = .ok (.invokevirtual 494, 3) := dk_182 1 238 (dk_at dksX5_outLegs_2 21 rfl rfl)
theorem dX5_outLegs_71 : decode cX5_outLegs 71 = .ok (.iload_n 1, 1) := dk_27 (dk_at dksX5_outLegs_3 0 rfl rfl)
theorem dX5_outLegs_72 : decode cX5_outLegs 72 = .ok (.iconst 1, 1) := dk_4 (dk_at dksX5_outLegs_3 1 rfl rfl)
theorem dX5_outLegs_73 : decode cX5_outLegs 73 = .ok (.iadd, 1) := dk_96 (dk_at dksX5_outLegs_3 2 rfl rfl)
theorem dX5_outLegs_74 : decode cX5_outLegs 74 = .ok (.ireturn, 1) := dk_172 (dk_at dksX5_outLegs_3 3 rfl rfl)
theorem dX5_outLegs_75 : decode cX5_outLegs 75 = .ok (.aload_n 0, 1) := dk_42 (dk_at dksX5_outLegs_3 4 rfl rfl)
theorem dX5_outLegs_76 : decode cX5_outLegs 76 = .ok (.bipush 48, 2) := dk_16 48 (dk_at dksX5_outLegs_3 5 rfl rfl)
theorem dX5_outLegs_78 : decode cX5_outLegs 78 = .ok (.iload_n 3, 1) := dk_29 (dk_at dksX5_outLegs_3 7 rfl rfl)
theorem dX5_outLegs_79 : decode cX5_outLegs 79 = .ok (.iload_n 2, 1) := dk_28 (dk_at dksX5_outLegs_3 8 rfl rfl)
theorem dX5_outLegs_80 : decode cX5_outLegs 80 = .ok (.idiv, 1) := dk_108 (dk_at dksX5_outLegs_3 9 rfl rfl)
theorem dX5_outLegs_81 : decode cX5_outLegs 81 = .ok (.iadd, 1) := dk_96 (dk_at dksX5_outLegs_3 10 rfl rfl)
theorem dX5_outLegs_82 : decode cX5_outLegs 82 = .ok (.invokevirtual 483, 3) := dk_182 1 227 (dk_at dksX5_outLegs_3 11 rfl rfl)
theorem dX5_outLegs_85 : decode cX5_outLegs 85 = .ok (.aload_n 0, 1) := dk_42 (dk_at dksX5_outLegs_3 14 rfl rfl)
theorem dX5_outLegs_86 : decode cX5_outLegs 86 = .ok (.bipush 40, 2) := dk_16 40 (dk_at dksX5_outLegs_3 15 rfl rfl)
theorem dX5_outLegs_88 : decode cX5_outLegs 88 = .ok (.invokevirtual 483, 3) := dk_182 1 227 (dk_at dksX5_outLegs_3 17 rfl rfl)
theorem dX5_outLegs_91 : decode cX5_outLegs 91 = .ok (.iconst 0, 1) := dk_3 (dk_at dksX5_outLegs_3 20 rfl rfl)
theorem dX5_outLegs_92 : decode cX5_outLegs 92 = .ok (.istore 4, 2) := dk_54 4 (dk_at dksX5_outLegs_3 21 rfl rfl)
theorem dX5_outLegs_94 : decode cX5_outLegs 94 = .ok (.iload 4, 2) := dk_21 4 (dk_at dksX5_outLegs_4 0 rfl rfl)
theorem dX5_outLegs_96 : decode cX5_outLegs 96 = .ok (.iload_n 2, 1) := dk_28 (dk_at dksX5_outLegs_4 2 rfl rfl)
theorem dX5_outLegs_97 : decode cX5_outLegs 97 = .ok (.if_icmp .ge 17, 3) := dk_162 0 17 (dk_at dksX5_outLegs_4 3 rfl rfl)
theorem dX5_outLegs_100 : decode cX5_outLegs 100 = .ok (.aload_n 0, 1) := dk_42 (dk_at dksX5_outLegs_4 6 rfl rfl)
theorem dX5_outLegs_101 : decode cX5_outLegs 101 = .ok (.iload_n 1, 1) := dk_27 (dk_at dksX5_outLegs_4 7 rfl rfl)
theorem dX5_outLegs_102 : decode cX5_outLegs 102 = .ok (.iload 4, 2) := dk_21 4 (dk_at dksX5_outLegs_4 8 rfl rfl)
theorem dX5_outLegs_104 : decode cX5_outLegs 104 = .ok (.iadd, 1) := dk_96 (dk_at dksX5_outLegs_4 10 rfl rfl)
theorem dX5_outLegs_105 : decode cX5_outLegs 105 = .ok (.invokevirtual 494, 3) := dk_182 1 238 (dk_at dksX5_outLegs_4 11 rfl rfl)
theorem dX5_outLegs_108 : decode cX5_outLegs 108 = .ok (.iinc 4 1, 3) := dk_132 4 1 (dk_at dksX5_outLegs_4 14 rfl rfl)
theorem dX5_outLegs_111 : decode cX5_outLegs 111 = .ok (.goto (-17), 3) := dk_167 255 239 (dk_at dksX5_outLegs_4 17 rfl rfl)
theorem dX5_outLegs_114 : decode cX5_outLegs 114 = .ok (.aload_n 0, 1) := dk_42 (dk_at dksX5_outLegs_4 20 rfl rfl)
theorem dX5_outLegs_115 : decode cX5_outLegs 115 = .ok (.bipush 41, 2) := dk_16 41 (dk_at dksX5_outLegs_4 21 rfl rfl)
theorem dX5_outLegs_117 : decode cX5_outLegs 117 = .ok (.invokevirtual 483, 3) := dk_182 1 227 (dk_at dksX5_outLegs_5 0 rfl rfl)
theorem dX5_outLegs_120 : decode cX5_outLegs 120 = .ok (.iload_n 1, 1) := dk_27 (dk_at dksX5_outLegs_5 3 rfl rfl)
theorem dX5_outLegs_121 : decode cX5_outLegs 121 = .ok (.iload_n 3, 1) := dk_29 (dk_at dksX5_outLegs_5 4 rfl rfl)
theorem dX5_outLegs_122 : decode cX5_outLegs 122 = .ok (.iadd, 1) := dk_96 (dk_at dksX5_outLegs_5 5 rfl rfl)
theorem dX5_outLegs_123 : decode cX5_outLegs 123 = .ok (.ireturn, 1) := dk_172 (dk_at dksX5_outLegs_5 6 rfl rfl)
abbrev cX5_writeRoute : ByteArray := prog_13_method_115_code
def yX5_writeRoute : MethodName := ⟨RX5, "writeRoute", "(I)I"⟩
def dkwX5_writeRoute_2 : List UInt8 := [180, 1, 224, 172]
abbrev dktX5_writeRoute_2 : List UInt8 := dkwX5_writeRoute_2 ++ []
def dkwX5_writeRoute_1 : List UInt8 := [181, 1, 224, 3, 61, 28, 42, 180, 0, 202, 162, 0, 12, 42, 28, 182, 1, 241, 61, 167, 255, 242, 42]
abbrev dktX5_writeRoute_1 : List UInt8 := dkwX5_writeRoute_1 ++ dktX5_writeRoute_2
def dkwX5_writeRoute_0 : List UInt8 := [42, 42, 27, 182, 1, 161, 3, 3, 182, 1, 2, 153, 0, 5, 3, 172, 42, 27, 182, 0, 243, 42, 3]
abbrev dktX5_writeRoute_0 : List UInt8 := dkwX5_writeRoute_0 ++ dktX5_writeRoute_1
theorem dksX5_writeRoute_0 : cX5_writeRoute.data.toList.drop 0 = dktX5_writeRoute_0 := by decide +kernel
theorem dksX5_writeRoute_1 : cX5_writeRoute.data.toList.drop 23 = dktX5_writeRoute_1 := dk_seg dksX5_writeRoute_0 23 rfl rfl
theorem dksX5_writeRoute_2 : cX5_writeRoute.data.toList.drop 46 = dktX5_writeRoute_2 := dk_seg dksX5_writeRoute_1 23 rfl rfl
theorem dX5_writeRoute_0 : decode cX5_writeRoute 0 = .ok (.aload_n 0, 1) := dk_42 (dk_at dksX5_writeRoute_0 0 rfl rfl)
theorem dX5_writeRoute_1 : decode cX5_writeRoute 1 = .ok (.aload_n 0, 1) := dk_42 (dk_at dksX5_writeRoute_0 1 rfl rfl)
theorem dX5_writeRoute_2 : decode cX5_writeRoute 2 = .ok (.iload_n 1, 1) := dk_27 (dk_at dksX5_writeRoute_0 2 rfl rfl)
theorem dX5_writeRoute_3 : decode cX5_writeRoute 3 = .ok (.invokevirtual 417, 3) := dk_182 1 161 (dk_at dksX5_writeRoute_0 3 rfl rfl)
theorem dX5_writeRoute_6 : decode cX5_writeRoute 6 = .ok (.iconst 0, 1) := dk_3 (dk_at dksX5_writeRoute_0 6 rfl rfl)
theorem dX5_writeRoute_7 : decode cX5_writeRoute 7 = .ok (.iconst 0, 1) := dk_3 (dk_at dksX5_writeRoute_0 7 rfl rfl)
theorem dX5_writeRoute_8 : decode cX5_writeRoute 8 = .ok (.invokevirtual 258, 3) := dk_182 1 2 (dk_at dksX5_writeRoute_0 8 rfl rfl)
theorem dX5_writeRoute_11 : decode cX5_writeRoute 11 = .ok (.ifCond .eq 5, 3) := dk_153 0 5 (dk_at dksX5_writeRoute_0 11 rfl rfl)
theorem dX5_writeRoute_14 : decode cX5_writeRoute 14 = .ok (.iconst 0, 1) := dk_3 (dk_at dksX5_writeRoute_0 14 rfl rfl)
theorem dX5_writeRoute_15 : decode cX5_writeRoute 15 = .ok (.ireturn, 1) := dk_172 (dk_at dksX5_writeRoute_0 15 rfl rfl)
theorem dX5_writeRoute_16 : decode cX5_writeRoute 16 = .ok (.aload_n 0, 1) := dk_42 (dk_at dksX5_writeRoute_0 16 rfl rfl)
theorem dX5_writeRoute_17 : decode cX5_writeRoute 17 = .ok (.iload_n 1, 1) := dk_27 (dk_at dksX5_writeRoute_0 17 rfl rfl)
theorem dX5_writeRoute_18 : decode cX5_writeRoute 18 = .ok (.invokevirtual 243, 3) := dk_182 0 243 (dk_at dksX5_writeRoute_0 18 rfl rfl)
theorem dX5_writeRoute_21 : decode cX5_writeRoute 21 = .ok (.aload_n 0, 1) := dk_42 (dk_at dksX5_writeRoute_0 21 rfl rfl)
theorem dX5_writeRoute_22 : decode cX5_writeRoute 22 = .ok (.iconst 0, 1) := dk_3 (dk_at dksX5_writeRoute_0 22 rfl rfl)
theorem dX5_writeRoute_23 : decode cX5_writeRoute 23 = .ok (.putfield 480, 3) := dk_181 1 224 (dk_at dksX5_writeRoute_1 0 rfl rfl)
theorem dX5_writeRoute_26 : decode cX5_writeRoute 26 = .ok (.iconst 0, 1) := dk_3 (dk_at dksX5_writeRoute_1 3 rfl rfl)
theorem dX5_writeRoute_27 : decode cX5_writeRoute 27 = .ok (.istore_n 2, 1) := dk_61 (dk_at dksX5_writeRoute_1 4 rfl rfl)
theorem dX5_writeRoute_28 : decode cX5_writeRoute 28 = .ok (.iload_n 2, 1) := dk_28 (dk_at dksX5_writeRoute_1 5 rfl rfl)
theorem dX5_writeRoute_29 : decode cX5_writeRoute 29 = .ok (.aload_n 0, 1) := dk_42 (dk_at dksX5_writeRoute_1 6 rfl rfl)
theorem dX5_writeRoute_30 : decode cX5_writeRoute 30 = .ok (.getfield 202, 3) := dk_180 0 202 (dk_at dksX5_writeRoute_1 7 rfl rfl)
theorem dX5_writeRoute_33 : decode cX5_writeRoute 33 = .ok (.if_icmp .ge 12, 3) := dk_162 0 12 (dk_at dksX5_writeRoute_1 10 rfl rfl)
theorem dX5_writeRoute_36 : decode cX5_writeRoute 36 = .ok (.aload_n 0, 1) := dk_42 (dk_at dksX5_writeRoute_1 13 rfl rfl)
theorem dX5_writeRoute_37 : decode cX5_writeRoute 37 = .ok (.iload_n 2, 1) := dk_28 (dk_at dksX5_writeRoute_1 14 rfl rfl)
theorem dX5_writeRoute_38 : decode cX5_writeRoute 38 = .ok (.invokevirtual 497, 3) := dk_182 1 241 (dk_at dksX5_writeRoute_1 15 rfl rfl)
theorem dX5_writeRoute_41 : decode cX5_writeRoute 41 = .ok (.istore_n 2, 1) := dk_61 (dk_at dksX5_writeRoute_1 18 rfl rfl)
theorem dX5_writeRoute_42 : decode cX5_writeRoute 42 = .ok (.goto (-14), 3) := dk_167 255 242 (dk_at dksX5_writeRoute_1 19 rfl rfl)
theorem dX5_writeRoute_45 : decode cX5_writeRoute 45 = .ok (.aload_n 0, 1) := dk_42 (dk_at dksX5_writeRoute_1 22 rfl rfl)
theorem dX5_writeRoute_46 : decode cX5_writeRoute 46 = .ok (.getfield 480, 3) := dk_180 1 224 (dk_at dksX5_writeRoute_2 0 rfl rfl)
theorem dX5_writeRoute_49 : decode cX5_writeRoute 49 = .ok (.ireturn, 1) := dk_172 (dk_at dksX5_writeRoute_2 3 rfl rfl)
abbrev cX5_writeRow : ByteArray := prog_13_method_116_code
def yX5_writeRow : MethodName := ⟨RX5, "writeRow", "(I)I"⟩
def dkwX5_writeRow_5 : List UInt8 := [182, 1, 227, 132, 2, 1, 167, 255, 175, 42, 180, 1, 224, 172]
abbrev dktX5_writeRow_5 : List UInt8 := dkwX5_writeRow_5 ++ []
def dkwX5_writeRow_4 : List UInt8 := [182, 0, 134, 153, 0, 18, 19, 1, 244, 42, 29, 6, 182, 0, 130, 182, 0, 96, 167, 0, 5, 16, 120]
abbrev dktX5_writeRow_4 : List UInt8 := dkwX5_writeRow_4 ++ dktX5_writeRow_5
def dkwX5_writeRow_3 : List UInt8 := [182, 1, 227, 167, 0, 46, 29, 2, 160, 0, 12, 42, 16, 46, 182, 1, 227, 167, 0, 32, 42, 42, 29]
abbrev dktX5_writeRow_3 : List UInt8 := dkwX5_writeRow_3 ++ dktX5_writeRow_4
def dkwX5_writeRow_2 : List UInt8 := [162, 0, 77, 42, 28, 27, 182, 0, 157, 62, 42, 28, 27, 182, 0, 127, 153, 0, 12, 42, 16, 35]
abbrev dktX5_writeRow_2 : List UInt8 := dkwX5_writeRow_2 ++ dktX5_writeRow_3
def dkwX5_writeRow_1 : List UInt8 := [182, 1, 2, 153, 0, 5, 3, 172, 42, 3, 181, 1, 224, 3, 61, 28, 42, 180, 0, 9, 3, 46]
abbrev dktX5_writeRow_1 : List UInt8 := dkwX5_writeRow_1 ++ dktX5_writeRow_2
def dkwX5_writeRow_0 : List UInt8 := [42, 27, 3, 42, 180, 0, 9, 4, 46, 4, 100, 184, 0, 119, 154, 0, 7, 4, 167, 0, 4, 3, 3, 3]
abbrev dktX5_writeRow_0 : List UInt8 := dkwX5_writeRow_0 ++ dktX5_writeRow_1
theorem dksX5_writeRow_0 : cX5_writeRow.data.toList.drop 0 = dktX5_writeRow_0 := by decide +kernel
theorem dksX5_writeRow_1 : cX5_writeRow.data.toList.drop 24 = dktX5_writeRow_1 := dk_seg dksX5_writeRow_0 24 rfl rfl
theorem dksX5_writeRow_2 : cX5_writeRow.data.toList.drop 46 = dktX5_writeRow_2 := dk_seg dksX5_writeRow_1 22 rfl rfl
theorem dksX5_writeRow_3 : cX5_writeRow.data.toList.drop 68 = dktX5_writeRow_3 := dk_seg dksX5_writeRow_2 22 rfl rfl
theorem dksX5_writeRow_4 : cX5_writeRow.data.toList.drop 91 = dktX5_writeRow_4 := dk_seg dksX5_writeRow_3 23 rfl rfl
theorem dksX5_writeRow_5 : cX5_writeRow.data.toList.drop 114 = dktX5_writeRow_5 := dk_seg dksX5_writeRow_4 23 rfl rfl
theorem dX5_writeRow_0 : decode cX5_writeRow 0 = .ok (.aload_n 0, 1) := dk_42 (dk_at dksX5_writeRow_0 0 rfl rfl)
theorem dX5_writeRow_1 : decode cX5_writeRow 1 = .ok (.iload_n 1, 1) := dk_27 (dk_at dksX5_writeRow_0 1 rfl rfl)
theorem dX5_writeRow_2 : decode cX5_writeRow 2 = .ok (.iconst 0, 1) := dk_3 (dk_at dksX5_writeRow_0 2 rfl rfl)
theorem dX5_writeRow_3 : decode cX5_writeRow 3 = .ok (.aload_n 0, 1) := dk_42 (dk_at dksX5_writeRow_0 3 rfl rfl)
theorem dX5_writeRow_4 : decode cX5_writeRow 4 = .ok (.getfield 9, 3) := dk_180 0 9 (dk_at dksX5_writeRow_0 4 rfl rfl)
theorem dX5_writeRow_7 : decode cX5_writeRow 7 = .ok (.iconst 1, 1) := dk_4 (dk_at dksX5_writeRow_0 7 rfl rfl)
theorem dX5_writeRow_8 : decode cX5_writeRow 8 = .ok (.iaload, 1) := dk_46 (dk_at dksX5_writeRow_0 8 rfl rfl)
theorem dX5_writeRow_9 : decode cX5_writeRow 9 = .ok (.iconst 1, 1) := dk_4 (dk_at dksX5_writeRow_0 9 rfl rfl)
theorem dX5_writeRow_10 : decode cX5_writeRow 10 = .ok (.isub, 1) := dk_100 (dk_at dksX5_writeRow_0 10 rfl rfl)
theorem dX5_writeRow_11 : decode cX5_writeRow 11 = .ok (.invokestatic 119, 3) := dk_184 0 119 (dk_at dksX5_writeRow_0 11 rfl rfl)
theorem dX5_writeRow_14 : decode cX5_writeRow 14 = .ok (.ifCond .ne 7, 3) := dk_154 0 7 (dk_at dksX5_writeRow_0 14 rfl rfl)
theorem dX5_writeRow_17 : decode cX5_writeRow 17 = .ok (.iconst 1, 1) := dk_4 (dk_at dksX5_writeRow_0 17 rfl rfl)
theorem dX5_writeRow_18 : decode cX5_writeRow 18 = .ok (.goto 4, 3) := dk_167 0 4 (dk_at dksX5_writeRow_0 18 rfl rfl)
theorem dX5_writeRow_21 : decode cX5_writeRow 21 = .ok (.iconst 0, 1) := dk_3 (dk_at dksX5_writeRow_0 21 rfl rfl)
theorem dX5_writeRow_22 : decode cX5_writeRow 22 = .ok (.iconst 0, 1) := dk_3 (dk_at dksX5_writeRow_0 22 rfl rfl)
theorem dX5_writeRow_23 : decode cX5_writeRow 23 = .ok (.iconst 0, 1) := dk_3 (dk_at dksX5_writeRow_0 23 rfl rfl)
theorem dX5_writeRow_24 : decode cX5_writeRow 24 = .ok (.invokevirtual 258, 3) := dk_182 1 2 (dk_at dksX5_writeRow_1 0 rfl rfl)
theorem dX5_writeRow_27 : decode cX5_writeRow 27 = .ok (.ifCond .eq 5, 3) := dk_153 0 5 (dk_at dksX5_writeRow_1 3 rfl rfl)
theorem dX5_writeRow_30 : decode cX5_writeRow 30 = .ok (.iconst 0, 1) := dk_3 (dk_at dksX5_writeRow_1 6 rfl rfl)
theorem dX5_writeRow_31 : decode cX5_writeRow 31 = .ok (.ireturn, 1) := dk_172 (dk_at dksX5_writeRow_1 7 rfl rfl)
theorem dX5_writeRow_32 : decode cX5_writeRow 32 = .ok (.aload_n 0, 1) := dk_42 (dk_at dksX5_writeRow_1 8 rfl rfl)
theorem dX5_writeRow_33 : decode cX5_writeRow 33 = .ok (.iconst 0, 1) := dk_3 (dk_at dksX5_writeRow_1 9 rfl rfl)
theorem dX5_writeRow_34 : decode cX5_writeRow 34 = .ok (.putfield 480, 3) := dk_181 1 224 (dk_at dksX5_writeRow_1 10 rfl rfl)
theorem dX5_writeRow_37 : decode cX5_writeRow 37 = .ok (.iconst 0, 1) := dk_3 (dk_at dksX5_writeRow_1 13 rfl rfl)
theorem dX5_writeRow_38 : decode cX5_writeRow 38 = .ok (.istore_n 2, 1) := dk_61 (dk_at dksX5_writeRow_1 14 rfl rfl)
theorem dX5_writeRow_39 : decode cX5_writeRow 39 = .ok (.iload_n 2, 1) := dk_28 (dk_at dksX5_writeRow_1 15 rfl rfl)
theorem dX5_writeRow_40 : decode cX5_writeRow 40 = .ok (.aload_n 0, 1) := dk_42 (dk_at dksX5_writeRow_1 16 rfl rfl)
theorem dX5_writeRow_41 : decode cX5_writeRow 41 = .ok (.getfield 9, 3) := dk_180 0 9 (dk_at dksX5_writeRow_1 17 rfl rfl)
theorem dX5_writeRow_44 : decode cX5_writeRow 44 = .ok (.iconst 0, 1) := dk_3 (dk_at dksX5_writeRow_1 20 rfl rfl)
theorem dX5_writeRow_45 : decode cX5_writeRow 45 = .ok (.iaload, 1) := dk_46 (dk_at dksX5_writeRow_1 21 rfl rfl)
theorem dX5_writeRow_46 : decode cX5_writeRow 46 = .ok (.if_icmp .ge 77, 3) := dk_162 0 77 (dk_at dksX5_writeRow_2 0 rfl rfl)
theorem dX5_writeRow_49 : decode cX5_writeRow 49 = .ok (.aload_n 0, 1) := dk_42 (dk_at dksX5_writeRow_2 3 rfl rfl)
theorem dX5_writeRow_50 : decode cX5_writeRow 50 = .ok (.iload_n 2, 1) := dk_28 (dk_at dksX5_writeRow_2 4 rfl rfl)
theorem dX5_writeRow_51 : decode cX5_writeRow 51 = .ok (.iload_n 1, 1) := dk_27 (dk_at dksX5_writeRow_2 5 rfl rfl)
theorem dX5_writeRow_52 : decode cX5_writeRow 52 = .ok (.invokevirtual 157, 3) := dk_182 0 157 (dk_at dksX5_writeRow_2 6 rfl rfl)
theorem dX5_writeRow_55 : decode cX5_writeRow 55 = .ok (.istore_n 3, 1) := dk_62 (dk_at dksX5_writeRow_2 9 rfl rfl)
theorem dX5_writeRow_56 : decode cX5_writeRow 56 = .ok (.aload_n 0, 1) := dk_42 (dk_at dksX5_writeRow_2 10 rfl rfl)
theorem dX5_writeRow_57 : decode cX5_writeRow 57 = .ok (.iload_n 2, 1) := dk_28 (dk_at dksX5_writeRow_2 11 rfl rfl)
theorem dX5_writeRow_58 : decode cX5_writeRow 58 = .ok (.iload_n 1, 1) := dk_27 (dk_at dksX5_writeRow_2 12 rfl rfl)
theorem dX5_writeRow_59 : decode cX5_writeRow 59 = .ok (.invokevirtual 127, 3) := dk_182 0 127 (dk_at dksX5_writeRow_2 13 rfl rfl)
theorem dX5_writeRow_62 : decode cX5_writeRow 62 = .ok (.ifCond .eq 12, 3) := dk_153 0 12 (dk_at dksX5_writeRow_2 16 rfl rfl)
theorem dX5_writeRow_65 : decode cX5_writeRow 65 = .ok (.aload_n 0, 1) := dk_42 (dk_at dksX5_writeRow_2 19 rfl rfl)
theorem dX5_writeRow_66 : decode cX5_writeRow 66 = .ok (.bipush 35, 2) := dk_16 35 (dk_at dksX5_writeRow_2 20 rfl rfl)
theorem dX5_writeRow_68 : decode cX5_writeRow 68 = .ok (.invokevirtual 483, 3) := dk_182 1 227 (dk_at dksX5_writeRow_3 0 rfl rfl)
theorem dX5_writeRow_71 : decode cX5_writeRow 71 = .ok (.goto 46, 3) := dk_167 0 46 (dk_at dksX5_writeRow_3 3 rfl rfl)
theorem dX5_writeRow_74 : decode cX5_writeRow 74 = .ok (.iload_n 3, 1) := dk_29 (dk_at dksX5_writeRow_3 6 rfl rfl)
theorem dX5_writeRow_75 : decode cX5_writeRow 75 = .ok (.iconst (-1), 1) := dk_2 (dk_at dksX5_writeRow_3 7 rfl rfl)
theorem dX5_writeRow_76 : decode cX5_writeRow 76 = .ok (.if_icmp .ne 12, 3) := dk_160 0 12 (dk_at dksX5_writeRow_3 8 rfl rfl)
theorem dX5_writeRow_79 : decode cX5_writeRow 79 = .ok (.aload_n 0, 1) := dk_42 (dk_at dksX5_writeRow_3 11 rfl rfl)
theorem dX5_writeRow_80 : decode cX5_writeRow 80 = .ok (.bipush 46, 2) := dk_16 46 (dk_at dksX5_writeRow_3 12 rfl rfl)
theorem dX5_writeRow_82 : decode cX5_writeRow 82 = .ok (.invokevirtual 483, 3) := dk_182 1 227 (dk_at dksX5_writeRow_3 14 rfl rfl)
theorem dX5_writeRow_85 : decode cX5_writeRow 85 = .ok (.goto 32, 3) := dk_167 0 32 (dk_at dksX5_writeRow_3 17 rfl rfl)
theorem dX5_writeRow_88 : decode cX5_writeRow 88 = .ok (.aload_n 0, 1) := dk_42 (dk_at dksX5_writeRow_3 20 rfl rfl)
theorem dX5_writeRow_89 : decode cX5_writeRow 89 = .ok (.aload_n 0, 1) := dk_42 (dk_at dksX5_writeRow_3 21 rfl rfl)
theorem dX5_writeRow_90 : decode cX5_writeRow 90 = .ok (.iload_n 3, 1) := dk_29 (dk_at dksX5_writeRow_3 22 rfl rfl)
theorem dX5_writeRow_91 : decode cX5_writeRow 91 = .ok (.invokevirtual 134, 3) := dk_182 0 134 (dk_at dksX5_writeRow_4 0 rfl rfl)
theorem dX5_writeRow_94 : decode cX5_writeRow 94 = .ok (.ifCond .eq 18, 3) := dk_153 0 18 (dk_at dksX5_writeRow_4 3 rfl rfl)
theorem dX5_writeRow_97 : decode cX5_writeRow 97 = .ok (.ldc_w 500, 3) := dk_19 1 244 (dk_at dksX5_writeRow_4 6 rfl rfl)
theorem dX5_writeRow_100 : decode cX5_writeRow 100 = .ok (.aload_n 0, 1) := dk_42 (dk_at dksX5_writeRow_4 9 rfl rfl)
theorem dX5_writeRow_101 : decode cX5_writeRow 101 = .ok (.iload_n 3, 1) := dk_29 (dk_at dksX5_writeRow_4 10 rfl rfl)
theorem dX5_writeRow_102 : decode cX5_writeRow 102 = .ok (.iconst 3, 1) := dk_6 (dk_at dksX5_writeRow_4 11 rfl rfl)
theorem dX5_writeRow_103 : decode cX5_writeRow 103 = .ok (.invokevirtual 130, 3) := dk_182 0 130 (dk_at dksX5_writeRow_4 12 rfl rfl)
theorem dX5_writeRow_106 : decode cX5_writeRow 106 = .ok (.invokevirtual 96, 3) := dk_182 0 96 (dk_at dksX5_writeRow_4 15 rfl rfl)
theorem dX5_writeRow_109 : decode cX5_writeRow 109 = .ok (.goto 5, 3) := dk_167 0 5 (dk_at dksX5_writeRow_4 18 rfl rfl)
theorem dX5_writeRow_112 : decode cX5_writeRow 112 = .ok (.bipush 120, 2) := dk_16 120 (dk_at dksX5_writeRow_4 21 rfl rfl)
theorem dX5_writeRow_114 : decode cX5_writeRow 114 = .ok (.invokevirtual 483, 3) := dk_182 1 227 (dk_at dksX5_writeRow_5 0 rfl rfl)
theorem dX5_writeRow_117 : decode cX5_writeRow 117 = .ok (.iinc 2 1, 3) := dk_132 2 1 (dk_at dksX5_writeRow_5 3 rfl rfl)
theorem dX5_writeRow_120 : decode cX5_writeRow 120 = .ok (.goto (-81), 3) := dk_167 255 175 (dk_at dksX5_writeRow_5 6 rfl rfl)
theorem dX5_writeRow_123 : decode cX5_writeRow 123 = .ok (.aload_n 0, 1) := dk_42 (dk_at dksX5_writeRow_5 9 rfl rfl)
theorem dX5_writeRow_124 : decode cX5_writeRow 124 = .ok (.getfield 480, 3) := dk_180 1 224 (dk_at dksX5_writeRow_5 10 rfl rfl)
theorem dX5_writeRow_127 : decode cX5_writeRow 127 = .ok (.ireturn, 1) := dk_172 (dk_at dksX5_writeRow_5 13 rfl rfl)
abbrev cX5_lays : ByteArray := prog_13_method_2_code
def yX5_lays : MethodName := ⟨RX5, "lays", "(Ljava/lang/String;)V"⟩
def dkwX5_lays_1 : List UInt8 := [28, 182, 0, 96, 79, 132, 2, 1, 167, 255, 234, 42, 182, 0, 100, 61, 42, 3, 181, 0, 103, 177]
abbrev dktX5_lays_1 : List UInt8 := dkwX5_lays_1 ++ []
def dkwX5_lays_0 : List UInt8 := [42, 43, 182, 0, 87, 181, 0, 93, 3, 61, 28, 42, 180, 0, 93, 162, 0, 20, 42, 180, 0, 29, 28, 43]
abbrev dktX5_lays_0 : List UInt8 := dkwX5_lays_0 ++ dktX5_lays_1
theorem dksX5_lays_0 : cX5_lays.data.toList.drop 0 = dktX5_lays_0 := by decide +kernel
theorem dksX5_lays_1 : cX5_lays.data.toList.drop 24 = dktX5_lays_1 := dk_seg dksX5_lays_0 24 rfl rfl
theorem dX5_lays_0 : decode cX5_lays 0 = .ok (.aload_n 0, 1) := dk_42 (dk_at dksX5_lays_0 0 rfl rfl)
theorem dX5_lays_1 : decode cX5_lays 1 = .ok (.aload_n 1, 1) := dk_43 (dk_at dksX5_lays_0 1 rfl rfl)
theorem dX5_lays_2 : decode cX5_lays 2 = .ok (.invokevirtual 87, 3) := dk_182 0 87 (dk_at dksX5_lays_0 2 rfl rfl)
theorem dX5_lays_5 : decode cX5_lays 5 = .ok (.putfield 93, 3) := dk_181 0 93 (dk_at dksX5_lays_0 5 rfl rfl)
theorem dX5_lays_8 : decode cX5_lays 8 = .ok (.iconst 0, 1) := dk_3 (dk_at dksX5_lays_0 8 rfl rfl)
theorem dX5_lays_9 : decode cX5_lays 9 = .ok (.istore_n 2, 1) := dk_61 (dk_at dksX5_lays_0 9 rfl rfl)
theorem dX5_lays_10 : decode cX5_lays 10 = .ok (.iload_n 2, 1) := dk_28 (dk_at dksX5_lays_0 10 rfl rfl)
theorem dX5_lays_11 : decode cX5_lays 11 = .ok (.aload_n 0, 1) := dk_42 (dk_at dksX5_lays_0 11 rfl rfl)
theorem dX5_lays_12 : decode cX5_lays 12 = .ok (.getfield 93, 3) := dk_180 0 93 (dk_at dksX5_lays_0 12 rfl rfl)
theorem dX5_lays_15 : decode cX5_lays 15 = .ok (.if_icmp .ge 20, 3) := dk_162 0 20 (dk_at dksX5_lays_0 15 rfl rfl)
theorem dX5_lays_18 : decode cX5_lays 18 = .ok (.aload_n 0, 1) := dk_42 (dk_at dksX5_lays_0 18 rfl rfl)
theorem dX5_lays_19 : decode cX5_lays 19 = .ok (.getfield 29, 3) := dk_180 0 29 (dk_at dksX5_lays_0 19 rfl rfl)
theorem dX5_lays_22 : decode cX5_lays 22 = .ok (.iload_n 2, 1) := dk_28 (dk_at dksX5_lays_0 22 rfl rfl)
theorem dX5_lays_23 : decode cX5_lays 23 = .ok (.aload_n 1, 1) := dk_43 (dk_at dksX5_lays_0 23 rfl rfl)
theorem dX5_lays_24 : decode cX5_lays 24 = .ok (.iload_n 2, 1) := dk_28 (dk_at dksX5_lays_1 0 rfl rfl)
theorem dX5_lays_25 : decode cX5_lays 25 = .ok (.invokevirtual 96, 3) := dk_182 0 96 (dk_at dksX5_lays_1 1 rfl rfl)
theorem dX5_lays_28 : decode cX5_lays 28 = .ok (.iastore, 1) := dk_79 (dk_at dksX5_lays_1 4 rfl rfl)
theorem dX5_lays_29 : decode cX5_lays 29 = .ok (.iinc 2 1, 3) := dk_132 2 1 (dk_at dksX5_lays_1 5 rfl rfl)
theorem dX5_lays_32 : decode cX5_lays 32 = .ok (.goto (-22), 3) := dk_167 255 234 (dk_at dksX5_lays_1 8 rfl rfl)
theorem dX5_lays_35 : decode cX5_lays 35 = .ok (.aload_n 0, 1) := dk_42 (dk_at dksX5_lays_1 11 rfl rfl)
theorem dX5_lays_36 : decode cX5_lays 36 = .ok (.invokevirtual 100, 3) := dk_182 0 100 (dk_at dksX5_lays_1 12 rfl rfl)
theorem dX5_lays_39 : decode cX5_lays 39 = .ok (.istore_n 2, 1) := dk_61 (dk_at dksX5_lays_1 15 rfl rfl)
theorem dX5_lays_40 : decode cX5_lays 40 = .ok (.aload_n 0, 1) := dk_42 (dk_at dksX5_lays_1 16 rfl rfl)
theorem dX5_lays_41 : decode cX5_lays 41 = .ok (.iconst 0, 1) := dk_3 (dk_at dksX5_lays_1 17 rfl rfl)
theorem dX5_lays_42 : decode cX5_lays 42 = .ok (.putfield 103, 3) := dk_181 0 103 (dk_at dksX5_lays_1 18 rfl rfl)
theorem dX5_lays_45 : decode cX5_lays 45 = .ok (.return_, 1) := dk_177 (dk_at dksX5_lays_1 21 rfl rfl)
theorem q738 : (Jvm.Cond.instanceMethod ({ cls := "java/lang/String", name := "length", desc := "()I" } : Jvm.MethodName)) ∈ lw_all := lw_g (lw_at lw_m3 121 rfl) rfl
theorem q739 : (Jvm.Cond.selects "java/lang/String" ({ cls := "java/lang/String", name := "length", desc := "()I" } : Jvm.MethodName) ({ cls := "java/lang/String", name := "length", desc := "()I" } : Jvm.MethodName)) ∈ lw_all := lw_g (lw_at lw_m3 122 rfl) rfl
theorem q740 : (Jvm.Cond.code ({ cls := "java/lang/String", name := "length", desc := "()I" } : Jvm.MethodName) prog_35_method_54_code (1 : Nat) (Option.some Jvm.ClassFile.FieldType.int)) ∈ lw_all := lw_g (lw_at lw_m3 123 rfl) rfl
theorem q961 : (Jvm.Cond.instanceMethod ({ cls := "java/lang/String", name := "charAt", desc := "(I)C" } : Jvm.MethodName)) ∈ lw_all := lw_g (lw_at lw_m4 104 rfl) rfl
theorem q962 : (Jvm.Cond.selects "java/lang/String" ({ cls := "java/lang/String", name := "charAt", desc := "(I)C" } : Jvm.MethodName) ({ cls := "java/lang/String", name := "charAt", desc := "(I)C" } : Jvm.MethodName)) ∈ lw_all := lw_g (lw_at lw_m4 105 rfl) rfl
theorem q963 : (Jvm.Cond.code ({ cls := "java/lang/String", name := "charAt", desc := "(I)C" } : Jvm.MethodName) prog_35_method_56_code (2 : Nat) (Option.some Jvm.ClassFile.FieldType.char)) ∈ lw_all := lw_g (lw_at lw_m4 106 rfl) rfl
theorem q3032 : (Jvm.Cond.methodLink "TrailMarkersModel" (87 : Nat) ({ cls := "java/lang/String", name := "length", desc := "()I" } : Jvm.MethodName)) ∈ lw_all := lw_g (lw_at lw_m13 15 rfl) rfl
theorem q3033 : (Jvm.Cond.methodLink "TrailMarkersModel" (96 : Nat) ({ cls := "java/lang/String", name := "charAt", desc := "(I)C" } : Jvm.MethodName)) ∈ lw_all := lw_g (lw_at lw_m13 16 rfl) rfl
theorem q3034 : (Jvm.Cond.methodLink "TrailMarkersModel" (100 : Nat) ({ cls := "TrailMarkersModel", name := "load", desc := "()I" } : Jvm.MethodName)) ∈ lw_all := lw_g (lw_at lw_m13 17 rfl) rfl
theorem q3035 : (Jvm.Cond.instanceMethod ({ cls := "TrailMarkersModel", name := "load", desc := "()I" } : Jvm.MethodName)) ∈ lw_all := lw_g (lw_at lw_m13 18 rfl) rfl
theorem q3036 : (Jvm.Cond.selects "TrailMarkersModel" ({ cls := "TrailMarkersModel", name := "load", desc := "()I" } : Jvm.MethodName) ({ cls := "TrailMarkersModel", name := "load", desc := "()I" } : Jvm.MethodName)) ∈ lw_all := lw_g (lw_at lw_m13 19 rfl) rfl
theorem q3037 : (Jvm.Cond.code ({ cls := "TrailMarkersModel", name := "load", desc := "()I" } : Jvm.MethodName) prog_13_method_64_code (2 : Nat) (Option.some Jvm.ClassFile.FieldType.int)) ∈ lw_all := lw_g (lw_at lw_m13 20 rfl) rfl
theorem q3038 : (Jvm.Cond.methodLink "TrailMarkersModel" (406 : Nat) ({ cls := "TrailMarkersModel", name := "starts", desc := "()V" } : Jvm.MethodName)) ∈ lw_all := lw_g (lw_at lw_m13 21 rfl) rfl
theorem q3040 : (Jvm.Cond.instanceMethod ({ cls := "TrailMarkersModel", name := "starts", desc := "()V" } : Jvm.MethodName)) ∈ lw_all := lw_g (lw_at lw_m13 23 rfl) rfl
theorem q3041 : (Jvm.Cond.code ({ cls := "TrailMarkersModel", name := "starts", desc := "()V" } : Jvm.MethodName) prog_13_method_62_code (1 : Nat) (Option.none : Option Jvm.ClassFile.FieldType)) ∈ lw_all := lw_g (lw_at lw_m13 24 rfl) rfl
theorem q3064 : (Jvm.Cond.methodLink "TrailMarkersModel" (329 : Nat) ({ cls := "TrailMarkersModel", name := "is", desc := "(Ljava/lang/String;)Z" } : Jvm.MethodName)) ∈ lw_all := lw_g (lw_at lw_m13 47 rfl) rfl
theorem q3066 : (Jvm.Cond.instanceMethod ({ cls := "TrailMarkersModel", name := "is", desc := "(Ljava/lang/String;)Z" } : Jvm.MethodName)) ∈ lw_all := lw_g (lw_at lw_m13 49 rfl) rfl
theorem q3067 : (Jvm.Cond.code ({ cls := "TrailMarkersModel", name := "is", desc := "(Ljava/lang/String;)Z" } : Jvm.MethodName) prog_13_method_41_code (3 : Nat) (Option.some Jvm.ClassFile.FieldType.boolean)) ∈ lw_all := lw_g (lw_at lw_m13 50 rfl) rfl
theorem q3088 : (Jvm.Cond.methodLink "TrailMarkersModel" (396 : Nat) ({ cls := "TrailMarkersModel", name := "sign", desc := "(I)V" } : Jvm.MethodName)) ∈ lw_all := lw_g (lw_at lw_m13 71 rfl) rfl
theorem q3090 : (Jvm.Cond.instanceMethod ({ cls := "TrailMarkersModel", name := "sign", desc := "(I)V" } : Jvm.MethodName)) ∈ lw_all := lw_g (lw_at lw_m13 73 rfl) rfl
theorem q3091 : (Jvm.Cond.code ({ cls := "TrailMarkersModel", name := "sign", desc := "(I)V" } : Jvm.MethodName) prog_13_method_48_code (2 : Nat) (Option.none : Option Jvm.ClassFile.FieldType)) ∈ lw_all := lw_g (lw_at lw_m13 74 rfl) rfl
theorem q3096 : (Jvm.Cond.methodLink "TrailMarkersModel" (411 : Nat) ({ cls := "TrailMarkersModel", name := "commands", desc := "()I" } : Jvm.MethodName)) ∈ lw_all := lw_g (lw_at lw_m13 79 rfl) rfl
theorem q3098 : (Jvm.Cond.instanceMethod ({ cls := "TrailMarkersModel", name := "commands", desc := "()I" } : Jvm.MethodName)) ∈ lw_all := lw_g (lw_at lw_m13 81 rfl) rfl
theorem q3099 : (Jvm.Cond.code ({ cls := "TrailMarkersModel", name := "commands", desc := "()I" } : Jvm.MethodName) prog_13_method_63_code (2 : Nat) (Option.some Jvm.ClassFile.FieldType.int)) ∈ lw_all := lw_g (lw_at lw_m13 82 rfl) rfl
theorem q3100 : (Jvm.Cond.methodLink "TrailMarkersModel" (399 : Nat) ({ cls := "TrailMarkersModel", name := "command", desc := "()V" } : Jvm.MethodName)) ∈ lw_all := lw_g (lw_at lw_m13 83 rfl) rfl
theorem q3102 : (Jvm.Cond.instanceMethod ({ cls := "TrailMarkersModel", name := "command", desc := "()V" } : Jvm.MethodName)) ∈ lw_all := lw_g (lw_at lw_m13 85 rfl) rfl
theorem q3103 : (Jvm.Cond.code ({ cls := "TrailMarkersModel", name := "command", desc := "()V" } : Jvm.MethodName) prog_13_method_61_code (3 : Nat) (Option.none : Option Jvm.ClassFile.FieldType)) ∈ lw_all := lw_g (lw_at lw_m13 86 rfl) rfl
theorem q3105 : (Jvm.Cond.methodLink "TrailMarkersModel" (378 : Nat) ({ cls := "TrailMarkersModel", name := "blazed", desc := "()V" } : Jvm.MethodName)) ∈ lw_all := lw_g (lw_at lw_m13 88 rfl) rfl
theorem q3107 : (Jvm.Cond.instanceMethod ({ cls := "TrailMarkersModel", name := "blazed", desc := "()V" } : Jvm.MethodName)) ∈ lw_all := lw_g (lw_at lw_m13 90 rfl) rfl
theorem q3108 : (Jvm.Cond.code ({ cls := "TrailMarkersModel", name := "blazed", desc := "()V" } : Jvm.MethodName) prog_13_method_56_code (5 : Nat) (Option.none : Option Jvm.ClassFile.FieldType)) ∈ lw_all := lw_g (lw_at lw_m13 91 rfl) rfl
theorem q3141 : (Jvm.Cond.methodLink "TrailMarkersModel" (359 : Nat) ({ cls := "TrailMarkersModel", name := "items", desc := "()V" } : Jvm.MethodName)) ∈ lw_all := lw_g (lw_at lw_m13 124 rfl) rfl
theorem q3143 : (Jvm.Cond.instanceMethod ({ cls := "TrailMarkersModel", name := "items", desc := "()V" } : Jvm.MethodName)) ∈ lw_all := lw_g (lw_at lw_m13 126 rfl) rfl
theorem q3144 : (Jvm.Cond.code ({ cls := "TrailMarkersModel", name := "items", desc := "()V" } : Jvm.MethodName) prog_13_method_54_code (1 : Nat) (Option.none : Option Jvm.ClassFile.FieldType)) ∈ lw_all := lw_g (lw_at lw_m13 127 rfl) rfl
theorem q3145 : (Jvm.Cond.methodLink "TrailMarkersModel" (353 : Nat) ({ cls := "TrailMarkersModel", name := "item", desc := "()V" } : Jvm.MethodName)) ∈ lw_all := lw_g (lw_at lw_m13 128 rfl) rfl
theorem q3147 : (Jvm.Cond.instanceMethod ({ cls := "TrailMarkersModel", name := "item", desc := "()V" } : Jvm.MethodName)) ∈ lw_all := lw_g (lw_at lw_m13 130 rfl) rfl
theorem q3148 : (Jvm.Cond.code ({ cls := "TrailMarkersModel", name := "item", desc := "()V" } : Jvm.MethodName) prog_13_method_53_code (3 : Nat) (Option.none : Option Jvm.ClassFile.FieldType)) ∈ lw_all := lw_g (lw_at lw_m13 131 rfl) rfl
theorem q3149 : (Jvm.Cond.methodLink "TrailMarkersModel" (341 : Nat) ({ cls := "TrailMarkersModel", name := "group", desc := "(I)V" } : Jvm.MethodName)) ∈ lw_all := lw_g (lw_at lw_m13 132 rfl) rfl
theorem q3151 : (Jvm.Cond.instanceMethod ({ cls := "TrailMarkersModel", name := "group", desc := "(I)V" } : Jvm.MethodName)) ∈ lw_all := lw_g (lw_at lw_m13 134 rfl) rfl
theorem q3152 : (Jvm.Cond.code ({ cls := "TrailMarkersModel", name := "group", desc := "(I)V" } : Jvm.MethodName) prog_13_method_55_code (6 : Nat) (Option.none : Option Jvm.ClassFile.FieldType)) ∈ lw_all := lw_g (lw_at lw_m13 135 rfl) rfl
theorem q3153 : (Jvm.Cond.methodLink "TrailMarkersModel" (347 : Nat) ({ cls := "TrailMarkersModel", name := "layLeg", desc := "(IIZI)V" } : Jvm.MethodName)) ∈ lw_all := lw_g (lw_at lw_m13 136 rfl) rfl
theorem q3155 : (Jvm.Cond.instanceMethod ({ cls := "TrailMarkersModel", name := "layLeg", desc := "(IIZI)V" } : Jvm.MethodName)) ∈ lw_all := lw_g (lw_at lw_m13 138 rfl) rfl
theorem q3156 : (Jvm.Cond.code ({ cls := "TrailMarkersModel", name := "layLeg", desc := "(IIZI)V" } : Jvm.MethodName) prog_13_method_51_code (8 : Nat) (Option.none : Option Jvm.ClassFile.FieldType)) ∈ lw_all := lw_g (lw_at lw_m13 139 rfl) rfl
theorem q3163 : (Jvm.Cond.methodLink "TrailMarkersModel" (344 : Nat) ({ cls := "TrailMarkersModel", name := "side", desc := "()I" } : Jvm.MethodName)) ∈ lw_all := lw_g (lw_at lw_m13 146 rfl) rfl
theorem q3165 : (Jvm.Cond.instanceMethod ({ cls := "TrailMarkersModel", name := "side", desc := "()I" } : Jvm.MethodName)) ∈ lw_all := lw_g (lw_at lw_m13 148 rfl) rfl
theorem q3166 : (Jvm.Cond.code ({ cls := "TrailMarkersModel", name := "side", desc := "()I" } : Jvm.MethodName) prog_13_method_52_code (1 : Nat) (Option.some Jvm.ClassFile.FieldType.int)) ∈ lw_all := lw_g (lw_at lw_m13 149 rfl) rfl
theorem q3173 : (Jvm.Cond.methodLink "TrailMarkersModel" (382 : Nat) ({ cls := "TrailMarkersModel", name := "blocked", desc := "()V" } : Jvm.MethodName)) ∈ lw_all := lw_g (lw_at lw_m13 156 rfl) rfl
theorem q3175 : (Jvm.Cond.instanceMethod ({ cls := "TrailMarkersModel", name := "blocked", desc := "()V" } : Jvm.MethodName)) ∈ lw_all := lw_g (lw_at lw_m13 158 rfl) rfl
theorem q3176 : (Jvm.Cond.code ({ cls := "TrailMarkersModel", name := "blocked", desc := "()V" } : Jvm.MethodName) prog_13_method_59_code (5 : Nat) (Option.none : Option Jvm.ClassFile.FieldType)) ∈ lw_all := lw_g (lw_at lw_m13 159 rfl) rfl
theorem q3187 : (Jvm.Cond.methodLink "TrailMarkersModel" (389 : Nat) ({ cls := "TrailMarkersModel", name := "stated", desc := "(I)V" } : Jvm.MethodName)) ∈ lw_all := lw_g (lw_at lw_m13 170 rfl) rfl
theorem q3189 : (Jvm.Cond.instanceMethod ({ cls := "TrailMarkersModel", name := "stated", desc := "(I)V" } : Jvm.MethodName)) ∈ lw_all := lw_g (lw_at lw_m13 172 rfl) rfl
theorem q3190 : (Jvm.Cond.code ({ cls := "TrailMarkersModel", name := "stated", desc := "(I)V" } : Jvm.MethodName) prog_13_method_60_code (4 : Nat) (Option.none : Option Jvm.ClassFile.FieldType)) ∈ lw_all := lw_g (lw_at lw_m13 173 rfl) rfl
theorem q3246 : (Jvm.Cond.fieldLink "TrailMarkersModel" (356 : Nat) "TrailMarkersModel" "open" "I") ∈ lw_all := lw_g (lw_at lw_m13 229 rfl) rfl
theorem q3644 : (Jvm.Cond.methodLink "TrailMarkersModel" (497 : Nat) ({ cls := "TrailMarkersModel", name := "outLegs", desc := "(I)I" } : Jvm.MethodName)) ∈ lw_all := lw_g (lw_at lw_m15 147 rfl) rfl
theorem q3646 : (Jvm.Cond.instanceMethod ({ cls := "TrailMarkersModel", name := "outLegs", desc := "(I)I" } : Jvm.MethodName)) ∈ lw_all := lw_g (lw_at lw_m15 149 rfl) rfl
theorem q3647 : (Jvm.Cond.code ({ cls := "TrailMarkersModel", name := "outLegs", desc := "(I)I" } : Jvm.MethodName) prog_13_method_114_code (6 : Nat) (Option.some Jvm.ClassFile.FieldType.int)) ∈ lw_all := lw_g (lw_at lw_m15 150 rfl) rfl
theorem q3648 : (Jvm.Cond.methodLink "TrailMarkersModel" (491 : Nat) ({ cls := "TrailMarkersModel", name := "repeats", desc := "(II)I" } : Jvm.MethodName)) ∈ lw_all := lw_g (lw_at lw_m15 151 rfl) rfl
theorem q3650 : (Jvm.Cond.instanceMethod ({ cls := "TrailMarkersModel", name := "repeats", desc := "(II)I" } : Jvm.MethodName)) ∈ lw_all := lw_g (lw_at lw_m15 153 rfl) rfl
theorem q3651 : (Jvm.Cond.code ({ cls := "TrailMarkersModel", name := "repeats", desc := "(II)I" } : Jvm.MethodName) prog_13_method_113_code (5 : Nat) (Option.some Jvm.ClassFile.FieldType.int)) ∈ lw_all := lw_g (lw_at lw_m15 154 rfl) rfl
theorem q3656 : (Jvm.Cond.methodLink "TrailMarkersModel" (494 : Nat) ({ cls := "TrailMarkersModel", name := "outLeg", desc := "(I)V" } : Jvm.MethodName)) ∈ lw_all := lw_g (lw_at lw_m15 159 rfl) rfl
theorem q3658 : (Jvm.Cond.instanceMethod ({ cls := "TrailMarkersModel", name := "outLeg", desc := "(I)V" } : Jvm.MethodName)) ∈ lw_all := lw_g (lw_at lw_m15 161 rfl) rfl
theorem q3659 : (Jvm.Cond.code ({ cls := "TrailMarkersModel", name := "outLeg", desc := "(I)V" } : Jvm.MethodName) prog_13_method_112_code (2 : Nat) (Option.none : Option Jvm.ClassFile.FieldType)) ∈ lw_all := lw_g (lw_at lw_m15 162 rfl) rfl
theorem q3660 : (Jvm.Cond.methodLink "TrailMarkersModel" (483 : Nat) ({ cls := "TrailMarkersModel", name := "out", desc := "(I)V" } : Jvm.MethodName)) ∈ lw_all := lw_g (lw_at lw_m15 163 rfl) rfl
theorem q3662 : (Jvm.Cond.instanceMethod ({ cls := "TrailMarkersModel", name := "out", desc := "(I)V" } : Jvm.MethodName)) ∈ lw_all := lw_g (lw_at lw_m15 165 rfl) rfl
theorem q3663 : (Jvm.Cond.code ({ cls := "TrailMarkersModel", name := "out", desc := "(I)V" } : Jvm.MethodName) prog_13_method_110_code (2 : Nat) (Option.none : Option Jvm.ClassFile.FieldType)) ∈ lw_all := lw_g (lw_at lw_m15 166 rfl) rfl
theorem m_X5_353 : MV "TrailMarkersModel" 353 yX5_item cX5_item 3 (Option.none : Option Jvm.ClassFile.FieldType) 0 := ⟨q3145, q3147, qs89, q146, q3148, by decide +kernel, by decide +kernel, by decide +kernel⟩
theorem fa_X5_356 : FA "TrailMarkersModel" 356 4 49 := ⟨RX5, TX5, 53, "TrailMarkersModel", cf_X5, by decide, q3246, Or.inl rfl⟩
theorem fp_X5_356 : FP "TrailMarkersModel" 356 4 49 (tyX5 49) false := ⟨RX5, TX5, 53, "TrailMarkersModel", cf_X5, by decide, q3246, Or.inl rfl, tyX5_ok 49 (by decide), rfl, fun h9 => nomatch h9⟩
theorem m_X5_359 : MV "TrailMarkersModel" 359 yX5_items cX5_items 1 (Option.none : Option Jvm.ClassFile.FieldType) 0 := ⟨q3141, q3143, qs88, q146, q3144, by decide +kernel, by decide +kernel, by decide +kernel⟩
theorem m_X5_347 : MV "TrailMarkersModel" 347 yX5_layLeg cX5_layLeg 8 (Option.none : Option Jvm.ClassFile.FieldType) 4 := ⟨q3153, q3155, qs91, q146, q3156, by decide +kernel, by decide +kernel, by decide +kernel⟩
theorem m_X5_341 : MV "TrailMarkersModel" 341 yX5_group cX5_group 6 (Option.none : Option Jvm.ClassFile.FieldType) 1 := ⟨q3149, q3151, qs90, q146, q3152, by decide +kernel, by decide +kernel, by decide +kernel⟩
theorem m_X5_344 : MV "TrailMarkersModel" 344 yX5_side cX5_side 1 (Option.some Jvm.ClassFile.FieldType.int) 0 := ⟨q3163, q3165, qs92, q146, q3166, by decide +kernel, by decide +kernel, by decide +kernel⟩
theorem m_X5_329 : MV "TrailMarkersModel" 329 yX5_is cX5_is 3 (Option.some Jvm.ClassFile.FieldType.boolean) 1 := ⟨q3064, q3066, qs70, q146, q3067, by decide +kernel, by decide +kernel, by decide +kernel⟩
theorem m_X5_87 : MV "TrailMarkersModel" 87 yJ4_length cJ4_length 1 (Option.some Jvm.ClassFile.FieldType.int) 0 := ⟨q3032, q738, q739, q147, q740, by decide +kernel, by decide +kernel, by decide +kernel⟩
theorem m_X5_96 : MV "TrailMarkersModel" 96 yJ4_charAt cJ4_charAt 2 (Option.some Jvm.ClassFile.FieldType.char) 1 := ⟨q3033, q961, q962, q147, q963, by decide +kernel, by decide +kernel, by decide +kernel⟩
theorem m_X5_378 : MV "TrailMarkersModel" 378 yX5_blazed cX5_blazed 5 (Option.none : Option Jvm.ClassFile.FieldType) 0 := ⟨q3105, q3107, qs80, q146, q3108, by decide +kernel, by decide +kernel, by decide +kernel⟩
theorem m_X5_382 : MV "TrailMarkersModel" 382 yX5_blocked cX5_blocked 5 (Option.none : Option Jvm.ClassFile.FieldType) 0 := ⟨q3173, q3175, qs93, q146, q3176, by decide +kernel, by decide +kernel, by decide +kernel⟩
theorem m_X5_389 : MV "TrailMarkersModel" 389 yX5_stated cX5_stated 4 (Option.none : Option Jvm.ClassFile.FieldType) 1 := ⟨q3187, q3189, qs96, q146, q3190, by decide +kernel, by decide +kernel, by decide +kernel⟩
theorem m_X5_396 : MV "TrailMarkersModel" 396 yX5_sign cX5_sign 2 (Option.none : Option Jvm.ClassFile.FieldType) 1 := ⟨q3088, q3090, qs76, q146, q3091, by decide +kernel, by decide +kernel, by decide +kernel⟩
theorem m_X5_406 : MV "TrailMarkersModel" 406 yX5_starts cX5_starts 1 (Option.none : Option Jvm.ClassFile.FieldType) 0 := ⟨q3038, q3040, qs66, q146, q3041, by decide +kernel, by decide +kernel, by decide +kernel⟩
theorem m_X5_411 : MV "TrailMarkersModel" 411 yX5_commands cX5_commands 2 (Option.some Jvm.ClassFile.FieldType.int) 0 := ⟨q3096, q3098, qs78, q146, q3099, by decide +kernel, by decide +kernel, by decide +kernel⟩
theorem m_X5_399 : MV "TrailMarkersModel" 399 yX5_command cX5_command 3 (Option.none : Option Jvm.ClassFile.FieldType) 0 := ⟨q3100, q3102, qs79, q146, q3103, by decide +kernel, by decide +kernel, by decide +kernel⟩
theorem m_X5_483 : MV "TrailMarkersModel" 483 yX5_out cX5_out 2 (Option.none : Option Jvm.ClassFile.FieldType) 1 := ⟨q3660, q3662, qs136, q146, q3663, by decide +kernel, by decide +kernel, by decide +kernel⟩
theorem m_X5_491 : MV "TrailMarkersModel" 491 yX5_repeats cX5_repeats 5 (Option.some Jvm.ClassFile.FieldType.int) 2 := ⟨q3648, q3650, qs133, q146, q3651, by decide +kernel, by decide +kernel, by decide +kernel⟩
theorem m_X5_494 : MV "TrailMarkersModel" 494 yX5_outLeg cX5_outLeg 2 (Option.none : Option Jvm.ClassFile.FieldType) 1 := ⟨q3656, q3658, qs135, q146, q3659, by decide +kernel, by decide +kernel, by decide +kernel⟩
theorem m_X5_497 : MV "TrailMarkersModel" 497 yX5_outLegs cX5_outLegs 6 (Option.some Jvm.ClassFile.FieldType.int) 1 := ⟨q3644, q3646, qs132, q146, q3647, by decide +kernel, by decide +kernel, by decide +kernel⟩
theorem m_X5_100 : MV "TrailMarkersModel" 100 yX5_load cX5_load 2 (Option.some Jvm.ClassFile.FieldType.int) 0 := ⟨q3034, q3035, q3036, q146, q3037, by decide +kernel, by decide +kernel, by decide +kernel⟩
