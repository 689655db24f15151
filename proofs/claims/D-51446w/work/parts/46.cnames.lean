set_option maxRecDepth 100000
def RJ0 : String := "java/util/AbstractCollection"
abbrev cJ0_init : ByteArray := prog_45_method_1_code
def yJ0_init : MethodName := ⟨RJ0, "<init>", "()V"⟩
theorem dJ0_init_0 : decode cJ0_init 0 = .ok (.aload_n 0, 1) := by decide +kernel
theorem dJ0_init_1 : decode cJ0_init 1 = .ok (.invokespecial 1, 3) := by decide +kernel
theorem dJ0_init_4 : decode cJ0_init 4 = .ok (.return_, 1) := by decide +kernel
abbrev cJ1_init : ByteArray := prog_49_method_3_code
def yJ1_init : MethodName := ⟨RJ1, "<init>", "()V"⟩
def dkwJ1_init_0 : List UInt8 := [42, 183, 0, 42, 42, 16, 17, 189, 0, 47, 181, 0, 3, 177]
abbrev dktJ1_init_0 : List UInt8 := dkwJ1_init_0 ++ []
theorem dksJ1_init_0 : cJ1_init.data.toList.drop 0 = dktJ1_init_0 := by decide +kernel
theorem dJ1_init_0 : decode cJ1_init 0 = .ok (.aload_n 0, 1) := dk_42 (dk_at dksJ1_init_0 0 rfl rfl)
theorem dJ1_init_1 : decode cJ1_init 1 = .ok (.invokespecial 42, 3) := dk_183 0 42 (dk_at dksJ1_init_0 1 rfl rfl)
theorem dJ1_init_4 : decode cJ1_init 4 = .ok (.aload_n 0, 1) := dk_42 (dk_at dksJ1_init_0 4 rfl rfl)
theorem dJ1_init_5 : decode cJ1_init 5 = .ok (.bipush 17, 2) := dk_16 17 (dk_at dksJ1_init_0 5 rfl rfl)
theorem dJ1_init_7 : decode cJ1_init 7 = .ok (.anewarray 47, 3) := dk_189 0 47 (dk_at dksJ1_init_0 7 rfl rfl)
theorem dJ1_init_10 : decode cJ1_init 10 = .ok (.putfield 3, 3) := dk_181 0 3 (dk_at dksJ1_init_0 10 rfl rfl)
theorem dJ1_init_13 : decode cJ1_init 13 = .ok (.return_, 1) := dk_177 (dk_at dksJ1_init_0 13 rfl rfl)
abbrev cJ1_sub : ByteArray := prog_49_method_9_code
def yJ1_sub : MethodName := ⟨RJ1, "sub", "(III)I"⟩
def dkwJ1_sub_0 : List UInt8 := [26, 27, 100, 89, 59, 156, 0, 7, 26, 28, 96, 59, 26, 172]
abbrev dktJ1_sub_0 : List UInt8 := dkwJ1_sub_0 ++ []
theorem dksJ1_sub_0 : cJ1_sub.data.toList.drop 0 = dktJ1_sub_0 := by decide +kernel
theorem dJ1_sub_0 : decode cJ1_sub 0 = .ok (.iload_n 0, 1) := dk_26 (dk_at dksJ1_sub_0 0 rfl rfl)
theorem dJ1_sub_1 : decode cJ1_sub 1 = .ok (.iload_n 1, 1) := dk_27 (dk_at dksJ1_sub_0 1 rfl rfl)
theorem dJ1_sub_2 : decode cJ1_sub 2 = .ok (.isub, 1) := dk_100 (dk_at dksJ1_sub_0 2 rfl rfl)
theorem dJ1_sub_3 : decode cJ1_sub 3 = .ok (.dup, 1) := dk_89 (dk_at dksJ1_sub_0 3 rfl rfl)
theorem dJ1_sub_4 : decode cJ1_sub 4 = .ok (.istore_n 0, 1) := dk_59 (dk_at dksJ1_sub_0 4 rfl rfl)
theorem dJ1_sub_5 : decode cJ1_sub 5 = .ok (.ifCond .ge 7, 3) := dk_156 0 7 (dk_at dksJ1_sub_0 5 rfl rfl)
theorem dJ1_sub_8 : decode cJ1_sub 8 = .ok (.iload_n 0, 1) := dk_26 (dk_at dksJ1_sub_0 8 rfl rfl)
theorem dJ1_sub_9 : decode cJ1_sub 9 = .ok (.iload_n 2, 1) := dk_28 (dk_at dksJ1_sub_0 9 rfl rfl)
theorem dJ1_sub_10 : decode cJ1_sub 10 = .ok (.iadd, 1) := dk_96 (dk_at dksJ1_sub_0 10 rfl rfl)
theorem dJ1_sub_11 : decode cJ1_sub 11 = .ok (.istore_n 0, 1) := dk_59 (dk_at dksJ1_sub_0 11 rfl rfl)
theorem dJ1_sub_12 : decode cJ1_sub 12 = .ok (.iload_n 0, 1) := dk_26 (dk_at dksJ1_sub_0 12 rfl rfl)
theorem dJ1_sub_13 : decode cJ1_sub 13 = .ok (.ireturn, 1) := dk_172 (dk_at dksJ1_sub_0 13 rfl rfl)
abbrev cJ1_size : ByteArray := prog_49_method_37_code
def yJ1_size : MethodName := ⟨RJ1, "size", "()I"⟩
def dkwJ1_size_0 : List UInt8 := [42, 180, 0, 20, 42, 180, 0, 24, 42, 180, 0, 3, 190, 184, 0, 127, 172]
abbrev dktJ1_size_0 : List UInt8 := dkwJ1_size_0 ++ []
theorem dksJ1_size_0 : cJ1_size.data.toList.drop 0 = dktJ1_size_0 := by decide +kernel
theorem dJ1_size_0 : decode cJ1_size 0 = .ok (.aload_n 0, 1) := dk_42 (dk_at dksJ1_size_0 0 rfl rfl)
theorem dJ1_size_1 : decode cJ1_size 1 = .ok (.getfield 20, 3) := dk_180 0 20 (dk_at dksJ1_size_0 1 rfl rfl)
theorem dJ1_size_4 : decode cJ1_size 4 = .ok (.aload_n 0, 1) := dk_42 (dk_at dksJ1_size_0 4 rfl rfl)
theorem dJ1_size_5 : decode cJ1_size 5 = .ok (.getfield 24, 3) := dk_180 0 24 (dk_at dksJ1_size_0 5 rfl rfl)
theorem dJ1_size_8 : decode cJ1_size 8 = .ok (.aload_n 0, 1) := dk_42 (dk_at dksJ1_size_0 8 rfl rfl)
theorem dJ1_size_9 : decode cJ1_size 9 = .ok (.getfield 3, 3) := dk_180 0 3 (dk_at dksJ1_size_0 9 rfl rfl)
theorem dJ1_size_12 : decode cJ1_size 12 = .ok (.arraylength, 1) := dk_190 (dk_at dksJ1_size_0 12 rfl rfl)
theorem dJ1_size_13 : decode cJ1_size 13 = .ok (.invokestatic 127, 3) := dk_184 0 127 (dk_at dksJ1_size_0 13 rfl rfl)
theorem dJ1_size_16 : decode cJ1_size 16 = .ok (.ireturn, 1) := dk_172 (dk_at dksJ1_size_0 16 rfl rfl)
abbrev cJ1_isEmpty : ByteArray := prog_49_method_38_code
def yJ1_isEmpty : MethodName := ⟨RJ1, "isEmpty", "()Z"⟩
def dkwJ1_isEmpty_0 : List UInt8 := [42, 180, 0, 24, 42, 180, 0, 20, 160, 0, 7, 4, 167, 0, 4, 3, 172]
abbrev dktJ1_isEmpty_0 : List UInt8 := dkwJ1_isEmpty_0 ++ []
theorem dksJ1_isEmpty_0 : cJ1_isEmpty.data.toList.drop 0 = dktJ1_isEmpty_0 := by decide +kernel
theorem dJ1_isEmpty_0 : decode cJ1_isEmpty 0 = .ok (.aload_n 0, 1) := dk_42 (dk_at dksJ1_isEmpty_0 0 rfl rfl)
theorem dJ1_isEmpty_1 : decode cJ1_isEmpty 1 = .ok (.getfield 24, 3) := dk_180 0 24 (dk_at dksJ1_isEmpty_0 1 rfl rfl)
theorem dJ1_isEmpty_4 : decode cJ1_isEmpty 4 = .ok (.aload_n 0, 1) := dk_42 (dk_at dksJ1_isEmpty_0 4 rfl rfl)
theorem dJ1_isEmpty_5 : decode cJ1_isEmpty 5 = .ok (.getfield 20, 3) := dk_180 0 20 (dk_at dksJ1_isEmpty_0 5 rfl rfl)
theorem dJ1_isEmpty_8 : decode cJ1_isEmpty 8 = .ok (.if_icmp .ne 7, 3) := dk_160 0 7 (dk_at dksJ1_isEmpty_0 8 rfl rfl)
theorem dJ1_isEmpty_11 : decode cJ1_isEmpty 11 = .ok (.iconst 1, 1) := dk_4 (dk_at dksJ1_isEmpty_0 11 rfl rfl)
theorem dJ1_isEmpty_12 : decode cJ1_isEmpty 12 = .ok (.goto 4, 3) := dk_167 0 4 (dk_at dksJ1_isEmpty_0 12 rfl rfl)
theorem dJ1_isEmpty_15 : decode cJ1_isEmpty 15 = .ok (.iconst 0, 1) := dk_3 (dk_at dksJ1_isEmpty_0 15 rfl rfl)
theorem dJ1_isEmpty_16 : decode cJ1_isEmpty 16 = .ok (.ireturn, 1) := dk_172 (dk_at dksJ1_isEmpty_0 16 rfl rfl)
abbrev cJ1_elementAt : ByteArray := prog_49_method_10_code
def yJ1_elementAt : MethodName := ⟨RJ1, "elementAt", "([Ljava/lang/Object;I)Ljava/lang/Object;"⟩
def dkwJ1_elementAt_0 : List UInt8 := [42, 27, 50, 176]
abbrev dktJ1_elementAt_0 : List UInt8 := dkwJ1_elementAt_0 ++ []
theorem dksJ1_elementAt_0 : cJ1_elementAt.data.toList.drop 0 = dktJ1_elementAt_0 := by decide +kernel
theorem dJ1_elementAt_0 : decode cJ1_elementAt 0 = .ok (.aload_n 0, 1) := dk_42 (dk_at dksJ1_elementAt_0 0 rfl rfl)
theorem dJ1_elementAt_1 : decode cJ1_elementAt 1 = .ok (.iload_n 1, 1) := dk_27 (dk_at dksJ1_elementAt_0 1 rfl rfl)
theorem dJ1_elementAt_2 : decode cJ1_elementAt 2 = .ok (.aaload, 1) := dk_50 (dk_at dksJ1_elementAt_0 2 rfl rfl)
theorem dJ1_elementAt_3 : decode cJ1_elementAt 3 = .ok (.areturn, 1) := dk_176 (dk_at dksJ1_elementAt_0 3 rfl rfl)
abbrev cJ1_inc : ByteArray := prog_49_method_6_code
def yJ1_inc : MethodName := ⟨RJ1, "inc", "(II)I"⟩
def dkwJ1_inc_0 : List UInt8 := [132, 0, 1, 26, 27, 161, 0, 5, 3, 59, 26, 172]
abbrev dktJ1_inc_0 : List UInt8 := dkwJ1_inc_0 ++ []
theorem dksJ1_inc_0 : cJ1_inc.data.toList.drop 0 = dktJ1_inc_0 := by decide +kernel
theorem dJ1_inc_0 : decode cJ1_inc 0 = .ok (.iinc 0 1, 3) := dk_132 0 1 (dk_at dksJ1_inc_0 0 rfl rfl)
theorem dJ1_inc_3 : decode cJ1_inc 3 = .ok (.iload_n 0, 1) := dk_26 (dk_at dksJ1_inc_0 3 rfl rfl)
theorem dJ1_inc_4 : decode cJ1_inc 4 = .ok (.iload_n 1, 1) := dk_27 (dk_at dksJ1_inc_0 4 rfl rfl)
theorem dJ1_inc_5 : decode cJ1_inc 5 = .ok (.if_icmp .lt 5, 3) := dk_161 0 5 (dk_at dksJ1_inc_0 5 rfl rfl)
theorem dJ1_inc_8 : decode cJ1_inc 8 = .ok (.iconst 0, 1) := dk_3 (dk_at dksJ1_inc_0 8 rfl rfl)
theorem dJ1_inc_9 : decode cJ1_inc 9 = .ok (.istore_n 0, 1) := dk_59 (dk_at dksJ1_inc_0 9 rfl rfl)
theorem dJ1_inc_10 : decode cJ1_inc 10 = .ok (.iload_n 0, 1) := dk_26 (dk_at dksJ1_inc_0 10 rfl rfl)
theorem dJ1_inc_11 : decode cJ1_inc 11 = .ok (.ireturn, 1) := dk_172 (dk_at dksJ1_inc_0 11 rfl rfl)
abbrev cJ1_pollFirst : ByteArray := prog_49_method_20_code
def yJ1_pollFirst : MethodName := ⟨RJ1, "pollFirst", "()Ljava/lang/Object;"⟩
def dkwJ1_pollFirst_1 : List UInt8 := [42, 28, 43, 190, 184, 0, 74, 181, 0, 24, 45, 176]
abbrev dktJ1_pollFirst_1 : List UInt8 := dkwJ1_pollFirst_1 ++ []
def dkwJ1_pollFirst_0 : List UInt8 := [42, 180, 0, 3, 89, 76, 42, 180, 0, 24, 89, 61, 184, 0, 103, 78, 45, 198, 0, 17, 43, 28, 1, 83]
abbrev dktJ1_pollFirst_0 : List UInt8 := dkwJ1_pollFirst_0 ++ dktJ1_pollFirst_1
theorem dksJ1_pollFirst_0 : cJ1_pollFirst.data.toList.drop 0 = dktJ1_pollFirst_0 := by decide +kernel
theorem dksJ1_pollFirst_1 : cJ1_pollFirst.data.toList.drop 24 = dktJ1_pollFirst_1 := dk_seg dksJ1_pollFirst_0 24 rfl rfl
theorem dJ1_pollFirst_0 : decode cJ1_pollFirst 0 = .ok (.aload_n 0, 1) := dk_42 (dk_at dksJ1_pollFirst_0 0 rfl rfl)
theorem dJ1_pollFirst_1 : decode cJ1_pollFirst 1 = .ok (.getfield 3, 3) := dk_180 0 3 (dk_at dksJ1_pollFirst_0 1 rfl rfl)
theorem dJ1_pollFirst_4 : decode cJ1_pollFirst 4 = .ok (.dup, 1) := dk_89 (dk_at dksJ1_pollFirst_0 4 rfl rfl)
theorem dJ1_pollFirst_5 : decode cJ1_pollFirst 5 = .ok (.astore_n 1, 1) := dk_76 (dk_at dksJ1_pollFirst_0 5 rfl rfl)
theorem dJ1_pollFirst_6 : decode cJ1_pollFirst 6 = .ok (.aload_n 0, 1) := dk_42 (dk_at dksJ1_pollFirst_0 6 rfl rfl)
theorem dJ1_pollFirst_7 : decode cJ1_pollFirst 7 = .ok (.getfield 24, 3) := dk_180 0 24 (dk_at dksJ1_pollFirst_0 7 rfl rfl)
theorem dJ1_pollFirst_10 : decode cJ1_pollFirst 10 = .ok (.dup, 1) := dk_89 (dk_at dksJ1_pollFirst_0 10 rfl rfl)
theorem dJ1_pollFirst_11 : decode cJ1_pollFirst 11 = .ok (.istore_n 2, 1) := dk_61 (dk_at dksJ1_pollFirst_0 11 rfl rfl)
theorem dJ1_pollFirst_12 : decode cJ1_pollFirst 12 = .ok (.invokestatic 103, 3) := dk_184 0 103 (dk_at dksJ1_pollFirst_0 12 rfl rfl)
theorem dJ1_pollFirst_15 : decode cJ1_pollFirst 15 = .ok (.astore_n 3, 1) := dk_78 (dk_at dksJ1_pollFirst_0 15 rfl rfl)
theorem dJ1_pollFirst_16 : decode cJ1_pollFirst 16 = .ok (.aload_n 3, 1) := dk_45 (dk_at dksJ1_pollFirst_0 16 rfl rfl)
theorem dJ1_pollFirst_17 : decode cJ1_pollFirst 17 = .ok (.ifnull 17, 3) := dk_198 0 17 (dk_at dksJ1_pollFirst_0 17 rfl rfl)
theorem dJ1_pollFirst_20 : decode cJ1_pollFirst 20 = .ok (.aload_n 1, 1) := dk_43 (dk_at dksJ1_pollFirst_0 20 rfl rfl)
theorem dJ1_pollFirst_21 : decode cJ1_pollFirst 21 = .ok (.iload_n 2, 1) := dk_28 (dk_at dksJ1_pollFirst_0 21 rfl rfl)
theorem dJ1_pollFirst_22 : decode cJ1_pollFirst 22 = .ok (.aconst_null, 1) := dk_1 (dk_at dksJ1_pollFirst_0 22 rfl rfl)
theorem dJ1_pollFirst_23 : decode cJ1_pollFirst 23 = .ok (.aastore, 1) := dk_83 (dk_at dksJ1_pollFirst_0 23 rfl rfl)
theorem dJ1_pollFirst_24 : decode cJ1_pollFirst 24 = .ok (.aload_n 0, 1) := dk_42 (dk_at dksJ1_pollFirst_1 0 rfl rfl)
theorem dJ1_pollFirst_25 : decode cJ1_pollFirst 25 = .ok (.iload_n 2, 1) := dk_28 (dk_at dksJ1_pollFirst_1 1 rfl rfl)
theorem dJ1_pollFirst_26 : decode cJ1_pollFirst 26 = .ok (.aload_n 1, 1) := dk_43 (dk_at dksJ1_pollFirst_1 2 rfl rfl)
theorem dJ1_pollFirst_27 : decode cJ1_pollFirst 27 = .ok (.arraylength, 1) := dk_190 (dk_at dksJ1_pollFirst_1 3 rfl rfl)
theorem dJ1_pollFirst_28 : decode cJ1_pollFirst 28 = .ok (.invokestatic 74, 3) := dk_184 0 74 (dk_at dksJ1_pollFirst_1 4 rfl rfl)
theorem dJ1_pollFirst_31 : decode cJ1_pollFirst 31 = .ok (.putfield 24, 3) := dk_181 0 24 (dk_at dksJ1_pollFirst_1 7 rfl rfl)
theorem dJ1_pollFirst_34 : decode cJ1_pollFirst 34 = .ok (.aload_n 3, 1) := dk_45 (dk_at dksJ1_pollFirst_1 10 rfl rfl)
theorem dJ1_pollFirst_35 : decode cJ1_pollFirst 35 = .ok (.areturn, 1) := dk_176 (dk_at dksJ1_pollFirst_1 11 rfl rfl)
abbrev cJ1_removeFirst : ByteArray := prog_49_method_18_code
def yJ1_removeFirst : MethodName := ⟨RJ1, "removeFirst", "()Ljava/lang/Object;"⟩
def dkwJ1_removeFirst_0 : List UInt8 := [42, 182, 0, 93, 76, 43, 199, 0, 11, 187, 0, 97, 89, 183, 0, 99, 191, 43, 176]
abbrev dktJ1_removeFirst_0 : List UInt8 := dkwJ1_removeFirst_0 ++ []
theorem dksJ1_removeFirst_0 : cJ1_removeFirst.data.toList.drop 0 = dktJ1_removeFirst_0 := by decide +kernel
theorem dJ1_removeFirst_0 : decode cJ1_removeFirst 0 = .ok (.aload_n 0, 1) := dk_42 (dk_at dksJ1_removeFirst_0 0 rfl rfl)
theorem dJ1_removeFirst_1 : decode cJ1_removeFirst 1 = .ok (.invokevirtual 93, 3) := dk_182 0 93 (dk_at dksJ1_removeFirst_0 1 rfl rfl)
theorem dJ1_removeFirst_4 : decode cJ1_removeFirst 4 = .ok (.astore_n 1, 1) := dk_76 (dk_at dksJ1_removeFirst_0 4 rfl rfl)
theorem dJ1_removeFirst_5 : decode cJ1_removeFirst 5 = .ok (.aload_n 1, 1) := dk_43 (dk_at dksJ1_removeFirst_0 5 rfl rfl)
theorem dJ1_removeFirst_6 : decode cJ1_removeFirst 6 = .ok (.ifnonnull 11, 3) := dk_199 0 11 (dk_at dksJ1_removeFirst_0 6 rfl rfl)
theorem dJ1_removeFirst_9 : decode cJ1_removeFirst 9 = .ok (.new 97, 3) := dk_187 0 97 (dk_at dksJ1_removeFirst_0 9 rfl rfl)
theorem dJ1_removeFirst_12 : decode cJ1_removeFirst 12 = .ok (.dup, 1) := dk_89 (dk_at dksJ1_removeFirst_0 12 rfl rfl)
theorem dJ1_removeFirst_13 : decode cJ1_removeFirst 13 = .ok (.invokespecial 99, 3) := dk_183 0 99 (dk_at dksJ1_removeFirst_0 13 rfl rfl)
theorem dJ1_removeFirst_16 : decode cJ1_removeFirst 16 = .ok (.athrow, 1) := dk_191 (dk_at dksJ1_removeFirst_0 16 rfl rfl)
theorem dJ1_removeFirst_17 : decode cJ1_removeFirst 17 = .ok (.aload_n 1, 1) := dk_43 (dk_at dksJ1_removeFirst_0 17 rfl rfl)
theorem dJ1_removeFirst_18 : decode cJ1_removeFirst 18 = .ok (.areturn, 1) := dk_176 (dk_at dksJ1_removeFirst_0 18 rfl rfl)
abbrev cJ1_addLast : ByteArray := prog_49_method_13_code
def yJ1_addLast : MethodName := ⟨RJ1, "addLast", "(Ljava/lang/Object;)V"⟩
def dkwJ1_addLast_2 : List UInt8 := [182, 0, 71, 177]
abbrev dktJ1_addLast_2 : List UInt8 := dkwJ1_addLast_2 ++ []
def dkwJ1_addLast_1 : List UInt8 := [42, 180, 0, 24, 42, 42, 180, 0, 20, 44, 190, 184, 0, 74, 90, 181, 0, 20, 160, 0, 8, 42, 4]
abbrev dktJ1_addLast_1 : List UInt8 := dkwJ1_addLast_1 ++ dktJ1_addLast_2
def dkwJ1_addLast_0 : List UInt8 := [43, 199, 0, 11, 187, 0, 65, 89, 183, 0, 67, 191, 42, 180, 0, 3, 77, 44, 42, 180, 0, 20, 43, 83]
abbrev dktJ1_addLast_0 : List UInt8 := dkwJ1_addLast_0 ++ dktJ1_addLast_1
theorem dksJ1_addLast_0 : cJ1_addLast.data.toList.drop 0 = dktJ1_addLast_0 := by decide +kernel
theorem dksJ1_addLast_1 : cJ1_addLast.data.toList.drop 24 = dktJ1_addLast_1 := dk_seg dksJ1_addLast_0 24 rfl rfl
theorem dksJ1_addLast_2 : cJ1_addLast.data.toList.drop 47 = dktJ1_addLast_2 := dk_seg dksJ1_addLast_1 23 rfl rfl
theorem dJ1_addLast_0 : decode cJ1_addLast 0 = .ok (.aload_n 1, 1) := dk_43 (dk_at dksJ1_addLast_0 0 rfl rfl)
theorem dJ1_addLast_1 : decode cJ1_addLast 1 = .ok (.ifnonnull 11, 3) := dk_199 0 11 (dk_at dksJ1_addLast_0 1 rfl rfl)
theorem dJ1_addLast_4 : decode cJ1_addLast 4 = .ok (.new 65, 3) := dk_187 0 65 (dk_at dksJ1_addLast_0 4 rfl rfl)
theorem dJ1_addLast_7 : decode cJ1_addLast 7 = .ok (.dup, 1) := dk_89 (dk_at dksJ1_addLast_0 7 rfl rfl)
theorem dJ1_addLast_8 : decode cJ1_addLast 8 = .ok (.invokespecial 67, 3) := dk_183 0 67 (dk_at dksJ1_addLast_0 8 rfl rfl)
theorem dJ1_addLast_11 : decode cJ1_addLast 11 = .ok (.athrow, 1) := dk_191 (dk_at dksJ1_addLast_0 11 rfl rfl)
theorem dJ1_addLast_12 : decode cJ1_addLast 12 = .ok (.aload_n 0, 1) := dk_42 (dk_at dksJ1_addLast_0 12 rfl rfl)
theorem dJ1_addLast_13 : decode cJ1_addLast 13 = .ok (.getfield 3, 3) := dk_180 0 3 (dk_at dksJ1_addLast_0 13 rfl rfl)
theorem dJ1_addLast_16 : decode cJ1_addLast 16 = .ok (.astore_n 2, 1) := dk_77 (dk_at dksJ1_addLast_0 16 rfl rfl)
theorem dJ1_addLast_17 : decode cJ1_addLast 17 = .ok (.aload_n 2, 1) := dk_44 (dk_at dksJ1_addLast_0 17 rfl rfl)
theorem dJ1_addLast_18 : decode cJ1_addLast 18 = .ok (.aload_n 0, 1) := dk_42 (dk_at dksJ1_addLast_0 18 rfl rfl)
theorem dJ1_addLast_19 : decode cJ1_addLast 19 = .ok (.getfield 20, 3) := dk_180 0 20 (dk_at dksJ1_addLast_0 19 rfl rfl)
theorem dJ1_addLast_22 : decode cJ1_addLast 22 = .ok (.aload_n 1, 1) := dk_43 (dk_at dksJ1_addLast_0 22 rfl rfl)
theorem dJ1_addLast_23 : decode cJ1_addLast 23 = .ok (.aastore, 1) := dk_83 (dk_at dksJ1_addLast_0 23 rfl rfl)
theorem dJ1_addLast_24 : decode cJ1_addLast 24 = .ok (.aload_n 0, 1) := dk_42 (dk_at dksJ1_addLast_1 0 rfl rfl)
theorem dJ1_addLast_25 : decode cJ1_addLast 25 = .ok (.getfield 24, 3) := dk_180 0 24 (dk_at dksJ1_addLast_1 1 rfl rfl)
theorem dJ1_addLast_28 : decode cJ1_addLast 28 = .ok (.aload_n 0, 1) := dk_42 (dk_at dksJ1_addLast_1 4 rfl rfl)
theorem dJ1_addLast_29 : decode cJ1_addLast 29 = .ok (.aload_n 0, 1) := dk_42 (dk_at dksJ1_addLast_1 5 rfl rfl)
theorem dJ1_addLast_30 : decode cJ1_addLast 30 = .ok (.getfield 20, 3) := dk_180 0 20 (dk_at dksJ1_addLast_1 6 rfl rfl)
theorem dJ1_addLast_33 : decode cJ1_addLast 33 = .ok (.aload_n 2, 1) := dk_44 (dk_at dksJ1_addLast_1 9 rfl rfl)
theorem dJ1_addLast_34 : decode cJ1_addLast 34 = .ok (.arraylength, 1) := dk_190 (dk_at dksJ1_addLast_1 10 rfl rfl)
theorem dJ1_addLast_35 : decode cJ1_addLast 35 = .ok (.invokestatic 74, 3) := dk_184 0 74 (dk_at dksJ1_addLast_1 11 rfl rfl)
theorem dJ1_addLast_38 : decode cJ1_addLast 38 = .ok (.dup_x1, 1) := dk_90 (dk_at dksJ1_addLast_1 14 rfl rfl)
theorem dJ1_addLast_39 : decode cJ1_addLast 39 = .ok (.putfield 20, 3) := dk_181 0 20 (dk_at dksJ1_addLast_1 15 rfl rfl)
theorem dJ1_addLast_42 : decode cJ1_addLast 42 = .ok (.if_icmp .ne 8, 3) := dk_160 0 8 (dk_at dksJ1_addLast_1 18 rfl rfl)
theorem dJ1_addLast_45 : decode cJ1_addLast 45 = .ok (.aload_n 0, 1) := dk_42 (dk_at dksJ1_addLast_1 21 rfl rfl)
theorem dJ1_addLast_46 : decode cJ1_addLast 46 = .ok (.iconst 1, 1) := dk_4 (dk_at dksJ1_addLast_1 22 rfl rfl)
theorem dJ1_addLast_47 : decode cJ1_addLast 47 = .ok (.invokevirtual 71, 3) := dk_182 0 71 (dk_at dksJ1_addLast_2 0 rfl rfl)
theorem dJ1_addLast_50 : decode cJ1_addLast 50 = .ok (.return_, 1) := dk_177 (dk_at dksJ1_addLast_2 3 rfl rfl)
abbrev cJ1_dec : ByteArray := prog_49_method_7_code
def yJ1_dec : MethodName := ⟨RJ1, "dec", "(II)I"⟩
def dkwJ1_dec_0 : List UInt8 := [132, 0, 255, 26, 156, 0, 7, 27, 4, 100, 59, 26, 172]
abbrev dktJ1_dec_0 : List UInt8 := dkwJ1_dec_0 ++ []
theorem dksJ1_dec_0 : cJ1_dec.data.toList.drop 0 = dktJ1_dec_0 := by decide +kernel
theorem dJ1_dec_0 : decode cJ1_dec 0 = .ok (.iinc 0 (-1), 3) := dk_132 0 255 (dk_at dksJ1_dec_0 0 rfl rfl)
theorem dJ1_dec_3 : decode cJ1_dec 3 = .ok (.iload_n 0, 1) := dk_26 (dk_at dksJ1_dec_0 3 rfl rfl)
theorem dJ1_dec_4 : decode cJ1_dec 4 = .ok (.ifCond .ge 7, 3) := dk_156 0 7 (dk_at dksJ1_dec_0 4 rfl rfl)
theorem dJ1_dec_7 : decode cJ1_dec 7 = .ok (.iload_n 1, 1) := dk_27 (dk_at dksJ1_dec_0 7 rfl rfl)
theorem dJ1_dec_8 : decode cJ1_dec 8 = .ok (.iconst 1, 1) := dk_4 (dk_at dksJ1_dec_0 8 rfl rfl)
theorem dJ1_dec_9 : decode cJ1_dec 9 = .ok (.isub, 1) := dk_100 (dk_at dksJ1_dec_0 9 rfl rfl)
theorem dJ1_dec_10 : decode cJ1_dec 10 = .ok (.istore_n 0, 1) := dk_59 (dk_at dksJ1_dec_0 10 rfl rfl)
theorem dJ1_dec_11 : decode cJ1_dec 11 = .ok (.iload_n 0, 1) := dk_26 (dk_at dksJ1_dec_0 11 rfl rfl)
theorem dJ1_dec_12 : decode cJ1_dec 12 = .ok (.ireturn, 1) := dk_172 (dk_at dksJ1_dec_0 12 rfl rfl)
abbrev cJ1_pollLast : ByteArray := prog_49_method_21_code
def yJ1_pollLast : MethodName := ⟨RJ1, "pollLast", "()Ljava/lang/Object;"⟩
def dkwJ1_pollLast_1 : List UInt8 := [198, 0, 12, 43, 42, 28, 90, 181, 0, 20, 1, 83, 45, 176]
abbrev dktJ1_pollLast_1 : List UInt8 := dkwJ1_pollLast_1 ++ []
def dkwJ1_pollLast_0 : List UInt8 := [42, 180, 0, 3, 89, 76, 42, 180, 0, 20, 43, 190, 184, 0, 68, 89, 61, 184, 0, 103, 78, 45]
abbrev dktJ1_pollLast_0 : List UInt8 := dkwJ1_pollLast_0 ++ dktJ1_pollLast_1
theorem dksJ1_pollLast_0 : cJ1_pollLast.data.toList.drop 0 = dktJ1_pollLast_0 := by decide +kernel
theorem dksJ1_pollLast_1 : cJ1_pollLast.data.toList.drop 22 = dktJ1_pollLast_1 := dk_seg dksJ1_pollLast_0 22 rfl rfl
theorem dJ1_pollLast_0 : decode cJ1_pollLast 0 = .ok (.aload_n 0, 1) := dk_42 (dk_at dksJ1_pollLast_0 0 rfl rfl)
theorem dJ1_pollLast_1 : decode cJ1_pollLast 1 = .ok (.getfield 3, 3) := dk_180 0 3 (dk_at dksJ1_pollLast_0 1 rfl rfl)
theorem dJ1_pollLast_4 : decode cJ1_pollLast 4 = .ok (.dup, 1) := dk_89 (dk_at dksJ1_pollLast_0 4 rfl rfl)
theorem dJ1_pollLast_5 : decode cJ1_pollLast 5 = .ok (.astore_n 1, 1) := dk_76 (dk_at dksJ1_pollLast_0 5 rfl rfl)
theorem dJ1_pollLast_6 : decode cJ1_pollLast 6 = .ok (.aload_n 0, 1) := dk_42 (dk_at dksJ1_pollLast_0 6 rfl rfl)
theorem dJ1_pollLast_7 : decode cJ1_pollLast 7 = .ok (.getfield 20, 3) := dk_180 0 20 (dk_at dksJ1_pollLast_0 7 rfl rfl)
theorem dJ1_pollLast_10 : decode cJ1_pollLast 10 = .ok (.aload_n 1, 1) := dk_43 (dk_at dksJ1_pollLast_0 10 rfl rfl)
theorem dJ1_pollLast_11 : decode cJ1_pollLast 11 = .ok (.arraylength, 1) := dk_190 (dk_at dksJ1_pollLast_0 11 rfl rfl)
theorem dJ1_pollLast_12 : decode cJ1_pollLast 12 = .ok (.invokestatic 68, 3) := dk_184 0 68 (dk_at dksJ1_pollLast_0 12 rfl rfl)
theorem dJ1_pollLast_15 : decode cJ1_pollLast 15 = .ok (.dup, 1) := dk_89 (dk_at dksJ1_pollLast_0 15 rfl rfl)
theorem dJ1_pollLast_16 : decode cJ1_pollLast 16 = .ok (.istore_n 2, 1) := dk_61 (dk_at dksJ1_pollLast_0 16 rfl rfl)
theorem dJ1_pollLast_17 : decode cJ1_pollLast 17 = .ok (.invokestatic 103, 3) := dk_184 0 103 (dk_at dksJ1_pollLast_0 17 rfl rfl)
theorem dJ1_pollLast_20 : decode cJ1_pollLast 20 = .ok (.astore_n 3, 1) := dk_78 (dk_at dksJ1_pollLast_0 20 rfl rfl)
theorem dJ1_pollLast_21 : decode cJ1_pollLast 21 = .ok (.aload_n 3, 1) := dk_45 (dk_at dksJ1_pollLast_0 21 rfl rfl)
theorem dJ1_pollLast_22 : decode cJ1_pollLast 22 = .ok (.ifnull 12, 3) := dk_198 0 12 (dk_at dksJ1_pollLast_1 0 rfl rfl)
theorem dJ1_pollLast_25 : decode cJ1_pollLast 25 = .ok (.aload_n 1, 1) := dk_43 (dk_at dksJ1_pollLast_1 3 rfl rfl)
theorem dJ1_pollLast_26 : decode cJ1_pollLast 26 = .ok (.aload_n 0, 1) := dk_42 (dk_at dksJ1_pollLast_1 4 rfl rfl)
theorem dJ1_pollLast_27 : decode cJ1_pollLast 27 = .ok (.iload_n 2, 1) := dk_28 (dk_at dksJ1_pollLast_1 5 rfl rfl)
theorem dJ1_pollLast_28 : decode cJ1_pollLast 28 = .ok (.dup_x1, 1) := dk_90 (dk_at dksJ1_pollLast_1 6 rfl rfl)
theorem dJ1_pollLast_29 : decode cJ1_pollLast 29 = .ok (.putfield 20, 3) := dk_181 0 20 (dk_at dksJ1_pollLast_1 7 rfl rfl)
theorem dJ1_pollLast_32 : decode cJ1_pollLast 32 = .ok (.aconst_null, 1) := dk_1 (dk_at dksJ1_pollLast_1 10 rfl rfl)
theorem dJ1_pollLast_33 : decode cJ1_pollLast 33 = .ok (.aastore, 1) := dk_83 (dk_at dksJ1_pollLast_1 11 rfl rfl)
theorem dJ1_pollLast_34 : decode cJ1_pollLast 34 = .ok (.aload_n 3, 1) := dk_45 (dk_at dksJ1_pollLast_1 12 rfl rfl)
theorem dJ1_pollLast_35 : decode cJ1_pollLast 35 = .ok (.areturn, 1) := dk_176 (dk_at dksJ1_pollLast_1 13 rfl rfl)
abbrev cJ1_removeLast : ByteArray := prog_49_method_19_code
def yJ1_removeLast : MethodName := ⟨RJ1, "removeLast", "()Ljava/lang/Object;"⟩
def dkwJ1_removeLast_0 : List UInt8 := [42, 182, 0, 100, 76, 43, 199, 0, 11, 187, 0, 97, 89, 183, 0, 99, 191, 43, 176]
abbrev dktJ1_removeLast_0 : List UInt8 := dkwJ1_removeLast_0 ++ []
theorem dksJ1_removeLast_0 : cJ1_removeLast.data.toList.drop 0 = dktJ1_removeLast_0 := by decide +kernel
theorem dJ1_removeLast_0 : decode cJ1_removeLast 0 = .ok (.aload_n 0, 1) := dk_42 (dk_at dksJ1_removeLast_0 0 rfl rfl)
theorem dJ1_removeLast_1 : decode cJ1_removeLast 1 = .ok (.invokevirtual 100, 3) := dk_182 0 100 (dk_at dksJ1_removeLast_0 1 rfl rfl)
theorem dJ1_removeLast_4 : decode cJ1_removeLast 4 = .ok (.astore_n 1, 1) := dk_76 (dk_at dksJ1_removeLast_0 4 rfl rfl)
theorem dJ1_removeLast_5 : decode cJ1_removeLast 5 = .ok (.aload_n 1, 1) := dk_43 (dk_at dksJ1_removeLast_0 5 rfl rfl)
theorem dJ1_removeLast_6 : decode cJ1_removeLast 6 = .ok (.ifnonnull 11, 3) := dk_199 0 11 (dk_at dksJ1_removeLast_0 6 rfl rfl)
theorem dJ1_removeLast_9 : decode cJ1_removeLast 9 = .ok (.new 97, 3) := dk_187 0 97 (dk_at dksJ1_removeLast_0 9 rfl rfl)
theorem dJ1_removeLast_12 : decode cJ1_removeLast 12 = .ok (.dup, 1) := dk_89 (dk_at dksJ1_removeLast_0 12 rfl rfl)
theorem dJ1_removeLast_13 : decode cJ1_removeLast 13 = .ok (.invokespecial 99, 3) := dk_183 0 99 (dk_at dksJ1_removeLast_0 13 rfl rfl)
theorem dJ1_removeLast_16 : decode cJ1_removeLast 16 = .ok (.athrow, 1) := dk_191 (dk_at dksJ1_removeLast_0 16 rfl rfl)
theorem dJ1_removeLast_17 : decode cJ1_removeLast 17 = .ok (.aload_n 1, 1) := dk_43 (dk_at dksJ1_removeLast_0 17 rfl rfl)
theorem dJ1_removeLast_18 : decode cJ1_removeLast 18 = .ok (.areturn, 1) := dk_176 (dk_at dksJ1_removeLast_0 18 rfl rfl)
def RJ15 : String := "java/lang/Number"
abbrev cJ15_init : ByteArray := prog_33_method_1_code
def yJ15_init : MethodName := ⟨RJ15, "<init>", "()V"⟩
theorem dJ15_init_0 : decode cJ15_init 0 = .ok (.aload_n 0, 1) := by decide +kernel
theorem dJ15_init_1 : decode cJ15_init 1 = .ok (.invokespecial 1, 3) := by decide +kernel
theorem dJ15_init_4 : decode cJ15_init 4 = .ok (.return_, 1) := by decide +kernel
abbrev cJ16_init : ByteArray := prog_28_method_23_code
def yJ16_init : MethodName := ⟨RJ16, "<init>", "(I)V"⟩
def dkwJ16_init_0 : List UInt8 := [42, 183, 0, 202, 42, 27, 181, 0, 205, 177]
abbrev dktJ16_init_0 : List UInt8 := dkwJ16_init_0 ++ []
theorem dksJ16_init_0 : cJ16_init.data.toList.drop 0 = dktJ16_init_0 := by decide +kernel
theorem dJ16_init_0 : decode cJ16_init 0 = .ok (.aload_n 0, 1) := dk_42 (dk_at dksJ16_init_0 0 rfl rfl)
theorem dJ16_init_1 : decode cJ16_init 1 = .ok (.invokespecial 202, 3) := dk_183 0 202 (dk_at dksJ16_init_0 1 rfl rfl)
theorem dJ16_init_4 : decode cJ16_init 4 = .ok (.aload_n 0, 1) := dk_42 (dk_at dksJ16_init_0 4 rfl rfl)
theorem dJ16_init_5 : decode cJ16_init 5 = .ok (.iload_n 1, 1) := dk_27 (dk_at dksJ16_init_0 5 rfl rfl)
theorem dJ16_init_6 : decode cJ16_init 6 = .ok (.putfield 205, 3) := dk_181 0 205 (dk_at dksJ16_init_0 6 rfl rfl)
theorem dJ16_init_9 : decode cJ16_init 9 = .ok (.return_, 1) := dk_177 (dk_at dksJ16_init_0 9 rfl rfl)
abbrev cJ16_valueOf : ByteArray := prog_28_method_22_code
def yJ16_valueOf : MethodName := ⟨RJ16, "valueOf", "(I)Ljava/lang/Integer;"⟩
def dkwJ16_valueOf_1 : List UInt8 := [187, 0, 1, 89, 26, 183, 0, 199, 176]
abbrev dktJ16_valueOf_1 : List UInt8 := dkwJ16_valueOf_1 ++ []
def dkwJ16_valueOf_0 : List UInt8 := [26, 16, 128, 161, 0, 20, 26, 178, 0, 191, 163, 0, 13, 178, 0, 195, 26, 17, 0, 128, 96, 50, 176]
abbrev dktJ16_valueOf_0 : List UInt8 := dkwJ16_valueOf_0 ++ dktJ16_valueOf_1
theorem dksJ16_valueOf_0 : cJ16_valueOf.data.toList.drop 0 = dktJ16_valueOf_0 := by decide +kernel
theorem dksJ16_valueOf_1 : cJ16_valueOf.data.toList.drop 23 = dktJ16_valueOf_1 := dk_seg dksJ16_valueOf_0 23 rfl rfl
theorem dJ16_valueOf_0 : decode cJ16_valueOf 0 = .ok (.iload_n 0, 1) := dk_26 (dk_at dksJ16_valueOf_0 0 rfl rfl)
theorem dJ16_valueOf_1 : decode cJ16_valueOf 1 = .ok (.bipush (-128), 2) := dk_16 128 (dk_at dksJ16_valueOf_0 1 rfl rfl)
theorem dJ16_valueOf_3 : decode cJ16_valueOf 3 = .ok (.if_icmp .lt 20, 3) := dk_161 0 20 (dk_at dksJ16_valueOf_0 3 rfl rfl)
theorem dJ16_valueOf_6 : decode cJ16_valueOf 6 = .ok (.iload_n 0, 1) := dk_26 (dk_at dksJ16_valueOf_0 6 rfl rfl)
theorem dJ16_valueOf_7 : decode cJ16_valueOf 7 = .ok (.getstatic 191, 3) := dk_178 0 191 (dk_at dksJ16_valueOf_0 7 rfl rfl)
theorem dJ16_valueOf_10 : decode cJ16_valueOf 10 = .ok (.if_icmp .gt 13, 3) := dk_163 0 13 (dk_at dksJ16_valueOf_0 10 rfl rfl)
theorem dJ16_valueOf_13 : decode cJ16_valueOf 13 = .ok (.getstatic 195, 3) := dk_178 0 195 (dk_at dksJ16_valueOf_0 13 rfl rfl)
theorem dJ16_valueOf_16 : decode cJ16_valueOf 16 = .ok (.iload_n 0, 1) := dk_26 (dk_at dksJ16_valueOf_0 16 rfl rfl)
theorem dJ16_valueOf_17 : decode cJ16_valueOf 17 = .ok (.sipush 128, 3) := dk_17 0 128 (dk_at dksJ16_valueOf_0 17 rfl rfl)
theorem dJ16_valueOf_20 : decode cJ16_valueOf 20 = .ok (.iadd, 1) := dk_96 (dk_at dksJ16_valueOf_0 20 rfl rfl)
theorem dJ16_valueOf_21 : decode cJ16_valueOf 21 = .ok (.aaload, 1) := dk_50 (dk_at dksJ16_valueOf_0 21 rfl rfl)
theorem dJ16_valueOf_22 : decode cJ16_valueOf 22 = .ok (.areturn, 1) := dk_176 (dk_at dksJ16_valueOf_0 22 rfl rfl)
theorem dJ16_valueOf_23 : decode cJ16_valueOf 23 = .ok (.new 1, 3) := dk_187 0 1 (dk_at dksJ16_valueOf_1 0 rfl rfl)
theorem dJ16_valueOf_26 : decode cJ16_valueOf 26 = .ok (.dup, 1) := dk_89 (dk_at dksJ16_valueOf_1 3 rfl rfl)
theorem dJ16_valueOf_27 : decode cJ16_valueOf 27 = .ok (.iload_n 0, 1) := dk_26 (dk_at dksJ16_valueOf_1 4 rfl rfl)
theorem dJ16_valueOf_28 : decode cJ16_valueOf 28 = .ok (.invokespecial 199, 3) := dk_183 0 199 (dk_at dksJ16_valueOf_1 5 rfl rfl)
theorem dJ16_valueOf_31 : decode cJ16_valueOf 31 = .ok (.areturn, 1) := dk_176 (dk_at dksJ16_valueOf_1 8 rfl rfl)
abbrev cJ16_intValue : ByteArray := prog_28_method_27_code
def yJ16_intValue : MethodName := ⟨RJ16, "intValue", "()I"⟩
theorem dJ16_intValue_0 : decode cJ16_intValue 0 = .ok (.aload_n 0, 1) := by decide +kernel
theorem dJ16_intValue_1 : decode cJ16_intValue 1 = .ok (.getfield 205, 3) := by decide +kernel
theorem dJ16_intValue_4 : decode cJ16_intValue 4 = .ok (.ireturn, 1) := by decide +kernel
abbrev cJ16_numberOfLeadingZeros : ByteArray := prog_28_method_47_code
def yJ16_numberOfLeadingZeros : MethodName := ⟨RJ16, "numberOfLeadingZeros", "(I)I"⟩
def dkwJ16_numberOfLeadingZeros_3 : List UInt8 := [5, 124, 59, 27, 26, 4, 124, 100, 172]
abbrev dktJ16_numberOfLeadingZeros_3 : List UInt8 := dkwJ16_numberOfLeadingZeros_3 ++ []
def dkwJ16_numberOfLeadingZeros_2 : List UInt8 := [124, 59, 26, 16, 16, 161, 0, 10, 132, 1, 252, 26, 7, 124, 59, 26, 7, 161, 0, 10, 132, 1, 254, 26]
abbrev dktJ16_numberOfLeadingZeros_2 : List UInt8 := dkwJ16_numberOfLeadingZeros_2 ++ dktJ16_numberOfLeadingZeros_3
def dkwJ16_numberOfLeadingZeros_1 : List UInt8 := [161, 0, 11, 132, 1, 240, 26, 16, 16, 124, 59, 26, 17, 1, 0, 161, 0, 11, 132, 1, 248, 26, 16, 8]
abbrev dktJ16_numberOfLeadingZeros_1 : List UInt8 := dkwJ16_numberOfLeadingZeros_1 ++ dktJ16_numberOfLeadingZeros_2
def dkwJ16_numberOfLeadingZeros_0 : List UInt8 := [26, 157, 0, 14, 26, 154, 0, 8, 16, 32, 167, 0, 4, 3, 172, 16, 31, 60, 26, 19, 1, 8]
abbrev dktJ16_numberOfLeadingZeros_0 : List UInt8 := dkwJ16_numberOfLeadingZeros_0 ++ dktJ16_numberOfLeadingZeros_1
theorem dksJ16_numberOfLeadingZeros_0 : cJ16_numberOfLeadingZeros.data.toList.drop 0 = dktJ16_numberOfLeadingZeros_0 := by decide +kernel
theorem dksJ16_numberOfLeadingZeros_1 : cJ16_numberOfLeadingZeros.data.toList.drop 22 = dktJ16_numberOfLeadingZeros_1 := dk_seg dksJ16_numberOfLeadingZeros_0 22 rfl rfl
theorem dksJ16_numberOfLeadingZeros_2 : cJ16_numberOfLeadingZeros.data.toList.drop 46 = dktJ16_numberOfLeadingZeros_2 := dk_seg dksJ16_numberOfLeadingZeros_1 24 rfl rfl
theorem dksJ16_numberOfLeadingZeros_3 : cJ16_numberOfLeadingZeros.data.toList.drop 70 = dktJ16_numberOfLeadingZeros_3 := dk_seg dksJ16_numberOfLeadingZeros_2 24 rfl rfl
theorem dJ16_numberOfLeadingZeros_0 : decode cJ16_numberOfLeadingZeros 0 = .ok (.iload_n 0, 1) := dk_26 (dk_at dksJ16_numberOfLeadingZeros_0 0 rfl rfl)
theorem dJ16_numberOfLeadingZeros_1 : decode cJ16_numberOfLeadingZeros 1 = .ok (.ifCond .gt 14, 3) := dk_157 0 14 (dk_at dksJ16_numberOfLeadingZeros_0 1 rfl rfl)
theorem dJ16_numberOfLeadingZeros_4 : decode cJ16_numberOfLeadingZeros 4 = .ok (.iload_n 0, 1) := dk_26 (dk_at dksJ16_numberOfLeadingZeros_0 4 rfl rfl)
theorem dJ16_numberOfLeadingZeros_5 : decode cJ16_numberOfLeadingZeros 5 = .ok (.ifCond .ne 8, 3) := dk_154 0 8 (dk_at dksJ16_numberOfLeadingZeros_0 5 rfl rfl)
theorem dJ16_numberOfLeadingZeros_8 : decode cJ16_numberOfLeadingZeros 8 = .ok (.bipush 32, 2) := dk_16 32 (dk_at dksJ16_numberOfLeadingZeros_0 8 rfl rfl)
theorem dJ16_numberOfLeadingZeros_10 : decode cJ16_numberOfLeadingZeros 10 = .ok (.goto 4, 3) := dk_167 0 4 (dk_at dksJ16_numberOfLeadingZeros_0 10 rfl rfl)
theorem dJ16_numberOfLeadingZeros_13 : decode cJ16_numberOfLeadingZeros 13 = .ok (.iconst 0, 1) := dk_3 (dk_at dksJ16_numberOfLeadingZeros_0 13 rfl rfl)
theorem dJ16_numberOfLeadingZeros_14 : decode cJ16_numberOfLeadingZeros 14 = .ok (.ireturn, 1) := dk_172 (dk_at dksJ16_numberOfLeadingZeros_0 14 rfl rfl)
theorem dJ16_numberOfLeadingZeros_15 : decode cJ16_numberOfLeadingZeros 15 = .ok (.bipush 31, 2) := dk_16 31 (dk_at dksJ16_numberOfLeadingZeros_0 15 rfl rfl)
theorem dJ16_numberOfLeadingZeros_17 : decode cJ16_numberOfLeadingZeros 17 = .ok (.istore_n 1, 1) := dk_60 (dk_at dksJ16_numberOfLeadingZeros_0 17 rfl rfl)
theorem dJ16_numberOfLeadingZeros_18 : decode cJ16_numberOfLeadingZeros 18 = .ok (.iload_n 0, 1) := dk_26 (dk_at dksJ16_numberOfLeadingZeros_0 18 rfl rfl)
theorem dJ16_numberOfLeadingZeros_19 : decode cJ16_numberOfLeadingZeros 19 = .ok (.ldc_w 264, 3) := dk_19 1 8 (dk_at dksJ16_numberOfLeadingZeros_0 19 rfl rfl)
theorem dJ16_numberOfLeadingZeros_22 : decode cJ16_numberOfLeadingZeros 22 = .ok (.if_icmp .lt 11, 3) := dk_161 0 11 (dk_at dksJ16_numberOfLeadingZeros_1 0 rfl rfl)
theorem dJ16_numberOfLeadingZeros_25 : decode cJ16_numberOfLeadingZeros 25 = .ok (.iinc 1 (-16), 3) := dk_132 1 240 (dk_at dksJ16_numberOfLeadingZeros_1 3 rfl rfl)
theorem dJ16_numberOfLeadingZeros_28 : decode cJ16_numberOfLeadingZeros 28 = .ok (.iload_n 0, 1) := dk_26 (dk_at dksJ16_numberOfLeadingZeros_1 6 rfl rfl)
theorem dJ16_numberOfLeadingZeros_29 : decode cJ16_numberOfLeadingZeros 29 = .ok (.bipush 16, 2) := dk_16 16 (dk_at dksJ16_numberOfLeadingZeros_1 7 rfl rfl)
theorem dJ16_numberOfLeadingZeros_31 : decode cJ16_numberOfLeadingZeros 31 = .ok (.iushr, 1) := dk_124 (dk_at dksJ16_numberOfLeadingZeros_1 9 rfl rfl)
theorem dJ16_numberOfLeadingZeros_32 : decode cJ16_numberOfLeadingZeros 32 = .ok (.istore_n 0, 1) := dk_59 (dk_at dksJ16_numberOfLeadingZeros_1 10 rfl rfl)
theorem dJ16_numberOfLeadingZeros_33 : decode cJ16_numberOfLeadingZeros 33 = .ok (.iload_n 0, 1) := dk_26 (dk_at dksJ16_numberOfLeadingZeros_1 11 rfl rfl)
theorem dJ16_numberOfLeadingZeros_34 : decode cJ16_numberOfLeadingZeros 34 = .ok (.sipush 256, 3) := dk_17 1 0 (dk_at dksJ16_numberOfLeadingZeros_1 12 rfl rfl)
theorem dJ16_numberOfLeadingZeros_37 : decode cJ16_numberOfLeadingZeros 37 = .ok (.if_icmp .lt 11, 3) := dk_161 0 11 (dk_at dksJ16_numberOfLeadingZeros_1 15 rfl rfl)
theorem dJ16_numberOfLeadingZeros_40 : decode cJ16_numberOfLeadingZeros 40 = .ok (.iinc 1 (-8), 3) := dk_132 1 248 (dk_at dksJ16_numberOfLeadingZeros_1 18 rfl rfl)
theorem dJ16_numberOfLeadingZeros_43 : decode cJ16_numberOfLeadingZeros 43 = .ok (.iload_n 0, 1) := dk_26 (dk_at dksJ16_numberOfLeadingZeros_1 21 rfl rfl)
theorem dJ16_numberOfLeadingZeros_44 : decode cJ16_numberOfLeadingZeros 44 = .ok (.bipush 8, 2) := dk_16 8 (dk_at dksJ16_numberOfLeadingZeros_1 22 rfl rfl)
theorem dJ16_numberOfLeadingZeros_46 : decode cJ16_numberOfLeadingZeros 46 = .ok (.iushr, 1) := dk_124 (dk_at dksJ16_numberOfLeadingZeros_2 0 rfl rfl)
theorem dJ16_numberOfLeadingZeros_47 : decode cJ16_numberOfLeadingZeros 47 = .ok (.istore_n 0, 1) := dk_59 (dk_at dksJ16_numberOfLeadingZeros_2 1 rfl rfl)
theorem dJ16_numberOfLeadingZeros_48 : decode cJ16_numberOfLeadingZeros 48 = .ok (.iload_n 0, 1) := dk_26 (dk_at dksJ16_numberOfLeadingZeros_2 2 rfl rfl)
theorem dJ16_numberOfLeadingZeros_49 : decode cJ16_numberOfLeadingZeros 49 = .ok (.bipush 16, 2) := dk_16 16 (dk_at dksJ16_numberOfLeadingZeros_2 3 rfl rfl)
theorem dJ16_numberOfLeadingZeros_51 : decode cJ16_numberOfLeadingZeros 51 = .ok (.if_icmp .lt 10, 3) := dk_161 0 10 (dk_at dksJ16_numberOfLeadingZeros_2 5 rfl rfl)
theorem dJ16_numberOfLeadingZeros_54 : decode cJ16_numberOfLeadingZeros 54 = .ok (.iinc 1 (-4), 3) := dk_132 1 252 (dk_at dksJ16_numberOfLeadingZeros_2 8 rfl rfl)
theorem dJ16_numberOfLeadingZeros_57 : decode cJ16_numberOfLeadingZeros 57 = .ok (.iload_n 0, 1) := dk_26 (dk_at dksJ16_numberOfLeadingZeros_2 11 rfl rfl)
theorem dJ16_numberOfLeadingZeros_58 : decode cJ16_numberOfLeadingZeros 58 = .ok (.iconst 4, 1) := dk_7 (dk_at dksJ16_numberOfLeadingZeros_2 12 rfl rfl)
theorem dJ16_numberOfLeadingZeros_59 : decode cJ16_numberOfLeadingZeros 59 = .ok (.iushr, 1) := dk_124 (dk_at dksJ16_numberOfLeadingZeros_2 13 rfl rfl)
theorem dJ16_numberOfLeadingZeros_60 : decode cJ16_numberOfLeadingZeros 60 = .ok (.istore_n 0, 1) := dk_59 (dk_at dksJ16_numberOfLeadingZeros_2 14 rfl rfl)
theorem dJ16_numberOfLeadingZeros_61 : decode cJ16_numberOfLeadingZeros 61 = .ok (.iload_n 0, 1) := dk_26 (dk_at dksJ16_numberOfLeadingZeros_2 15 rfl rfl)
theorem dJ16_numberOfLeadingZeros_62 : decode cJ16_numberOfLeadingZeros 62 = .ok (.iconst 4, 1) := dk_7 (dk_at dksJ16_numberOfLeadingZeros_2 16 rfl rfl)
theorem dJ16_numberOfLeadingZeros_63 : decode cJ16_numberOfLeadingZeros 63 = .ok (.if_icmp .lt 10, 3) := dk_161 0 10 (dk_at dksJ16_numberOfLeadingZeros_2 17 rfl rfl)
theorem dJ16_numberOfLeadingZeros_66 : decode cJ16_numberOfLeadingZeros 66 = .ok (.iinc 1 (-2), 3) := dk_132 1 254 (dk_at dksJ16_numberOfLeadingZeros_2 20 rfl rfl)
theorem dJ16_numberOfLeadingZeros_69 : decode cJ16_numberOfLeadingZeros 69 = .ok (.iload_n 0, 1) := dk_26 (dk_at dksJ16_numberOfLeadingZeros_2 23 rfl rfl)
theorem dJ16_numberOfLeadingZeros_70 : decode cJ16_numberOfLeadingZeros 70 = .ok (.iconst 2, 1) := dk_5 (dk_at dksJ16_numberOfLeadingZeros_3 0 rfl rfl)
theorem dJ16_numberOfLeadingZeros_71 : decode cJ16_numberOfLeadingZeros 71 = .ok (.iushr, 1) := dk_124 (dk_at dksJ16_numberOfLeadingZeros_3 1 rfl rfl)
theorem dJ16_numberOfLeadingZeros_72 : decode cJ16_numberOfLeadingZeros 72 = .ok (.istore_n 0, 1) := dk_59 (dk_at dksJ16_numberOfLeadingZeros_3 2 rfl rfl)
theorem dJ16_numberOfLeadingZeros_73 : decode cJ16_numberOfLeadingZeros 73 = .ok (.iload_n 1, 1) := dk_27 (dk_at dksJ16_numberOfLeadingZeros_3 3 rfl rfl)
theorem dJ16_numberOfLeadingZeros_74 : decode cJ16_numberOfLeadingZeros 74 = .ok (.iload_n 0, 1) := dk_26 (dk_at dksJ16_numberOfLeadingZeros_3 4 rfl rfl)
theorem dJ16_numberOfLeadingZeros_75 : decode cJ16_numberOfLeadingZeros 75 = .ok (.iconst 1, 1) := dk_4 (dk_at dksJ16_numberOfLeadingZeros_3 5 rfl rfl)
theorem dJ16_numberOfLeadingZeros_76 : decode cJ16_numberOfLeadingZeros 76 = .ok (.iushr, 1) := dk_124 (dk_at dksJ16_numberOfLeadingZeros_3 6 rfl rfl)
theorem dJ16_numberOfLeadingZeros_77 : decode cJ16_numberOfLeadingZeros 77 = .ok (.isub, 1) := dk_100 (dk_at dksJ16_numberOfLeadingZeros_3 7 rfl rfl)
theorem dJ16_numberOfLeadingZeros_78 : decode cJ16_numberOfLeadingZeros 78 = .ok (.ireturn, 1) := dk_172 (dk_at dksJ16_numberOfLeadingZeros_3 8 rfl rfl)
def RJ20 : String := "java/util/AbstractSet"
abbrev cJ20_init : ByteArray := prog_48_method_1_code
def yJ20_init : MethodName := ⟨RJ20, "<init>", "()V"⟩
theorem dJ20_init_0 : decode cJ20_init 0 = .ok (.aload_n 0, 1) := by decide +kernel
theorem dJ20_init_1 : decode cJ20_init 1 = .ok (.invokespecial 1, 3) := by decide +kernel
theorem dJ20_init_4 : decode cJ20_init 4 = .ok (.return_, 1) := by decide +kernel
def RJ23 : String := "java/util/AbstractMap"
abbrev cJ23_init : ByteArray := prog_47_method_1_code
def yJ23_init : MethodName := ⟨RJ23, "<init>", "()V"⟩
theorem dJ23_init_0 : decode cJ23_init 0 = .ok (.aload_n 0, 1) := by decide +kernel
theorem dJ23_init_1 : decode cJ23_init 1 = .ok (.invokespecial 1, 3) := by decide +kernel
theorem dJ23_init_4 : decode cJ23_init 4 = .ok (.return_, 1) := by decide +kernel
def RJ24 : String := "java/util/HashMap"
abbrev cJ24_tableSizeFor : ByteArray := prog_54_method_4_code
def yJ24_tableSizeFor : MethodName := ⟨RJ24, "tableSizeFor", "(I)I"⟩
def dkwJ24_tableSizeFor_1 : List UInt8 := [18, 42, 167, 0, 6, 27, 4, 96, 172]
abbrev dktJ24_tableSizeFor_1 : List UInt8 := dkwJ24_tableSizeFor_1 ++ []
def dkwJ24_tableSizeFor_0 : List UInt8 := [2, 26, 4, 100, 184, 0, 34, 124, 60, 27, 156, 0, 7, 4, 167, 0, 17, 27, 18, 42, 161, 0, 8]
abbrev dktJ24_tableSizeFor_0 : List UInt8 := dkwJ24_tableSizeFor_0 ++ dktJ24_tableSizeFor_1
theorem dksJ24_tableSizeFor_0 : cJ24_tableSizeFor.data.toList.drop 0 = dktJ24_tableSizeFor_0 := by decide +kernel
theorem dksJ24_tableSizeFor_1 : cJ24_tableSizeFor.data.toList.drop 23 = dktJ24_tableSizeFor_1 := dk_seg dksJ24_tableSizeFor_0 23 rfl rfl
theorem dJ24_tableSizeFor_0 : decode cJ24_tableSizeFor 0 = .ok (.iconst (-1), 1) := dk_2 (dk_at dksJ24_tableSizeFor_0 0 rfl rfl)
theorem dJ24_tableSizeFor_1 : decode cJ24_tableSizeFor 1 = .ok (.iload_n 0, 1) := dk_26 (dk_at dksJ24_tableSizeFor_0 1 rfl rfl)
theorem dJ24_tableSizeFor_2 : decode cJ24_tableSizeFor 2 = .ok (.iconst 1, 1) := dk_4 (dk_at dksJ24_tableSizeFor_0 2 rfl rfl)
theorem dJ24_tableSizeFor_3 : decode cJ24_tableSizeFor 3 = .ok (.isub, 1) := dk_100 (dk_at dksJ24_tableSizeFor_0 3 rfl rfl)
theorem dJ24_tableSizeFor_4 : decode cJ24_tableSizeFor 4 = .ok (.invokestatic 34, 3) := dk_184 0 34 (dk_at dksJ24_tableSizeFor_0 4 rfl rfl)
theorem dJ24_tableSizeFor_7 : decode cJ24_tableSizeFor 7 = .ok (.iushr, 1) := dk_124 (dk_at dksJ24_tableSizeFor_0 7 rfl rfl)
theorem dJ24_tableSizeFor_8 : decode cJ24_tableSizeFor 8 = .ok (.istore_n 1, 1) := dk_60 (dk_at dksJ24_tableSizeFor_0 8 rfl rfl)
theorem dJ24_tableSizeFor_9 : decode cJ24_tableSizeFor 9 = .ok (.iload_n 1, 1) := dk_27 (dk_at dksJ24_tableSizeFor_0 9 rfl rfl)
theorem dJ24_tableSizeFor_10 : decode cJ24_tableSizeFor 10 = .ok (.ifCond .ge 7, 3) := dk_156 0 7 (dk_at dksJ24_tableSizeFor_0 10 rfl rfl)
theorem dJ24_tableSizeFor_13 : decode cJ24_tableSizeFor 13 = .ok (.iconst 1, 1) := dk_4 (dk_at dksJ24_tableSizeFor_0 13 rfl rfl)
theorem dJ24_tableSizeFor_14 : decode cJ24_tableSizeFor 14 = .ok (.goto 17, 3) := dk_167 0 17 (dk_at dksJ24_tableSizeFor_0 14 rfl rfl)
theorem dJ24_tableSizeFor_17 : decode cJ24_tableSizeFor 17 = .ok (.iload_n 1, 1) := dk_27 (dk_at dksJ24_tableSizeFor_0 17 rfl rfl)
theorem dJ24_tableSizeFor_18 : decode cJ24_tableSizeFor 18 = .ok (.ldc 42, 2) := dk_18 42 (dk_at dksJ24_tableSizeFor_0 18 rfl rfl)
theorem dJ24_tableSizeFor_20 : decode cJ24_tableSizeFor 20 = .ok (.if_icmp .lt 8, 3) := dk_161 0 8 (dk_at dksJ24_tableSizeFor_0 20 rfl rfl)
theorem dJ24_tableSizeFor_23 : decode cJ24_tableSizeFor 23 = .ok (.ldc 42, 2) := dk_18 42 (dk_at dksJ24_tableSizeFor_1 0 rfl rfl)
theorem dJ24_tableSizeFor_25 : decode cJ24_tableSizeFor 25 = .ok (.goto 6, 3) := dk_167 0 6 (dk_at dksJ24_tableSizeFor_1 2 rfl rfl)
theorem dJ24_tableSizeFor_28 : decode cJ24_tableSizeFor 28 = .ok (.iload_n 1, 1) := dk_27 (dk_at dksJ24_tableSizeFor_1 5 rfl rfl)
theorem dJ24_tableSizeFor_29 : decode cJ24_tableSizeFor 29 = .ok (.iconst 1, 1) := dk_4 (dk_at dksJ24_tableSizeFor_1 6 rfl rfl)
theorem dJ24_tableSizeFor_30 : decode cJ24_tableSizeFor 30 = .ok (.iadd, 1) := dk_96 (dk_at dksJ24_tableSizeFor_1 7 rfl rfl)
theorem dJ24_tableSizeFor_31 : decode cJ24_tableSizeFor 31 = .ok (.ireturn, 1) := dk_172 (dk_at dksJ24_tableSizeFor_1 8 rfl rfl)
def RJ26 : String := "java/lang/Float"
abbrev cJ26_isNaN : ByteArray := prog_24_method_6_code
def yJ26_isNaN : MethodName := ⟨RJ26, "isNaN", "(F)Z"⟩
def dkwJ26_isNaN_0 : List UInt8 := [34, 34, 149, 153, 0, 7, 4, 167, 0, 4, 3, 172]
abbrev dktJ26_isNaN_0 : List UInt8 := dkwJ26_isNaN_0 ++ []
theorem dksJ26_isNaN_0 : cJ26_isNaN.data.toList.drop 0 = dktJ26_isNaN_0 := by decide +kernel
theorem dJ26_isNaN_0 : decode cJ26_isNaN 0 = .ok (.fload_n 0, 1) := dk_34 (dk_at dksJ26_isNaN_0 0 rfl rfl)
theorem dJ26_isNaN_1 : decode cJ26_isNaN 1 = .ok (.fload_n 0, 1) := dk_34 (dk_at dksJ26_isNaN_0 1 rfl rfl)
theorem dJ26_isNaN_2 : decode cJ26_isNaN 2 = .ok (.fcmp .l, 1) := dk_149 (dk_at dksJ26_isNaN_0 2 rfl rfl)
theorem dJ26_isNaN_3 : decode cJ26_isNaN 3 = .ok (.ifCond .eq 7, 3) := dk_153 0 7 (dk_at dksJ26_isNaN_0 3 rfl rfl)
theorem dJ26_isNaN_6 : decode cJ26_isNaN 6 = .ok (.iconst 1, 1) := dk_4 (dk_at dksJ26_isNaN_0 6 rfl rfl)
theorem dJ26_isNaN_7 : decode cJ26_isNaN 7 = .ok (.goto 4, 3) := dk_167 0 4 (dk_at dksJ26_isNaN_0 7 rfl rfl)
theorem dJ26_isNaN_10 : decode cJ26_isNaN 10 = .ok (.iconst 0, 1) := dk_3 (dk_at dksJ26_isNaN_0 10 rfl rfl)
theorem dJ26_isNaN_11 : decode cJ26_isNaN 11 = .ok (.ireturn, 1) := dk_172 (dk_at dksJ26_isNaN_0 11 rfl rfl)
abbrev cJ24_init : ByteArray := prog_54_method_5_code
def yJ24_init : MethodName := ⟨RJ24, "<init>", "(IF)V"⟩
def dkwJ24_init_4 : List UInt8 := [181, 0, 88, 177]
abbrev dktJ24_init_4 : List UInt8 := dkwJ24_init_4 ++ []
def dkwJ24_init_3 : List UInt8 := [182, 0, 56, 36, 182, 0, 78, 182, 0, 63, 183, 0, 67, 191, 42, 36, 181, 0, 81, 42, 27, 184, 0, 85]
abbrev dktJ24_init_3 : List UInt8 := dkwJ24_init_3 ++ dktJ24_init_4
def dkwJ24_init_2 : List UInt8 := [158, 0, 10, 36, 184, 0, 70, 153, 0, 30, 187, 0, 49, 89, 187, 0, 51, 89, 183, 0, 53, 18, 76]
abbrev dktJ24_init_2 : List UInt8 := dkwJ24_init_2 ++ dktJ24_init_3
def dkwJ24_init_1 : List UInt8 := [27, 182, 0, 60, 182, 0, 63, 183, 0, 67, 191, 27, 18, 42, 164, 0, 6, 18, 42, 60, 36, 11, 150]
abbrev dktJ24_init_1 : List UInt8 := dkwJ24_init_1 ++ dktJ24_init_2
def dkwJ24_init_0 : List UInt8 := [42, 183, 0, 43, 27, 156, 0, 30, 187, 0, 49, 89, 187, 0, 51, 89, 183, 0, 53, 18, 54, 182, 0, 56]
abbrev dktJ24_init_0 : List UInt8 := dkwJ24_init_0 ++ dktJ24_init_1
theorem dksJ24_init_0 : cJ24_init.data.toList.drop 0 = dktJ24_init_0 := by decide +kernel
theorem dksJ24_init_1 : cJ24_init.data.toList.drop 24 = dktJ24_init_1 := dk_seg dksJ24_init_0 24 rfl rfl
theorem dksJ24_init_2 : cJ24_init.data.toList.drop 47 = dktJ24_init_2 := dk_seg dksJ24_init_1 23 rfl rfl
theorem dksJ24_init_3 : cJ24_init.data.toList.drop 70 = dktJ24_init_3 := dk_seg dksJ24_init_2 23 rfl rfl
theorem dksJ24_init_4 : cJ24_init.data.toList.drop 94 = dktJ24_init_4 := dk_seg dksJ24_init_3 24 rfl rfl
theorem dJ24_init_0 : decode cJ24_init 0 = .ok (.aload_n 0, 1) := dk_42 (dk_at dksJ24_init_0 0 rfl rfl)
theorem dJ24_init_1 : decode cJ24_init 1 = .ok (.invokespecial 43, 3) := dk_183 0 43 (dk_at dksJ24_init_0 1 rfl rfl)
theorem dJ24_init_4 : decode cJ24_init 4 = .ok (.iload_n 1, 1) := dk_27 (dk_at dksJ24_init_0 4 rfl rfl)
theorem dJ24_init_5 : decode cJ24_init 5 = .ok (.ifCond .ge 30, 3) := dk_156 0 30 (dk_at dksJ24_init_0 5 rfl rfl)
theorem dJ24_init_8 : decode cJ24_init 8 = .ok (.new 49, 3) := dk_187 0 49 (dk_at dksJ24_init_0 8 rfl rfl)
theorem dJ24_init_11 : decode cJ24_init 11 = .ok (.dup, 1) := dk_89 (dk_at dksJ24_init_0 11 rfl rfl)
theorem dJ24_init_12 : decode cJ24_init 12 = .ok (.new 51, 3) := dk_187 0 51 (dk_at dksJ24_init_0 12 rfl rfl)
theorem dJ24_init_15 : decode cJ24_init 15 = .ok (.dup, 1) := dk_89 (dk_at dksJ24_init_0 15 rfl rfl)
theorem dJ24_init_16 : decode cJ24_init 16 = .ok (.invokespecial 53, 3) := dk_183 0 53 (dk_at dksJ24_init_0 16 rfl rfl)
theorem dJ24_init_19 : decode cJ24_init 19 = .ok (.ldc 54, 2) := dk_18 54 (dk_at dksJ24_init_0 19 rfl rfl)
theorem dJ24_init_21 : decode cJ24_init 21 = .ok (.invokevirtual 56, 3) := dk_182 0 56 (dk_at dksJ24_init_0 21 rfl rfl)
theorem dJ24_init_24 : decode cJ24_init 24 = .ok (.iload_n 1, 1) := dk_27 (dk_at dksJ24_init_1 0 rfl rfl)
theorem dJ24_init_25 : decode cJ24_init 25 = .ok (.invokevirtual 60, 3) := dk_182 0 60 (dk_at dksJ24_init_1 1 rfl rfl)
theorem dJ24_init_28 : decode cJ24_init 28 = .ok (.invokevirtual 63, 3) := dk_182 0 63 (dk_at dksJ24_init_1 4 rfl rfl)
theorem dJ24_init_31 : decode cJ24_init 31 = .ok (.invokespecial 67, 3) := dk_183 0 67 (dk_at dksJ24_init_1 7 rfl rfl)
theorem dJ24_init_34 : decode cJ24_init 34 = .ok (.athrow, 1) := dk_191 (dk_at dksJ24_init_1 10 rfl rfl)
theorem dJ24_init_35 : decode cJ24_init 35 = .ok (.iload_n 1, 1) := dk_27 (dk_at dksJ24_init_1 11 rfl rfl)
theorem dJ24_init_36 : decode cJ24_init 36 = .ok (.ldc 42, 2) := dk_18 42 (dk_at dksJ24_init_1 12 rfl rfl)
theorem dJ24_init_38 : decode cJ24_init 38 = .ok (.if_icmp .le 6, 3) := dk_164 0 6 (dk_at dksJ24_init_1 14 rfl rfl)
theorem dJ24_init_41 : decode cJ24_init 41 = .ok (.ldc 42, 2) := dk_18 42 (dk_at dksJ24_init_1 17 rfl rfl)
theorem dJ24_init_43 : decode cJ24_init 43 = .ok (.istore_n 1, 1) := dk_60 (dk_at dksJ24_init_1 19 rfl rfl)
theorem dJ24_init_44 : decode cJ24_init 44 = .ok (.fload_n 2, 1) := dk_36 (dk_at dksJ24_init_1 20 rfl rfl)
theorem dJ24_init_45 : decode cJ24_init 45 = .ok (.fconst 0, 1) := dk_11 (dk_at dksJ24_init_1 21 rfl rfl)
theorem dJ24_init_46 : decode cJ24_init 46 = .ok (.fcmp .g, 1) := dk_150 (dk_at dksJ24_init_1 22 rfl rfl)
theorem dJ24_init_47 : decode cJ24_init 47 = .ok (.ifCond .le 10, 3) := dk_158 0 10 (dk_at dksJ24_init_2 0 rfl rfl)
theorem dJ24_init_50 : decode cJ24_init 50 = .ok (.fload_n 2, 1) := dk_36 (dk_at dksJ24_init_2 3 rfl rfl)
theorem dJ24_init_51 : decode cJ24_init 51 = .ok (.invokestatic 70, 3) := dk_184 0 70 (dk_at dksJ24_init_2 4 rfl rfl)
theorem dJ24_init_54 : decode cJ24_init 54 = .ok (.ifCond .eq 30, 3) := dk_153 0 30 (dk_at dksJ24_init_2 7 rfl rfl)
theorem dJ24_init_57 : decode cJ24_init 57 = .ok (.new 49, 3) := dk_187 0 49 (dk_at dksJ24_init_2 10 rfl rfl)
theorem dJ24_init_60 : decode cJ24_init 60 = .ok (.dup, 1) := dk_89 (dk_at dksJ24_init_2 13 rfl rfl)
theorem dJ24_init_61 : decode cJ24_init 61 = .ok (.new 51, 3) := dk_187 0 51 (dk_at dksJ24_init_2 14 rfl rfl)
theorem dJ24_init_64 : decode cJ24_init 64 = .ok (.dup, 1) := dk_89 (dk_at dksJ24_init_2 17 rfl rfl)
theorem dJ24_init_65 : decode cJ24_init 65 = .ok (.invokespecial 53, 3) := dk_183 0 53 (dk_at dksJ24_init_2 18 rfl rfl)
theorem dJ24_init_68 : decode cJ24_init 68 = .ok (.ldc 76, 2) := dk_18 76 (dk_at dksJ24_init_2 21 rfl rfl)
theorem dJ24_init_70 : decode cJ24_init 70 = .ok (.invokevirtual 56, 3) := dk_182 0 56 (dk_at dksJ24_init_3 0 rfl rfl)
theorem dJ24_init_73 : decode cJ24_init 73 = .ok (.fload_n 2, 1) := dk_36 (dk_at dksJ24_init_3 3 rfl rfl)
theorem dJ24_init_74 : decode cJ24_init 74 = .ok (.invokevirtual 78, 3) := dk_182 0 78 (dk_at dksJ24_init_3 4 rfl rfl)
theorem dJ24_init_77 : decode cJ24_init 77 = .ok (.invokevirtual 63, 3) := dk_182 0 63 (dk_at dksJ24_init_3 7 rfl rfl)
theorem dJ24_init_80 : decode cJ24_init 80 = .ok (.invokespecial 67, 3) := dk_183 0 67 (dk_at dksJ24_init_3 10 rfl rfl)
theorem dJ24_init_83 : decode cJ24_init 83 = .ok (.athrow, 1) := dk_191 (dk_at dksJ24_init_3 13 rfl rfl)
theorem dJ24_init_84 : decode cJ24_init 84 = .ok (.aload_n 0, 1) := dk_42 (dk_at dksJ24_init_3 14 rfl rfl)
theorem dJ24_init_85 : decode cJ24_init 85 = .ok (.fload_n 2, 1) := dk_36 (dk_at dksJ24_init_3 15 rfl rfl)
theorem dJ24_init_86 : decode cJ24_init 86 = .ok (.putfield 81, 3) := dk_181 0 81 (dk_at dksJ24_init_3 16 rfl rfl)
theorem dJ24_init_89 : decode cJ24_init 89 = .ok (.aload_n 0, 1) := dk_42 (dk_at dksJ24_init_3 19 rfl rfl)
theorem dJ24_init_90 : decode cJ24_init 90 = .ok (.iload_n 1, 1) := dk_27 (dk_at dksJ24_init_3 20 rfl rfl)
theorem dJ24_init_91 : decode cJ24_init 91 = .ok (.invokestatic 85, 3) := dk_184 0 85 (dk_at dksJ24_init_3 21 rfl rfl)
theorem dJ24_init_94 : decode cJ24_init 94 = .ok (.putfield 88, 3) := dk_181 0 88 (dk_at dksJ24_init_4 0 rfl rfl)
theorem dJ24_init_97 : decode cJ24_init 97 = .ok (.return_, 1) := dk_177 (dk_at dksJ24_init_4 3 rfl rfl)
abbrev cJ25_init : ByteArray := prog_62_method_14_code
def yJ25_init : MethodName := ⟨RJ25, "<init>", "(IF)V"⟩
def dkwJ25_init_0 : List UInt8 := [42, 27, 36, 183, 0, 81, 42, 3, 181, 0, 1, 42, 3, 181, 0, 64, 177]
abbrev dktJ25_init_0 : List UInt8 := dkwJ25_init_0 ++ []
theorem dksJ25_init_0 : cJ25_init.data.toList.drop 0 = dktJ25_init_0 := by decide +kernel
theorem dJ25_init_0 : decode cJ25_init 0 = .ok (.aload_n 0, 1) := dk_42 (dk_at dksJ25_init_0 0 rfl rfl)
theorem dJ25_init_1 : decode cJ25_init 1 = .ok (.iload_n 1, 1) := dk_27 (dk_at dksJ25_init_0 1 rfl rfl)
theorem dJ25_init_2 : decode cJ25_init 2 = .ok (.fload_n 2, 1) := dk_36 (dk_at dksJ25_init_0 2 rfl rfl)
theorem dJ25_init_3 : decode cJ25_init 3 = .ok (.invokespecial 81, 3) := dk_183 0 81 (dk_at dksJ25_init_0 3 rfl rfl)
theorem dJ25_init_6 : decode cJ25_init 6 = .ok (.aload_n 0, 1) := dk_42 (dk_at dksJ25_init_0 6 rfl rfl)
theorem dJ25_init_7 : decode cJ25_init 7 = .ok (.iconst 0, 1) := dk_3 (dk_at dksJ25_init_0 7 rfl rfl)
theorem dJ25_init_8 : decode cJ25_init 8 = .ok (.putfield 1, 3) := dk_181 0 1 (dk_at dksJ25_init_0 8 rfl rfl)
theorem dJ25_init_11 : decode cJ25_init 11 = .ok (.aload_n 0, 1) := dk_42 (dk_at dksJ25_init_0 11 rfl rfl)
theorem dJ25_init_12 : decode cJ25_init 12 = .ok (.iconst 0, 1) := dk_3 (dk_at dksJ25_init_0 12 rfl rfl)
theorem dJ25_init_13 : decode cJ25_init 13 = .ok (.putfield 64, 3) := dk_181 0 64 (dk_at dksJ25_init_0 13 rfl rfl)
theorem dJ25_init_16 : decode cJ25_init 16 = .ok (.return_, 1) := dk_177 (dk_at dksJ25_init_0 16 rfl rfl)
def RJ21 : String := "java/util/HashSet"
abbrev cJ21_init : ByteArray := prog_60_method_5_code
def yJ21_init : MethodName := ⟨RJ21, "<init>", "(IFZ)V"⟩
def dkwJ21_init_0 : List UInt8 := [42, 183, 0, 1, 42, 187, 0, 42, 89, 27, 36, 183, 0, 44, 181, 0, 10, 177]
abbrev dktJ21_init_0 : List UInt8 := dkwJ21_init_0 ++ []
theorem dksJ21_init_0 : cJ21_init.data.toList.drop 0 = dktJ21_init_0 := by decide +kernel
theorem dJ21_init_0 : decode cJ21_init 0 = .ok (.aload_n 0, 1) := dk_42 (dk_at dksJ21_init_0 0 rfl rfl)
theorem dJ21_init_1 : decode cJ21_init 1 = .ok (.invokespecial 1, 3) := dk_183 0 1 (dk_at dksJ21_init_0 1 rfl rfl)
theorem dJ21_init_4 : decode cJ21_init 4 = .ok (.aload_n 0, 1) := dk_42 (dk_at dksJ21_init_0 4 rfl rfl)
theorem dJ21_init_5 : decode cJ21_init 5 = .ok (.new 42, 3) := dk_187 0 42 (dk_at dksJ21_init_0 5 rfl rfl)
theorem dJ21_init_8 : decode cJ21_init 8 = .ok (.dup, 1) := dk_89 (dk_at dksJ21_init_0 8 rfl rfl)
theorem dJ21_init_9 : decode cJ21_init 9 = .ok (.iload_n 1, 1) := dk_27 (dk_at dksJ21_init_0 9 rfl rfl)
theorem dJ21_init_10 : decode cJ21_init 10 = .ok (.fload_n 2, 1) := dk_36 (dk_at dksJ21_init_0 10 rfl rfl)
theorem dJ21_init_11 : decode cJ21_init 11 = .ok (.invokespecial 44, 3) := dk_183 0 44 (dk_at dksJ21_init_0 11 rfl rfl)
theorem dJ21_init_14 : decode cJ21_init 14 = .ok (.putfield 10, 3) := dk_181 0 10 (dk_at dksJ21_init_0 14 rfl rfl)
theorem dJ21_init_17 : decode cJ21_init 17 = .ok (.return_, 1) := dk_177 (dk_at dksJ21_init_0 17 rfl rfl)
abbrev cX11_hashCode : ByteArray := prog_4_method_3_code
def yX11_hashCode : MethodName := ⟨RX11, "hashCode", "()I"⟩
def dkwX11_hashCode_1 : List UInt8 := [167, 0, 4, 3, 96, 172]
abbrev dktX11_hashCode_1 : List UInt8 := dkwX11_hashCode_1 ++ []
def dkwX11_hashCode_0 : List UInt8 := [16, 8, 42, 180, 0, 7, 104, 5, 42, 180, 0, 13, 104, 96, 42, 180, 0, 16, 153, 0, 7, 4]
abbrev dktX11_hashCode_0 : List UInt8 := dkwX11_hashCode_0 ++ dktX11_hashCode_1
theorem dksX11_hashCode_0 : cX11_hashCode.data.toList.drop 0 = dktX11_hashCode_0 := by decide +kernel
theorem dksX11_hashCode_1 : cX11_hashCode.data.toList.drop 22 = dktX11_hashCode_1 := dk_seg dksX11_hashCode_0 22 rfl rfl
theorem dX11_hashCode_0 : decode cX11_hashCode 0 = .ok (.bipush 8, 2) := dk_16 8 (dk_at dksX11_hashCode_0 0 rfl rfl)
theorem dX11_hashCode_2 : decode cX11_hashCode 2 = .ok (.aload_n 0, 1) := dk_42 (dk_at dksX11_hashCode_0 2 rfl rfl)
theorem dX11_hashCode_3 : decode cX11_hashCode 3 = .ok (.getfield 7, 3) := dk_180 0 7 (dk_at dksX11_hashCode_0 3 rfl rfl)
theorem dX11_hashCode_6 : decode cX11_hashCode 6 = .ok (.imul, 1) := dk_104 (dk_at dksX11_hashCode_0 6 rfl rfl)
theorem dX11_hashCode_7 : decode cX11_hashCode 7 = .ok (.iconst 2, 1) := dk_5 (dk_at dksX11_hashCode_0 7 rfl rfl)
theorem dX11_hashCode_8 : decode cX11_hashCode 8 = .ok (.aload_n 0, 1) := dk_42 (dk_at dksX11_hashCode_0 8 rfl rfl)
theorem dX11_hashCode_9 : decode cX11_hashCode 9 = .ok (.getfield 13, 3) := dk_180 0 13 (dk_at dksX11_hashCode_0 9 rfl rfl)
theorem dX11_hashCode_12 : decode cX11_hashCode 12 = .ok (.imul, 1) := dk_104 (dk_at dksX11_hashCode_0 12 rfl rfl)
theorem dX11_hashCode_13 : decode cX11_hashCode 13 = .ok (.iadd, 1) := dk_96 (dk_at dksX11_hashCode_0 13 rfl rfl)
theorem dX11_hashCode_14 : decode cX11_hashCode 14 = .ok (.aload_n 0, 1) := dk_42 (dk_at dksX11_hashCode_0 14 rfl rfl)
theorem dX11_hashCode_15 : decode cX11_hashCode 15 = .ok (.getfield 16, 3) := dk_180 0 16 (dk_at dksX11_hashCode_0 15 rfl rfl)
theorem dX11_hashCode_18 : decode cX11_hashCode 18 = .ok (.ifCond .eq 7, 3) := dk_153 0 7 (dk_at dksX11_hashCode_0 18 rfl rfl)
theorem dX11_hashCode_21 : decode cX11_hashCode 21 = .ok (.iconst 1, 1) := dk_4 (dk_at dksX11_hashCode_0 21 rfl rfl)
theorem dX11_hashCode_22 : decode cX11_hashCode 22 = .ok (.goto 4, 3) := dk_167 0 4 (dk_at dksX11_hashCode_1 0 rfl rfl)
theorem dX11_hashCode_25 : decode cX11_hashCode 25 = .ok (.iconst 0, 1) := dk_3 (dk_at dksX11_hashCode_1 3 rfl rfl)
theorem dX11_hashCode_26 : decode cX11_hashCode 26 = .ok (.iadd, 1) := dk_96 (dk_at dksX11_hashCode_1 4 rfl rfl)
theorem dX11_hashCode_27 : decode cX11_hashCode 27 = .ok (.ireturn, 1) := dk_172 (dk_at dksX11_hashCode_1 5 rfl rfl)
abbrev cX12_hashCode : ByteArray := prog_2_method_4_code
def yX12_hashCode : MethodName := ⟨RX12, "hashCode", "()I"⟩
def dkwX12_hashCode_0 : List UInt8 := [16, 100, 42, 180, 0, 7, 104, 42, 180, 0, 13, 96, 172]
abbrev dktX12_hashCode_0 : List UInt8 := dkwX12_hashCode_0 ++ []
theorem dksX12_hashCode_0 : cX12_hashCode.data.toList.drop 0 = dktX12_hashCode_0 := by decide +kernel
theorem dX12_hashCode_0 : decode cX12_hashCode 0 = .ok (.bipush 100, 2) := dk_16 100 (dk_at dksX12_hashCode_0 0 rfl rfl)
theorem dX12_hashCode_2 : decode cX12_hashCode 2 = .ok (.aload_n 0, 1) := dk_42 (dk_at dksX12_hashCode_0 2 rfl rfl)
theorem dX12_hashCode_3 : decode cX12_hashCode 3 = .ok (.getfield 7, 3) := dk_180 0 7 (dk_at dksX12_hashCode_0 3 rfl rfl)
theorem dX12_hashCode_6 : decode cX12_hashCode 6 = .ok (.imul, 1) := dk_104 (dk_at dksX12_hashCode_0 6 rfl rfl)
theorem dX12_hashCode_7 : decode cX12_hashCode 7 = .ok (.aload_n 0, 1) := dk_42 (dk_at dksX12_hashCode_0 7 rfl rfl)
theorem dX12_hashCode_8 : decode cX12_hashCode 8 = .ok (.getfield 13, 3) := dk_180 0 13 (dk_at dksX12_hashCode_0 8 rfl rfl)
theorem dX12_hashCode_11 : decode cX12_hashCode 11 = .ok (.iadd, 1) := dk_96 (dk_at dksX12_hashCode_0 11 rfl rfl)
theorem dX12_hashCode_12 : decode cX12_hashCode 12 = .ok (.ireturn, 1) := dk_172 (dk_at dksX12_hashCode_0 12 rfl rfl)
abbrev cJ24_hash : ByteArray := prog_54_method_1_code
def yJ24_hash : MethodName := ⟨RJ24, "hash", "(Ljava/lang/Object;)I"⟩
def dkwJ24_hash_0 : List UInt8 := [42, 199, 0, 7, 3, 167, 0, 14, 42, 182, 0, 1, 89, 60, 27, 16, 16, 124, 130, 172]
abbrev dktJ24_hash_0 : List UInt8 := dkwJ24_hash_0 ++ []
theorem dksJ24_hash_0 : cJ24_hash.data.toList.drop 0 = dktJ24_hash_0 := by decide +kernel
theorem dJ24_hash_0 : decode cJ24_hash 0 = .ok (.aload_n 0, 1) := dk_42 (dk_at dksJ24_hash_0 0 rfl rfl)
theorem dJ24_hash_1 : decode cJ24_hash 1 = .ok (.ifnonnull 7, 3) := dk_199 0 7 (dk_at dksJ24_hash_0 1 rfl rfl)
theorem dJ24_hash_4 : decode cJ24_hash 4 = .ok (.iconst 0, 1) := dk_3 (dk_at dksJ24_hash_0 4 rfl rfl)
theorem dJ24_hash_5 : decode cJ24_hash 5 = .ok (.goto 14, 3) := dk_167 0 14 (dk_at dksJ24_hash_0 5 rfl rfl)
theorem dJ24_hash_8 : decode cJ24_hash 8 = .ok (.aload_n 0, 1) := dk_42 (dk_at dksJ24_hash_0 8 rfl rfl)
theorem dJ24_hash_9 : decode cJ24_hash 9 = .ok (.invokevirtual 1, 3) := dk_182 0 1 (dk_at dksJ24_hash_0 9 rfl rfl)
theorem dJ24_hash_12 : decode cJ24_hash 12 = .ok (.dup, 1) := dk_89 (dk_at dksJ24_hash_0 12 rfl rfl)
theorem dJ24_hash_13 : decode cJ24_hash 13 = .ok (.istore_n 1, 1) := dk_60 (dk_at dksJ24_hash_0 13 rfl rfl)
theorem dJ24_hash_14 : decode cJ24_hash 14 = .ok (.iload_n 1, 1) := dk_27 (dk_at dksJ24_hash_0 14 rfl rfl)
theorem dJ24_hash_15 : decode cJ24_hash 15 = .ok (.bipush 16, 2) := dk_16 16 (dk_at dksJ24_hash_0 15 rfl rfl)
theorem dJ24_hash_17 : decode cJ24_hash 17 = .ok (.iushr, 1) := dk_124 (dk_at dksJ24_hash_0 17 rfl rfl)
theorem dJ24_hash_18 : decode cJ24_hash 18 = .ok (.ixor, 1) := dk_130 (dk_at dksJ24_hash_0 18 rfl rfl)
theorem dJ24_hash_19 : decode cJ24_hash 19 = .ok (.ireturn, 1) := dk_172 (dk_at dksJ24_hash_0 19 rfl rfl)
abbrev cJ24_resize : ByteArray := prog_54_method_17_code
def yJ24_resize : MethodName := ⟨RJ24, "resize", "()[Ljava/util/HashMap$Node;"⟩
def dkwJ24_resize_15 : List UInt8 := [25, 6, 176]
abbrev dktJ24_resize_15 : List UInt8 := dkwJ24_resize_15 ++ []
def dkwJ24_resize_14 : List UInt8 := [198, 0, 18, 25, 12, 1, 181, 0, 177, 25, 6, 21, 7, 28, 96, 25, 11, 83, 132, 7, 1, 167, 255, 57]
abbrev dktJ24_resize_14 : List UInt8 := dkwJ24_resize_14 ++ dktJ24_resize_15
def dkwJ24_resize_13 : List UInt8 := [199, 255, 185, 25, 10, 198, 0, 16, 25, 10, 1, 181, 0, 177, 25, 6, 21, 7, 25, 9, 83, 25, 12]
abbrev dktJ24_resize_13 : List UInt8 := dkwJ24_resize_13 ++ dktJ24_resize_14
def dkwJ24_resize_12 : List UInt8 := [25, 8, 58, 11, 167, 0, 10, 25, 12, 25, 8, 181, 0, 177, 25, 8, 58, 12, 25, 13, 89, 58, 8]
abbrev dktJ24_resize_12 : List UInt8 := dkwJ24_resize_12 ++ dktJ24_resize_13
def dkwJ24_resize_11 : List UInt8 := [58, 9, 167, 0, 10, 25, 10, 25, 8, 181, 0, 177, 25, 8, 58, 10, 167, 0, 26, 25, 12, 199, 0, 10]
abbrev dktJ24_resize_11 : List UInt8 := dkwJ24_resize_11 ++ dktJ24_resize_12
def dkwJ24_resize_10 : List UInt8 := [25, 8, 180, 0, 177, 58, 13, 25, 8, 180, 0, 168, 28, 126, 154, 0, 29, 25, 10, 199, 0, 10, 25, 8]
abbrev dktJ24_resize_10 : List UInt8 := dkwJ24_resize_10 ++ dktJ24_resize_11
def dkwJ24_resize_9 : List UInt8 := [42, 25, 6, 21, 7, 28, 182, 0, 211, 167, 0, 127, 1, 58, 9, 1, 58, 10, 1, 58, 11, 1, 58, 12]
abbrev dktJ24_resize_9 : List UInt8 := dkwJ24_resize_9 ++ dktJ24_resize_10
def dkwJ24_resize_8 : List UInt8 := [21, 4, 4, 100, 126, 25, 8, 83, 167, 0, 152, 25, 8, 193, 0, 180, 153, 0, 20, 25, 8, 192, 0, 180]
abbrev dktJ24_resize_8 : List UInt8 := dkwJ24_resize_8 ++ dktJ24_resize_9
def dkwJ24_resize_7 : List UInt8 := [198, 0, 183, 43, 21, 7, 1, 83, 25, 8, 180, 0, 177, 199, 0, 21, 25, 6, 25, 8, 180, 0, 168]
abbrev dktJ24_resize_7 : List UInt8 := dkwJ24_resize_7 ++ dktJ24_resize_8
def dkwJ24_resize_6 : List UInt8 := [181, 0, 105, 43, 198, 0, 208, 3, 54, 7, 21, 7, 28, 162, 0, 199, 43, 21, 7, 50, 89, 58, 8]
abbrev dktJ24_resize_6 : List UInt8 := dkwJ24_resize_6 ++ dktJ24_resize_7
def dkwJ24_resize_5 : List UInt8 := [167, 0, 5, 18, 209, 54, 5, 42, 21, 5, 181, 0, 88, 21, 4, 189, 0, 163, 58, 6, 42, 25, 6]
abbrev dktJ24_resize_5 : List UInt8 := dkwJ24_resize_5 ++ dktJ24_resize_6
def dkwJ24_resize_4 : List UInt8 := [180, 0, 81, 106, 56, 6, 21, 4, 18, 42, 162, 0, 17, 23, 6, 18, 210, 150, 156, 0, 9, 23, 6, 139]
abbrev dktJ24_resize_4 : List UInt8 := dkwJ24_resize_4 ++ dktJ24_resize_5
def dkwJ24_resize_3 : List UInt8 := [54, 4, 167, 0, 11, 16, 16, 54, 4, 16, 12, 54, 5, 21, 5, 154, 0, 38, 21, 4, 134, 42]
abbrev dktJ24_resize_3 : List UInt8 := dkwJ24_resize_3 ++ dktJ24_resize_4
def dkwJ24_resize_2 : List UInt8 := [18, 42, 162, 0, 35, 28, 16, 16, 161, 0, 29, 29, 4, 120, 54, 5, 167, 0, 21, 29, 158, 0, 9, 29]
abbrev dktJ24_resize_2 : List UInt8 := dkwJ24_resize_2 ++ dktJ24_resize_3
def dkwJ24_resize_1 : List UInt8 := [28, 158, 0, 42, 28, 18, 42, 161, 0, 11, 42, 18, 209, 181, 0, 88, 43, 176, 28, 4, 120, 89, 54, 4]
abbrev dktJ24_resize_1 : List UInt8 := dkwJ24_resize_1 ++ dktJ24_resize_2
def dkwJ24_resize_0 : List UInt8 := [42, 180, 0, 105, 76, 43, 199, 0, 7, 3, 167, 0, 5, 43, 190, 61, 42, 180, 0, 88, 62, 3, 54, 5]
abbrev dktJ24_resize_0 : List UInt8 := dkwJ24_resize_0 ++ dktJ24_resize_1
theorem dksJ24_resize_0 : cJ24_resize.data.toList.drop 0 = dktJ24_resize_0 := by decide +kernel
theorem dksJ24_resize_1 : cJ24_resize.data.toList.drop 24 = dktJ24_resize_1 := dk_seg dksJ24_resize_0 24 rfl rfl
theorem dksJ24_resize_2 : cJ24_resize.data.toList.drop 48 = dktJ24_resize_2 := dk_seg dksJ24_resize_1 24 rfl rfl
theorem dksJ24_resize_3 : cJ24_resize.data.toList.drop 72 = dktJ24_resize_3 := dk_seg dksJ24_resize_2 24 rfl rfl
theorem dksJ24_resize_4 : cJ24_resize.data.toList.drop 94 = dktJ24_resize_4 := dk_seg dksJ24_resize_3 22 rfl rfl
theorem dksJ24_resize_5 : cJ24_resize.data.toList.drop 118 = dktJ24_resize_5 := dk_seg dksJ24_resize_4 24 rfl rfl
theorem dksJ24_resize_6 : cJ24_resize.data.toList.drop 141 = dktJ24_resize_6 := dk_seg dksJ24_resize_5 23 rfl rfl
theorem dksJ24_resize_7 : cJ24_resize.data.toList.drop 164 = dktJ24_resize_7 := dk_seg dksJ24_resize_6 23 rfl rfl
theorem dksJ24_resize_8 : cJ24_resize.data.toList.drop 187 = dktJ24_resize_8 := dk_seg dksJ24_resize_7 23 rfl rfl
theorem dksJ24_resize_9 : cJ24_resize.data.toList.drop 211 = dktJ24_resize_9 := dk_seg dksJ24_resize_8 24 rfl rfl
theorem dksJ24_resize_10 : cJ24_resize.data.toList.drop 235 = dktJ24_resize_10 := dk_seg dksJ24_resize_9 24 rfl rfl
theorem dksJ24_resize_11 : cJ24_resize.data.toList.drop 259 = dktJ24_resize_11 := dk_seg dksJ24_resize_10 24 rfl rfl
theorem dksJ24_resize_12 : cJ24_resize.data.toList.drop 283 = dktJ24_resize_12 := dk_seg dksJ24_resize_11 24 rfl rfl
theorem dksJ24_resize_13 : cJ24_resize.data.toList.drop 306 = dktJ24_resize_13 := dk_seg dksJ24_resize_12 23 rfl rfl
theorem dksJ24_resize_14 : cJ24_resize.data.toList.drop 329 = dktJ24_resize_14 := dk_seg dksJ24_resize_13 23 rfl rfl
theorem dksJ24_resize_15 : cJ24_resize.data.toList.drop 353 = dktJ24_resize_15 := dk_seg dksJ24_resize_14 24 rfl rfl
theorem dJ24_resize_0 : decode cJ24_resize 0 = .ok (.aload_n 0, 1) := dk_42 (dk_at dksJ24_resize_0 0 rfl rfl)
theorem dJ24_resize_1 : decode cJ24_resize 1 = .ok (.getfield 105, 3) := dk_180 0 105 (dk_at dksJ24_resize_0 1 rfl rfl)
theorem dJ24_resize_4 : decode cJ24_resize 4 = .ok (.astore_n 1, 1) := dk_76 (dk_at dksJ24_resize_0 4 rfl rfl)
theorem dJ24_resize_5 : decode cJ24_resize 5 = .ok (.aload_n 1, 1) := dk_43 (dk_at dksJ24_resize_0 5 rfl rfl)
theorem dJ24_resize_6 : decode cJ24_resize 6 = .ok (.ifnonnull 7, 3) := dk_199 0 7 (dk_at dksJ24_resize_0 6 rfl rfl)
theorem dJ24_resize_9 : decode cJ24_resize 9 = .ok (.iconst 0, 1) := dk_3 (dk_at dksJ24_resize_0 9 rfl rfl)
theorem dJ24_resize_10 : decode cJ24_resize 10 = .ok (.goto 5, 3) := dk_167 0 5 (dk_at dksJ24_resize_0 10 rfl rfl)
theorem dJ24_resize_13 : decode cJ24_resize 13 = .ok (.aload_n 1, 1) := dk_43 (dk_at dksJ24_resize_0 13 rfl rfl)
theorem dJ24_resize_14 : decode cJ24_resize 14 = .ok (.arraylength, 1) := dk_190 (dk_at dksJ24_resize_0 14 rfl rfl)
theorem dJ24_resize_15 : decode cJ24_resize 15 = .ok (.istore_n 2, 1) := dk_61 (dk_at dksJ24_resize_0 15 rfl rfl)
theorem dJ24_resize_16 : decode cJ24_resize 16 = .ok (.aload_n 0, 1) := dk_42 (dk_at dksJ24_resize_0 16 rfl rfl)
theorem dJ24_resize_17 : decode cJ24_resize 17 = .ok (.getfield 88, 3) := dk_180 0 88 (dk_at dksJ24_resize_0 17 rfl rfl)
theorem dJ24_resize_20 : decode cJ24_resize 20 = .ok (.istore_n 3, 1) := dk_62 (dk_at dksJ24_resize_0 20 rfl rfl)
theorem dJ24_resize_21 : decode cJ24_resize 21 = .ok (.iconst 0, 1) := dk_3 (dk_at dksJ24_resize_0 21 rfl rfl)
theorem dJ24_resize_22 : decode cJ24_resize 22 = .ok (.istore 5, 2) := dk_54 5 (dk_at dksJ24_resize_0 22 rfl rfl)
theorem dJ24_resize_24 : decode cJ24_resize 24 = .ok (.iload_n 2, 1) := dk_28 (dk_at dksJ24_resize_1 0 rfl rfl)
theorem dJ24_resize_25 : decode cJ24_resize 25 = .ok (.ifCond .le 42, 3) := dk_158 0 42 (dk_at dksJ24_resize_1 1 rfl rfl)
theorem dJ24_resize_28 : decode cJ24_resize 28 = .ok (.iload_n 2, 1) := dk_28 (dk_at dksJ24_resize_1 4 rfl rfl)
theorem dJ24_resize_29 : decode cJ24_resize 29 = .ok (.ldc 42, 2) := dk_18 42 (dk_at dksJ24_resize_1 5 rfl rfl)
theorem dJ24_resize_31 : decode cJ24_resize 31 = .ok (.if_icmp .lt 11, 3) := dk_161 0 11 (dk_at dksJ24_resize_1 7 rfl rfl)
theorem dJ24_resize_34 : decode cJ24_resize 34 = .ok (.aload_n 0, 1) := dk_42 (dk_at dksJ24_resize_1 10 rfl rfl)
theorem dJ24_resize_35 : decode cJ24_resize 35 = .ok (.ldc 209, 2) := dk_18 209 (dk_at dksJ24_resize_1 11 rfl rfl)
theorem dJ24_resize_37 : decode cJ24_resize 37 = .ok (.putfield 88, 3) := dk_181 0 88 (dk_at dksJ24_resize_1 13 rfl rfl)
theorem dJ24_resize_40 : decode cJ24_resize 40 = .ok (.aload_n 1, 1) := dk_43 (dk_at dksJ24_resize_1 16 rfl rfl)
theorem dJ24_resize_41 : decode cJ24_resize 41 = .ok (.areturn, 1) := dk_176 (dk_at dksJ24_resize_1 17 rfl rfl)
theorem dJ24_resize_42 : decode cJ24_resize 42 = .ok (.iload_n 2, 1) := dk_28 (dk_at dksJ24_resize_1 18 rfl rfl)
theorem dJ24_resize_43 : decode cJ24_resize 43 = .ok (.iconst 1, 1) := dk_4 (dk_at dksJ24_resize_1 19 rfl rfl)
theorem dJ24_resize_44 : decode cJ24_resize 44 = .ok (.ishl, 1) := dk_120 (dk_at dksJ24_resize_1 20 rfl rfl)
theorem dJ24_resize_45 : decode cJ24_resize 45 = .ok (.dup, 1) := dk_89 (dk_at dksJ24_resize_1 21 rfl rfl)
theorem dJ24_resize_46 : decode cJ24_resize 46 = .ok (.istore 4, 2) := dk_54 4 (dk_at dksJ24_resize_1 22 rfl rfl)
theorem dJ24_resize_48 : decode cJ24_resize 48 = .ok (.ldc 42, 2) := dk_18 42 (dk_at dksJ24_resize_2 0 rfl rfl)
theorem dJ24_resize_50 : decode cJ24_resize 50 = .ok (.if_icmp .ge 35, 3) := dk_162 0 35 (dk_at dksJ24_resize_2 2 rfl rfl)
theorem dJ24_resize_53 : decode cJ24_resize 53 = .ok (.iload_n 2, 1) := dk_28 (dk_at dksJ24_resize_2 5 rfl rfl)
theorem dJ24_resize_54 : decode cJ24_resize 54 = .ok (.bipush 16, 2) := dk_16 16 (dk_at dksJ24_resize_2 6 rfl rfl)
theorem dJ24_resize_56 : decode cJ24_resize 56 = .ok (.if_icmp .lt 29, 3) := dk_161 0 29 (dk_at dksJ24_resize_2 8 rfl rfl)
theorem dJ24_resize_59 : decode cJ24_resize 59 = .ok (.iload_n 3, 1) := dk_29 (dk_at dksJ24_resize_2 11 rfl rfl)
theorem dJ24_resize_60 : decode cJ24_resize 60 = .ok (.iconst 1, 1) := dk_4 (dk_at dksJ24_resize_2 12 rfl rfl)
theorem dJ24_resize_61 : decode cJ24_resize 61 = .ok (.ishl, 1) := dk_120 (dk_at dksJ24_resize_2 13 rfl rfl)
theorem dJ24_resize_62 : decode cJ24_resize 62 = .ok (.istore 5, 2) := dk_54 5 (dk_at dksJ24_resize_2 14 rfl rfl)
theorem dJ24_resize_64 : decode cJ24_resize 64 = .ok (.goto 21, 3) := dk_167 0 21 (dk_at dksJ24_resize_2 16 rfl rfl)
theorem dJ24_resize_67 : decode cJ24_resize 67 = .ok (.iload_n 3, 1) := dk_29 (dk_at dksJ24_resize_2 19 rfl rfl)
theorem dJ24_resize_68 : decode cJ24_resize 68 = .ok (.ifCond .le 9, 3) := dk_158 0 9 (dk_at dksJ24_resize_2 20 rfl rfl)
theorem dJ24_resize_71 : decode cJ24_resize 71 = .ok (.iload_n 3, 1) := dk_29 (dk_at dksJ24_resize_2 23 rfl rfl)
theorem dJ24_resize_72 : decode cJ24_resize 72 = .ok (.istore 4, 2) := dk_54 4 (dk_at dksJ24_resize_3 0 rfl rfl)
theorem dJ24_resize_74 : decode cJ24_resize 74 = .ok (.goto 11, 3) := dk_167 0 11 (dk_at dksJ24_resize_3 2 rfl rfl)
theorem dJ24_resize_77 : decode cJ24_resize 77 = .ok (.bipush 16, 2) := dk_16 16 (dk_at dksJ24_resize_3 5 rfl rfl)
theorem dJ24_resize_79 : decode cJ24_resize 79 = .ok (.istore 4, 2) := dk_54 4 (dk_at dksJ24_resize_3 7 rfl rfl)
theorem dJ24_resize_81 : decode cJ24_resize 81 = .ok (.bipush 12, 2) := dk_16 12 (dk_at dksJ24_resize_3 9 rfl rfl)
theorem dJ24_resize_83 : decode cJ24_resize 83 = .ok (.istore 5, 2) := dk_54 5 (dk_at dksJ24_resize_3 11 rfl rfl)
theorem dJ24_resize_85 : decode cJ24_resize 85 = .ok (.iload 5, 2) := dk_21 5 (dk_at dksJ24_resize_3 13 rfl rfl)
theorem dJ24_resize_87 : decode cJ24_resize 87 = .ok (.ifCond .ne 38, 3) := dk_154 0 38 (dk_at dksJ24_resize_3 15 rfl rfl)
theorem dJ24_resize_90 : decode cJ24_resize 90 = .ok (.iload 4, 2) := dk_21 4 (dk_at dksJ24_resize_3 18 rfl rfl)
theorem dJ24_resize_92 : decode cJ24_resize 92 = .ok (.i2f, 1) := dk_134 (dk_at dksJ24_resize_3 20 rfl rfl)
theorem dJ24_resize_93 : decode cJ24_resize 93 = .ok (.aload_n 0, 1) := dk_42 (dk_at dksJ24_resize_3 21 rfl rfl)
theorem dJ24_resize_94 : decode cJ24_resize 94 = .ok (.getfield 81, 3) := dk_180 0 81 (dk_at dksJ24_resize_4 0 rfl rfl)
theorem dJ24_resize_97 : decode cJ24_resize 97 = .ok (.fmul, 1) := dk_106 (dk_at dksJ24_resize_4 3 rfl rfl)
theorem dJ24_resize_98 : decode cJ24_resize 98 = .ok (.fstore 6, 2) := dk_56 6 (dk_at dksJ24_resize_4 4 rfl rfl)
theorem dJ24_resize_100 : decode cJ24_resize 100 = .ok (.iload 4, 2) := dk_21 4 (dk_at dksJ24_resize_4 6 rfl rfl)
theorem dJ24_resize_102 : decode cJ24_resize 102 = .ok (.ldc 42, 2) := dk_18 42 (dk_at dksJ24_resize_4 8 rfl rfl)
theorem dJ24_resize_104 : decode cJ24_resize 104 = .ok (.if_icmp .ge 17, 3) := dk_162 0 17 (dk_at dksJ24_resize_4 10 rfl rfl)
theorem dJ24_resize_107 : decode cJ24_resize 107 = .ok (.fload 6, 2) := dk_23 6 (dk_at dksJ24_resize_4 13 rfl rfl)
theorem dJ24_resize_109 : decode cJ24_resize 109 = .ok (.ldc 210, 2) := dk_18 210 (dk_at dksJ24_resize_4 15 rfl rfl)
theorem dJ24_resize_111 : decode cJ24_resize 111 = .ok (.fcmp .g, 1) := dk_150 (dk_at dksJ24_resize_4 17 rfl rfl)
theorem dJ24_resize_112 : decode cJ24_resize 112 = .ok (.ifCond .ge 9, 3) := dk_156 0 9 (dk_at dksJ24_resize_4 18 rfl rfl)
theorem dJ24_resize_115 : decode cJ24_resize 115 = .ok (.fload 6, 2) := dk_23 6 (dk_at dksJ24_resize_4 21 rfl rfl)
theorem dJ24_resize_117 : decode cJ24_resize 117 = .ok (.f2i, 1) := dk_139 (dk_at dksJ24_resize_4 23 rfl rfl)
theorem dJ24_resize_118 : decode cJ24_resize 118 = .ok (.goto 5, 3) := dk_167 0 5 (dk_at dksJ24_resize_5 0 rfl rfl)
theorem dJ24_resize_121 : decode cJ24_resize 121 = .ok (.ldc 209, 2) := dk_18 209 (dk_at dksJ24_resize_5 3 rfl rfl)
theorem dJ24_resize_123 : decode cJ24_resize 123 = .ok (.istore 5, 2) := dk_54 5 (dk_at dksJ24_resize_5 5 rfl rfl)
theorem dJ24_resize_125 : decode cJ24_resize 125 = .ok (.aload_n 0, 1) := dk_42 (dk_at dksJ24_resize_5 7 rfl rfl)
theorem dJ24_resize_126 : decode cJ24_resize 126 = .ok (.iload 5, 2) := dk_21 5 (dk_at dksJ24_resize_5 8 rfl rfl)
theorem dJ24_resize_128 : decode cJ24_resize 128 = .ok (.putfield 88, 3) := dk_181 0 88 (dk_at dksJ24_resize_5 10 rfl rfl)
theorem dJ24_resize_131 : decode cJ24_resize 131 = .ok (.iload 4, 2) := dk_21 4 (dk_at dksJ24_resize_5 13 rfl rfl)
theorem dJ24_resize_133 : decode cJ24_resize 133 = .ok (.anewarray 163, 3) := dk_189 0 163 (dk_at dksJ24_resize_5 15 rfl rfl)
theorem dJ24_resize_136 : decode cJ24_resize 136 = .ok (.astore 6, 2) := dk_58 6 (dk_at dksJ24_resize_5 18 rfl rfl)
theorem dJ24_resize_138 : decode cJ24_resize 138 = .ok (.aload_n 0, 1) := dk_42 (dk_at dksJ24_resize_5 20 rfl rfl)
theorem dJ24_resize_139 : decode cJ24_resize 139 = .ok (.aload 6, 2) := dk_25 6 (dk_at dksJ24_resize_5 21 rfl rfl)
theorem dJ24_resize_141 : decode cJ24_resize 141 = .ok (.putfield 105, 3) := dk_181 0 105 (dk_at dksJ24_resize_6 0 rfl rfl)
theorem dJ24_resize_144 : decode cJ24_resize 144 = .ok (.aload_n 1, 1) := dk_43 (dk_at dksJ24_resize_6 3 rfl rfl)
theorem dJ24_resize_145 : decode cJ24_resize 145 = .ok (.ifnull 208, 3) := dk_198 0 208 (dk_at dksJ24_resize_6 4 rfl rfl)
theorem dJ24_resize_148 : decode cJ24_resize 148 = .ok (.iconst 0, 1) := dk_3 (dk_at dksJ24_resize_6 7 rfl rfl)
theorem dJ24_resize_149 : decode cJ24_resize 149 = .ok (.istore 7, 2) := dk_54 7 (dk_at dksJ24_resize_6 8 rfl rfl)
theorem dJ24_resize_151 : decode cJ24_resize 151 = .ok (.iload 7, 2) := dk_21 7 (dk_at dksJ24_resize_6 10 rfl rfl)
theorem dJ24_resize_153 : decode cJ24_resize 153 = .ok (.iload_n 2, 1) := dk_28 (dk_at dksJ24_resize_6 12 rfl rfl)
theorem dJ24_resize_154 : decode cJ24_resize 154 = .ok (.if_icmp .ge 199, 3) := dk_162 0 199 (dk_at dksJ24_resize_6 13 rfl rfl)
theorem dJ24_resize_157 : decode cJ24_resize 157 = .ok (.aload_n 1, 1) := dk_43 (dk_at dksJ24_resize_6 16 rfl rfl)
theorem dJ24_resize_158 : decode cJ24_resize 158 = .ok (.iload 7, 2) := dk_21 7 (dk_at dksJ24_resize_6 17 rfl rfl)
theorem dJ24_resize_160 : decode cJ24_resize 160 = .ok (.aaload, 1) := dk_50 (dk_at dksJ24_resize_6 19 rfl rfl)
theorem dJ24_resize_161 : decode cJ24_resize 161 = .ok (.dup, 1) := dk_89 (dk_at dksJ24_resize_6 20 rfl rfl)
theorem dJ24_resize_162 : decode cJ24_resize 162 = .ok (.astore 8, 2) := dk_58 8 (dk_at dksJ24_resize_6 21 rfl rfl)
theorem dJ24_resize_164 : decode cJ24_resize 164 = .ok (.ifnull 183, 3) := dk_198 0 183 (dk_at dksJ24_resize_7 0 rfl rfl)
theorem dJ24_resize_167 : decode cJ24_resize 167 = .ok (.aload_n 1, 1) := dk_43 (dk_at dksJ24_resize_7 3 rfl rfl)
theorem dJ24_resize_168 : decode cJ24_resize 168 = .ok (.iload 7, 2) := dk_21 7 (dk_at dksJ24_resize_7 4 rfl rfl)
theorem dJ24_resize_170 : decode cJ24_resize 170 = .ok (.aconst_null, 1) := dk_1 (dk_at dksJ24_resize_7 6 rfl rfl)
theorem dJ24_resize_171 : decode cJ24_resize 171 = .ok (.aastore, 1) := dk_83 (dk_at dksJ24_resize_7 7 rfl rfl)
theorem dJ24_resize_172 : decode cJ24_resize 172 = .ok (.aload 8, 2) := dk_25 8 (dk_at dksJ24_resize_7 8 rfl rfl)
theorem dJ24_resize_174 : decode cJ24_resize 174 = .ok (.getfield 177, 3) := dk_180 0 177 (dk_at dksJ24_resize_7 10 rfl rfl)
theorem dJ24_resize_177 : decode cJ24_resize 177 = .ok (.ifnonnull 21, 3) := dk_199 0 21 (dk_at dksJ24_resize_7 13 rfl rfl)
theorem dJ24_resize_180 : decode cJ24_resize 180 = .ok (.aload 6, 2) := dk_25 6 (dk_at dksJ24_resize_7 16 rfl rfl)
theorem dJ24_resize_182 : decode cJ24_resize 182 = .ok (.aload 8, 2) := dk_25 8 (dk_at dksJ24_resize_7 18 rfl rfl)
theorem dJ24_resize_184 : decode cJ24_resize 184 = .ok (.getfield 168, 3) := dk_180 0 168 (dk_at dksJ24_resize_7 20 rfl rfl)
theorem dJ24_resize_187 : decode cJ24_resize 187 = .ok (.iload 4, 2) := dk_21 4 (dk_at dksJ24_resize_8 0 rfl rfl)
theorem dJ24_resize_189 : decode cJ24_resize 189 = .ok (.iconst 1, 1) := dk_4 (dk_at dksJ24_resize_8 2 rfl rfl)
theorem dJ24_resize_190 : decode cJ24_resize 190 = .ok (.isub, 1) := dk_100 (dk_at dksJ24_resize_8 3 rfl rfl)
theorem dJ24_resize_191 : decode cJ24_resize 191 = .ok (.iand, 1) := dk_126 (dk_at dksJ24_resize_8 4 rfl rfl)
theorem dJ24_resize_192 : decode cJ24_resize 192 = .ok (.aload 8, 2) := dk_25 8 (dk_at dksJ24_resize_8 5 rfl rfl)
theorem dJ24_resize_194 : decode cJ24_resize 194 = .ok (.aastore, 1) := dk_83 (dk_at dksJ24_resize_8 7 rfl rfl)
theorem dJ24_resize_195 : decode cJ24_resize 195 = .ok (.goto 152, 3) := dk_167 0 152 (dk_at dksJ24_resize_8 8 rfl rfl)
theorem dJ24_resize_198 : decode cJ24_resize 198 = .ok (.aload 8, 2) := dk_25 8 (dk_at dksJ24_resize_8 11 rfl rfl)
theorem dJ24_resize_200 : decode cJ24_resize 200 = .ok (.instanceof 180, 3) := dk_193 0 180 (dk_at dksJ24_resize_8 13 rfl rfl)
theorem dJ24_resize_203 : decode cJ24_resize 203 = .ok (.ifCond .eq 20, 3) := dk_153 0 20 (dk_at dksJ24_resize_8 16 rfl rfl)
theorem dJ24_resize_206 : decode cJ24_resize 206 = .ok (.aload 8, 2) := dk_25 8 (dk_at dksJ24_resize_8 19 rfl rfl)
theorem dJ24_resize_208 : decode cJ24_resize 208 = .ok (.checkcast 180, 3) := dk_192 0 180 (dk_at dksJ24_resize_8 21 rfl rfl)
theorem dJ24_resize_211 : decode cJ24_resize 211 = .ok (.aload_n 0, 1) := dk_42 (dk_at dksJ24_resize_9 0 rfl rfl)
theorem dJ24_resize_212 : decode cJ24_resize 212 = .ok (.aload 6, 2) := dk_25 6 (dk_at dksJ24_resize_9 1 rfl rfl)
theorem dJ24_resize_214 : decode cJ24_resize 214 = .ok (.iload 7, 2) := dk_21 7 (dk_at dksJ24_resize_9 3 rfl rfl)
theorem dJ24_resize_216 : decode cJ24_resize 216 = .ok (.iload_n 2, 1) := dk_28 (dk_at dksJ24_resize_9 5 rfl rfl)
theorem dJ24_resize_217 : decode cJ24_resize 217 = .ok (.invokevirtual 211, 3) := dk_182 0 211 (dk_at dksJ24_resize_9 6 rfl rfl)
theorem dJ24_resize_220 : decode cJ24_resize 220 = .ok (.goto 127, 3) := dk_167 0 127 (dk_at dksJ24_resize_9 9 rfl rfl)
theorem dJ24_resize_223 : decode cJ24_resize 223 = .ok (.aconst_null, 1) := dk_1 (dk_at dksJ24_resize_9 12 rfl rfl)
theorem dJ24_resize_224 : decode cJ24_resize 224 = .ok (.astore 9, 2) := dk_58 9 (dk_at dksJ24_resize_9 13 rfl rfl)
theorem dJ24_resize_226 : decode cJ24_resize 226 = .ok (.aconst_null, 1) := dk_1 (dk_at dksJ24_resize_9 15 rfl rfl)
theorem dJ24_resize_227 : decode cJ24_resize 227 = .ok (.astore 10, 2) := dk_58 10 (dk_at dksJ24_resize_9 16 rfl rfl)
theorem dJ24_resize_229 : decode cJ24_resize 229 = .ok (.aconst_null, 1) := dk_1 (dk_at dksJ24_resize_9 18 rfl rfl)
theorem dJ24_resize_230 : decode cJ24_resize 230 = .ok (.astore 11, 2) := dk_58 11 (dk_at dksJ24_resize_9 19 rfl rfl)
theorem dJ24_resize_232 : decode cJ24_resize 232 = .ok (.aconst_null, 1) := dk_1 (dk_at dksJ24_resize_9 21 rfl rfl)
theorem dJ24_resize_233 : decode cJ24_resize 233 = .ok (.astore 12, 2) := dk_58 12 (dk_at dksJ24_resize_9 22 rfl rfl)
theorem dJ24_resize_235 : decode cJ24_resize 235 = .ok (.aload 8, 2) := dk_25 8 (dk_at dksJ24_resize_10 0 rfl rfl)
theorem dJ24_resize_237 : decode cJ24_resize 237 = .ok (.getfield 177, 3) := dk_180 0 177 (dk_at dksJ24_resize_10 2 rfl rfl)
theorem dJ24_resize_240 : decode cJ24_resize 240 = .ok (.astore 13, 2) := dk_58 13 (dk_at dksJ24_resize_10 5 rfl rfl)
theorem dJ24_resize_242 : decode cJ24_resize 242 = .ok (.aload 8, 2) := dk_25 8 (dk_at dksJ24_resize_10 7 rfl rfl)
theorem dJ24_resize_244 : decode cJ24_resize 244 = .ok (.getfield 168, 3) := dk_180 0 168 (dk_at dksJ24_resize_10 9 rfl rfl)
theorem dJ24_resize_247 : decode cJ24_resize 247 = .ok (.iload_n 2, 1) := dk_28 (dk_at dksJ24_resize_10 12 rfl rfl)
theorem dJ24_resize_248 : decode cJ24_resize 248 = .ok (.iand, 1) := dk_126 (dk_at dksJ24_resize_10 13 rfl rfl)
theorem dJ24_resize_249 : decode cJ24_resize 249 = .ok (.ifCond .ne 29, 3) := dk_154 0 29 (dk_at dksJ24_resize_10 14 rfl rfl)
theorem dJ24_resize_252 : decode cJ24_resize 252 = .ok (.aload 10, 2) := dk_25 10 (dk_at dksJ24_resize_10 17 rfl rfl)
theorem dJ24_resize_254 : decode cJ24_resize 254 = .ok (.ifnonnull 10, 3) := dk_199 0 10 (dk_at dksJ24_resize_10 19 rfl rfl)
theorem dJ24_resize_257 : decode cJ24_resize 257 = .ok (.aload 8, 2) := dk_25 8 (dk_at dksJ24_resize_10 22 rfl rfl)
theorem dJ24_resize_259 : decode cJ24_resize 259 = .ok (.astore 9, 2) := dk_58 9 (dk_at dksJ24_resize_11 0 rfl rfl)
theorem dJ24_resize_261 : decode cJ24_resize 261 = .ok (.goto 10, 3) := dk_167 0 10 (dk_at dksJ24_resize_11 2 rfl rfl)
theorem dJ24_resize_264 : decode cJ24_resize 264 = .ok (.aload 10, 2) := dk_25 10 (dk_at dksJ24_resize_11 5 rfl rfl)
theorem dJ24_resize_266 : decode cJ24_resize 266 = .ok (.aload 8, 2) := dk_25 8 (dk_at dksJ24_resize_11 7 rfl rfl)
theorem dJ24_resize_268 : decode cJ24_resize 268 = .ok (.putfield 177, 3) := dk_181 0 177 (dk_at dksJ24_resize_11 9 rfl rfl)
theorem dJ24_resize_271 : decode cJ24_resize 271 = .ok (.aload 8, 2) := dk_25 8 (dk_at dksJ24_resize_11 12 rfl rfl)
theorem dJ24_resize_273 : decode cJ24_resize 273 = .ok (.astore 10, 2) := dk_58 10 (dk_at dksJ24_resize_11 14 rfl rfl)
theorem dJ24_resize_275 : decode cJ24_resize 275 = .ok (.goto 26, 3) := dk_167 0 26 (dk_at dksJ24_resize_11 16 rfl rfl)
theorem dJ24_resize_278 : decode cJ24_resize 278 = .ok (.aload 12, 2) := dk_25 12 (dk_at dksJ24_resize_11 19 rfl rfl)
theorem dJ24_resize_280 : decode cJ24_resize 280 = .ok (.ifnonnull 10, 3) := dk_199 0 10 (dk_at dksJ24_resize_11 21 rfl rfl)
theorem dJ24_resize_283 : decode cJ24_resize 283 = .ok (.aload 8, 2) := dk_25 8 (dk_at dksJ24_resize_12 0 rfl rfl)
theorem dJ24_resize_285 : decode cJ24_resize 285 = .ok (.astore 11, 2) := dk_58 11 (dk_at dksJ24_resize_12 2 rfl rfl)
theorem dJ24_resize_287 : decode cJ24_resize 287 = .ok (.goto 10, 3) := dk_167 0 10 (dk_at dksJ24_resize_12 4 rfl rfl)
theorem dJ24_resize_290 : decode cJ24_resize 290 = .ok (.aload 12, 2) := dk_25 12 (dk_at dksJ24_resize_12 7 rfl rfl)
theorem dJ24_resize_292 : decode cJ24_resize 292 = .ok (.aload 8, 2) := dk_25 8 (dk_at dksJ24_resize_12 9 rfl rfl)
theorem dJ24_resize_294 : decode cJ24_resize 294 = .ok (.putfield 177, 3) := dk_181 0 177 (dk_at dksJ24_resize_12 11 rfl rfl)
theorem dJ24_resize_297 : decode cJ24_resize 297 = .ok (.aload 8, 2) := dk_25 8 (dk_at dksJ24_resize_12 14 rfl rfl)
theorem dJ24_resize_299 : decode cJ24_resize 299 = .ok (.astore 12, 2) := dk_58 12 (dk_at dksJ24_resize_12 16 rfl rfl)
theorem dJ24_resize_301 : decode cJ24_resize 301 = .ok (.aload 13, 2) := dk_25 13 (dk_at dksJ24_resize_12 18 rfl rfl)
theorem dJ24_resize_303 : decode cJ24_resize 303 = .ok (.dup, 1) := dk_89 (dk_at dksJ24_resize_12 20 rfl rfl)
theorem dJ24_resize_304 : decode cJ24_resize 304 = .ok (.astore 8, 2) := dk_58 8 (dk_at dksJ24_resize_12 21 rfl rfl)
theorem dJ24_resize_306 : decode cJ24_resize 306 = .ok (.ifnonnull (-71), 3) := dk_199 255 185 (dk_at dksJ24_resize_13 0 rfl rfl)
theorem dJ24_resize_309 : decode cJ24_resize 309 = .ok (.aload 10, 2) := dk_25 10 (dk_at dksJ24_resize_13 3 rfl rfl)
theorem dJ24_resize_311 : decode cJ24_resize 311 = .ok (.ifnull 16, 3) := dk_198 0 16 (dk_at dksJ24_resize_13 5 rfl rfl)
theorem dJ24_resize_314 : decode cJ24_resize 314 = .ok (.aload 10, 2) := dk_25 10 (dk_at dksJ24_resize_13 8 rfl rfl)
theorem dJ24_resize_316 : decode cJ24_resize 316 = .ok (.aconst_null, 1) := dk_1 (dk_at dksJ24_resize_13 10 rfl rfl)
theorem dJ24_resize_317 : decode cJ24_resize 317 = .ok (.putfield 177, 3) := dk_181 0 177 (dk_at dksJ24_resize_13 11 rfl rfl)
theorem dJ24_resize_320 : decode cJ24_resize 320 = .ok (.aload 6, 2) := dk_25 6 (dk_at dksJ24_resize_13 14 rfl rfl)
theorem dJ24_resize_322 : decode cJ24_resize 322 = .ok (.iload 7, 2) := dk_21 7 (dk_at dksJ24_resize_13 16 rfl rfl)
theorem dJ24_resize_324 : decode cJ24_resize 324 = .ok (.aload 9, 2) := dk_25 9 (dk_at dksJ24_resize_13 18 rfl rfl)
theorem dJ24_resize_326 : decode cJ24_resize 326 = .ok (.aastore, 1) := dk_83 (dk_at dksJ24_resize_13 20 rfl rfl)
theorem dJ24_resize_327 : decode cJ24_resize 327 = .ok (.aload 12, 2) := dk_25 12 (dk_at dksJ24_resize_13 21 rfl rfl)
theorem dJ24_resize_329 : decode cJ24_resize 329 = .ok (.ifnull 18, 3) := dk_198 0 18 (dk_at dksJ24_resize_14 0 rfl rfl)
theorem dJ24_resize_332 : decode cJ24_resize 332 = .ok (.aload 12, 2) := dk_25 12 (dk_at dksJ24_resize_14 3 rfl rfl)
theorem dJ24_resize_334 : decode cJ24_resize 334 = .ok (.aconst_null, 1) := dk_1 (dk_at dksJ24_resize_14 5 rfl rfl)
theorem dJ24_resize_335 : decode cJ24_resize 335 = .ok (.putfield 177, 3) := dk_181 0 177 (dk_at dksJ24_resize_14 6 rfl rfl)
theorem dJ24_resize_338 : decode cJ24_resize 338 = .ok (.aload 6, 2) := dk_25 6 (dk_at dksJ24_resize_14 9 rfl rfl)
theorem dJ24_resize_340 : decode cJ24_resize 340 = .ok (.iload 7, 2) := dk_21 7 (dk_at dksJ24_resize_14 11 rfl rfl)
theorem dJ24_resize_342 : decode cJ24_resize 342 = .ok (.iload_n 2, 1) := dk_28 (dk_at dksJ24_resize_14 13 rfl rfl)
theorem dJ24_resize_343 : decode cJ24_resize 343 = .ok (.iadd, 1) := dk_96 (dk_at dksJ24_resize_14 14 rfl rfl)
theorem dJ24_resize_344 : decode cJ24_resize 344 = .ok (.aload 11, 2) := dk_25 11 (dk_at dksJ24_resize_14 15 rfl rfl)
theorem dJ24_resize_346 : decode cJ24_resize 346 = .ok (.aastore, 1) := dk_83 (dk_at dksJ24_resize_14 17 rfl rfl)
theorem dJ24_resize_347 : decode cJ24_resize 347 = .ok (.iinc 7 1, 3) := dk_132 7 1 (dk_at dksJ24_resize_14 18 rfl rfl)
theorem dJ24_resize_350 : decode cJ24_resize 350 = .ok (.goto (-199), 3) := dk_167 255 57 (dk_at dksJ24_resize_14 21 rfl rfl)
theorem dJ24_resize_353 : decode cJ24_resize 353 = .ok (.aload 6, 2) := dk_25 6 (dk_at dksJ24_resize_15 0 rfl rfl)
theorem dJ24_resize_355 : decode cJ24_resize 355 = .ok (.areturn, 1) := dk_176 (dk_at dksJ24_resize_15 2 rfl rfl)
abbrev cJ24_treeifyBin : ByteArray := prog_54_method_18_code
def yJ24_treeifyBin : MethodName := ⟨RJ24, "treeifyBin", "([Ljava/util/HashMap$Node;I)V"⟩
def dkwJ24_treeifyBin_4 : List UInt8 := [21, 4, 25, 6, 91, 83, 198, 0, 9, 25, 6, 43, 182, 0, 224, 177]
abbrev dktJ24_treeifyBin_4 : List UInt8 := dkwJ24_treeifyBin_4 ++ []
def dkwJ24_treeifyBin_3 : List UInt8 := [25, 7, 25, 8, 181, 0, 223, 25, 8, 58, 7, 25, 5, 180, 0, 177, 89, 58, 5, 199, 255, 209, 43]
abbrev dktJ24_treeifyBin_3 : List UInt8 := dkwJ24_treeifyBin_3 ++ dktJ24_treeifyBin_4
def dkwJ24_treeifyBin_2 : List UInt8 := [182, 0, 215, 58, 8, 25, 7, 199, 0, 10, 25, 8, 58, 6, 167, 0, 17, 25, 8, 25, 7, 181, 0, 219]
abbrev dktJ24_treeifyBin_2 : List UInt8 := dkwJ24_treeifyBin_2 ++ dktJ24_treeifyBin_3
def dkwJ24_treeifyBin_1 : List UInt8 := [100, 28, 126, 89, 54, 4, 50, 89, 58, 5, 198, 0, 75, 1, 58, 6, 1, 58, 7, 42, 25, 5, 1]
abbrev dktJ24_treeifyBin_1 : List UInt8 := dkwJ24_treeifyBin_1 ++ dktJ24_treeifyBin_2
def dkwJ24_treeifyBin_0 : List UInt8 := [43, 198, 0, 12, 43, 190, 89, 62, 16, 64, 162, 0, 11, 42, 182, 0, 117, 87, 167, 0, 91, 43, 29, 4]
abbrev dktJ24_treeifyBin_0 : List UInt8 := dkwJ24_treeifyBin_0 ++ dktJ24_treeifyBin_1
theorem dksJ24_treeifyBin_0 : cJ24_treeifyBin.data.toList.drop 0 = dktJ24_treeifyBin_0 := by decide +kernel
theorem dksJ24_treeifyBin_1 : cJ24_treeifyBin.data.toList.drop 24 = dktJ24_treeifyBin_1 := dk_seg dksJ24_treeifyBin_0 24 rfl rfl
theorem dksJ24_treeifyBin_2 : cJ24_treeifyBin.data.toList.drop 47 = dktJ24_treeifyBin_2 := dk_seg dksJ24_treeifyBin_1 23 rfl rfl
theorem dksJ24_treeifyBin_3 : cJ24_treeifyBin.data.toList.drop 71 = dktJ24_treeifyBin_3 := dk_seg dksJ24_treeifyBin_2 24 rfl rfl
theorem dksJ24_treeifyBin_4 : cJ24_treeifyBin.data.toList.drop 94 = dktJ24_treeifyBin_4 := dk_seg dksJ24_treeifyBin_3 23 rfl rfl
theorem dJ24_treeifyBin_0 : decode cJ24_treeifyBin 0 = .ok (.aload_n 1, 1) := dk_43 (dk_at dksJ24_treeifyBin_0 0 rfl rfl)
theorem dJ24_treeifyBin_1 : decode cJ24_treeifyBin 1 = .ok (.ifnull 12, 3) := dk_198 0 12 (dk_at dksJ24_treeifyBin_0 1 rfl rfl)
theorem dJ24_treeifyBin_4 : decode cJ24_treeifyBin 4 = .ok (.aload_n 1, 1) := dk_43 (dk_at dksJ24_treeifyBin_0 4 rfl rfl)
theorem dJ24_treeifyBin_5 : decode cJ24_treeifyBin 5 = .ok (.arraylength, 1) := dk_190 (dk_at dksJ24_treeifyBin_0 5 rfl rfl)
theorem dJ24_treeifyBin_6 : decode cJ24_treeifyBin 6 = .ok (.dup, 1) := dk_89 (dk_at dksJ24_treeifyBin_0 6 rfl rfl)
theorem dJ24_treeifyBin_7 : decode cJ24_treeifyBin 7 = .ok (.istore_n 3, 1) := dk_62 (dk_at dksJ24_treeifyBin_0 7 rfl rfl)
theorem dJ24_treeifyBin_8 : decode cJ24_treeifyBin 8 = .ok (.bipush 64, 2) := dk_16 64 (dk_at dksJ24_treeifyBin_0 8 rfl rfl)
theorem dJ24_treeifyBin_10 : decode cJ24_treeifyBin 10 = .ok (.if_icmp .ge 11, 3) := dk_162 0 11 (dk_at dksJ24_treeifyBin_0 10 rfl rfl)
theorem dJ24_treeifyBin_13 : decode cJ24_treeifyBin 13 = .ok (.aload_n 0, 1) := dk_42 (dk_at dksJ24_treeifyBin_0 13 rfl rfl)
theorem dJ24_treeifyBin_14 : decode cJ24_treeifyBin 14 = .ok (.invokevirtual 117, 3) := dk_182 0 117 (dk_at dksJ24_treeifyBin_0 14 rfl rfl)
theorem dJ24_treeifyBin_17 : decode cJ24_treeifyBin 17 = .ok (.pop, 1) := dk_87 (dk_at dksJ24_treeifyBin_0 17 rfl rfl)
theorem dJ24_treeifyBin_18 : decode cJ24_treeifyBin 18 = .ok (.goto 91, 3) := dk_167 0 91 (dk_at dksJ24_treeifyBin_0 18 rfl rfl)
theorem dJ24_treeifyBin_21 : decode cJ24_treeifyBin 21 = .ok (.aload_n 1, 1) := dk_43 (dk_at dksJ24_treeifyBin_0 21 rfl rfl)
theorem dJ24_treeifyBin_22 : decode cJ24_treeifyBin 22 = .ok (.iload_n 3, 1) := dk_29 (dk_at dksJ24_treeifyBin_0 22 rfl rfl)
theorem dJ24_treeifyBin_23 : decode cJ24_treeifyBin 23 = .ok (.iconst 1, 1) := dk_4 (dk_at dksJ24_treeifyBin_0 23 rfl rfl)
theorem dJ24_treeifyBin_24 : decode cJ24_treeifyBin 24 = .ok (.isub, 1) := dk_100 (dk_at dksJ24_treeifyBin_1 0 rfl rfl)
theorem dJ24_treeifyBin_25 : decode cJ24_treeifyBin 25 = .ok (.iload_n 2, 1) := dk_28 (dk_at dksJ24_treeifyBin_1 1 rfl rfl)
theorem dJ24_treeifyBin_26 : decode cJ24_treeifyBin 26 = .ok (.iand, 1) := dk_126 (dk_at dksJ24_treeifyBin_1 2 rfl rfl)
theorem dJ24_treeifyBin_27 : decode cJ24_treeifyBin 27 = .ok (.dup, 1) := dk_89 (dk_at dksJ24_treeifyBin_1 3 rfl rfl)
theorem dJ24_treeifyBin_28 : decode cJ24_treeifyBin 28 = .ok (.istore 4, 2) := dk_54 4 (dk_at dksJ24_treeifyBin_1 4 rfl rfl)
theorem dJ24_treeifyBin_30 : decode cJ24_treeifyBin 30 = .ok (.aaload, 1) := dk_50 (dk_at dksJ24_treeifyBin_1 6 rfl rfl)
theorem dJ24_treeifyBin_31 : decode cJ24_treeifyBin 31 = .ok (.dup, 1) := dk_89 (dk_at dksJ24_treeifyBin_1 7 rfl rfl)
theorem dJ24_treeifyBin_32 : decode cJ24_treeifyBin 32 = .ok (.astore 5, 2) := dk_58 5 (dk_at dksJ24_treeifyBin_1 8 rfl rfl)
theorem dJ24_treeifyBin_34 : decode cJ24_treeifyBin 34 = .ok (.ifnull 75, 3) := dk_198 0 75 (dk_at dksJ24_treeifyBin_1 10 rfl rfl)
theorem dJ24_treeifyBin_37 : decode cJ24_treeifyBin 37 = .ok (.aconst_null, 1) := dk_1 (dk_at dksJ24_treeifyBin_1 13 rfl rfl)
theorem dJ24_treeifyBin_38 : decode cJ24_treeifyBin 38 = .ok (.astore 6, 2) := dk_58 6 (dk_at dksJ24_treeifyBin_1 14 rfl rfl)
theorem dJ24_treeifyBin_40 : decode cJ24_treeifyBin 40 = .ok (.aconst_null, 1) := dk_1 (dk_at dksJ24_treeifyBin_1 16 rfl rfl)
theorem dJ24_treeifyBin_41 : decode cJ24_treeifyBin 41 = .ok (.astore 7, 2) := dk_58 7 (dk_at dksJ24_treeifyBin_1 17 rfl rfl)
theorem dJ24_treeifyBin_43 : decode cJ24_treeifyBin 43 = .ok (.aload_n 0, 1) := dk_42 (dk_at dksJ24_treeifyBin_1 19 rfl rfl)
theorem dJ24_treeifyBin_44 : decode cJ24_treeifyBin 44 = .ok (.aload 5, 2) := dk_25 5 (dk_at dksJ24_treeifyBin_1 20 rfl rfl)
theorem dJ24_treeifyBin_46 : decode cJ24_treeifyBin 46 = .ok (.aconst_null, 1) := dk_1 (dk_at dksJ24_treeifyBin_1 22 rfl rfl)
theorem dJ24_treeifyBin_47 : decode cJ24_treeifyBin 47 = .ok (.invokevirtual 215, 3) := dk_182 0 215 (dk_at dksJ24_treeifyBin_2 0 rfl rfl)
theorem dJ24_treeifyBin_50 : decode cJ24_treeifyBin 50 = .ok (.astore 8, 2) := dk_58 8 (dk_at dksJ24_treeifyBin_2 3 rfl rfl)
theorem dJ24_treeifyBin_52 : decode cJ24_treeifyBin 52 = .ok (.aload 7, 2) := dk_25 7 (dk_at dksJ24_treeifyBin_2 5 rfl rfl)
theorem dJ24_treeifyBin_54 : decode cJ24_treeifyBin 54 = .ok (.ifnonnull 10, 3) := dk_199 0 10 (dk_at dksJ24_treeifyBin_2 7 rfl rfl)
theorem dJ24_treeifyBin_57 : decode cJ24_treeifyBin 57 = .ok (.aload 8, 2) := dk_25 8 (dk_at dksJ24_treeifyBin_2 10 rfl rfl)
theorem dJ24_treeifyBin_59 : decode cJ24_treeifyBin 59 = .ok (.astore 6, 2) := dk_58 6 (dk_at dksJ24_treeifyBin_2 12 rfl rfl)
theorem dJ24_treeifyBin_61 : decode cJ24_treeifyBin 61 = .ok (.goto 17, 3) := dk_167 0 17 (dk_at dksJ24_treeifyBin_2 14 rfl rfl)
theorem dJ24_treeifyBin_64 : decode cJ24_treeifyBin 64 = .ok (.aload 8, 2) := dk_25 8 (dk_at dksJ24_treeifyBin_2 17 rfl rfl)
theorem dJ24_treeifyBin_66 : decode cJ24_treeifyBin 66 = .ok (.aload 7, 2) := dk_25 7 (dk_at dksJ24_treeifyBin_2 19 rfl rfl)
theorem dJ24_treeifyBin_68 : decode cJ24_treeifyBin 68 = .ok (.putfield 219, 3) := dk_181 0 219 (dk_at dksJ24_treeifyBin_2 21 rfl rfl)
theorem dJ24_treeifyBin_71 : decode cJ24_treeifyBin 71 = .ok (.aload 7, 2) := dk_25 7 (dk_at dksJ24_treeifyBin_3 0 rfl rfl)
theorem dJ24_treeifyBin_73 : decode cJ24_treeifyBin 73 = .ok (.aload 8, 2) := dk_25 8 (dk_at dksJ24_treeifyBin_3 2 rfl rfl)
theorem dJ24_treeifyBin_75 : decode cJ24_treeifyBin 75 = .ok (.putfield 223, 3) := dk_181 0 223 (dk_at dksJ24_treeifyBin_3 4 rfl rfl)
theorem dJ24_treeifyBin_78 : decode cJ24_treeifyBin 78 = .ok (.aload 8, 2) := dk_25 8 (dk_at dksJ24_treeifyBin_3 7 rfl rfl)
theorem dJ24_treeifyBin_80 : decode cJ24_treeifyBin 80 = .ok (.astore 7, 2) := dk_58 7 (dk_at dksJ24_treeifyBin_3 9 rfl rfl)
theorem dJ24_treeifyBin_82 : decode cJ24_treeifyBin 82 = .ok (.aload 5, 2) := dk_25 5 (dk_at dksJ24_treeifyBin_3 11 rfl rfl)
theorem dJ24_treeifyBin_84 : decode cJ24_treeifyBin 84 = .ok (.getfield 177, 3) := dk_180 0 177 (dk_at dksJ24_treeifyBin_3 13 rfl rfl)
theorem dJ24_treeifyBin_87 : decode cJ24_treeifyBin 87 = .ok (.dup, 1) := dk_89 (dk_at dksJ24_treeifyBin_3 16 rfl rfl)
theorem dJ24_treeifyBin_88 : decode cJ24_treeifyBin 88 = .ok (.astore 5, 2) := dk_58 5 (dk_at dksJ24_treeifyBin_3 17 rfl rfl)
theorem dJ24_treeifyBin_90 : decode cJ24_treeifyBin 90 = .ok (.ifnonnull (-47), 3) := dk_199 255 209 (dk_at dksJ24_treeifyBin_3 19 rfl rfl)
theorem dJ24_treeifyBin_93 : decode cJ24_treeifyBin 93 = .ok (.aload_n 1, 1) := dk_43 (dk_at dksJ24_treeifyBin_3 22 rfl rfl)
theorem dJ24_treeifyBin_94 : decode cJ24_treeifyBin 94 = .ok (.iload 4, 2) := dk_21 4 (dk_at dksJ24_treeifyBin_4 0 rfl rfl)
theorem dJ24_treeifyBin_96 : decode cJ24_treeifyBin 96 = .ok (.aload 6, 2) := dk_25 6 (dk_at dksJ24_treeifyBin_4 2 rfl rfl)
theorem dJ24_treeifyBin_98 : decode cJ24_treeifyBin 98 = .ok (.dup_x2, 1) := dk_91 (dk_at dksJ24_treeifyBin_4 4 rfl rfl)
theorem dJ24_treeifyBin_99 : decode cJ24_treeifyBin 99 = .ok (.aastore, 1) := dk_83 (dk_at dksJ24_treeifyBin_4 5 rfl rfl)
theorem dJ24_treeifyBin_100 : decode cJ24_treeifyBin 100 = .ok (.ifnull 9, 3) := dk_198 0 9 (dk_at dksJ24_treeifyBin_4 6 rfl rfl)
theorem dJ24_treeifyBin_103 : decode cJ24_treeifyBin 103 = .ok (.aload 6, 2) := dk_25 6 (dk_at dksJ24_treeifyBin_4 9 rfl rfl)
theorem dJ24_treeifyBin_105 : decode cJ24_treeifyBin 105 = .ok (.aload_n 1, 1) := dk_43 (dk_at dksJ24_treeifyBin_4 11 rfl rfl)
theorem dJ24_treeifyBin_106 : decode cJ24_treeifyBin 106 = .ok (.invokevirtual 224, 3) := dk_182 0 224 (dk_at dksJ24_treeifyBin_4 12 rfl rfl)
theorem dJ24_treeifyBin_109 : decode cJ24_treeifyBin 109 = .ok (.return_, 1) := dk_177 (dk_at dksJ24_treeifyBin_4 15 rfl rfl)
abbrev cJ25_afterNodeAccess : ByteArray := prog_62_method_10_code
def yJ25_afterNodeAccess : MethodName := ⟨RJ25, "afterNodeAccess", "(Ljava/util/HashMap$Node;)V"⟩
def dkwJ25_afterNodeAccess_11 : List UInt8 := [181, 0, 7, 42, 89, 180, 0, 68, 4, 96, 181, 0, 68, 177]
abbrev dktJ25_afterNodeAccess_11 : List UInt8 := dkwJ25_afterNodeAccess_11 ++ []
def dkwJ25_afterNodeAccess_10 : List UInt8 := [25, 4, 181, 0, 11, 167, 0, 15, 25, 4, 45, 181, 0, 14, 45, 25, 4, 181, 0, 19, 42, 25, 4]
abbrev dktJ25_afterNodeAccess_10 : List UInt8 := dkwJ25_afterNodeAccess_10 ++ dktJ25_afterNodeAccess_11
def dkwJ25_afterNodeAccess_9 : List UInt8 := [25, 5, 198, 0, 13, 25, 5, 25, 6, 181, 0, 14, 167, 0, 6, 25, 6, 78, 45, 199, 0, 12, 42]
abbrev dktJ25_afterNodeAccess_9 : List UInt8 := dkwJ25_afterNodeAccess_9 ++ dktJ25_afterNodeAccess_10
def dkwJ25_afterNodeAccess_8 : List UInt8 := [181, 0, 19, 25, 6, 199, 0, 12, 42, 25, 5, 181, 0, 11, 167, 0, 10, 25, 6, 25, 5, 181, 0, 19]
abbrev dktJ25_afterNodeAccess_8 : List UInt8 := dkwJ25_afterNodeAccess_8 ++ dktJ25_afterNodeAccess_9
def dkwJ25_afterNodeAccess_7 : List UInt8 := [43, 192, 0, 15, 58, 4, 25, 4, 180, 0, 19, 58, 5, 25, 4, 180, 0, 14, 58, 6, 25, 4, 1]
abbrev dktJ25_afterNodeAccess_7 : List UInt8 := dkwJ25_afterNodeAccess_7 ++ dktJ25_afterNodeAccess_8
def dkwJ25_afterNodeAccess_6 : List UInt8 := [181, 0, 68, 167, 0, 127, 42, 180, 0, 1, 4, 160, 0, 119, 42, 180, 0, 7, 89, 78, 43, 165, 0, 109]
abbrev dktJ25_afterNodeAccess_6 : List UInt8 := dkwJ25_afterNodeAccess_6 ++ dktJ25_afterNodeAccess_7
def dkwJ25_afterNodeAccess_5 : List UInt8 := [181, 0, 19, 44, 25, 4, 181, 0, 14, 42, 25, 4, 181, 0, 11, 42, 89, 180, 0, 68, 4, 96]
abbrev dktJ25_afterNodeAccess_5 : List UInt8 := dkwJ25_afterNodeAccess_5 ++ dktJ25_afterNodeAccess_6
def dkwJ25_afterNodeAccess_4 : List UInt8 := [167, 0, 6, 25, 5, 77, 44, 199, 0, 12, 42, 25, 4, 181, 0, 7, 167, 0, 15, 25, 4, 44]
abbrev dktJ25_afterNodeAccess_4 : List UInt8 := dkwJ25_afterNodeAccess_4 ++ dktJ25_afterNodeAccess_5
def dkwJ25_afterNodeAccess_3 : List UInt8 := [167, 0, 10, 25, 5, 25, 6, 181, 0, 14, 25, 6, 198, 0, 13, 25, 6, 25, 5, 181, 0, 19]
abbrev dktJ25_afterNodeAccess_3 : List UInt8 := dkwJ25_afterNodeAccess_3 ++ dktJ25_afterNodeAccess_4
def dkwJ25_afterNodeAccess_2 : List UInt8 := [180, 0, 14, 58, 6, 25, 4, 1, 181, 0, 14, 25, 5, 199, 0, 12, 42, 25, 6, 181, 0, 7]
abbrev dktJ25_afterNodeAccess_2 : List UInt8 := dkwJ25_afterNodeAccess_2 ++ dktJ25_afterNodeAccess_3
def dkwJ25_afterNodeAccess_1 : List UInt8 := [180, 0, 11, 89, 77, 43, 165, 0, 112, 43, 192, 0, 15, 58, 4, 25, 4, 180, 0, 19, 58, 5, 25, 4]
abbrev dktJ25_afterNodeAccess_1 : List UInt8 := dkwJ25_afterNodeAccess_1 ++ dktJ25_afterNodeAccess_2
def dkwJ25_afterNodeAccess_0 : List UInt8 := [42, 180, 0, 1, 5, 159, 0, 17, 42, 180, 0, 1, 154, 0, 129, 42, 180, 0, 64, 153, 0, 122, 42]
abbrev dktJ25_afterNodeAccess_0 : List UInt8 := dkwJ25_afterNodeAccess_0 ++ dktJ25_afterNodeAccess_1
theorem dksJ25_afterNodeAccess_0 : cJ25_afterNodeAccess.data.toList.drop 0 = dktJ25_afterNodeAccess_0 := by decide +kernel
theorem dksJ25_afterNodeAccess_1 : cJ25_afterNodeAccess.data.toList.drop 23 = dktJ25_afterNodeAccess_1 := dk_seg dksJ25_afterNodeAccess_0 23 rfl rfl
theorem dksJ25_afterNodeAccess_2 : cJ25_afterNodeAccess.data.toList.drop 47 = dktJ25_afterNodeAccess_2 := dk_seg dksJ25_afterNodeAccess_1 24 rfl rfl
theorem dksJ25_afterNodeAccess_3 : cJ25_afterNodeAccess.data.toList.drop 69 = dktJ25_afterNodeAccess_3 := dk_seg dksJ25_afterNodeAccess_2 22 rfl rfl
theorem dksJ25_afterNodeAccess_4 : cJ25_afterNodeAccess.data.toList.drop 91 = dktJ25_afterNodeAccess_4 := dk_seg dksJ25_afterNodeAccess_3 22 rfl rfl
theorem dksJ25_afterNodeAccess_5 : cJ25_afterNodeAccess.data.toList.drop 113 = dktJ25_afterNodeAccess_5 := dk_seg dksJ25_afterNodeAccess_4 22 rfl rfl
theorem dksJ25_afterNodeAccess_6 : cJ25_afterNodeAccess.data.toList.drop 135 = dktJ25_afterNodeAccess_6 := dk_seg dksJ25_afterNodeAccess_5 22 rfl rfl
theorem dksJ25_afterNodeAccess_7 : cJ25_afterNodeAccess.data.toList.drop 159 = dktJ25_afterNodeAccess_7 := dk_seg dksJ25_afterNodeAccess_6 24 rfl rfl
theorem dksJ25_afterNodeAccess_8 : cJ25_afterNodeAccess.data.toList.drop 182 = dktJ25_afterNodeAccess_8 := dk_seg dksJ25_afterNodeAccess_7 23 rfl rfl
theorem dksJ25_afterNodeAccess_9 : cJ25_afterNodeAccess.data.toList.drop 206 = dktJ25_afterNodeAccess_9 := dk_seg dksJ25_afterNodeAccess_8 24 rfl rfl
theorem dksJ25_afterNodeAccess_10 : cJ25_afterNodeAccess.data.toList.drop 229 = dktJ25_afterNodeAccess_10 := dk_seg dksJ25_afterNodeAccess_9 23 rfl rfl
theorem dksJ25_afterNodeAccess_11 : cJ25_afterNodeAccess.data.toList.drop 252 = dktJ25_afterNodeAccess_11 := dk_seg dksJ25_afterNodeAccess_10 23 rfl rfl
theorem dJ25_afterNodeAccess_0 : decode cJ25_afterNodeAccess 0 = .ok (.aload_n 0, 1) := dk_42 (dk_at dksJ25_afterNodeAccess_0 0 rfl rfl)
theorem dJ25_afterNodeAccess_1 : decode cJ25_afterNodeAccess 1 = .ok (.getfield 1, 3) := dk_180 0 1 (dk_at dksJ25_afterNodeAccess_0 1 rfl rfl)
theorem dJ25_afterNodeAccess_4 : decode cJ25_afterNodeAccess 4 = .ok (.iconst 2, 1) := dk_5 (dk_at dksJ25_afterNodeAccess_0 4 rfl rfl)
theorem dJ25_afterNodeAccess_5 : decode cJ25_afterNodeAccess 5 = .ok (.if_icmp .eq 17, 3) := dk_159 0 17 (dk_at dksJ25_afterNodeAccess_0 5 rfl rfl)
theorem dJ25_afterNodeAccess_8 : decode cJ25_afterNodeAccess 8 = .ok (.aload_n 0, 1) := dk_42 (dk_at dksJ25_afterNodeAccess_0 8 rfl rfl)
theorem dJ25_afterNodeAccess_9 : decode cJ25_afterNodeAccess 9 = .ok (.getfield 1, 3) := dk_180 0 1 (dk_at dksJ25_afterNodeAccess_0 9 rfl rfl)
theorem dJ25_afterNodeAccess_12 : decode cJ25_afterNodeAccess 12 = .ok (.ifCond .ne 129, 3) := dk_154 0 129 (dk_at dksJ25_afterNodeAccess_0 12 rfl rfl)
theorem dJ25_afterNodeAccess_15 : decode cJ25_afterNodeAccess 15 = .ok (.aload_n 0, 1) := dk_42 (dk_at dksJ25_afterNodeAccess_0 15 rfl rfl)
theorem dJ25_afterNodeAccess_16 : decode cJ25_afterNodeAccess 16 = .ok (.getfield 64, 3) := dk_180 0 64 (dk_at dksJ25_afterNodeAccess_0 16 rfl rfl)
theorem dJ25_afterNodeAccess_19 : decode cJ25_afterNodeAccess 19 = .ok (.ifCond .eq 122, 3) := dk_153 0 122 (dk_at dksJ25_afterNodeAccess_0 19 rfl rfl)
theorem dJ25_afterNodeAccess_22 : decode cJ25_afterNodeAccess 22 = .ok (.aload_n 0, 1) := dk_42 (dk_at dksJ25_afterNodeAccess_0 22 rfl rfl)
theorem dJ25_afterNodeAccess_23 : decode cJ25_afterNodeAccess 23 = .ok (.getfield 11, 3) := dk_180 0 11 (dk_at dksJ25_afterNodeAccess_1 0 rfl rfl)
theorem dJ25_afterNodeAccess_26 : decode cJ25_afterNodeAccess 26 = .ok (.dup, 1) := dk_89 (dk_at dksJ25_afterNodeAccess_1 3 rfl rfl)
theorem dJ25_afterNodeAccess_27 : decode cJ25_afterNodeAccess 27 = .ok (.astore_n 2, 1) := dk_77 (dk_at dksJ25_afterNodeAccess_1 4 rfl rfl)
theorem dJ25_afterNodeAccess_28 : decode cJ25_afterNodeAccess 28 = .ok (.aload_n 1, 1) := dk_43 (dk_at dksJ25_afterNodeAccess_1 5 rfl rfl)
theorem dJ25_afterNodeAccess_29 : decode cJ25_afterNodeAccess 29 = .ok (.if_acmp .eq 112, 3) := dk_165 0 112 (dk_at dksJ25_afterNodeAccess_1 6 rfl rfl)
theorem dJ25_afterNodeAccess_32 : decode cJ25_afterNodeAccess 32 = .ok (.aload_n 1, 1) := dk_43 (dk_at dksJ25_afterNodeAccess_1 9 rfl rfl)
theorem dJ25_afterNodeAccess_33 : decode cJ25_afterNodeAccess 33 = .ok (.checkcast 15, 3) := dk_192 0 15 (dk_at dksJ25_afterNodeAccess_1 10 rfl rfl)
theorem dJ25_afterNodeAccess_36 : decode cJ25_afterNodeAccess 36 = .ok (.astore 4, 2) := dk_58 4 (dk_at dksJ25_afterNodeAccess_1 13 rfl rfl)
theorem dJ25_afterNodeAccess_38 : decode cJ25_afterNodeAccess 38 = .ok (.aload 4, 2) := dk_25 4 (dk_at dksJ25_afterNodeAccess_1 15 rfl rfl)
theorem dJ25_afterNodeAccess_40 : decode cJ25_afterNodeAccess 40 = .ok (.getfield 19, 3) := dk_180 0 19 (dk_at dksJ25_afterNodeAccess_1 17 rfl rfl)
theorem dJ25_afterNodeAccess_43 : decode cJ25_afterNodeAccess 43 = .ok (.astore 5, 2) := dk_58 5 (dk_at dksJ25_afterNodeAccess_1 20 rfl rfl)
theorem dJ25_afterNodeAccess_45 : decode cJ25_afterNodeAccess 45 = .ok (.aload 4, 2) := dk_25 4 (dk_at dksJ25_afterNodeAccess_1 22 rfl rfl)
theorem dJ25_afterNodeAccess_47 : decode cJ25_afterNodeAccess 47 = .ok (.getfield 14, 3) := dk_180 0 14 (dk_at dksJ25_afterNodeAccess_2 0 rfl rfl)
theorem dJ25_afterNodeAccess_50 : decode cJ25_afterNodeAccess 50 = .ok (.astore 6, 2) := dk_58 6 (dk_at dksJ25_afterNodeAccess_2 3 rfl rfl)
theorem dJ25_afterNodeAccess_52 : decode cJ25_afterNodeAccess 52 = .ok (.aload 4, 2) := dk_25 4 (dk_at dksJ25_afterNodeAccess_2 5 rfl rfl)
theorem dJ25_afterNodeAccess_54 : decode cJ25_afterNodeAccess 54 = .ok (.aconst_null, 1) := dk_1 (dk_at dksJ25_afterNodeAccess_2 7 rfl rfl)
theorem dJ25_afterNodeAccess_55 : decode cJ25_afterNodeAccess 55 = .ok (.putfield 14, 3) := dk_181 0 14 (dk_at dksJ25_afterNodeAccess_2 8 rfl rfl)
theorem dJ25_afterNodeAccess_58 : decode cJ25_afterNodeAccess 58 = .ok (.aload 5, 2) := dk_25 5 (dk_at dksJ25_afterNodeAccess_2 11 rfl rfl)
theorem dJ25_afterNodeAccess_60 : decode cJ25_afterNodeAccess 60 = .ok (.ifnonnull 12, 3) := dk_199 0 12 (dk_at dksJ25_afterNodeAccess_2 13 rfl rfl)
theorem dJ25_afterNodeAccess_63 : decode cJ25_afterNodeAccess 63 = .ok (.aload_n 0, 1) := dk_42 (dk_at dksJ25_afterNodeAccess_2 16 rfl rfl)
theorem dJ25_afterNodeAccess_64 : decode cJ25_afterNodeAccess 64 = .ok (.aload 6, 2) := dk_25 6 (dk_at dksJ25_afterNodeAccess_2 17 rfl rfl)
theorem dJ25_afterNodeAccess_66 : decode cJ25_afterNodeAccess 66 = .ok (.putfield 7, 3) := dk_181 0 7 (dk_at dksJ25_afterNodeAccess_2 19 rfl rfl)
theorem dJ25_afterNodeAccess_69 : decode cJ25_afterNodeAccess 69 = .ok (.goto 10, 3) := dk_167 0 10 (dk_at dksJ25_afterNodeAccess_3 0 rfl rfl)
theorem dJ25_afterNodeAccess_72 : decode cJ25_afterNodeAccess 72 = .ok (.aload 5, 2) := dk_25 5 (dk_at dksJ25_afterNodeAccess_3 3 rfl rfl)
theorem dJ25_afterNodeAccess_74 : decode cJ25_afterNodeAccess 74 = .ok (.aload 6, 2) := dk_25 6 (dk_at dksJ25_afterNodeAccess_3 5 rfl rfl)
theorem dJ25_afterNodeAccess_76 : decode cJ25_afterNodeAccess 76 = .ok (.putfield 14, 3) := dk_181 0 14 (dk_at dksJ25_afterNodeAccess_3 7 rfl rfl)
theorem dJ25_afterNodeAccess_79 : decode cJ25_afterNodeAccess 79 = .ok (.aload 6, 2) := dk_25 6 (dk_at dksJ25_afterNodeAccess_3 10 rfl rfl)
theorem dJ25_afterNodeAccess_81 : decode cJ25_afterNodeAccess 81 = .ok (.ifnull 13, 3) := dk_198 0 13 (dk_at dksJ25_afterNodeAccess_3 12 rfl rfl)
theorem dJ25_afterNodeAccess_84 : decode cJ25_afterNodeAccess 84 = .ok (.aload 6, 2) := dk_25 6 (dk_at dksJ25_afterNodeAccess_3 15 rfl rfl)
theorem dJ25_afterNodeAccess_86 : decode cJ25_afterNodeAccess 86 = .ok (.aload 5, 2) := dk_25 5 (dk_at dksJ25_afterNodeAccess_3 17 rfl rfl)
theorem dJ25_afterNodeAccess_88 : decode cJ25_afterNodeAccess 88 = .ok (.putfield 19, 3) := dk_181 0 19 (dk_at dksJ25_afterNodeAccess_3 19 rfl rfl)
theorem dJ25_afterNodeAccess_91 : decode cJ25_afterNodeAccess 91 = .ok (.goto 6, 3) := dk_167 0 6 (dk_at dksJ25_afterNodeAccess_4 0 rfl rfl)
theorem dJ25_afterNodeAccess_94 : decode cJ25_afterNodeAccess 94 = .ok (.aload 5, 2) := dk_25 5 (dk_at dksJ25_afterNodeAccess_4 3 rfl rfl)
theorem dJ25_afterNodeAccess_96 : decode cJ25_afterNodeAccess 96 = .ok (.astore_n 2, 1) := dk_77 (dk_at dksJ25_afterNodeAccess_4 5 rfl rfl)
theorem dJ25_afterNodeAccess_97 : decode cJ25_afterNodeAccess 97 = .ok (.aload_n 2, 1) := dk_44 (dk_at dksJ25_afterNodeAccess_4 6 rfl rfl)
theorem dJ25_afterNodeAccess_98 : decode cJ25_afterNodeAccess 98 = .ok (.ifnonnull 12, 3) := dk_199 0 12 (dk_at dksJ25_afterNodeAccess_4 7 rfl rfl)
theorem dJ25_afterNodeAccess_101 : decode cJ25_afterNodeAccess 101 = .ok (.aload_n 0, 1) := dk_42 (dk_at dksJ25_afterNodeAccess_4 10 rfl rfl)
theorem dJ25_afterNodeAccess_102 : decode cJ25_afterNodeAccess 102 = .ok (.aload 4, 2) := dk_25 4 (dk_at dksJ25_afterNodeAccess_4 11 rfl rfl)
theorem dJ25_afterNodeAccess_104 : decode cJ25_afterNodeAccess 104 = .ok (.putfield 7, 3) := dk_181 0 7 (dk_at dksJ25_afterNodeAccess_4 13 rfl rfl)
theorem dJ25_afterNodeAccess_107 : decode cJ25_afterNodeAccess 107 = .ok (.goto 15, 3) := dk_167 0 15 (dk_at dksJ25_afterNodeAccess_4 16 rfl rfl)
theorem dJ25_afterNodeAccess_110 : decode cJ25_afterNodeAccess 110 = .ok (.aload 4, 2) := dk_25 4 (dk_at dksJ25_afterNodeAccess_4 19 rfl rfl)
theorem dJ25_afterNodeAccess_112 : decode cJ25_afterNodeAccess 112 = .ok (.aload_n 2, 1) := dk_44 (dk_at dksJ25_afterNodeAccess_4 21 rfl rfl)
theorem dJ25_afterNodeAccess_113 : decode cJ25_afterNodeAccess 113 = .ok (.putfield 19, 3) := dk_181 0 19 (dk_at dksJ25_afterNodeAccess_5 0 rfl rfl)
theorem dJ25_afterNodeAccess_116 : decode cJ25_afterNodeAccess 116 = .ok (.aload_n 2, 1) := dk_44 (dk_at dksJ25_afterNodeAccess_5 3 rfl rfl)
theorem dJ25_afterNodeAccess_117 : decode cJ25_afterNodeAccess 117 = .ok (.aload 4, 2) := dk_25 4 (dk_at dksJ25_afterNodeAccess_5 4 rfl rfl)
theorem dJ25_afterNodeAccess_119 : decode cJ25_afterNodeAccess 119 = .ok (.putfield 14, 3) := dk_181 0 14 (dk_at dksJ25_afterNodeAccess_5 6 rfl rfl)
theorem dJ25_afterNodeAccess_122 : decode cJ25_afterNodeAccess 122 = .ok (.aload_n 0, 1) := dk_42 (dk_at dksJ25_afterNodeAccess_5 9 rfl rfl)
theorem dJ25_afterNodeAccess_123 : decode cJ25_afterNodeAccess 123 = .ok (.aload 4, 2) := dk_25 4 (dk_at dksJ25_afterNodeAccess_5 10 rfl rfl)
theorem dJ25_afterNodeAccess_125 : decode cJ25_afterNodeAccess 125 = .ok (.putfield 11, 3) := dk_181 0 11 (dk_at dksJ25_afterNodeAccess_5 12 rfl rfl)
theorem dJ25_afterNodeAccess_128 : decode cJ25_afterNodeAccess 128 = .ok (.aload_n 0, 1) := dk_42 (dk_at dksJ25_afterNodeAccess_5 15 rfl rfl)
theorem dJ25_afterNodeAccess_129 : decode cJ25_afterNodeAccess 129 = .ok (.dup, 1) := dk_89 (dk_at dksJ25_afterNodeAccess_5 16 rfl rfl)
theorem dJ25_afterNodeAccess_130 : decode cJ25_afterNodeAccess 130 = .ok (.getfield 68, 3) := dk_180 0 68 (dk_at dksJ25_afterNodeAccess_5 17 rfl rfl)
theorem dJ25_afterNodeAccess_133 : decode cJ25_afterNodeAccess 133 = .ok (.iconst 1, 1) := dk_4 (dk_at dksJ25_afterNodeAccess_5 20 rfl rfl)
theorem dJ25_afterNodeAccess_134 : decode cJ25_afterNodeAccess 134 = .ok (.iadd, 1) := dk_96 (dk_at dksJ25_afterNodeAccess_5 21 rfl rfl)
theorem dJ25_afterNodeAccess_135 : decode cJ25_afterNodeAccess 135 = .ok (.putfield 68, 3) := dk_181 0 68 (dk_at dksJ25_afterNodeAccess_6 0 rfl rfl)
theorem dJ25_afterNodeAccess_138 : decode cJ25_afterNodeAccess 138 = .ok (.goto 127, 3) := dk_167 0 127 (dk_at dksJ25_afterNodeAccess_6 3 rfl rfl)
theorem dJ25_afterNodeAccess_141 : decode cJ25_afterNodeAccess 141 = .ok (.aload_n 0, 1) := dk_42 (dk_at dksJ25_afterNodeAccess_6 6 rfl rfl)
theorem dJ25_afterNodeAccess_142 : decode cJ25_afterNodeAccess 142 = .ok (.getfield 1, 3) := dk_180 0 1 (dk_at dksJ25_afterNodeAccess_6 7 rfl rfl)
theorem dJ25_afterNodeAccess_145 : decode cJ25_afterNodeAccess 145 = .ok (.iconst 1, 1) := dk_4 (dk_at dksJ25_afterNodeAccess_6 10 rfl rfl)
theorem dJ25_afterNodeAccess_146 : decode cJ25_afterNodeAccess 146 = .ok (.if_icmp .ne 119, 3) := dk_160 0 119 (dk_at dksJ25_afterNodeAccess_6 11 rfl rfl)
theorem dJ25_afterNodeAccess_149 : decode cJ25_afterNodeAccess 149 = .ok (.aload_n 0, 1) := dk_42 (dk_at dksJ25_afterNodeAccess_6 14 rfl rfl)
theorem dJ25_afterNodeAccess_150 : decode cJ25_afterNodeAccess 150 = .ok (.getfield 7, 3) := dk_180 0 7 (dk_at dksJ25_afterNodeAccess_6 15 rfl rfl)
theorem dJ25_afterNodeAccess_153 : decode cJ25_afterNodeAccess 153 = .ok (.dup, 1) := dk_89 (dk_at dksJ25_afterNodeAccess_6 18 rfl rfl)
theorem dJ25_afterNodeAccess_154 : decode cJ25_afterNodeAccess 154 = .ok (.astore_n 3, 1) := dk_78 (dk_at dksJ25_afterNodeAccess_6 19 rfl rfl)
theorem dJ25_afterNodeAccess_155 : decode cJ25_afterNodeAccess 155 = .ok (.aload_n 1, 1) := dk_43 (dk_at dksJ25_afterNodeAccess_6 20 rfl rfl)
theorem dJ25_afterNodeAccess_156 : decode cJ25_afterNodeAccess 156 = .ok (.if_acmp .eq 109, 3) := dk_165 0 109 (dk_at dksJ25_afterNodeAccess_6 21 rfl rfl)
theorem dJ25_afterNodeAccess_159 : decode cJ25_afterNodeAccess 159 = .ok (.aload_n 1, 1) := dk_43 (dk_at dksJ25_afterNodeAccess_7 0 rfl rfl)
theorem dJ25_afterNodeAccess_160 : decode cJ25_afterNodeAccess 160 = .ok (.checkcast 15, 3) := dk_192 0 15 (dk_at dksJ25_afterNodeAccess_7 1 rfl rfl)
theorem dJ25_afterNodeAccess_163 : decode cJ25_afterNodeAccess 163 = .ok (.astore 4, 2) := dk_58 4 (dk_at dksJ25_afterNodeAccess_7 4 rfl rfl)
theorem dJ25_afterNodeAccess_165 : decode cJ25_afterNodeAccess 165 = .ok (.aload 4, 2) := dk_25 4 (dk_at dksJ25_afterNodeAccess_7 6 rfl rfl)
theorem dJ25_afterNodeAccess_167 : decode cJ25_afterNodeAccess 167 = .ok (.getfield 19, 3) := dk_180 0 19 (dk_at dksJ25_afterNodeAccess_7 8 rfl rfl)
theorem dJ25_afterNodeAccess_170 : decode cJ25_afterNodeAccess 170 = .ok (.astore 5, 2) := dk_58 5 (dk_at dksJ25_afterNodeAccess_7 11 rfl rfl)
theorem dJ25_afterNodeAccess_172 : decode cJ25_afterNodeAccess 172 = .ok (.aload 4, 2) := dk_25 4 (dk_at dksJ25_afterNodeAccess_7 13 rfl rfl)
theorem dJ25_afterNodeAccess_174 : decode cJ25_afterNodeAccess 174 = .ok (.getfield 14, 3) := dk_180 0 14 (dk_at dksJ25_afterNodeAccess_7 15 rfl rfl)
theorem dJ25_afterNodeAccess_177 : decode cJ25_afterNodeAccess 177 = .ok (.astore 6, 2) := dk_58 6 (dk_at dksJ25_afterNodeAccess_7 18 rfl rfl)
theorem dJ25_afterNodeAccess_179 : decode cJ25_afterNodeAccess 179 = .ok (.aload 4, 2) := dk_25 4 (dk_at dksJ25_afterNodeAccess_7 20 rfl rfl)
theorem dJ25_afterNodeAccess_181 : decode cJ25_afterNodeAccess 181 = .ok (.aconst_null, 1) := dk_1 (dk_at dksJ25_afterNodeAccess_7 22 rfl rfl)
theorem dJ25_afterNodeAccess_182 : decode cJ25_afterNodeAccess 182 = .ok (.putfield 19, 3) := dk_181 0 19 (dk_at dksJ25_afterNodeAccess_8 0 rfl rfl)
theorem dJ25_afterNodeAccess_185 : decode cJ25_afterNodeAccess 185 = .ok (.aload 6, 2) := dk_25 6 (dk_at dksJ25_afterNodeAccess_8 3 rfl rfl)
theorem dJ25_afterNodeAccess_187 : decode cJ25_afterNodeAccess 187 = .ok (.ifnonnull 12, 3) := dk_199 0 12 (dk_at dksJ25_afterNodeAccess_8 5 rfl rfl)
theorem dJ25_afterNodeAccess_190 : decode cJ25_afterNodeAccess 190 = .ok (.aload_n 0, 1) := dk_42 (dk_at dksJ25_afterNodeAccess_8 8 rfl rfl)
theorem dJ25_afterNodeAccess_191 : decode cJ25_afterNodeAccess 191 = .ok (.aload 5, 2) := dk_25 5 (dk_at dksJ25_afterNodeAccess_8 9 rfl rfl)
theorem dJ25_afterNodeAccess_193 : decode cJ25_afterNodeAccess 193 = .ok (.putfield 11, 3) := dk_181 0 11 (dk_at dksJ25_afterNodeAccess_8 11 rfl rfl)
theorem dJ25_afterNodeAccess_196 : decode cJ25_afterNodeAccess 196 = .ok (.goto 10, 3) := dk_167 0 10 (dk_at dksJ25_afterNodeAccess_8 14 rfl rfl)
theorem dJ25_afterNodeAccess_199 : decode cJ25_afterNodeAccess 199 = .ok (.aload 6, 2) := dk_25 6 (dk_at dksJ25_afterNodeAccess_8 17 rfl rfl)
theorem dJ25_afterNodeAccess_201 : decode cJ25_afterNodeAccess 201 = .ok (.aload 5, 2) := dk_25 5 (dk_at dksJ25_afterNodeAccess_8 19 rfl rfl)
theorem dJ25_afterNodeAccess_203 : decode cJ25_afterNodeAccess 203 = .ok (.putfield 19, 3) := dk_181 0 19 (dk_at dksJ25_afterNodeAccess_8 21 rfl rfl)
theorem dJ25_afterNodeAccess_206 : decode cJ25_afterNodeAccess 206 = .ok (.aload 5, 2) := dk_25 5 (dk_at dksJ25_afterNodeAccess_9 0 rfl rfl)
theorem dJ25_afterNodeAccess_208 : decode cJ25_afterNodeAccess 208 = .ok (.ifnull 13, 3) := dk_198 0 13 (dk_at dksJ25_afterNodeAccess_9 2 rfl rfl)
theorem dJ25_afterNodeAccess_211 : decode cJ25_afterNodeAccess 211 = .ok (.aload 5, 2) := dk_25 5 (dk_at dksJ25_afterNodeAccess_9 5 rfl rfl)
theorem dJ25_afterNodeAccess_213 : decode cJ25_afterNodeAccess 213 = .ok (.aload 6, 2) := dk_25 6 (dk_at dksJ25_afterNodeAccess_9 7 rfl rfl)
theorem dJ25_afterNodeAccess_215 : decode cJ25_afterNodeAccess 215 = .ok (.putfield 14, 3) := dk_181 0 14 (dk_at dksJ25_afterNodeAccess_9 9 rfl rfl)
theorem dJ25_afterNodeAccess_218 : decode cJ25_afterNodeAccess 218 = .ok (.goto 6, 3) := dk_167 0 6 (dk_at dksJ25_afterNodeAccess_9 12 rfl rfl)
theorem dJ25_afterNodeAccess_221 : decode cJ25_afterNodeAccess 221 = .ok (.aload 6, 2) := dk_25 6 (dk_at dksJ25_afterNodeAccess_9 15 rfl rfl)
theorem dJ25_afterNodeAccess_223 : decode cJ25_afterNodeAccess 223 = .ok (.astore_n 3, 1) := dk_78 (dk_at dksJ25_afterNodeAccess_9 17 rfl rfl)
theorem dJ25_afterNodeAccess_224 : decode cJ25_afterNodeAccess 224 = .ok (.aload_n 3, 1) := dk_45 (dk_at dksJ25_afterNodeAccess_9 18 rfl rfl)
theorem dJ25_afterNodeAccess_225 : decode cJ25_afterNodeAccess 225 = .ok (.ifnonnull 12, 3) := dk_199 0 12 (dk_at dksJ25_afterNodeAccess_9 19 rfl rfl)
theorem dJ25_afterNodeAccess_228 : decode cJ25_afterNodeAccess 228 = .ok (.aload_n 0, 1) := dk_42 (dk_at dksJ25_afterNodeAccess_9 22 rfl rfl)
theorem dJ25_afterNodeAccess_229 : decode cJ25_afterNodeAccess 229 = .ok (.aload 4, 2) := dk_25 4 (dk_at dksJ25_afterNodeAccess_10 0 rfl rfl)
theorem dJ25_afterNodeAccess_231 : decode cJ25_afterNodeAccess 231 = .ok (.putfield 11, 3) := dk_181 0 11 (dk_at dksJ25_afterNodeAccess_10 2 rfl rfl)
theorem dJ25_afterNodeAccess_234 : decode cJ25_afterNodeAccess 234 = .ok (.goto 15, 3) := dk_167 0 15 (dk_at dksJ25_afterNodeAccess_10 5 rfl rfl)
theorem dJ25_afterNodeAccess_237 : decode cJ25_afterNodeAccess 237 = .ok (.aload 4, 2) := dk_25 4 (dk_at dksJ25_afterNodeAccess_10 8 rfl rfl)
theorem dJ25_afterNodeAccess_239 : decode cJ25_afterNodeAccess 239 = .ok (.aload_n 3, 1) := dk_45 (dk_at dksJ25_afterNodeAccess_10 10 rfl rfl)
theorem dJ25_afterNodeAccess_240 : decode cJ25_afterNodeAccess 240 = .ok (.putfield 14, 3) := dk_181 0 14 (dk_at dksJ25_afterNodeAccess_10 11 rfl rfl)
theorem dJ25_afterNodeAccess_243 : decode cJ25_afterNodeAccess 243 = .ok (.aload_n 3, 1) := dk_45 (dk_at dksJ25_afterNodeAccess_10 14 rfl rfl)
theorem dJ25_afterNodeAccess_244 : decode cJ25_afterNodeAccess 244 = .ok (.aload 4, 2) := dk_25 4 (dk_at dksJ25_afterNodeAccess_10 15 rfl rfl)
theorem dJ25_afterNodeAccess_246 : decode cJ25_afterNodeAccess 246 = .ok (.putfield 19, 3) := dk_181 0 19 (dk_at dksJ25_afterNodeAccess_10 17 rfl rfl)
theorem dJ25_afterNodeAccess_249 : decode cJ25_afterNodeAccess 249 = .ok (.aload_n 0, 1) := dk_42 (dk_at dksJ25_afterNodeAccess_10 20 rfl rfl)
theorem dJ25_afterNodeAccess_250 : decode cJ25_afterNodeAccess 250 = .ok (.aload 4, 2) := dk_25 4 (dk_at dksJ25_afterNodeAccess_10 21 rfl rfl)
theorem dJ25_afterNodeAccess_252 : decode cJ25_afterNodeAccess 252 = .ok (.putfield 7, 3) := dk_181 0 7 (dk_at dksJ25_afterNodeAccess_11 0 rfl rfl)
theorem dJ25_afterNodeAccess_255 : decode cJ25_afterNodeAccess 255 = .ok (.aload_n 0, 1) := dk_42 (dk_at dksJ25_afterNodeAccess_11 3 rfl rfl)
theorem dJ25_afterNodeAccess_256 : decode cJ25_afterNodeAccess 256 = .ok (.dup, 1) := dk_89 (dk_at dksJ25_afterNodeAccess_11 4 rfl rfl)
theorem dJ25_afterNodeAccess_257 : decode cJ25_afterNodeAccess 257 = .ok (.getfield 68, 3) := dk_180 0 68 (dk_at dksJ25_afterNodeAccess_11 5 rfl rfl)
theorem dJ25_afterNodeAccess_260 : decode cJ25_afterNodeAccess 260 = .ok (.iconst 1, 1) := dk_4 (dk_at dksJ25_afterNodeAccess_11 8 rfl rfl)
theorem dJ25_afterNodeAccess_261 : decode cJ25_afterNodeAccess 261 = .ok (.iadd, 1) := dk_96 (dk_at dksJ25_afterNodeAccess_11 9 rfl rfl)
theorem dJ25_afterNodeAccess_262 : decode cJ25_afterNodeAccess 262 = .ok (.putfield 68, 3) := dk_181 0 68 (dk_at dksJ25_afterNodeAccess_11 10 rfl rfl)
theorem dJ25_afterNodeAccess_265 : decode cJ25_afterNodeAccess 265 = .ok (.return_, 1) := dk_177 (dk_at dksJ25_afterNodeAccess_11 13 rfl rfl)
abbrev cJ25_removeEldestEntry : ByteArray := prog_62_method_23_code
def yJ25_removeEldestEntry : MethodName := ⟨RJ25, "removeEldestEntry", "(Ljava/util/Map$Entry;)Z"⟩
theorem dJ25_removeEldestEntry_0 : decode cJ25_removeEldestEntry 0 = .ok (.iconst 0, 1) := by decide +kernel
theorem dJ25_removeEldestEntry_1 : decode cJ25_removeEldestEntry 1 = .ok (.ireturn, 1) := by decide +kernel
abbrev cJ25_afterNodeInsertion : ByteArray := prog_62_method_9_code
def yJ25_afterNodeInsertion : MethodName := ⟨RJ25, "afterNodeInsertion", "(Z)V"⟩
def dkwJ25_afterNodeInsertion_1 : List UInt8 := [180, 0, 39, 78, 42, 45, 184, 0, 57, 45, 1, 3, 4, 182, 0, 60, 87, 177]
abbrev dktJ25_afterNodeInsertion_1 : List UInt8 := dkwJ25_afterNodeInsertion_1 ++ []
def dkwJ25_afterNodeInsertion_0 : List UInt8 := [27, 153, 0, 38, 42, 180, 0, 7, 89, 77, 198, 0, 29, 42, 44, 182, 0, 53, 153, 0, 21, 44]
abbrev dktJ25_afterNodeInsertion_0 : List UInt8 := dkwJ25_afterNodeInsertion_0 ++ dktJ25_afterNodeInsertion_1
theorem dksJ25_afterNodeInsertion_0 : cJ25_afterNodeInsertion.data.toList.drop 0 = dktJ25_afterNodeInsertion_0 := by decide +kernel
theorem dksJ25_afterNodeInsertion_1 : cJ25_afterNodeInsertion.data.toList.drop 22 = dktJ25_afterNodeInsertion_1 := dk_seg dksJ25_afterNodeInsertion_0 22 rfl rfl
theorem dJ25_afterNodeInsertion_0 : decode cJ25_afterNodeInsertion 0 = .ok (.iload_n 1, 1) := dk_27 (dk_at dksJ25_afterNodeInsertion_0 0 rfl rfl)
theorem dJ25_afterNodeInsertion_1 : decode cJ25_afterNodeInsertion 1 = .ok (.ifCond .eq 38, 3) := dk_153 0 38 (dk_at dksJ25_afterNodeInsertion_0 1 rfl rfl)
theorem dJ25_afterNodeInsertion_4 : decode cJ25_afterNodeInsertion 4 = .ok (.aload_n 0, 1) := dk_42 (dk_at dksJ25_afterNodeInsertion_0 4 rfl rfl)
theorem dJ25_afterNodeInsertion_5 : decode cJ25_afterNodeInsertion 5 = .ok (.getfield 7, 3) := dk_180 0 7 (dk_at dksJ25_afterNodeInsertion_0 5 rfl rfl)
theorem dJ25_afterNodeInsertion_8 : decode cJ25_afterNodeInsertion 8 = .ok (.dup, 1) := dk_89 (dk_at dksJ25_afterNodeInsertion_0 8 rfl rfl)
theorem dJ25_afterNodeInsertion_9 : decode cJ25_afterNodeInsertion 9 = .ok (.astore_n 2, 1) := dk_77 (dk_at dksJ25_afterNodeInsertion_0 9 rfl rfl)
theorem dJ25_afterNodeInsertion_10 : decode cJ25_afterNodeInsertion 10 = .ok (.ifnull 29, 3) := dk_198 0 29 (dk_at dksJ25_afterNodeInsertion_0 10 rfl rfl)
theorem dJ25_afterNodeInsertion_13 : decode cJ25_afterNodeInsertion 13 = .ok (.aload_n 0, 1) := dk_42 (dk_at dksJ25_afterNodeInsertion_0 13 rfl rfl)
theorem dJ25_afterNodeInsertion_14 : decode cJ25_afterNodeInsertion 14 = .ok (.aload_n 2, 1) := dk_44 (dk_at dksJ25_afterNodeInsertion_0 14 rfl rfl)
theorem dJ25_afterNodeInsertion_15 : decode cJ25_afterNodeInsertion 15 = .ok (.invokevirtual 53, 3) := dk_182 0 53 (dk_at dksJ25_afterNodeInsertion_0 15 rfl rfl)
theorem dJ25_afterNodeInsertion_18 : decode cJ25_afterNodeInsertion 18 = .ok (.ifCond .eq 21, 3) := dk_153 0 21 (dk_at dksJ25_afterNodeInsertion_0 18 rfl rfl)
theorem dJ25_afterNodeInsertion_21 : decode cJ25_afterNodeInsertion 21 = .ok (.aload_n 2, 1) := dk_44 (dk_at dksJ25_afterNodeInsertion_0 21 rfl rfl)
theorem dJ25_afterNodeInsertion_22 : decode cJ25_afterNodeInsertion 22 = .ok (.getfield 39, 3) := dk_180 0 39 (dk_at dksJ25_afterNodeInsertion_1 0 rfl rfl)
theorem dJ25_afterNodeInsertion_25 : decode cJ25_afterNodeInsertion 25 = .ok (.astore_n 3, 1) := dk_78 (dk_at dksJ25_afterNodeInsertion_1 3 rfl rfl)
theorem dJ25_afterNodeInsertion_26 : decode cJ25_afterNodeInsertion 26 = .ok (.aload_n 0, 1) := dk_42 (dk_at dksJ25_afterNodeInsertion_1 4 rfl rfl)
theorem dJ25_afterNodeInsertion_27 : decode cJ25_afterNodeInsertion 27 = .ok (.aload_n 3, 1) := dk_45 (dk_at dksJ25_afterNodeInsertion_1 5 rfl rfl)
theorem dJ25_afterNodeInsertion_28 : decode cJ25_afterNodeInsertion 28 = .ok (.invokestatic 57, 3) := dk_184 0 57 (dk_at dksJ25_afterNodeInsertion_1 6 rfl rfl)
theorem dJ25_afterNodeInsertion_31 : decode cJ25_afterNodeInsertion 31 = .ok (.aload_n 3, 1) := dk_45 (dk_at dksJ25_afterNodeInsertion_1 9 rfl rfl)
theorem dJ25_afterNodeInsertion_32 : decode cJ25_afterNodeInsertion 32 = .ok (.aconst_null, 1) := dk_1 (dk_at dksJ25_afterNodeInsertion_1 10 rfl rfl)
theorem dJ25_afterNodeInsertion_33 : decode cJ25_afterNodeInsertion 33 = .ok (.iconst 0, 1) := dk_3 (dk_at dksJ25_afterNodeInsertion_1 11 rfl rfl)
theorem dJ25_afterNodeInsertion_34 : decode cJ25_afterNodeInsertion 34 = .ok (.iconst 1, 1) := dk_4 (dk_at dksJ25_afterNodeInsertion_1 12 rfl rfl)
theorem dJ25_afterNodeInsertion_35 : decode cJ25_afterNodeInsertion 35 = .ok (.invokevirtual 60, 3) := dk_182 0 60 (dk_at dksJ25_afterNodeInsertion_1 13 rfl rfl)
theorem dJ25_afterNodeInsertion_38 : decode cJ25_afterNodeInsertion 38 = .ok (.pop, 1) := dk_87 (dk_at dksJ25_afterNodeInsertion_1 16 rfl rfl)
theorem dJ25_afterNodeInsertion_39 : decode cJ25_afterNodeInsertion 39 = .ok (.return_, 1) := dk_177 (dk_at dksJ25_afterNodeInsertion_1 17 rfl rfl)
abbrev cJ25_linkNodeAtEnd : ByteArray := prog_62_method_1_code
def yJ25_linkNodeAtEnd : MethodName := ⟨RJ25, "linkNodeAtEnd", "(Ljava/util/LinkedHashMap$Entry;)V"⟩
def dkwJ25_linkNodeAtEnd_3 : List UInt8 := [181, 0, 14, 177]
abbrev dktJ25_linkNodeAtEnd_3 : List UInt8 := dkwJ25_linkNodeAtEnd_3 ++ []
def dkwJ25_linkNodeAtEnd_2 : List UInt8 := [42, 43, 181, 0, 11, 44, 199, 0, 11, 42, 43, 181, 0, 7, 167, 0, 13, 43, 44, 181, 0, 19, 44, 43]
abbrev dktJ25_linkNodeAtEnd_2 : List UInt8 := dkwJ25_linkNodeAtEnd_2 ++ dktJ25_linkNodeAtEnd_3
def dkwJ25_linkNodeAtEnd_1 : List UInt8 := [181, 0, 11, 167, 0, 13, 43, 44, 181, 0, 14, 44, 43, 181, 0, 19, 167, 0, 35, 42, 180, 0, 11, 77]
abbrev dktJ25_linkNodeAtEnd_1 : List UInt8 := dkwJ25_linkNodeAtEnd_1 ++ dktJ25_linkNodeAtEnd_2
def dkwJ25_linkNodeAtEnd_0 : List UInt8 := [42, 180, 0, 1, 4, 160, 0, 38, 42, 180, 0, 7, 77, 42, 43, 181, 0, 7, 44, 199, 0, 11, 42, 43]
abbrev dktJ25_linkNodeAtEnd_0 : List UInt8 := dkwJ25_linkNodeAtEnd_0 ++ dktJ25_linkNodeAtEnd_1
theorem dksJ25_linkNodeAtEnd_0 : cJ25_linkNodeAtEnd.data.toList.drop 0 = dktJ25_linkNodeAtEnd_0 := by decide +kernel
theorem dksJ25_linkNodeAtEnd_1 : cJ25_linkNodeAtEnd.data.toList.drop 24 = dktJ25_linkNodeAtEnd_1 := dk_seg dksJ25_linkNodeAtEnd_0 24 rfl rfl
theorem dksJ25_linkNodeAtEnd_2 : cJ25_linkNodeAtEnd.data.toList.drop 48 = dktJ25_linkNodeAtEnd_2 := dk_seg dksJ25_linkNodeAtEnd_1 24 rfl rfl
theorem dksJ25_linkNodeAtEnd_3 : cJ25_linkNodeAtEnd.data.toList.drop 72 = dktJ25_linkNodeAtEnd_3 := dk_seg dksJ25_linkNodeAtEnd_2 24 rfl rfl
theorem dJ25_linkNodeAtEnd_0 : decode cJ25_linkNodeAtEnd 0 = .ok (.aload_n 0, 1) := dk_42 (dk_at dksJ25_linkNodeAtEnd_0 0 rfl rfl)
theorem dJ25_linkNodeAtEnd_1 : decode cJ25_linkNodeAtEnd 1 = .ok (.getfield 1, 3) := dk_180 0 1 (dk_at dksJ25_linkNodeAtEnd_0 1 rfl rfl)
theorem dJ25_linkNodeAtEnd_4 : decode cJ25_linkNodeAtEnd 4 = .ok (.iconst 1, 1) := dk_4 (dk_at dksJ25_linkNodeAtEnd_0 4 rfl rfl)
theorem dJ25_linkNodeAtEnd_5 : decode cJ25_linkNodeAtEnd 5 = .ok (.if_icmp .ne 38, 3) := dk_160 0 38 (dk_at dksJ25_linkNodeAtEnd_0 5 rfl rfl)
theorem dJ25_linkNodeAtEnd_8 : decode cJ25_linkNodeAtEnd 8 = .ok (.aload_n 0, 1) := dk_42 (dk_at dksJ25_linkNodeAtEnd_0 8 rfl rfl)
theorem dJ25_linkNodeAtEnd_9 : decode cJ25_linkNodeAtEnd 9 = .ok (.getfield 7, 3) := dk_180 0 7 (dk_at dksJ25_linkNodeAtEnd_0 9 rfl rfl)
theorem dJ25_linkNodeAtEnd_12 : decode cJ25_linkNodeAtEnd 12 = .ok (.astore_n 2, 1) := dk_77 (dk_at dksJ25_linkNodeAtEnd_0 12 rfl rfl)
theorem dJ25_linkNodeAtEnd_13 : decode cJ25_linkNodeAtEnd 13 = .ok (.aload_n 0, 1) := dk_42 (dk_at dksJ25_linkNodeAtEnd_0 13 rfl rfl)
theorem dJ25_linkNodeAtEnd_14 : decode cJ25_linkNodeAtEnd 14 = .ok (.aload_n 1, 1) := dk_43 (dk_at dksJ25_linkNodeAtEnd_0 14 rfl rfl)
theorem dJ25_linkNodeAtEnd_15 : decode cJ25_linkNodeAtEnd 15 = .ok (.putfield 7, 3) := dk_181 0 7 (dk_at dksJ25_linkNodeAtEnd_0 15 rfl rfl)
theorem dJ25_linkNodeAtEnd_18 : decode cJ25_linkNodeAtEnd 18 = .ok (.aload_n 2, 1) := dk_44 (dk_at dksJ25_linkNodeAtEnd_0 18 rfl rfl)
theorem dJ25_linkNodeAtEnd_19 : decode cJ25_linkNodeAtEnd 19 = .ok (.ifnonnull 11, 3) := dk_199 0 11 (dk_at dksJ25_linkNodeAtEnd_0 19 rfl rfl)
theorem dJ25_linkNodeAtEnd_22 : decode cJ25_linkNodeAtEnd 22 = .ok (.aload_n 0, 1) := dk_42 (dk_at dksJ25_linkNodeAtEnd_0 22 rfl rfl)
theorem dJ25_linkNodeAtEnd_23 : decode cJ25_linkNodeAtEnd 23 = .ok (.aload_n 1, 1) := dk_43 (dk_at dksJ25_linkNodeAtEnd_0 23 rfl rfl)
theorem dJ25_linkNodeAtEnd_24 : decode cJ25_linkNodeAtEnd 24 = .ok (.putfield 11, 3) := dk_181 0 11 (dk_at dksJ25_linkNodeAtEnd_1 0 rfl rfl)
theorem dJ25_linkNodeAtEnd_27 : decode cJ25_linkNodeAtEnd 27 = .ok (.goto 13, 3) := dk_167 0 13 (dk_at dksJ25_linkNodeAtEnd_1 3 rfl rfl)
theorem dJ25_linkNodeAtEnd_30 : decode cJ25_linkNodeAtEnd 30 = .ok (.aload_n 1, 1) := dk_43 (dk_at dksJ25_linkNodeAtEnd_1 6 rfl rfl)
theorem dJ25_linkNodeAtEnd_31 : decode cJ25_linkNodeAtEnd 31 = .ok (.aload_n 2, 1) := dk_44 (dk_at dksJ25_linkNodeAtEnd_1 7 rfl rfl)
theorem dJ25_linkNodeAtEnd_32 : decode cJ25_linkNodeAtEnd 32 = .ok (.putfield 14, 3) := dk_181 0 14 (dk_at dksJ25_linkNodeAtEnd_1 8 rfl rfl)
theorem dJ25_linkNodeAtEnd_35 : decode cJ25_linkNodeAtEnd 35 = .ok (.aload_n 2, 1) := dk_44 (dk_at dksJ25_linkNodeAtEnd_1 11 rfl rfl)
theorem dJ25_linkNodeAtEnd_36 : decode cJ25_linkNodeAtEnd 36 = .ok (.aload_n 1, 1) := dk_43 (dk_at dksJ25_linkNodeAtEnd_1 12 rfl rfl)
theorem dJ25_linkNodeAtEnd_37 : decode cJ25_linkNodeAtEnd 37 = .ok (.putfield 19, 3) := dk_181 0 19 (dk_at dksJ25_linkNodeAtEnd_1 13 rfl rfl)
theorem dJ25_linkNodeAtEnd_40 : decode cJ25_linkNodeAtEnd 40 = .ok (.goto 35, 3) := dk_167 0 35 (dk_at dksJ25_linkNodeAtEnd_1 16 rfl rfl)
theorem dJ25_linkNodeAtEnd_43 : decode cJ25_linkNodeAtEnd 43 = .ok (.aload_n 0, 1) := dk_42 (dk_at dksJ25_linkNodeAtEnd_1 19 rfl rfl)
theorem dJ25_linkNodeAtEnd_44 : decode cJ25_linkNodeAtEnd 44 = .ok (.getfield 11, 3) := dk_180 0 11 (dk_at dksJ25_linkNodeAtEnd_1 20 rfl rfl)
theorem dJ25_linkNodeAtEnd_47 : decode cJ25_linkNodeAtEnd 47 = .ok (.astore_n 2, 1) := dk_77 (dk_at dksJ25_linkNodeAtEnd_1 23 rfl rfl)
theorem dJ25_linkNodeAtEnd_48 : decode cJ25_linkNodeAtEnd 48 = .ok (.aload_n 0, 1) := dk_42 (dk_at dksJ25_linkNodeAtEnd_2 0 rfl rfl)
theorem dJ25_linkNodeAtEnd_49 : decode cJ25_linkNodeAtEnd 49 = .ok (.aload_n 1, 1) := dk_43 (dk_at dksJ25_linkNodeAtEnd_2 1 rfl rfl)
theorem dJ25_linkNodeAtEnd_50 : decode cJ25_linkNodeAtEnd 50 = .ok (.putfield 11, 3) := dk_181 0 11 (dk_at dksJ25_linkNodeAtEnd_2 2 rfl rfl)
theorem dJ25_linkNodeAtEnd_53 : decode cJ25_linkNodeAtEnd 53 = .ok (.aload_n 2, 1) := dk_44 (dk_at dksJ25_linkNodeAtEnd_2 5 rfl rfl)
theorem dJ25_linkNodeAtEnd_54 : decode cJ25_linkNodeAtEnd 54 = .ok (.ifnonnull 11, 3) := dk_199 0 11 (dk_at dksJ25_linkNodeAtEnd_2 6 rfl rfl)
theorem dJ25_linkNodeAtEnd_57 : decode cJ25_linkNodeAtEnd 57 = .ok (.aload_n 0, 1) := dk_42 (dk_at dksJ25_linkNodeAtEnd_2 9 rfl rfl)
theorem dJ25_linkNodeAtEnd_58 : decode cJ25_linkNodeAtEnd 58 = .ok (.aload_n 1, 1) := dk_43 (dk_at dksJ25_linkNodeAtEnd_2 10 rfl rfl)
theorem dJ25_linkNodeAtEnd_59 : decode cJ25_linkNodeAtEnd 59 = .ok (.putfield 7, 3) := dk_181 0 7 (dk_at dksJ25_linkNodeAtEnd_2 11 rfl rfl)
theorem dJ25_linkNodeAtEnd_62 : decode cJ25_linkNodeAtEnd 62 = .ok (.goto 13, 3) := dk_167 0 13 (dk_at dksJ25_linkNodeAtEnd_2 14 rfl rfl)
theorem dJ25_linkNodeAtEnd_65 : decode cJ25_linkNodeAtEnd 65 = .ok (.aload_n 1, 1) := dk_43 (dk_at dksJ25_linkNodeAtEnd_2 17 rfl rfl)
theorem dJ25_linkNodeAtEnd_66 : decode cJ25_linkNodeAtEnd 66 = .ok (.aload_n 2, 1) := dk_44 (dk_at dksJ25_linkNodeAtEnd_2 18 rfl rfl)
theorem dJ25_linkNodeAtEnd_67 : decode cJ25_linkNodeAtEnd 67 = .ok (.putfield 19, 3) := dk_181 0 19 (dk_at dksJ25_linkNodeAtEnd_2 19 rfl rfl)
theorem dJ25_linkNodeAtEnd_70 : decode cJ25_linkNodeAtEnd 70 = .ok (.aload_n 2, 1) := dk_44 (dk_at dksJ25_linkNodeAtEnd_2 22 rfl rfl)
theorem dJ25_linkNodeAtEnd_71 : decode cJ25_linkNodeAtEnd 71 = .ok (.aload_n 1, 1) := dk_43 (dk_at dksJ25_linkNodeAtEnd_2 23 rfl rfl)
theorem dJ25_linkNodeAtEnd_72 : decode cJ25_linkNodeAtEnd 72 = .ok (.putfield 14, 3) := dk_181 0 14 (dk_at dksJ25_linkNodeAtEnd_3 0 rfl rfl)
theorem dJ25_linkNodeAtEnd_75 : decode cJ25_linkNodeAtEnd 75 = .ok (.return_, 1) := dk_177 (dk_at dksJ25_linkNodeAtEnd_3 3 rfl rfl)
def RJ32 : String := "java/util/HashMap$Node"
abbrev cJ32_init : ByteArray := prog_58_method_1_code
def yJ32_init : MethodName := ⟨RJ32, "<init>", "(ILjava/lang/Object;Ljava/lang/Object;Ljava/util/HashMap$Node;)V"⟩
def dkwJ32_init_1 : List UInt8 := [181, 0, 20, 177]
abbrev dktJ32_init_1 : List UInt8 := dkwJ32_init_1 ++ []
def dkwJ32_init_0 : List UInt8 := [42, 183, 0, 1, 42, 27, 181, 0, 7, 42, 44, 181, 0, 13, 42, 45, 181, 0, 17, 42, 25, 4]
abbrev dktJ32_init_0 : List UInt8 := dkwJ32_init_0 ++ dktJ32_init_1
theorem dksJ32_init_0 : cJ32_init.data.toList.drop 0 = dktJ32_init_0 := by decide +kernel
theorem dksJ32_init_1 : cJ32_init.data.toList.drop 22 = dktJ32_init_1 := dk_seg dksJ32_init_0 22 rfl rfl
theorem dJ32_init_0 : decode cJ32_init 0 = .ok (.aload_n 0, 1) := dk_42 (dk_at dksJ32_init_0 0 rfl rfl)
theorem dJ32_init_1 : decode cJ32_init 1 = .ok (.invokespecial 1, 3) := dk_183 0 1 (dk_at dksJ32_init_0 1 rfl rfl)
theorem dJ32_init_4 : decode cJ32_init 4 = .ok (.aload_n 0, 1) := dk_42 (dk_at dksJ32_init_0 4 rfl rfl)
theorem dJ32_init_5 : decode cJ32_init 5 = .ok (.iload_n 1, 1) := dk_27 (dk_at dksJ32_init_0 5 rfl rfl)
theorem dJ32_init_6 : decode cJ32_init 6 = .ok (.putfield 7, 3) := dk_181 0 7 (dk_at dksJ32_init_0 6 rfl rfl)
theorem dJ32_init_9 : decode cJ32_init 9 = .ok (.aload_n 0, 1) := dk_42 (dk_at dksJ32_init_0 9 rfl rfl)
theorem dJ32_init_10 : decode cJ32_init 10 = .ok (.aload_n 2, 1) := dk_44 (dk_at dksJ32_init_0 10 rfl rfl)
theorem dJ32_init_11 : decode cJ32_init 11 = .ok (.putfield 13, 3) := dk_181 0 13 (dk_at dksJ32_init_0 11 rfl rfl)
theorem dJ32_init_14 : decode cJ32_init 14 = .ok (.aload_n 0, 1) := dk_42 (dk_at dksJ32_init_0 14 rfl rfl)
theorem dJ32_init_15 : decode cJ32_init 15 = .ok (.aload_n 3, 1) := dk_45 (dk_at dksJ32_init_0 15 rfl rfl)
theorem dJ32_init_16 : decode cJ32_init 16 = .ok (.putfield 17, 3) := dk_181 0 17 (dk_at dksJ32_init_0 16 rfl rfl)
theorem dJ32_init_19 : decode cJ32_init 19 = .ok (.aload_n 0, 1) := dk_42 (dk_at dksJ32_init_0 19 rfl rfl)
theorem dJ32_init_20 : decode cJ32_init 20 = .ok (.aload 4, 2) := dk_25 4 (dk_at dksJ32_init_0 20 rfl rfl)
theorem dJ32_init_22 : decode cJ32_init 22 = .ok (.putfield 20, 3) := dk_181 0 20 (dk_at dksJ32_init_1 0 rfl rfl)
theorem dJ32_init_25 : decode cJ32_init 25 = .ok (.return_, 1) := dk_177 (dk_at dksJ32_init_1 3 rfl rfl)
abbrev cJ33_init : ByteArray := prog_63_method_1_code
def yJ33_init : MethodName := ⟨RJ33, "<init>", "(ILjava/lang/Object;Ljava/lang/Object;Ljava/util/HashMap$Node;)V"⟩
def dkwJ33_init_0 : List UInt8 := [42, 27, 44, 45, 25, 4, 183, 0, 1, 177]
abbrev dktJ33_init_0 : List UInt8 := dkwJ33_init_0 ++ []
theorem dksJ33_init_0 : cJ33_init.data.toList.drop 0 = dktJ33_init_0 := by decide +kernel
theorem dJ33_init_0 : decode cJ33_init 0 = .ok (.aload_n 0, 1) := dk_42 (dk_at dksJ33_init_0 0 rfl rfl)
theorem dJ33_init_1 : decode cJ33_init 1 = .ok (.iload_n 1, 1) := dk_27 (dk_at dksJ33_init_0 1 rfl rfl)
theorem dJ33_init_2 : decode cJ33_init 2 = .ok (.aload_n 2, 1) := dk_44 (dk_at dksJ33_init_0 2 rfl rfl)
theorem dJ33_init_3 : decode cJ33_init 3 = .ok (.aload_n 3, 1) := dk_45 (dk_at dksJ33_init_0 3 rfl rfl)
theorem dJ33_init_4 : decode cJ33_init 4 = .ok (.aload 4, 2) := dk_25 4 (dk_at dksJ33_init_0 4 rfl rfl)
theorem dJ33_init_6 : decode cJ33_init 6 = .ok (.invokespecial 1, 3) := dk_183 0 1 (dk_at dksJ33_init_0 6 rfl rfl)
theorem dJ33_init_9 : decode cJ33_init 9 = .ok (.return_, 1) := dk_177 (dk_at dksJ33_init_0 9 rfl rfl)
abbrev cJ25_newNode : ByteArray := prog_62_method_4_code
def yJ25_newNode : MethodName := ⟨RJ25, "newNode", "(ILjava/lang/Object;Ljava/lang/Object;Ljava/util/HashMap$Node;)Ljava/util/HashMap$Node;"⟩
def dkwJ25_newNode_0 : List UInt8 := [187, 0, 15, 89, 27, 44, 45, 25, 4, 183, 0, 28, 58, 5, 42, 25, 5, 182, 0, 32, 25, 5, 176]
abbrev dktJ25_newNode_0 : List UInt8 := dkwJ25_newNode_0 ++ []
theorem dksJ25_newNode_0 : cJ25_newNode.data.toList.drop 0 = dktJ25_newNode_0 := by decide +kernel
theorem dJ25_newNode_0 : decode cJ25_newNode 0 = .ok (.new 15, 3) := dk_187 0 15 (dk_at dksJ25_newNode_0 0 rfl rfl)
theorem dJ25_newNode_3 : decode cJ25_newNode 3 = .ok (.dup, 1) := dk_89 (dk_at dksJ25_newNode_0 3 rfl rfl)
theorem dJ25_newNode_4 : decode cJ25_newNode 4 = .ok (.iload_n 1, 1) := dk_27 (dk_at dksJ25_newNode_0 4 rfl rfl)
theorem dJ25_newNode_5 : decode cJ25_newNode 5 = .ok (.aload_n 2, 1) := dk_44 (dk_at dksJ25_newNode_0 5 rfl rfl)
theorem dJ25_newNode_6 : decode cJ25_newNode 6 = .ok (.aload_n 3, 1) := dk_45 (dk_at dksJ25_newNode_0 6 rfl rfl)
theorem dJ25_newNode_7 : decode cJ25_newNode 7 = .ok (.aload 4, 2) := dk_25 4 (dk_at dksJ25_newNode_0 7 rfl rfl)
theorem dJ25_newNode_9 : decode cJ25_newNode 9 = .ok (.invokespecial 28, 3) := dk_183 0 28 (dk_at dksJ25_newNode_0 9 rfl rfl)
theorem dJ25_newNode_12 : decode cJ25_newNode 12 = .ok (.astore 5, 2) := dk_58 5 (dk_at dksJ25_newNode_0 12 rfl rfl)
theorem dJ25_newNode_14 : decode cJ25_newNode 14 = .ok (.aload_n 0, 1) := dk_42 (dk_at dksJ25_newNode_0 14 rfl rfl)
theorem dJ25_newNode_15 : decode cJ25_newNode 15 = .ok (.aload 5, 2) := dk_25 5 (dk_at dksJ25_newNode_0 15 rfl rfl)
theorem dJ25_newNode_17 : decode cJ25_newNode 17 = .ok (.invokevirtual 32, 3) := dk_182 0 32 (dk_at dksJ25_newNode_0 17 rfl rfl)
theorem dJ25_newNode_20 : decode cJ25_newNode 20 = .ok (.aload 5, 2) := dk_25 5 (dk_at dksJ25_newNode_0 20 rfl rfl)
theorem dJ25_newNode_22 : decode cJ25_newNode 22 = .ok (.areturn, 1) := dk_176 (dk_at dksJ25_newNode_0 22 rfl rfl)
abbrev cX11_equals : ByteArray := prog_4_method_2_code
def yX11_equals : MethodName := ⟨RX11, "equals", "(Ljava/lang/Object;)Z"⟩
def dkwX11_equals_2 : List UInt8 := [167, 0, 4, 3, 172]
abbrev dktX11_equals_2 : List UInt8 := dkwX11_equals_2 ++ []
def dkwX11_equals_1 : List UInt8 := [180, 0, 13, 42, 180, 0, 13, 160, 0, 18, 44, 180, 0, 16, 42, 180, 0, 16, 160, 0, 7, 4]
abbrev dktX11_equals_1 : List UInt8 := dkwX11_equals_1 ++ dktX11_equals_2
def dkwX11_equals_0 : List UInt8 := [43, 193, 0, 8, 153, 0, 45, 43, 192, 0, 8, 77, 44, 180, 0, 7, 42, 180, 0, 7, 160, 0, 29, 44]
abbrev dktX11_equals_0 : List UInt8 := dkwX11_equals_0 ++ dktX11_equals_1
theorem dksX11_equals_0 : cX11_equals.data.toList.drop 0 = dktX11_equals_0 := by decide +kernel
theorem dksX11_equals_1 : cX11_equals.data.toList.drop 24 = dktX11_equals_1 := dk_seg dksX11_equals_0 24 rfl rfl
theorem dksX11_equals_2 : cX11_equals.data.toList.drop 46 = dktX11_equals_2 := dk_seg dksX11_equals_1 22 rfl rfl
theorem dX11_equals_0 : decode cX11_equals 0 = .ok (.aload_n 1, 1) := dk_43 (dk_at dksX11_equals_0 0 rfl rfl)
theorem dX11_equals_1 : decode cX11_equals 1 = .ok (.instanceof 8, 3) := dk_193 0 8 (dk_at dksX11_equals_0 1 rfl rfl)
theorem dX11_equals_4 : decode cX11_equals 4 = .ok (.ifCond .eq 45, 3) := dk_153 0 45 (dk_at dksX11_equals_0 4 rfl rfl)
theorem dX11_equals_7 : decode cX11_equals 7 = .ok (.aload_n 1, 1) := dk_43 (dk_at dksX11_equals_0 7 rfl rfl)
theorem dX11_equals_8 : decode cX11_equals 8 = .ok (.checkcast 8, 3) := dk_192 0 8 (dk_at dksX11_equals_0 8 rfl rfl)
theorem dX11_equals_11 : decode cX11_equals 11 = .ok (.astore_n 2, 1) := dk_77 (dk_at dksX11_equals_0 11 rfl rfl)
theorem dX11_equals_12 : decode cX11_equals 12 = .ok (.aload_n 2, 1) := dk_44 (dk_at dksX11_equals_0 12 rfl rfl)
theorem dX11_equals_13 : decode cX11_equals 13 = .ok (.getfield 7, 3) := dk_180 0 7 (dk_at dksX11_equals_0 13 rfl rfl)
theorem dX11_equals_16 : decode cX11_equals 16 = .ok (.aload_n 0, 1) := dk_42 (dk_at dksX11_equals_0 16 rfl rfl)
theorem dX11_equals_17 : decode cX11_equals 17 = .ok (.getfield 7, 3) := dk_180 0 7 (dk_at dksX11_equals_0 17 rfl rfl)
theorem dX11_equals_20 : decode cX11_equals 20 = .ok (.if_icmp .ne 29, 3) := dk_160 0 29 (dk_at dksX11_equals_0 20 rfl rfl)
theorem dX11_equals_23 : decode cX11_equals 23 = .ok (.aload_n 2, 1) := dk_44 (dk_at dksX11_equals_0 23 rfl rfl)
theorem dX11_equals_24 : decode cX11_equals 24 = .ok (.getfield 13, 3) := dk_180 0 13 (dk_at dksX11_equals_1 0 rfl rfl)
theorem dX11_equals_27 : decode cX11_equals 27 = .ok (.aload_n 0, 1) := dk_42 (dk_at dksX11_equals_1 3 rfl rfl)
theorem dX11_equals_28 : decode cX11_equals 28 = .ok (.getfield 13, 3) := dk_180 0 13 (dk_at dksX11_equals_1 4 rfl rfl)
theorem dX11_equals_31 : decode cX11_equals 31 = .ok (.if_icmp .ne 18, 3) := dk_160 0 18 (dk_at dksX11_equals_1 7 rfl rfl)
theorem dX11_equals_34 : decode cX11_equals 34 = .ok (.aload_n 2, 1) := dk_44 (dk_at dksX11_equals_1 10 rfl rfl)
theorem dX11_equals_35 : decode cX11_equals 35 = .ok (.getfield 16, 3) := dk_180 0 16 (dk_at dksX11_equals_1 11 rfl rfl)
theorem dX11_equals_38 : decode cX11_equals 38 = .ok (.aload_n 0, 1) := dk_42 (dk_at dksX11_equals_1 14 rfl rfl)
theorem dX11_equals_39 : decode cX11_equals 39 = .ok (.getfield 16, 3) := dk_180 0 16 (dk_at dksX11_equals_1 15 rfl rfl)
theorem dX11_equals_42 : decode cX11_equals 42 = .ok (.if_icmp .ne 7, 3) := dk_160 0 7 (dk_at dksX11_equals_1 18 rfl rfl)
theorem dX11_equals_45 : decode cX11_equals 45 = .ok (.iconst 1, 1) := dk_4 (dk_at dksX11_equals_1 21 rfl rfl)
theorem dX11_equals_46 : decode cX11_equals 46 = .ok (.goto 4, 3) := dk_167 0 4 (dk_at dksX11_equals_2 0 rfl rfl)
theorem dX11_equals_49 : decode cX11_equals 49 = .ok (.iconst 0, 1) := dk_3 (dk_at dksX11_equals_2 3 rfl rfl)
theorem dX11_equals_50 : decode cX11_equals 50 = .ok (.ireturn, 1) := dk_172 (dk_at dksX11_equals_2 4 rfl rfl)
abbrev cX12_equals : ByteArray := prog_2_method_3_code
def yX12_equals : MethodName := ⟨RX12, "equals", "(Ljava/lang/Object;)Z"⟩
def dkwX12_equals_1 : List UInt8 := [180, 0, 13, 42, 180, 0, 13, 160, 0, 7, 4, 167, 0, 4, 3, 172]
abbrev dktX12_equals_1 : List UInt8 := dkwX12_equals_1 ++ []
def dkwX12_equals_0 : List UInt8 := [43, 193, 0, 8, 153, 0, 34, 43, 192, 0, 8, 77, 44, 180, 0, 7, 42, 180, 0, 7, 160, 0, 18, 44]
abbrev dktX12_equals_0 : List UInt8 := dkwX12_equals_0 ++ dktX12_equals_1
theorem dksX12_equals_0 : cX12_equals.data.toList.drop 0 = dktX12_equals_0 := by decide +kernel
theorem dksX12_equals_1 : cX12_equals.data.toList.drop 24 = dktX12_equals_1 := dk_seg dksX12_equals_0 24 rfl rfl
theorem dX12_equals_0 : decode cX12_equals 0 = .ok (.aload_n 1, 1) := dk_43 (dk_at dksX12_equals_0 0 rfl rfl)
theorem dX12_equals_1 : decode cX12_equals 1 = .ok (.instanceof 8, 3) := dk_193 0 8 (dk_at dksX12_equals_0 1 rfl rfl)
theorem dX12_equals_4 : decode cX12_equals 4 = .ok (.ifCond .eq 34, 3) := dk_153 0 34 (dk_at dksX12_equals_0 4 rfl rfl)
theorem dX12_equals_7 : decode cX12_equals 7 = .ok (.aload_n 1, 1) := dk_43 (dk_at dksX12_equals_0 7 rfl rfl)
theorem dX12_equals_8 : decode cX12_equals 8 = .ok (.checkcast 8, 3) := dk_192 0 8 (dk_at dksX12_equals_0 8 rfl rfl)
theorem dX12_equals_11 : decode cX12_equals 11 = .ok (.astore_n 2, 1) := dk_77 (dk_at dksX12_equals_0 11 rfl rfl)
theorem dX12_equals_12 : decode cX12_equals 12 = .ok (.aload_n 2, 1) := dk_44 (dk_at dksX12_equals_0 12 rfl rfl)
theorem dX12_equals_13 : decode cX12_equals 13 = .ok (.getfield 7, 3) := dk_180 0 7 (dk_at dksX12_equals_0 13 rfl rfl)
theorem dX12_equals_16 : decode cX12_equals 16 = .ok (.aload_n 0, 1) := dk_42 (dk_at dksX12_equals_0 16 rfl rfl)
theorem dX12_equals_17 : decode cX12_equals 17 = .ok (.getfield 7, 3) := dk_180 0 7 (dk_at dksX12_equals_0 17 rfl rfl)
theorem dX12_equals_20 : decode cX12_equals 20 = .ok (.if_icmp .ne 18, 3) := dk_160 0 18 (dk_at dksX12_equals_0 20 rfl rfl)
theorem dX12_equals_23 : decode cX12_equals 23 = .ok (.aload_n 2, 1) := dk_44 (dk_at dksX12_equals_0 23 rfl rfl)
theorem dX12_equals_24 : decode cX12_equals 24 = .ok (.getfield 13, 3) := dk_180 0 13 (dk_at dksX12_equals_1 0 rfl rfl)
theorem dX12_equals_27 : decode cX12_equals 27 = .ok (.aload_n 0, 1) := dk_42 (dk_at dksX12_equals_1 3 rfl rfl)
theorem dX12_equals_28 : decode cX12_equals 28 = .ok (.getfield 13, 3) := dk_180 0 13 (dk_at dksX12_equals_1 4 rfl rfl)
theorem dX12_equals_31 : decode cX12_equals 31 = .ok (.if_icmp .ne 7, 3) := dk_160 0 7 (dk_at dksX12_equals_1 7 rfl rfl)
theorem dX12_equals_34 : decode cX12_equals 34 = .ok (.iconst 1, 1) := dk_4 (dk_at dksX12_equals_1 10 rfl rfl)
theorem dX12_equals_35 : decode cX12_equals 35 = .ok (.goto 4, 3) := dk_167 0 4 (dk_at dksX12_equals_1 11 rfl rfl)
theorem dX12_equals_38 : decode cX12_equals 38 = .ok (.iconst 0, 1) := dk_3 (dk_at dksX12_equals_1 14 rfl rfl)
theorem dX12_equals_39 : decode cX12_equals 39 = .ok (.ireturn, 1) := dk_172 (dk_at dksX12_equals_1 15 rfl rfl)
abbrev cJ24_putVal : ByteArray := prog_54_method_16_code
def yJ24_putVal : MethodName := ⟨RJ24, "putVal", "(ILjava/lang/Object;Ljava/lang/Object;ZZ)Ljava/lang/Object;"⟩
def dkwJ24_putVal_12 : List UInt8 := [181, 0, 156, 42, 180, 0, 88, 164, 0, 8, 42, 182, 0, 117, 87, 42, 21, 5, 182, 0, 205, 1, 176]
abbrev dktJ24_putVal_12 : List UInt8 := dkwJ24_putVal_12 ++ []
def dkwJ24_putVal_11 : List UInt8 := [182, 0, 198, 25, 12, 176, 42, 89, 180, 0, 202, 4, 96, 181, 0, 202, 42, 89, 180, 0, 156, 4, 96, 90]
abbrev dktJ24_putVal_11 : List UInt8 := dkwJ24_putVal_11 ++ dktJ24_putVal_12
def dkwJ24_putVal_10 : List UInt8 := [180, 0, 162, 58, 12, 21, 4, 153, 0, 8, 25, 12, 199, 0, 9, 25, 10, 45, 181, 0, 162, 42, 25, 10]
abbrev dktJ24_putVal_10 : List UInt8 := dkwJ24_putVal_10 ++ dktJ24_putVal_11
def dkwJ24_putVal_9 : List UInt8 := [153, 0, 6, 167, 0, 13, 25, 10, 58, 7, 132, 12, 1, 167, 255, 171, 25, 10, 198, 0, 35, 25, 10]
abbrev dktJ24_putVal_9 : List UInt8 := dkwJ24_putVal_9 ++ dktJ24_putVal_10
def dkwJ24_putVal_8 : List UInt8 := [25, 10, 180, 0, 170, 89, 58, 11, 44, 165, 0, 29, 44, 198, 0, 15, 44, 25, 11, 182, 0, 173]
abbrev dktJ24_putVal_8 : List UInt8 := dkwJ24_putVal_8 ++ dktJ24_putVal_9
def dkwJ24_putVal_7 : List UInt8 := [16, 7, 161, 0, 60, 42, 25, 6, 27, 182, 0, 194, 167, 0, 50, 25, 10, 180, 0, 168, 27, 160, 0, 31]
abbrev dktJ24_putVal_7 : List UInt8 := dkwJ24_putVal_7 ++ dktJ24_putVal_8
def dkwJ24_putVal_6 : List UInt8 := [180, 0, 177, 89, 58, 10, 199, 0, 33, 25, 7, 42, 27, 44, 45, 1, 182, 0, 186, 181, 0, 177, 21, 12]
abbrev dktJ24_putVal_6 : List UInt8 := dkwJ24_putVal_6 ++ dktJ24_putVal_7
def dkwJ24_putVal_5 : List UInt8 := [192, 0, 180, 42, 25, 6, 27, 44, 45, 182, 0, 190, 58, 10, 167, 0, 94, 3, 54, 12, 25, 7]
abbrev dktJ24_putVal_5 : List UInt8 := dkwJ24_putVal_5 ++ dktJ24_putVal_6
def dkwJ24_putVal_4 : List UInt8 := [182, 0, 173, 153, 0, 10, 25, 7, 58, 10, 167, 0, 121, 25, 7, 193, 0, 180, 153, 0, 22, 25, 7]
abbrev dktJ24_putVal_4 : List UInt8 := dkwJ24_putVal_4 ++ dktJ24_putVal_5
def dkwJ24_putVal_3 : List UInt8 := [160, 0, 35, 25, 7, 180, 0, 170, 89, 58, 11, 44, 165, 0, 16, 44, 198, 0, 19, 44, 25, 11]
abbrev dktJ24_putVal_3 : List UInt8 := dkwJ24_putVal_3 ++ dktJ24_putVal_4
def dkwJ24_putVal_2 : List UInt8 := [25, 6, 21, 9, 42, 27, 44, 45, 1, 182, 0, 186, 83, 167, 0, 199, 25, 7, 180, 0, 168, 27]
abbrev dktJ24_putVal_2 : List UInt8 := dkwJ24_putVal_2 ++ dktJ24_putVal_3
def dkwJ24_putVal_1 : List UInt8 := [58, 6, 190, 54, 8, 25, 6, 21, 8, 4, 100, 27, 126, 89, 54, 9, 50, 89, 58, 7, 199, 0, 19]
abbrev dktJ24_putVal_1 : List UInt8 := dkwJ24_putVal_1 ++ dktJ24_putVal_2
def dkwJ24_putVal_0 : List UInt8 := [42, 180, 0, 105, 89, 58, 6, 198, 0, 12, 25, 6, 190, 89, 54, 8, 154, 0, 13, 42, 182, 0, 117, 89]
abbrev dktJ24_putVal_0 : List UInt8 := dkwJ24_putVal_0 ++ dktJ24_putVal_1
theorem dksJ24_putVal_0 : cJ24_putVal.data.toList.drop 0 = dktJ24_putVal_0 := by decide +kernel
theorem dksJ24_putVal_1 : cJ24_putVal.data.toList.drop 24 = dktJ24_putVal_1 := dk_seg dksJ24_putVal_0 24 rfl rfl
theorem dksJ24_putVal_2 : cJ24_putVal.data.toList.drop 47 = dktJ24_putVal_2 := dk_seg dksJ24_putVal_1 23 rfl rfl
theorem dksJ24_putVal_3 : cJ24_putVal.data.toList.drop 69 = dktJ24_putVal_3 := dk_seg dksJ24_putVal_2 22 rfl rfl
theorem dksJ24_putVal_4 : cJ24_putVal.data.toList.drop 91 = dktJ24_putVal_4 := dk_seg dksJ24_putVal_3 22 rfl rfl
theorem dksJ24_putVal_5 : cJ24_putVal.data.toList.drop 114 = dktJ24_putVal_5 := dk_seg dksJ24_putVal_4 23 rfl rfl
theorem dksJ24_putVal_6 : cJ24_putVal.data.toList.drop 136 = dktJ24_putVal_6 := dk_seg dksJ24_putVal_5 22 rfl rfl
theorem dksJ24_putVal_7 : cJ24_putVal.data.toList.drop 160 = dktJ24_putVal_7 := dk_seg dksJ24_putVal_6 24 rfl rfl
theorem dksJ24_putVal_8 : cJ24_putVal.data.toList.drop 184 = dktJ24_putVal_8 := dk_seg dksJ24_putVal_7 24 rfl rfl
theorem dksJ24_putVal_9 : cJ24_putVal.data.toList.drop 206 = dktJ24_putVal_9 := dk_seg dksJ24_putVal_8 22 rfl rfl
theorem dksJ24_putVal_10 : cJ24_putVal.data.toList.drop 229 = dktJ24_putVal_10 := dk_seg dksJ24_putVal_9 23 rfl rfl
theorem dksJ24_putVal_11 : cJ24_putVal.data.toList.drop 253 = dktJ24_putVal_11 := dk_seg dksJ24_putVal_10 24 rfl rfl
theorem dksJ24_putVal_12 : cJ24_putVal.data.toList.drop 277 = dktJ24_putVal_12 := dk_seg dksJ24_putVal_11 24 rfl rfl
theorem dJ24_putVal_0 : decode cJ24_putVal 0 = .ok (.aload_n 0, 1) := dk_42 (dk_at dksJ24_putVal_0 0 rfl rfl)
theorem dJ24_putVal_1 : decode cJ24_putVal 1 = .ok (.getfield 105, 3) := dk_180 0 105 (dk_at dksJ24_putVal_0 1 rfl rfl)
theorem dJ24_putVal_4 : decode cJ24_putVal 4 = .ok (.dup, 1) := dk_89 (dk_at dksJ24_putVal_0 4 rfl rfl)
theorem dJ24_putVal_5 : decode cJ24_putVal 5 = .ok (.astore 6, 2) := dk_58 6 (dk_at dksJ24_putVal_0 5 rfl rfl)
theorem dJ24_putVal_7 : decode cJ24_putVal 7 = .ok (.ifnull 12, 3) := dk_198 0 12 (dk_at dksJ24_putVal_0 7 rfl rfl)
theorem dJ24_putVal_10 : decode cJ24_putVal 10 = .ok (.aload 6, 2) := dk_25 6 (dk_at dksJ24_putVal_0 10 rfl rfl)
theorem dJ24_putVal_12 : decode cJ24_putVal 12 = .ok (.arraylength, 1) := dk_190 (dk_at dksJ24_putVal_0 12 rfl rfl)
theorem dJ24_putVal_13 : decode cJ24_putVal 13 = .ok (.dup, 1) := dk_89 (dk_at dksJ24_putVal_0 13 rfl rfl)
theorem dJ24_putVal_14 : decode cJ24_putVal 14 = .ok (.istore 8, 2) := dk_54 8 (dk_at dksJ24_putVal_0 14 rfl rfl)
theorem dJ24_putVal_16 : decode cJ24_putVal 16 = .ok (.ifCond .ne 13, 3) := dk_154 0 13 (dk_at dksJ24_putVal_0 16 rfl rfl)
theorem dJ24_putVal_19 : decode cJ24_putVal 19 = .ok (.aload_n 0, 1) := dk_42 (dk_at dksJ24_putVal_0 19 rfl rfl)
theorem dJ24_putVal_20 : decode cJ24_putVal 20 = .ok (.invokevirtual 117, 3) := dk_182 0 117 (dk_at dksJ24_putVal_0 20 rfl rfl)
theorem dJ24_putVal_23 : decode cJ24_putVal 23 = .ok (.dup, 1) := dk_89 (dk_at dksJ24_putVal_0 23 rfl rfl)
theorem dJ24_putVal_24 : decode cJ24_putVal 24 = .ok (.astore 6, 2) := dk_58 6 (dk_at dksJ24_putVal_1 0 rfl rfl)
theorem dJ24_putVal_26 : decode cJ24_putVal 26 = .ok (.arraylength, 1) := dk_190 (dk_at dksJ24_putVal_1 2 rfl rfl)
theorem dJ24_putVal_27 : decode cJ24_putVal 27 = .ok (.istore 8, 2) := dk_54 8 (dk_at dksJ24_putVal_1 3 rfl rfl)
theorem dJ24_putVal_29 : decode cJ24_putVal 29 = .ok (.aload 6, 2) := dk_25 6 (dk_at dksJ24_putVal_1 5 rfl rfl)
theorem dJ24_putVal_31 : decode cJ24_putVal 31 = .ok (.iload 8, 2) := dk_21 8 (dk_at dksJ24_putVal_1 7 rfl rfl)
theorem dJ24_putVal_33 : decode cJ24_putVal 33 = .ok (.iconst 1, 1) := dk_4 (dk_at dksJ24_putVal_1 9 rfl rfl)
theorem dJ24_putVal_34 : decode cJ24_putVal 34 = .ok (.isub, 1) := dk_100 (dk_at dksJ24_putVal_1 10 rfl rfl)
theorem dJ24_putVal_35 : decode cJ24_putVal 35 = .ok (.iload_n 1, 1) := dk_27 (dk_at dksJ24_putVal_1 11 rfl rfl)
theorem dJ24_putVal_36 : decode cJ24_putVal 36 = .ok (.iand, 1) := dk_126 (dk_at dksJ24_putVal_1 12 rfl rfl)
theorem dJ24_putVal_37 : decode cJ24_putVal 37 = .ok (.dup, 1) := dk_89 (dk_at dksJ24_putVal_1 13 rfl rfl)
theorem dJ24_putVal_38 : decode cJ24_putVal 38 = .ok (.istore 9, 2) := dk_54 9 (dk_at dksJ24_putVal_1 14 rfl rfl)
theorem dJ24_putVal_40 : decode cJ24_putVal 40 = .ok (.aaload, 1) := dk_50 (dk_at dksJ24_putVal_1 16 rfl rfl)
theorem dJ24_putVal_41 : decode cJ24_putVal 41 = .ok (.dup, 1) := dk_89 (dk_at dksJ24_putVal_1 17 rfl rfl)
theorem dJ24_putVal_42 : decode cJ24_putVal 42 = .ok (.astore 7, 2) := dk_58 7 (dk_at dksJ24_putVal_1 18 rfl rfl)
theorem dJ24_putVal_44 : decode cJ24_putVal 44 = .ok (.ifnonnull 19, 3) := dk_199 0 19 (dk_at dksJ24_putVal_1 20 rfl rfl)
theorem dJ24_putVal_47 : decode cJ24_putVal 47 = .ok (.aload 6, 2) := dk_25 6 (dk_at dksJ24_putVal_2 0 rfl rfl)
theorem dJ24_putVal_49 : decode cJ24_putVal 49 = .ok (.iload 9, 2) := dk_21 9 (dk_at dksJ24_putVal_2 2 rfl rfl)
theorem dJ24_putVal_51 : decode cJ24_putVal 51 = .ok (.aload_n 0, 1) := dk_42 (dk_at dksJ24_putVal_2 4 rfl rfl)
theorem dJ24_putVal_52 : decode cJ24_putVal 52 = .ok (.iload_n 1, 1) := dk_27 (dk_at dksJ24_putVal_2 5 rfl rfl)
theorem dJ24_putVal_53 : decode cJ24_putVal 53 = .ok (.aload_n 2, 1) := dk_44 (dk_at dksJ24_putVal_2 6 rfl rfl)
theorem dJ24_putVal_54 : decode cJ24_putVal 54 = .ok (.aload_n 3, 1) := dk_45 (dk_at dksJ24_putVal_2 7 rfl rfl)
theorem dJ24_putVal_55 : decode cJ24_putVal 55 = .ok (.aconst_null, 1) := dk_1 (dk_at dksJ24_putVal_2 8 rfl rfl)
theorem dJ24_putVal_56 : decode cJ24_putVal 56 = .ok (.invokevirtual 186, 3) := dk_182 0 186 (dk_at dksJ24_putVal_2 9 rfl rfl)
theorem dJ24_putVal_59 : decode cJ24_putVal 59 = .ok (.aastore, 1) := dk_83 (dk_at dksJ24_putVal_2 12 rfl rfl)
theorem dJ24_putVal_60 : decode cJ24_putVal 60 = .ok (.goto 199, 3) := dk_167 0 199 (dk_at dksJ24_putVal_2 13 rfl rfl)
theorem dJ24_putVal_63 : decode cJ24_putVal 63 = .ok (.aload 7, 2) := dk_25 7 (dk_at dksJ24_putVal_2 16 rfl rfl)
theorem dJ24_putVal_65 : decode cJ24_putVal 65 = .ok (.getfield 168, 3) := dk_180 0 168 (dk_at dksJ24_putVal_2 18 rfl rfl)
theorem dJ24_putVal_68 : decode cJ24_putVal 68 = .ok (.iload_n 1, 1) := dk_27 (dk_at dksJ24_putVal_2 21 rfl rfl)
theorem dJ24_putVal_69 : decode cJ24_putVal 69 = .ok (.if_icmp .ne 35, 3) := dk_160 0 35 (dk_at dksJ24_putVal_3 0 rfl rfl)
theorem dJ24_putVal_72 : decode cJ24_putVal 72 = .ok (.aload 7, 2) := dk_25 7 (dk_at dksJ24_putVal_3 3 rfl rfl)
theorem dJ24_putVal_74 : decode cJ24_putVal 74 = .ok (.getfield 170, 3) := dk_180 0 170 (dk_at dksJ24_putVal_3 5 rfl rfl)
theorem dJ24_putVal_77 : decode cJ24_putVal 77 = .ok (.dup, 1) := dk_89 (dk_at dksJ24_putVal_3 8 rfl rfl)
theorem dJ24_putVal_78 : decode cJ24_putVal 78 = .ok (.astore 11, 2) := dk_58 11 (dk_at dksJ24_putVal_3 9 rfl rfl)
theorem dJ24_putVal_80 : decode cJ24_putVal 80 = .ok (.aload_n 2, 1) := dk_44 (dk_at dksJ24_putVal_3 11 rfl rfl)
theorem dJ24_putVal_81 : decode cJ24_putVal 81 = .ok (.if_acmp .eq 16, 3) := dk_165 0 16 (dk_at dksJ24_putVal_3 12 rfl rfl)
theorem dJ24_putVal_84 : decode cJ24_putVal 84 = .ok (.aload_n 2, 1) := dk_44 (dk_at dksJ24_putVal_3 15 rfl rfl)
theorem dJ24_putVal_85 : decode cJ24_putVal 85 = .ok (.ifnull 19, 3) := dk_198 0 19 (dk_at dksJ24_putVal_3 16 rfl rfl)
theorem dJ24_putVal_88 : decode cJ24_putVal 88 = .ok (.aload_n 2, 1) := dk_44 (dk_at dksJ24_putVal_3 19 rfl rfl)
theorem dJ24_putVal_89 : decode cJ24_putVal 89 = .ok (.aload 11, 2) := dk_25 11 (dk_at dksJ24_putVal_3 20 rfl rfl)
theorem dJ24_putVal_91 : decode cJ24_putVal 91 = .ok (.invokevirtual 173, 3) := dk_182 0 173 (dk_at dksJ24_putVal_4 0 rfl rfl)
theorem dJ24_putVal_94 : decode cJ24_putVal 94 = .ok (.ifCond .eq 10, 3) := dk_153 0 10 (dk_at dksJ24_putVal_4 3 rfl rfl)
theorem dJ24_putVal_97 : decode cJ24_putVal 97 = .ok (.aload 7, 2) := dk_25 7 (dk_at dksJ24_putVal_4 6 rfl rfl)
theorem dJ24_putVal_99 : decode cJ24_putVal 99 = .ok (.astore 10, 2) := dk_58 10 (dk_at dksJ24_putVal_4 8 rfl rfl)
theorem dJ24_putVal_101 : decode cJ24_putVal 101 = .ok (.goto 121, 3) := dk_167 0 121 (dk_at dksJ24_putVal_4 10 rfl rfl)
theorem dJ24_putVal_104 : decode cJ24_putVal 104 = .ok (.aload 7, 2) := dk_25 7 (dk_at dksJ24_putVal_4 13 rfl rfl)
theorem dJ24_putVal_106 : decode cJ24_putVal 106 = .ok (.instanceof 180, 3) := dk_193 0 180 (dk_at dksJ24_putVal_4 15 rfl rfl)
theorem dJ24_putVal_109 : decode cJ24_putVal 109 = .ok (.ifCond .eq 22, 3) := dk_153 0 22 (dk_at dksJ24_putVal_4 18 rfl rfl)
theorem dJ24_putVal_112 : decode cJ24_putVal 112 = .ok (.aload 7, 2) := dk_25 7 (dk_at dksJ24_putVal_4 21 rfl rfl)
theorem dJ24_putVal_114 : decode cJ24_putVal 114 = .ok (.checkcast 180, 3) := dk_192 0 180 (dk_at dksJ24_putVal_5 0 rfl rfl)
theorem dJ24_putVal_117 : decode cJ24_putVal 117 = .ok (.aload_n 0, 1) := dk_42 (dk_at dksJ24_putVal_5 3 rfl rfl)
theorem dJ24_putVal_118 : decode cJ24_putVal 118 = .ok (.aload 6, 2) := dk_25 6 (dk_at dksJ24_putVal_5 4 rfl rfl)
theorem dJ24_putVal_120 : decode cJ24_putVal 120 = .ok (.iload_n 1, 1) := dk_27 (dk_at dksJ24_putVal_5 6 rfl rfl)
theorem dJ24_putVal_121 : decode cJ24_putVal 121 = .ok (.aload_n 2, 1) := dk_44 (dk_at dksJ24_putVal_5 7 rfl rfl)
theorem dJ24_putVal_122 : decode cJ24_putVal 122 = .ok (.aload_n 3, 1) := dk_45 (dk_at dksJ24_putVal_5 8 rfl rfl)
theorem dJ24_putVal_123 : decode cJ24_putVal 123 = .ok (.invokevirtual 190, 3) := dk_182 0 190 (dk_at dksJ24_putVal_5 9 rfl rfl)
theorem dJ24_putVal_126 : decode cJ24_putVal 126 = .ok (.astore 10, 2) := dk_58 10 (dk_at dksJ24_putVal_5 12 rfl rfl)
theorem dJ24_putVal_128 : decode cJ24_putVal 128 = .ok (.goto 94, 3) := dk_167 0 94 (dk_at dksJ24_putVal_5 14 rfl rfl)
theorem dJ24_putVal_131 : decode cJ24_putVal 131 = .ok (.iconst 0, 1) := dk_3 (dk_at dksJ24_putVal_5 17 rfl rfl)
theorem dJ24_putVal_132 : decode cJ24_putVal 132 = .ok (.istore 12, 2) := dk_54 12 (dk_at dksJ24_putVal_5 18 rfl rfl)
theorem dJ24_putVal_134 : decode cJ24_putVal 134 = .ok (.aload 7, 2) := dk_25 7 (dk_at dksJ24_putVal_5 20 rfl rfl)
theorem dJ24_putVal_136 : decode cJ24_putVal 136 = .ok (.getfield 177, 3) := dk_180 0 177 (dk_at dksJ24_putVal_6 0 rfl rfl)
theorem dJ24_putVal_139 : decode cJ24_putVal 139 = .ok (.dup, 1) := dk_89 (dk_at dksJ24_putVal_6 3 rfl rfl)
theorem dJ24_putVal_140 : decode cJ24_putVal 140 = .ok (.astore 10, 2) := dk_58 10 (dk_at dksJ24_putVal_6 4 rfl rfl)
theorem dJ24_putVal_142 : decode cJ24_putVal 142 = .ok (.ifnonnull 33, 3) := dk_199 0 33 (dk_at dksJ24_putVal_6 6 rfl rfl)
theorem dJ24_putVal_145 : decode cJ24_putVal 145 = .ok (.aload 7, 2) := dk_25 7 (dk_at dksJ24_putVal_6 9 rfl rfl)
theorem dJ24_putVal_147 : decode cJ24_putVal 147 = .ok (.aload_n 0, 1) := dk_42 (dk_at dksJ24_putVal_6 11 rfl rfl)
theorem dJ24_putVal_148 : decode cJ24_putVal 148 = .ok (.iload_n 1, 1) := dk_27 (dk_at dksJ24_putVal_6 12 rfl rfl)
theorem dJ24_putVal_149 : decode cJ24_putVal 149 = .ok (.aload_n 2, 1) := dk_44 (dk_at dksJ24_putVal_6 13 rfl rfl)
theorem dJ24_putVal_150 : decode cJ24_putVal 150 = .ok (.aload_n 3, 1) := dk_45 (dk_at dksJ24_putVal_6 14 rfl rfl)
theorem dJ24_putVal_151 : decode cJ24_putVal 151 = .ok (.aconst_null, 1) := dk_1 (dk_at dksJ24_putVal_6 15 rfl rfl)
theorem dJ24_putVal_152 : decode cJ24_putVal 152 = .ok (.invokevirtual 186, 3) := dk_182 0 186 (dk_at dksJ24_putVal_6 16 rfl rfl)
theorem dJ24_putVal_155 : decode cJ24_putVal 155 = .ok (.putfield 177, 3) := dk_181 0 177 (dk_at dksJ24_putVal_6 19 rfl rfl)
theorem dJ24_putVal_158 : decode cJ24_putVal 158 = .ok (.iload 12, 2) := dk_21 12 (dk_at dksJ24_putVal_6 22 rfl rfl)
theorem dJ24_putVal_160 : decode cJ24_putVal 160 = .ok (.bipush 7, 2) := dk_16 7 (dk_at dksJ24_putVal_7 0 rfl rfl)
theorem dJ24_putVal_162 : decode cJ24_putVal 162 = .ok (.if_icmp .lt 60, 3) := dk_161 0 60 (dk_at dksJ24_putVal_7 2 rfl rfl)
theorem dJ24_putVal_165 : decode cJ24_putVal 165 = .ok (.aload_n 0, 1) := dk_42 (dk_at dksJ24_putVal_7 5 rfl rfl)
theorem dJ24_putVal_166 : decode cJ24_putVal 166 = .ok (.aload 6, 2) := dk_25 6 (dk_at dksJ24_putVal_7 6 rfl rfl)
theorem dJ24_putVal_168 : decode cJ24_putVal 168 = .ok (.iload_n 1, 1) := dk_27 (dk_at dksJ24_putVal_7 8 rfl rfl)
theorem dJ24_putVal_169 : decode cJ24_putVal 169 = .ok (.invokevirtual 194, 3) := dk_182 0 194 (dk_at dksJ24_putVal_7 9 rfl rfl)
theorem dJ24_putVal_172 : decode cJ24_putVal 172 = .ok (.goto 50, 3) := dk_167 0 50 (dk_at dksJ24_putVal_7 12 rfl rfl)
theorem dJ24_putVal_175 : decode cJ24_putVal 175 = .ok (.aload 10, 2) := dk_25 10 (dk_at dksJ24_putVal_7 15 rfl rfl)
theorem dJ24_putVal_177 : decode cJ24_putVal 177 = .ok (.getfield 168, 3) := dk_180 0 168 (dk_at dksJ24_putVal_7 17 rfl rfl)
theorem dJ24_putVal_180 : decode cJ24_putVal 180 = .ok (.iload_n 1, 1) := dk_27 (dk_at dksJ24_putVal_7 20 rfl rfl)
theorem dJ24_putVal_181 : decode cJ24_putVal 181 = .ok (.if_icmp .ne 31, 3) := dk_160 0 31 (dk_at dksJ24_putVal_7 21 rfl rfl)
theorem dJ24_putVal_184 : decode cJ24_putVal 184 = .ok (.aload 10, 2) := dk_25 10 (dk_at dksJ24_putVal_8 0 rfl rfl)
theorem dJ24_putVal_186 : decode cJ24_putVal 186 = .ok (.getfield 170, 3) := dk_180 0 170 (dk_at dksJ24_putVal_8 2 rfl rfl)
theorem dJ24_putVal_189 : decode cJ24_putVal 189 = .ok (.dup, 1) := dk_89 (dk_at dksJ24_putVal_8 5 rfl rfl)
theorem dJ24_putVal_190 : decode cJ24_putVal 190 = .ok (.astore 11, 2) := dk_58 11 (dk_at dksJ24_putVal_8 6 rfl rfl)
theorem dJ24_putVal_192 : decode cJ24_putVal 192 = .ok (.aload_n 2, 1) := dk_44 (dk_at dksJ24_putVal_8 8 rfl rfl)
theorem dJ24_putVal_193 : decode cJ24_putVal 193 = .ok (.if_acmp .eq 29, 3) := dk_165 0 29 (dk_at dksJ24_putVal_8 9 rfl rfl)
theorem dJ24_putVal_196 : decode cJ24_putVal 196 = .ok (.aload_n 2, 1) := dk_44 (dk_at dksJ24_putVal_8 12 rfl rfl)
theorem dJ24_putVal_197 : decode cJ24_putVal 197 = .ok (.ifnull 15, 3) := dk_198 0 15 (dk_at dksJ24_putVal_8 13 rfl rfl)
theorem dJ24_putVal_200 : decode cJ24_putVal 200 = .ok (.aload_n 2, 1) := dk_44 (dk_at dksJ24_putVal_8 16 rfl rfl)
theorem dJ24_putVal_201 : decode cJ24_putVal 201 = .ok (.aload 11, 2) := dk_25 11 (dk_at dksJ24_putVal_8 17 rfl rfl)
theorem dJ24_putVal_203 : decode cJ24_putVal 203 = .ok (.invokevirtual 173, 3) := dk_182 0 173 (dk_at dksJ24_putVal_8 19 rfl rfl)
theorem dJ24_putVal_206 : decode cJ24_putVal 206 = .ok (.ifCond .eq 6, 3) := dk_153 0 6 (dk_at dksJ24_putVal_9 0 rfl rfl)
theorem dJ24_putVal_209 : decode cJ24_putVal 209 = .ok (.goto 13, 3) := dk_167 0 13 (dk_at dksJ24_putVal_9 3 rfl rfl)
theorem dJ24_putVal_212 : decode cJ24_putVal 212 = .ok (.aload 10, 2) := dk_25 10 (dk_at dksJ24_putVal_9 6 rfl rfl)
theorem dJ24_putVal_214 : decode cJ24_putVal 214 = .ok (.astore 7, 2) := dk_58 7 (dk_at dksJ24_putVal_9 8 rfl rfl)
theorem dJ24_putVal_216 : decode cJ24_putVal 216 = .ok (.iinc 12 1, 3) := dk_132 12 1 (dk_at dksJ24_putVal_9 10 rfl rfl)
theorem dJ24_putVal_219 : decode cJ24_putVal 219 = .ok (.goto (-85), 3) := dk_167 255 171 (dk_at dksJ24_putVal_9 13 rfl rfl)
theorem dJ24_putVal_222 : decode cJ24_putVal 222 = .ok (.aload 10, 2) := dk_25 10 (dk_at dksJ24_putVal_9 16 rfl rfl)
theorem dJ24_putVal_224 : decode cJ24_putVal 224 = .ok (.ifnull 35, 3) := dk_198 0 35 (dk_at dksJ24_putVal_9 18 rfl rfl)
theorem dJ24_putVal_227 : decode cJ24_putVal 227 = .ok (.aload 10, 2) := dk_25 10 (dk_at dksJ24_putVal_9 21 rfl rfl)
theorem dJ24_putVal_229 : decode cJ24_putVal 229 = .ok (.getfield 162, 3) := dk_180 0 162 (dk_at dksJ24_putVal_10 0 rfl rfl)
theorem dJ24_putVal_232 : decode cJ24_putVal 232 = .ok (.astore 12, 2) := dk_58 12 (dk_at dksJ24_putVal_10 3 rfl rfl)
theorem dJ24_putVal_234 : decode cJ24_putVal 234 = .ok (.iload 4, 2) := dk_21 4 (dk_at dksJ24_putVal_10 5 rfl rfl)
theorem dJ24_putVal_236 : decode cJ24_putVal 236 = .ok (.ifCond .eq 8, 3) := dk_153 0 8 (dk_at dksJ24_putVal_10 7 rfl rfl)
theorem dJ24_putVal_239 : decode cJ24_putVal 239 = .ok (.aload 12, 2) := dk_25 12 (dk_at dksJ24_putVal_10 10 rfl rfl)
theorem dJ24_putVal_241 : decode cJ24_putVal 241 = .ok (.ifnonnull 9, 3) := dk_199 0 9 (dk_at dksJ24_putVal_10 12 rfl rfl)
theorem dJ24_putVal_244 : decode cJ24_putVal 244 = .ok (.aload 10, 2) := dk_25 10 (dk_at dksJ24_putVal_10 15 rfl rfl)
theorem dJ24_putVal_246 : decode cJ24_putVal 246 = .ok (.aload_n 3, 1) := dk_45 (dk_at dksJ24_putVal_10 17 rfl rfl)
theorem dJ24_putVal_247 : decode cJ24_putVal 247 = .ok (.putfield 162, 3) := dk_181 0 162 (dk_at dksJ24_putVal_10 18 rfl rfl)
theorem dJ24_putVal_250 : decode cJ24_putVal 250 = .ok (.aload_n 0, 1) := dk_42 (dk_at dksJ24_putVal_10 21 rfl rfl)
theorem dJ24_putVal_251 : decode cJ24_putVal 251 = .ok (.aload 10, 2) := dk_25 10 (dk_at dksJ24_putVal_10 22 rfl rfl)
theorem dJ24_putVal_253 : decode cJ24_putVal 253 = .ok (.invokevirtual 198, 3) := dk_182 0 198 (dk_at dksJ24_putVal_11 0 rfl rfl)
theorem dJ24_putVal_256 : decode cJ24_putVal 256 = .ok (.aload 12, 2) := dk_25 12 (dk_at dksJ24_putVal_11 3 rfl rfl)
theorem dJ24_putVal_258 : decode cJ24_putVal 258 = .ok (.areturn, 1) := dk_176 (dk_at dksJ24_putVal_11 5 rfl rfl)
theorem dJ24_putVal_259 : decode cJ24_putVal 259 = .ok (.aload_n 0, 1) := dk_42 (dk_at dksJ24_putVal_11 6 rfl rfl)
theorem dJ24_putVal_260 : decode cJ24_putVal 260 = .ok (.dup, 1) := dk_89 (dk_at dksJ24_putVal_11 7 rfl rfl)
theorem dJ24_putVal_261 : decode cJ24_putVal 261 = .ok (.getfield 202, 3) := dk_180 0 202 (dk_at dksJ24_putVal_11 8 rfl rfl)
theorem dJ24_putVal_264 : decode cJ24_putVal 264 = .ok (.iconst 1, 1) := dk_4 (dk_at dksJ24_putVal_11 11 rfl rfl)
theorem dJ24_putVal_265 : decode cJ24_putVal 265 = .ok (.iadd, 1) := dk_96 (dk_at dksJ24_putVal_11 12 rfl rfl)
theorem dJ24_putVal_266 : decode cJ24_putVal 266 = .ok (.putfield 202, 3) := dk_181 0 202 (dk_at dksJ24_putVal_11 13 rfl rfl)
theorem dJ24_putVal_269 : decode cJ24_putVal 269 = .ok (.aload_n 0, 1) := dk_42 (dk_at dksJ24_putVal_11 16 rfl rfl)
theorem dJ24_putVal_270 : decode cJ24_putVal 270 = .ok (.dup, 1) := dk_89 (dk_at dksJ24_putVal_11 17 rfl rfl)
theorem dJ24_putVal_271 : decode cJ24_putVal 271 = .ok (.getfield 156, 3) := dk_180 0 156 (dk_at dksJ24_putVal_11 18 rfl rfl)
theorem dJ24_putVal_274 : decode cJ24_putVal 274 = .ok (.iconst 1, 1) := dk_4 (dk_at dksJ24_putVal_11 21 rfl rfl)
theorem dJ24_putVal_275 : decode cJ24_putVal 275 = .ok (.iadd, 1) := dk_96 (dk_at dksJ24_putVal_11 22 rfl rfl)
theorem dJ24_putVal_276 : decode cJ24_putVal 276 = .ok (.dup_x1, 1) := dk_90 (dk_at dksJ24_putVal_11 23 rfl rfl)
theorem dJ24_putVal_277 : decode cJ24_putVal 277 = .ok (.putfield 156, 3) := dk_181 0 156 (dk_at dksJ24_putVal_12 0 rfl rfl)
theorem dJ24_putVal_280 : decode cJ24_putVal 280 = .ok (.aload_n 0, 1) := dk_42 (dk_at dksJ24_putVal_12 3 rfl rfl)
theorem dJ24_putVal_281 : decode cJ24_putVal 281 = .ok (.getfield 88, 3) := dk_180 0 88 (dk_at dksJ24_putVal_12 4 rfl rfl)
theorem dJ24_putVal_284 : decode cJ24_putVal 284 = .ok (.if_icmp .le 8, 3) := dk_164 0 8 (dk_at dksJ24_putVal_12 7 rfl rfl)
theorem dJ24_putVal_287 : decode cJ24_putVal 287 = .ok (.aload_n 0, 1) := dk_42 (dk_at dksJ24_putVal_12 10 rfl rfl)
theorem dJ24_putVal_288 : decode cJ24_putVal 288 = .ok (.invokevirtual 117, 3) := dk_182 0 117 (dk_at dksJ24_putVal_12 11 rfl rfl)
theorem dJ24_putVal_291 : decode cJ24_putVal 291 = .ok (.pop, 1) := dk_87 (dk_at dksJ24_putVal_12 14 rfl rfl)
theorem dJ24_putVal_292 : decode cJ24_putVal 292 = .ok (.aload_n 0, 1) := dk_42 (dk_at dksJ24_putVal_12 15 rfl rfl)
theorem dJ24_putVal_293 : decode cJ24_putVal 293 = .ok (.iload 5, 2) := dk_21 5 (dk_at dksJ24_putVal_12 16 rfl rfl)
theorem dJ24_putVal_295 : decode cJ24_putVal 295 = .ok (.invokevirtual 205, 3) := dk_182 0 205 (dk_at dksJ24_putVal_12 18 rfl rfl)
theorem dJ24_putVal_298 : decode cJ24_putVal 298 = .ok (.aconst_null, 1) := dk_1 (dk_at dksJ24_putVal_12 21 rfl rfl)
theorem dJ24_putVal_299 : decode cJ24_putVal 299 = .ok (.areturn, 1) := dk_176 (dk_at dksJ24_putVal_12 22 rfl rfl)
abbrev cJ24_put : ByteArray := prog_54_method_15_code
def yJ24_put : MethodName := ⟨RJ24, "put", "(Ljava/lang/Object;Ljava/lang/Object;)Ljava/lang/Object;"⟩
def dkwJ24_put_0 : List UInt8 := [42, 43, 184, 0, 149, 43, 44, 3, 4, 182, 0, 152, 176]
abbrev dktJ24_put_0 : List UInt8 := dkwJ24_put_0 ++ []
theorem dksJ24_put_0 : cJ24_put.data.toList.drop 0 = dktJ24_put_0 := by decide +kernel
theorem dJ24_put_0 : decode cJ24_put 0 = .ok (.aload_n 0, 1) := dk_42 (dk_at dksJ24_put_0 0 rfl rfl)
theorem dJ24_put_1 : decode cJ24_put 1 = .ok (.aload_n 1, 1) := dk_43 (dk_at dksJ24_put_0 1 rfl rfl)
theorem dJ24_put_2 : decode cJ24_put 2 = .ok (.invokestatic 149, 3) := dk_184 0 149 (dk_at dksJ24_put_0 2 rfl rfl)
theorem dJ24_put_5 : decode cJ24_put 5 = .ok (.aload_n 1, 1) := dk_43 (dk_at dksJ24_put_0 5 rfl rfl)
theorem dJ24_put_6 : decode cJ24_put 6 = .ok (.aload_n 2, 1) := dk_44 (dk_at dksJ24_put_0 6 rfl rfl)
theorem dJ24_put_7 : decode cJ24_put 7 = .ok (.iconst 0, 1) := dk_3 (dk_at dksJ24_put_0 7 rfl rfl)
theorem dJ24_put_8 : decode cJ24_put 8 = .ok (.iconst 1, 1) := dk_4 (dk_at dksJ24_put_0 8 rfl rfl)
theorem dJ24_put_9 : decode cJ24_put 9 = .ok (.invokevirtual 152, 3) := dk_182 0 152 (dk_at dksJ24_put_0 9 rfl rfl)
theorem dJ24_put_12 : decode cJ24_put 12 = .ok (.areturn, 1) := dk_176 (dk_at dksJ24_put_0 12 rfl rfl)
abbrev cJ21_add : ByteArray := prog_60_method_10_code
def yJ21_add : MethodName := ⟨RJ21, "add", "(Ljava/lang/Object;)Z"⟩
def dkwJ21_add_0 : List UInt8 := [42, 180, 0, 10, 43, 178, 0, 64, 182, 0, 68, 199, 0, 7, 4, 167, 0, 4, 3, 172]
abbrev dktJ21_add_0 : List UInt8 := dkwJ21_add_0 ++ []
theorem dksJ21_add_0 : cJ21_add.data.toList.drop 0 = dktJ21_add_0 := by decide +kernel
theorem dJ21_add_0 : decode cJ21_add 0 = .ok (.aload_n 0, 1) := dk_42 (dk_at dksJ21_add_0 0 rfl rfl)
theorem dJ21_add_1 : decode cJ21_add 1 = .ok (.getfield 10, 3) := dk_180 0 10 (dk_at dksJ21_add_0 1 rfl rfl)
theorem dJ21_add_4 : decode cJ21_add 4 = .ok (.aload_n 1, 1) := dk_43 (dk_at dksJ21_add_0 4 rfl rfl)
theorem dJ21_add_5 : decode cJ21_add 5 = .ok (.getstatic 64, 3) := dk_178 0 64 (dk_at dksJ21_add_0 5 rfl rfl)
theorem dJ21_add_8 : decode cJ21_add 8 = .ok (.invokevirtual 68, 3) := dk_182 0 68 (dk_at dksJ21_add_0 8 rfl rfl)
theorem dJ21_add_11 : decode cJ21_add 11 = .ok (.ifnonnull 7, 3) := dk_199 0 7 (dk_at dksJ21_add_0 11 rfl rfl)
theorem dJ21_add_14 : decode cJ21_add 14 = .ok (.iconst 1, 1) := dk_4 (dk_at dksJ21_add_0 14 rfl rfl)
theorem dJ21_add_15 : decode cJ21_add 15 = .ok (.goto 4, 3) := dk_167 0 4 (dk_at dksJ21_add_0 15 rfl rfl)
theorem dJ21_add_18 : decode cJ21_add 18 = .ok (.iconst 0, 1) := dk_3 (dk_at dksJ21_add_0 18 rfl rfl)
theorem dJ21_add_19 : decode cJ21_add 19 = .ok (.ireturn, 1) := dk_172 (dk_at dksJ21_add_0 19 rfl rfl)
abbrev cJ24_getNode : ByteArray := prog_54_method_13_code
def yJ24_getNode : MethodName := ⟨RJ24, "getNode", "(Ljava/lang/Object;)Ljava/util/HashMap$Node;"⟩
def dkwJ24_getNode_6 : List UInt8 := [89, 58, 4, 199, 255, 210, 1, 176]
abbrev dktJ24_getNode_6 : List UInt8 := dkwJ24_getNode_6 ++ []
def dkwJ24_getNode_5 : List UInt8 := [165, 0, 16, 43, 198, 0, 15, 43, 25, 7, 182, 0, 173, 153, 0, 6, 25, 4, 176, 25, 4, 180, 0, 177]
abbrev dktJ24_getNode_5 : List UInt8 := dkwJ24_getNode_5 ++ dktJ24_getNode_6
def dkwJ24_getNode_4 : List UInt8 := [43, 182, 0, 182, 176, 25, 4, 180, 0, 168, 21, 6, 160, 0, 31, 25, 4, 180, 0, 170, 89, 58, 7, 43]
abbrev dktJ24_getNode_4 : List UInt8 := dkwJ24_getNode_4 ++ dktJ24_getNode_5
def dkwJ24_getNode_3 : List UInt8 := [176, 45, 180, 0, 177, 89, 58, 4, 198, 0, 70, 45, 193, 0, 180, 153, 0, 14, 45, 192, 0, 180, 21, 6]
abbrev dktJ24_getNode_3 : List UInt8 := dkwJ24_getNode_3 ++ dktJ24_getNode_4
def dkwJ24_getNode_2 : List UInt8 := [180, 0, 170, 89, 58, 7, 43, 165, 0, 16, 43, 198, 0, 14, 43, 25, 7, 182, 0, 173, 153, 0, 5, 45]
abbrev dktJ24_getNode_2 : List UInt8 := dkwJ24_getNode_2 ++ dktJ24_getNode_3
def dkwJ24_getNode_1 : List UInt8 := [184, 0, 149, 89, 54, 6, 126, 50, 89, 78, 198, 0, 115, 45, 180, 0, 168, 21, 6, 160, 0, 29, 45]
abbrev dktJ24_getNode_1 : List UInt8 := dkwJ24_getNode_1 ++ dktJ24_getNode_2
def dkwJ24_getNode_0 : List UInt8 := [42, 180, 0, 105, 89, 77, 198, 0, 142, 44, 190, 89, 54, 5, 158, 0, 134, 44, 21, 5, 4, 100, 43]
abbrev dktJ24_getNode_0 : List UInt8 := dkwJ24_getNode_0 ++ dktJ24_getNode_1
theorem dksJ24_getNode_0 : cJ24_getNode.data.toList.drop 0 = dktJ24_getNode_0 := by decide +kernel
theorem dksJ24_getNode_1 : cJ24_getNode.data.toList.drop 23 = dktJ24_getNode_1 := dk_seg dksJ24_getNode_0 23 rfl rfl
theorem dksJ24_getNode_2 : cJ24_getNode.data.toList.drop 46 = dktJ24_getNode_2 := dk_seg dksJ24_getNode_1 23 rfl rfl
theorem dksJ24_getNode_3 : cJ24_getNode.data.toList.drop 70 = dktJ24_getNode_3 := dk_seg dksJ24_getNode_2 24 rfl rfl
theorem dksJ24_getNode_4 : cJ24_getNode.data.toList.drop 94 = dktJ24_getNode_4 := dk_seg dksJ24_getNode_3 24 rfl rfl
theorem dksJ24_getNode_5 : cJ24_getNode.data.toList.drop 118 = dktJ24_getNode_5 := dk_seg dksJ24_getNode_4 24 rfl rfl
theorem dksJ24_getNode_6 : cJ24_getNode.data.toList.drop 142 = dktJ24_getNode_6 := dk_seg dksJ24_getNode_5 24 rfl rfl
theorem dJ24_getNode_0 : decode cJ24_getNode 0 = .ok (.aload_n 0, 1) := dk_42 (dk_at dksJ24_getNode_0 0 rfl rfl)
theorem dJ24_getNode_1 : decode cJ24_getNode 1 = .ok (.getfield 105, 3) := dk_180 0 105 (dk_at dksJ24_getNode_0 1 rfl rfl)
theorem dJ24_getNode_4 : decode cJ24_getNode 4 = .ok (.dup, 1) := dk_89 (dk_at dksJ24_getNode_0 4 rfl rfl)
theorem dJ24_getNode_5 : decode cJ24_getNode 5 = .ok (.astore_n 2, 1) := dk_77 (dk_at dksJ24_getNode_0 5 rfl rfl)
theorem dJ24_getNode_6 : decode cJ24_getNode 6 = .ok (.ifnull 142, 3) := dk_198 0 142 (dk_at dksJ24_getNode_0 6 rfl rfl)
theorem dJ24_getNode_9 : decode cJ24_getNode 9 = .ok (.aload_n 2, 1) := dk_44 (dk_at dksJ24_getNode_0 9 rfl rfl)
theorem dJ24_getNode_10 : decode cJ24_getNode 10 = .ok (.arraylength, 1) := dk_190 (dk_at dksJ24_getNode_0 10 rfl rfl)
theorem dJ24_getNode_11 : decode cJ24_getNode 11 = .ok (.dup, 1) := dk_89 (dk_at dksJ24_getNode_0 11 rfl rfl)
theorem dJ24_getNode_12 : decode cJ24_getNode 12 = .ok (.istore 5, 2) := dk_54 5 (dk_at dksJ24_getNode_0 12 rfl rfl)
theorem dJ24_getNode_14 : decode cJ24_getNode 14 = .ok (.ifCond .le 134, 3) := dk_158 0 134 (dk_at dksJ24_getNode_0 14 rfl rfl)
theorem dJ24_getNode_17 : decode cJ24_getNode 17 = .ok (.aload_n 2, 1) := dk_44 (dk_at dksJ24_getNode_0 17 rfl rfl)
theorem dJ24_getNode_18 : decode cJ24_getNode 18 = .ok (.iload 5, 2) := dk_21 5 (dk_at dksJ24_getNode_0 18 rfl rfl)
theorem dJ24_getNode_20 : decode cJ24_getNode 20 = .ok (.iconst 1, 1) := dk_4 (dk_at dksJ24_getNode_0 20 rfl rfl)
theorem dJ24_getNode_21 : decode cJ24_getNode 21 = .ok (.isub, 1) := dk_100 (dk_at dksJ24_getNode_0 21 rfl rfl)
theorem dJ24_getNode_22 : decode cJ24_getNode 22 = .ok (.aload_n 1, 1) := dk_43 (dk_at dksJ24_getNode_0 22 rfl rfl)
theorem dJ24_getNode_23 : decode cJ24_getNode 23 = .ok (.invokestatic 149, 3) := dk_184 0 149 (dk_at dksJ24_getNode_1 0 rfl rfl)
theorem dJ24_getNode_26 : decode cJ24_getNode 26 = .ok (.dup, 1) := dk_89 (dk_at dksJ24_getNode_1 3 rfl rfl)
theorem dJ24_getNode_27 : decode cJ24_getNode 27 = .ok (.istore 6, 2) := dk_54 6 (dk_at dksJ24_getNode_1 4 rfl rfl)
theorem dJ24_getNode_29 : decode cJ24_getNode 29 = .ok (.iand, 1) := dk_126 (dk_at dksJ24_getNode_1 6 rfl rfl)
theorem dJ24_getNode_30 : decode cJ24_getNode 30 = .ok (.aaload, 1) := dk_50 (dk_at dksJ24_getNode_1 7 rfl rfl)
theorem dJ24_getNode_31 : decode cJ24_getNode 31 = .ok (.dup, 1) := dk_89 (dk_at dksJ24_getNode_1 8 rfl rfl)
theorem dJ24_getNode_32 : decode cJ24_getNode 32 = .ok (.astore_n 3, 1) := dk_78 (dk_at dksJ24_getNode_1 9 rfl rfl)
theorem dJ24_getNode_33 : decode cJ24_getNode 33 = .ok (.ifnull 115, 3) := dk_198 0 115 (dk_at dksJ24_getNode_1 10 rfl rfl)
theorem dJ24_getNode_36 : decode cJ24_getNode 36 = .ok (.aload_n 3, 1) := dk_45 (dk_at dksJ24_getNode_1 13 rfl rfl)
theorem dJ24_getNode_37 : decode cJ24_getNode 37 = .ok (.getfield 168, 3) := dk_180 0 168 (dk_at dksJ24_getNode_1 14 rfl rfl)
theorem dJ24_getNode_40 : decode cJ24_getNode 40 = .ok (.iload 6, 2) := dk_21 6 (dk_at dksJ24_getNode_1 17 rfl rfl)
theorem dJ24_getNode_42 : decode cJ24_getNode 42 = .ok (.if_icmp .ne 29, 3) := dk_160 0 29 (dk_at dksJ24_getNode_1 19 rfl rfl)
theorem dJ24_getNode_45 : decode cJ24_getNode 45 = .ok (.aload_n 3, 1) := dk_45 (dk_at dksJ24_getNode_1 22 rfl rfl)
theorem dJ24_getNode_46 : decode cJ24_getNode 46 = .ok (.getfield 170, 3) := dk_180 0 170 (dk_at dksJ24_getNode_2 0 rfl rfl)
theorem dJ24_getNode_49 : decode cJ24_getNode 49 = .ok (.dup, 1) := dk_89 (dk_at dksJ24_getNode_2 3 rfl rfl)
theorem dJ24_getNode_50 : decode cJ24_getNode 50 = .ok (.astore 7, 2) := dk_58 7 (dk_at dksJ24_getNode_2 4 rfl rfl)
theorem dJ24_getNode_52 : decode cJ24_getNode 52 = .ok (.aload_n 1, 1) := dk_43 (dk_at dksJ24_getNode_2 6 rfl rfl)
theorem dJ24_getNode_53 : decode cJ24_getNode 53 = .ok (.if_acmp .eq 16, 3) := dk_165 0 16 (dk_at dksJ24_getNode_2 7 rfl rfl)
theorem dJ24_getNode_56 : decode cJ24_getNode 56 = .ok (.aload_n 1, 1) := dk_43 (dk_at dksJ24_getNode_2 10 rfl rfl)
theorem dJ24_getNode_57 : decode cJ24_getNode 57 = .ok (.ifnull 14, 3) := dk_198 0 14 (dk_at dksJ24_getNode_2 11 rfl rfl)
theorem dJ24_getNode_60 : decode cJ24_getNode 60 = .ok (.aload_n 1, 1) := dk_43 (dk_at dksJ24_getNode_2 14 rfl rfl)
theorem dJ24_getNode_61 : decode cJ24_getNode 61 = .ok (.aload 7, 2) := dk_25 7 (dk_at dksJ24_getNode_2 15 rfl rfl)
theorem dJ24_getNode_63 : decode cJ24_getNode 63 = .ok (.invokevirtual 173, 3) := dk_182 0 173 (dk_at dksJ24_getNode_2 17 rfl rfl)
theorem dJ24_getNode_66 : decode cJ24_getNode 66 = .ok (.ifCond .eq 5, 3) := dk_153 0 5 (dk_at dksJ24_getNode_2 20 rfl rfl)
theorem dJ24_getNode_69 : decode cJ24_getNode 69 = .ok (.aload_n 3, 1) := dk_45 (dk_at dksJ24_getNode_2 23 rfl rfl)
theorem dJ24_getNode_70 : decode cJ24_getNode 70 = .ok (.areturn, 1) := dk_176 (dk_at dksJ24_getNode_3 0 rfl rfl)
theorem dJ24_getNode_71 : decode cJ24_getNode 71 = .ok (.aload_n 3, 1) := dk_45 (dk_at dksJ24_getNode_3 1 rfl rfl)
theorem dJ24_getNode_72 : decode cJ24_getNode 72 = .ok (.getfield 177, 3) := dk_180 0 177 (dk_at dksJ24_getNode_3 2 rfl rfl)
theorem dJ24_getNode_75 : decode cJ24_getNode 75 = .ok (.dup, 1) := dk_89 (dk_at dksJ24_getNode_3 5 rfl rfl)
theorem dJ24_getNode_76 : decode cJ24_getNode 76 = .ok (.astore 4, 2) := dk_58 4 (dk_at dksJ24_getNode_3 6 rfl rfl)
theorem dJ24_getNode_78 : decode cJ24_getNode 78 = .ok (.ifnull 70, 3) := dk_198 0 70 (dk_at dksJ24_getNode_3 8 rfl rfl)
theorem dJ24_getNode_81 : decode cJ24_getNode 81 = .ok (.aload_n 3, 1) := dk_45 (dk_at dksJ24_getNode_3 11 rfl rfl)
theorem dJ24_getNode_82 : decode cJ24_getNode 82 = .ok (.instanceof 180, 3) := dk_193 0 180 (dk_at dksJ24_getNode_3 12 rfl rfl)
theorem dJ24_getNode_85 : decode cJ24_getNode 85 = .ok (.ifCond .eq 14, 3) := dk_153 0 14 (dk_at dksJ24_getNode_3 15 rfl rfl)
theorem dJ24_getNode_88 : decode cJ24_getNode 88 = .ok (.aload_n 3, 1) := dk_45 (dk_at dksJ24_getNode_3 18 rfl rfl)
theorem dJ24_getNode_89 : decode cJ24_getNode 89 = .ok (.checkcast 180, 3) := dk_192 0 180 (dk_at dksJ24_getNode_3 19 rfl rfl)
theorem dJ24_getNode_92 : decode cJ24_getNode 92 = .ok (.iload 6, 2) := dk_21 6 (dk_at dksJ24_getNode_3 22 rfl rfl)
theorem dJ24_getNode_94 : decode cJ24_getNode 94 = .ok (.aload_n 1, 1) := dk_43 (dk_at dksJ24_getNode_4 0 rfl rfl)
theorem dJ24_getNode_95 : decode cJ24_getNode 95 = .ok (.invokevirtual 182, 3) := dk_182 0 182 (dk_at dksJ24_getNode_4 1 rfl rfl)
theorem dJ24_getNode_98 : decode cJ24_getNode 98 = .ok (.areturn, 1) := dk_176 (dk_at dksJ24_getNode_4 4 rfl rfl)
theorem dJ24_getNode_99 : decode cJ24_getNode 99 = .ok (.aload 4, 2) := dk_25 4 (dk_at dksJ24_getNode_4 5 rfl rfl)
theorem dJ24_getNode_101 : decode cJ24_getNode 101 = .ok (.getfield 168, 3) := dk_180 0 168 (dk_at dksJ24_getNode_4 7 rfl rfl)
theorem dJ24_getNode_104 : decode cJ24_getNode 104 = .ok (.iload 6, 2) := dk_21 6 (dk_at dksJ24_getNode_4 10 rfl rfl)
theorem dJ24_getNode_106 : decode cJ24_getNode 106 = .ok (.if_icmp .ne 31, 3) := dk_160 0 31 (dk_at dksJ24_getNode_4 12 rfl rfl)
theorem dJ24_getNode_109 : decode cJ24_getNode 109 = .ok (.aload 4, 2) := dk_25 4 (dk_at dksJ24_getNode_4 15 rfl rfl)
theorem dJ24_getNode_111 : decode cJ24_getNode 111 = .ok (.getfield 170, 3) := dk_180 0 170 (dk_at dksJ24_getNode_4 17 rfl rfl)
theorem dJ24_getNode_114 : decode cJ24_getNode 114 = .ok (.dup, 1) := dk_89 (dk_at dksJ24_getNode_4 20 rfl rfl)
theorem dJ24_getNode_115 : decode cJ24_getNode 115 = .ok (.astore 7, 2) := dk_58 7 (dk_at dksJ24_getNode_4 21 rfl rfl)
theorem dJ24_getNode_117 : decode cJ24_getNode 117 = .ok (.aload_n 1, 1) := dk_43 (dk_at dksJ24_getNode_4 23 rfl rfl)
theorem dJ24_getNode_118 : decode cJ24_getNode 118 = .ok (.if_acmp .eq 16, 3) := dk_165 0 16 (dk_at dksJ24_getNode_5 0 rfl rfl)
theorem dJ24_getNode_121 : decode cJ24_getNode 121 = .ok (.aload_n 1, 1) := dk_43 (dk_at dksJ24_getNode_5 3 rfl rfl)
theorem dJ24_getNode_122 : decode cJ24_getNode 122 = .ok (.ifnull 15, 3) := dk_198 0 15 (dk_at dksJ24_getNode_5 4 rfl rfl)
theorem dJ24_getNode_125 : decode cJ24_getNode 125 = .ok (.aload_n 1, 1) := dk_43 (dk_at dksJ24_getNode_5 7 rfl rfl)
theorem dJ24_getNode_126 : decode cJ24_getNode 126 = .ok (.aload 7, 2) := dk_25 7 (dk_at dksJ24_getNode_5 8 rfl rfl)
theorem dJ24_getNode_128 : decode cJ24_getNode 128 = .ok (.invokevirtual 173, 3) := dk_182 0 173 (dk_at dksJ24_getNode_5 10 rfl rfl)
theorem dJ24_getNode_131 : decode cJ24_getNode 131 = .ok (.ifCond .eq 6, 3) := dk_153 0 6 (dk_at dksJ24_getNode_5 13 rfl rfl)
theorem dJ24_getNode_134 : decode cJ24_getNode 134 = .ok (.aload 4, 2) := dk_25 4 (dk_at dksJ24_getNode_5 16 rfl rfl)
theorem dJ24_getNode_136 : decode cJ24_getNode 136 = .ok (.areturn, 1) := dk_176 (dk_at dksJ24_getNode_5 18 rfl rfl)
theorem dJ24_getNode_137 : decode cJ24_getNode 137 = .ok (.aload 4, 2) := dk_25 4 (dk_at dksJ24_getNode_5 19 rfl rfl)
theorem dJ24_getNode_139 : decode cJ24_getNode 139 = .ok (.getfield 177, 3) := dk_180 0 177 (dk_at dksJ24_getNode_5 21 rfl rfl)
theorem dJ24_getNode_142 : decode cJ24_getNode 142 = .ok (.dup, 1) := dk_89 (dk_at dksJ24_getNode_6 0 rfl rfl)
theorem dJ24_getNode_143 : decode cJ24_getNode 143 = .ok (.astore 4, 2) := dk_58 4 (dk_at dksJ24_getNode_6 1 rfl rfl)
theorem dJ24_getNode_145 : decode cJ24_getNode 145 = .ok (.ifnonnull (-46), 3) := dk_199 255 210 (dk_at dksJ24_getNode_6 3 rfl rfl)
theorem dJ24_getNode_148 : decode cJ24_getNode 148 = .ok (.aconst_null, 1) := dk_1 (dk_at dksJ24_getNode_6 6 rfl rfl)
theorem dJ24_getNode_149 : decode cJ24_getNode 149 = .ok (.areturn, 1) := dk_176 (dk_at dksJ24_getNode_6 7 rfl rfl)
abbrev cJ24_containsKey : ByteArray := prog_54_method_14_code
def yJ24_containsKey : MethodName := ⟨RJ24, "containsKey", "(Ljava/lang/Object;)Z"⟩
def dkwJ24_containsKey_0 : List UInt8 := [42, 43, 182, 0, 158, 198, 0, 7, 4, 167, 0, 4, 3, 172]
abbrev dktJ24_containsKey_0 : List UInt8 := dkwJ24_containsKey_0 ++ []
theorem dksJ24_containsKey_0 : cJ24_containsKey.data.toList.drop 0 = dktJ24_containsKey_0 := by decide +kernel
theorem dJ24_containsKey_0 : decode cJ24_containsKey 0 = .ok (.aload_n 0, 1) := dk_42 (dk_at dksJ24_containsKey_0 0 rfl rfl)
theorem dJ24_containsKey_1 : decode cJ24_containsKey 1 = .ok (.aload_n 1, 1) := dk_43 (dk_at dksJ24_containsKey_0 1 rfl rfl)
theorem dJ24_containsKey_2 : decode cJ24_containsKey 2 = .ok (.invokevirtual 158, 3) := dk_182 0 158 (dk_at dksJ24_containsKey_0 2 rfl rfl)
theorem dJ24_containsKey_5 : decode cJ24_containsKey 5 = .ok (.ifnull 7, 3) := dk_198 0 7 (dk_at dksJ24_containsKey_0 5 rfl rfl)
theorem dJ24_containsKey_8 : decode cJ24_containsKey 8 = .ok (.iconst 1, 1) := dk_4 (dk_at dksJ24_containsKey_0 8 rfl rfl)
theorem dJ24_containsKey_9 : decode cJ24_containsKey 9 = .ok (.goto 4, 3) := dk_167 0 4 (dk_at dksJ24_containsKey_0 9 rfl rfl)
theorem dJ24_containsKey_12 : decode cJ24_containsKey 12 = .ok (.iconst 0, 1) := dk_3 (dk_at dksJ24_containsKey_0 12 rfl rfl)
theorem dJ24_containsKey_13 : decode cJ24_containsKey 13 = .ok (.ireturn, 1) := dk_172 (dk_at dksJ24_containsKey_0 13 rfl rfl)
abbrev cJ21_contains : ByteArray := prog_60_method_9_code
def yJ21_contains : MethodName := ⟨RJ21, "contains", "(Ljava/lang/Object;)Z"⟩
def dkwJ21_contains_0 : List UInt8 := [42, 180, 0, 10, 43, 182, 0, 60, 172]
abbrev dktJ21_contains_0 : List UInt8 := dkwJ21_contains_0 ++ []
theorem dksJ21_contains_0 : cJ21_contains.data.toList.drop 0 = dktJ21_contains_0 := by decide +kernel
theorem dJ21_contains_0 : decode cJ21_contains 0 = .ok (.aload_n 0, 1) := dk_42 (dk_at dksJ21_contains_0 0 rfl rfl)
theorem dJ21_contains_1 : decode cJ21_contains 1 = .ok (.getfield 10, 3) := dk_180 0 10 (dk_at dksJ21_contains_0 1 rfl rfl)
theorem dJ21_contains_4 : decode cJ21_contains 4 = .ok (.aload_n 1, 1) := dk_43 (dk_at dksJ21_contains_0 4 rfl rfl)
theorem dJ21_contains_5 : decode cJ21_contains 5 = .ok (.invokevirtual 60, 3) := dk_182 0 60 (dk_at dksJ21_contains_0 5 rfl rfl)
theorem dJ21_contains_8 : decode cJ21_contains 8 = .ok (.ireturn, 1) := dk_172 (dk_at dksJ21_contains_0 8 rfl rfl)
abbrev cJ38_init : ByteArray := prog_66_method_1_code
def yJ38_init : MethodName := ⟨RJ38, "<init>", "(Ljava/util/LinkedHashMap;Z)V"⟩
def dkwJ38_init_0 : List UInt8 := [42, 43, 181, 0, 1, 42, 183, 0, 7, 42, 28, 181, 0, 13, 177]
abbrev dktJ38_init_0 : List UInt8 := dkwJ38_init_0 ++ []
theorem dksJ38_init_0 : cJ38_init.data.toList.drop 0 = dktJ38_init_0 := by decide +kernel
theorem dJ38_init_0 : decode cJ38_init 0 = .ok (.aload_n 0, 1) := dk_42 (dk_at dksJ38_init_0 0 rfl rfl)
theorem dJ38_init_1 : decode cJ38_init 1 = .ok (.aload_n 1, 1) := dk_43 (dk_at dksJ38_init_0 1 rfl rfl)
theorem dJ38_init_2 : decode cJ38_init 2 = .ok (.putfield 1, 3) := dk_181 0 1 (dk_at dksJ38_init_0 2 rfl rfl)
theorem dJ38_init_5 : decode cJ38_init 5 = .ok (.aload_n 0, 1) := dk_42 (dk_at dksJ38_init_0 5 rfl rfl)
theorem dJ38_init_6 : decode cJ38_init 6 = .ok (.invokespecial 7, 3) := dk_183 0 7 (dk_at dksJ38_init_0 6 rfl rfl)
theorem dJ38_init_9 : decode cJ38_init 9 = .ok (.aload_n 0, 1) := dk_42 (dk_at dksJ38_init_0 9 rfl rfl)
theorem dJ38_init_10 : decode cJ38_init 10 = .ok (.iload_n 2, 1) := dk_28 (dk_at dksJ38_init_0 10 rfl rfl)
theorem dJ38_init_11 : decode cJ38_init 11 = .ok (.putfield 13, 3) := dk_181 0 13 (dk_at dksJ38_init_0 11 rfl rfl)
theorem dJ38_init_14 : decode cJ38_init 14 = .ok (.return_, 1) := dk_177 (dk_at dksJ38_init_0 14 rfl rfl)
abbrev cJ25_sequencedKeySet : ByteArray := prog_62_method_25_code
def yJ25_sequencedKeySet : MethodName := ⟨RJ25, "sequencedKeySet", "()Ljava/util/SequencedSet;"⟩
def dkwJ25_sequencedKeySet_1 : List UInt8 := [44, 176, 43, 192, 0, 126, 176]
abbrev dktJ25_sequencedKeySet_1 : List UInt8 := dkwJ25_sequencedKeySet_1 ++ []
def dkwJ25_sequencedKeySet_0 : List UInt8 := [42, 180, 0, 117, 76, 43, 199, 0, 20, 187, 0, 121, 89, 42, 3, 183, 0, 123, 77, 42, 44, 181, 0, 117]
abbrev dktJ25_sequencedKeySet_0 : List UInt8 := dkwJ25_sequencedKeySet_0 ++ dktJ25_sequencedKeySet_1
theorem dksJ25_sequencedKeySet_0 : cJ25_sequencedKeySet.data.toList.drop 0 = dktJ25_sequencedKeySet_0 := by decide +kernel
theorem dksJ25_sequencedKeySet_1 : cJ25_sequencedKeySet.data.toList.drop 24 = dktJ25_sequencedKeySet_1 := dk_seg dksJ25_sequencedKeySet_0 24 rfl rfl
theorem dJ25_sequencedKeySet_0 : decode cJ25_sequencedKeySet 0 = .ok (.aload_n 0, 1) := dk_42 (dk_at dksJ25_sequencedKeySet_0 0 rfl rfl)
theorem dJ25_sequencedKeySet_1 : decode cJ25_sequencedKeySet 1 = .ok (.getfield 117, 3) := dk_180 0 117 (dk_at dksJ25_sequencedKeySet_0 1 rfl rfl)
theorem dJ25_sequencedKeySet_4 : decode cJ25_sequencedKeySet 4 = .ok (.astore_n 1, 1) := dk_76 (dk_at dksJ25_sequencedKeySet_0 4 rfl rfl)
theorem dJ25_sequencedKeySet_5 : decode cJ25_sequencedKeySet 5 = .ok (.aload_n 1, 1) := dk_43 (dk_at dksJ25_sequencedKeySet_0 5 rfl rfl)
theorem dJ25_sequencedKeySet_6 : decode cJ25_sequencedKeySet 6 = .ok (.ifnonnull 20, 3) := dk_199 0 20 (dk_at dksJ25_sequencedKeySet_0 6 rfl rfl)
theorem dJ25_sequencedKeySet_9 : decode cJ25_sequencedKeySet 9 = .ok (.new 121, 3) := dk_187 0 121 (dk_at dksJ25_sequencedKeySet_0 9 rfl rfl)
theorem dJ25_sequencedKeySet_12 : decode cJ25_sequencedKeySet 12 = .ok (.dup, 1) := dk_89 (dk_at dksJ25_sequencedKeySet_0 12 rfl rfl)
theorem dJ25_sequencedKeySet_13 : decode cJ25_sequencedKeySet 13 = .ok (.aload_n 0, 1) := dk_42 (dk_at dksJ25_sequencedKeySet_0 13 rfl rfl)
theorem dJ25_sequencedKeySet_14 : decode cJ25_sequencedKeySet 14 = .ok (.iconst 0, 1) := dk_3 (dk_at dksJ25_sequencedKeySet_0 14 rfl rfl)
theorem dJ25_sequencedKeySet_15 : decode cJ25_sequencedKeySet 15 = .ok (.invokespecial 123, 3) := dk_183 0 123 (dk_at dksJ25_sequencedKeySet_0 15 rfl rfl)
theorem dJ25_sequencedKeySet_18 : decode cJ25_sequencedKeySet 18 = .ok (.astore_n 2, 1) := dk_77 (dk_at dksJ25_sequencedKeySet_0 18 rfl rfl)
theorem dJ25_sequencedKeySet_19 : decode cJ25_sequencedKeySet 19 = .ok (.aload_n 0, 1) := dk_42 (dk_at dksJ25_sequencedKeySet_0 19 rfl rfl)
theorem dJ25_sequencedKeySet_20 : decode cJ25_sequencedKeySet 20 = .ok (.aload_n 2, 1) := dk_44 (dk_at dksJ25_sequencedKeySet_0 20 rfl rfl)
theorem dJ25_sequencedKeySet_21 : decode cJ25_sequencedKeySet 21 = .ok (.putfield 117, 3) := dk_181 0 117 (dk_at dksJ25_sequencedKeySet_0 21 rfl rfl)
theorem dJ25_sequencedKeySet_24 : decode cJ25_sequencedKeySet 24 = .ok (.aload_n 2, 1) := dk_44 (dk_at dksJ25_sequencedKeySet_1 0 rfl rfl)
theorem dJ25_sequencedKeySet_25 : decode cJ25_sequencedKeySet 25 = .ok (.areturn, 1) := dk_176 (dk_at dksJ25_sequencedKeySet_1 1 rfl rfl)
theorem dJ25_sequencedKeySet_26 : decode cJ25_sequencedKeySet 26 = .ok (.aload_n 1, 1) := dk_43 (dk_at dksJ25_sequencedKeySet_1 2 rfl rfl)
theorem dJ25_sequencedKeySet_27 : decode cJ25_sequencedKeySet 27 = .ok (.checkcast 126, 3) := dk_192 0 126 (dk_at dksJ25_sequencedKeySet_1 3 rfl rfl)
theorem dJ25_sequencedKeySet_30 : decode cJ25_sequencedKeySet 30 = .ok (.areturn, 1) := dk_176 (dk_at dksJ25_sequencedKeySet_1 6 rfl rfl)
abbrev cJ25_keySet : ByteArray := prog_62_method_24_code
def yJ25_keySet : MethodName := ⟨RJ25, "keySet", "()Ljava/util/Set;"⟩
theorem dJ25_keySet_0 : decode cJ25_keySet 0 = .ok (.aload_n 0, 1) := by decide +kernel
theorem dJ25_keySet_1 : decode cJ25_keySet 1 = .ok (.invokevirtual 113, 3) := by decide +kernel
theorem dJ25_keySet_4 : decode cJ25_keySet 4 = .ok (.areturn, 1) := by decide +kernel
def RJ41 : String := "java/util/LinkedHashMap$LinkedHashIterator"
abbrev cJ41_init : ByteArray := prog_64_method_1_code
def yJ41_init : MethodName := ⟨RJ41, "<init>", "(Ljava/util/LinkedHashMap;Z)V"⟩
def dkwJ41_init_1 : List UInt8 := [167, 0, 7, 43, 180, 0, 23, 181, 0, 26, 42, 43, 180, 0, 29, 181, 0, 33, 42, 1, 181, 0, 36, 177]
abbrev dktJ41_init_1 : List UInt8 := dkwJ41_init_1 ++ []
def dkwJ41_init_0 : List UInt8 := [42, 43, 181, 0, 1, 42, 183, 0, 7, 42, 28, 181, 0, 13, 42, 28, 153, 0, 10, 43, 180, 0, 17]
abbrev dktJ41_init_0 : List UInt8 := dkwJ41_init_0 ++ dktJ41_init_1
theorem dksJ41_init_0 : cJ41_init.data.toList.drop 0 = dktJ41_init_0 := by decide +kernel
theorem dksJ41_init_1 : cJ41_init.data.toList.drop 23 = dktJ41_init_1 := dk_seg dksJ41_init_0 23 rfl rfl
theorem dJ41_init_0 : decode cJ41_init 0 = .ok (.aload_n 0, 1) := dk_42 (dk_at dksJ41_init_0 0 rfl rfl)
theorem dJ41_init_1 : decode cJ41_init 1 = .ok (.aload_n 1, 1) := dk_43 (dk_at dksJ41_init_0 1 rfl rfl)
theorem dJ41_init_2 : decode cJ41_init 2 = .ok (.putfield 1, 3) := dk_181 0 1 (dk_at dksJ41_init_0 2 rfl rfl)
theorem dJ41_init_5 : decode cJ41_init 5 = .ok (.aload_n 0, 1) := dk_42 (dk_at dksJ41_init_0 5 rfl rfl)
theorem dJ41_init_6 : decode cJ41_init 6 = .ok (.invokespecial 7, 3) := dk_183 0 7 (dk_at dksJ41_init_0 6 rfl rfl)
theorem dJ41_init_9 : decode cJ41_init 9 = .ok (.aload_n 0, 1) := dk_42 (dk_at dksJ41_init_0 9 rfl rfl)
theorem dJ41_init_10 : decode cJ41_init 10 = .ok (.iload_n 2, 1) := dk_28 (dk_at dksJ41_init_0 10 rfl rfl)
theorem dJ41_init_11 : decode cJ41_init 11 = .ok (.putfield 13, 3) := dk_181 0 13 (dk_at dksJ41_init_0 11 rfl rfl)
theorem dJ41_init_14 : decode cJ41_init 14 = .ok (.aload_n 0, 1) := dk_42 (dk_at dksJ41_init_0 14 rfl rfl)
theorem dJ41_init_15 : decode cJ41_init 15 = .ok (.iload_n 2, 1) := dk_28 (dk_at dksJ41_init_0 15 rfl rfl)
theorem dJ41_init_16 : decode cJ41_init 16 = .ok (.ifCond .eq 10, 3) := dk_153 0 10 (dk_at dksJ41_init_0 16 rfl rfl)
theorem dJ41_init_19 : decode cJ41_init 19 = .ok (.aload_n 1, 1) := dk_43 (dk_at dksJ41_init_0 19 rfl rfl)
theorem dJ41_init_20 : decode cJ41_init 20 = .ok (.getfield 17, 3) := dk_180 0 17 (dk_at dksJ41_init_0 20 rfl rfl)
theorem dJ41_init_23 : decode cJ41_init 23 = .ok (.goto 7, 3) := dk_167 0 7 (dk_at dksJ41_init_1 0 rfl rfl)
theorem dJ41_init_26 : decode cJ41_init 26 = .ok (.aload_n 1, 1) := dk_43 (dk_at dksJ41_init_1 3 rfl rfl)
theorem dJ41_init_27 : decode cJ41_init 27 = .ok (.getfield 23, 3) := dk_180 0 23 (dk_at dksJ41_init_1 4 rfl rfl)
theorem dJ41_init_30 : decode cJ41_init 30 = .ok (.putfield 26, 3) := dk_181 0 26 (dk_at dksJ41_init_1 7 rfl rfl)
theorem dJ41_init_33 : decode cJ41_init 33 = .ok (.aload_n 0, 1) := dk_42 (dk_at dksJ41_init_1 10 rfl rfl)
theorem dJ41_init_34 : decode cJ41_init 34 = .ok (.aload_n 1, 1) := dk_43 (dk_at dksJ41_init_1 11 rfl rfl)
theorem dJ41_init_35 : decode cJ41_init 35 = .ok (.getfield 29, 3) := dk_180 0 29 (dk_at dksJ41_init_1 12 rfl rfl)
theorem dJ41_init_38 : decode cJ41_init 38 = .ok (.putfield 33, 3) := dk_181 0 33 (dk_at dksJ41_init_1 15 rfl rfl)
theorem dJ41_init_41 : decode cJ41_init 41 = .ok (.aload_n 0, 1) := dk_42 (dk_at dksJ41_init_1 18 rfl rfl)
theorem dJ41_init_42 : decode cJ41_init 42 = .ok (.aconst_null, 1) := dk_1 (dk_at dksJ41_init_1 19 rfl rfl)
theorem dJ41_init_43 : decode cJ41_init 43 = .ok (.putfield 36, 3) := dk_181 0 36 (dk_at dksJ41_init_1 20 rfl rfl)
theorem dJ41_init_46 : decode cJ41_init 46 = .ok (.return_, 1) := dk_177 (dk_at dksJ41_init_1 23 rfl rfl)
abbrev cJ42_init : ByteArray := prog_65_method_1_code
def yJ42_init : MethodName := ⟨RJ42, "<init>", "(Ljava/util/LinkedHashMap;Z)V"⟩
def dkwJ42_init_0 : List UInt8 := [42, 43, 28, 183, 0, 1, 177]
abbrev dktJ42_init_0 : List UInt8 := dkwJ42_init_0 ++ []
theorem dksJ42_init_0 : cJ42_init.data.toList.drop 0 = dktJ42_init_0 := by decide +kernel
theorem dJ42_init_0 : decode cJ42_init 0 = .ok (.aload_n 0, 1) := dk_42 (dk_at dksJ42_init_0 0 rfl rfl)
theorem dJ42_init_1 : decode cJ42_init 1 = .ok (.aload_n 1, 1) := dk_43 (dk_at dksJ42_init_0 1 rfl rfl)
theorem dJ42_init_2 : decode cJ42_init 2 = .ok (.iload_n 2, 1) := dk_28 (dk_at dksJ42_init_0 2 rfl rfl)
theorem dJ42_init_3 : decode cJ42_init 3 = .ok (.invokespecial 1, 3) := dk_183 0 1 (dk_at dksJ42_init_0 3 rfl rfl)
theorem dJ42_init_6 : decode cJ42_init 6 = .ok (.return_, 1) := dk_177 (dk_at dksJ42_init_0 6 rfl rfl)
abbrev cJ38_iterator : ByteArray := prog_66_method_4_code
def yJ38_iterator : MethodName := ⟨RJ38, "iterator", "()Ljava/util/Iterator;"⟩
def dkwJ38_iterator_0 : List UInt8 := [187, 0, 26, 89, 42, 180, 0, 1, 42, 180, 0, 13, 183, 0, 28, 176]
abbrev dktJ38_iterator_0 : List UInt8 := dkwJ38_iterator_0 ++ []
theorem dksJ38_iterator_0 : cJ38_iterator.data.toList.drop 0 = dktJ38_iterator_0 := by decide +kernel
theorem dJ38_iterator_0 : decode cJ38_iterator 0 = .ok (.new 26, 3) := dk_187 0 26 (dk_at dksJ38_iterator_0 0 rfl rfl)
theorem dJ38_iterator_3 : decode cJ38_iterator 3 = .ok (.dup, 1) := dk_89 (dk_at dksJ38_iterator_0 3 rfl rfl)
theorem dJ38_iterator_4 : decode cJ38_iterator 4 = .ok (.aload_n 0, 1) := dk_42 (dk_at dksJ38_iterator_0 4 rfl rfl)
theorem dJ38_iterator_5 : decode cJ38_iterator 5 = .ok (.getfield 1, 3) := dk_180 0 1 (dk_at dksJ38_iterator_0 5 rfl rfl)
theorem dJ38_iterator_8 : decode cJ38_iterator 8 = .ok (.aload_n 0, 1) := dk_42 (dk_at dksJ38_iterator_0 8 rfl rfl)
theorem dJ38_iterator_9 : decode cJ38_iterator 9 = .ok (.getfield 13, 3) := dk_180 0 13 (dk_at dksJ38_iterator_0 9 rfl rfl)
theorem dJ38_iterator_12 : decode cJ38_iterator 12 = .ok (.invokespecial 28, 3) := dk_183 0 28 (dk_at dksJ38_iterator_0 12 rfl rfl)
theorem dJ38_iterator_15 : decode cJ38_iterator 15 = .ok (.areturn, 1) := dk_176 (dk_at dksJ38_iterator_0 15 rfl rfl)
abbrev cJ21_iterator : ByteArray := prog_60_method_6_code
def yJ21_iterator : MethodName := ⟨RJ21, "iterator", "()Ljava/util/Iterator;"⟩
def dkwJ21_iterator_0 : List UInt8 := [42, 180, 0, 10, 182, 0, 45, 185, 0, 49, 1, 0, 176]
abbrev dktJ21_iterator_0 : List UInt8 := dkwJ21_iterator_0 ++ []
theorem dksJ21_iterator_0 : cJ21_iterator.data.toList.drop 0 = dktJ21_iterator_0 := by decide +kernel
theorem dJ21_iterator_0 : decode cJ21_iterator 0 = .ok (.aload_n 0, 1) := dk_42 (dk_at dksJ21_iterator_0 0 rfl rfl)
theorem dJ21_iterator_1 : decode cJ21_iterator 1 = .ok (.getfield 10, 3) := dk_180 0 10 (dk_at dksJ21_iterator_0 1 rfl rfl)
theorem dJ21_iterator_4 : decode cJ21_iterator 4 = .ok (.invokevirtual 45, 3) := dk_182 0 45 (dk_at dksJ21_iterator_0 4 rfl rfl)
theorem dJ21_iterator_7 : decode cJ21_iterator 7 = .ok (.invokeinterface 49 1, 5) := by decide +kernel
theorem dJ21_iterator_12 : decode cJ21_iterator 12 = .ok (.areturn, 1) := dk_176 (dk_at dksJ21_iterator_0 12 rfl rfl)
abbrev cJ22_init : ByteArray := prog_67_method_3_code
def yJ22_init : MethodName := ⟨RJ22, "<init>", "()V"⟩
def dkwJ22_init_0 : List UInt8 := [42, 16, 16, 18, 7, 4, 183, 0, 1, 177]
abbrev dktJ22_init_0 : List UInt8 := dkwJ22_init_0 ++ []
theorem dksJ22_init_0 : cJ22_init.data.toList.drop 0 = dktJ22_init_0 := by decide +kernel
theorem dJ22_init_0 : decode cJ22_init 0 = .ok (.aload_n 0, 1) := dk_42 (dk_at dksJ22_init_0 0 rfl rfl)
theorem dJ22_init_1 : decode cJ22_init 1 = .ok (.bipush 16, 2) := dk_16 16 (dk_at dksJ22_init_0 1 rfl rfl)
theorem dJ22_init_3 : decode cJ22_init 3 = .ok (.ldc 7, 2) := dk_18 7 (dk_at dksJ22_init_0 3 rfl rfl)
theorem dJ22_init_5 : decode cJ22_init 5 = .ok (.iconst 1, 1) := dk_4 (dk_at dksJ22_init_0 5 rfl rfl)
theorem dJ22_init_6 : decode cJ22_init 6 = .ok (.invokespecial 1, 3) := dk_183 0 1 (dk_at dksJ22_init_0 6 rfl rfl)
theorem dJ22_init_9 : decode cJ22_init 9 = .ok (.return_, 1) := dk_177 (dk_at dksJ22_init_0 9 rfl rfl)
abbrev cJ24_init_2 : ByteArray := prog_54_method_7_code
def yJ24_init_2 : MethodName := ⟨RJ24, "<init>", "()V"⟩
def dkwJ24_init_2_0 : List UInt8 := [42, 183, 0, 43, 42, 18, 92, 181, 0, 81, 177]
abbrev dktJ24_init_2_0 : List UInt8 := dkwJ24_init_2_0 ++ []
theorem dksJ24_init_2_0 : cJ24_init_2.data.toList.drop 0 = dktJ24_init_2_0 := by decide +kernel
theorem dJ24_init_2_0 : decode cJ24_init_2 0 = .ok (.aload_n 0, 1) := dk_42 (dk_at dksJ24_init_2_0 0 rfl rfl)
theorem dJ24_init_2_1 : decode cJ24_init_2 1 = .ok (.invokespecial 43, 3) := dk_183 0 43 (dk_at dksJ24_init_2_0 1 rfl rfl)
theorem dJ24_init_2_4 : decode cJ24_init_2 4 = .ok (.aload_n 0, 1) := dk_42 (dk_at dksJ24_init_2_0 4 rfl rfl)
theorem dJ24_init_2_5 : decode cJ24_init_2 5 = .ok (.ldc 92, 2) := dk_18 92 (dk_at dksJ24_init_2_0 5 rfl rfl)
theorem dJ24_init_2_7 : decode cJ24_init_2 7 = .ok (.putfield 81, 3) := dk_181 0 81 (dk_at dksJ24_init_2_0 7 rfl rfl)
theorem dJ24_init_2_10 : decode cJ24_init_2 10 = .ok (.return_, 1) := dk_177 (dk_at dksJ24_init_2_0 10 rfl rfl)
abbrev cJ24_size : ByteArray := prog_54_method_10_code
def yJ24_size : MethodName := ⟨RJ24, "size", "()I"⟩
theorem dJ24_size_0 : decode cJ24_size 0 = .ok (.aload_n 0, 1) := by decide +kernel
theorem dJ24_size_1 : decode cJ24_size 1 = .ok (.getfield 156, 3) := by decide +kernel
theorem dJ24_size_4 : decode cJ24_size 4 = .ok (.ireturn, 1) := by decide +kernel
abbrev cJ25_init_2 : ByteArray := prog_62_method_16_code
def yJ25_init_2 : MethodName := ⟨RJ25, "<init>", "()V"⟩
def dkwJ25_init_2_0 : List UInt8 := [42, 183, 0, 87, 42, 3, 181, 0, 1, 42, 3, 181, 0, 64, 177]
abbrev dktJ25_init_2_0 : List UInt8 := dkwJ25_init_2_0 ++ []
theorem dksJ25_init_2_0 : cJ25_init_2.data.toList.drop 0 = dktJ25_init_2_0 := by decide +kernel
theorem dJ25_init_2_0 : decode cJ25_init_2 0 = .ok (.aload_n 0, 1) := dk_42 (dk_at dksJ25_init_2_0 0 rfl rfl)
theorem dJ25_init_2_1 : decode cJ25_init_2 1 = .ok (.invokespecial 87, 3) := dk_183 0 87 (dk_at dksJ25_init_2_0 1 rfl rfl)
theorem dJ25_init_2_4 : decode cJ25_init_2 4 = .ok (.aload_n 0, 1) := dk_42 (dk_at dksJ25_init_2_0 4 rfl rfl)
theorem dJ25_init_2_5 : decode cJ25_init_2 5 = .ok (.iconst 0, 1) := dk_3 (dk_at dksJ25_init_2_0 5 rfl rfl)
theorem dJ25_init_2_6 : decode cJ25_init_2 6 = .ok (.putfield 1, 3) := dk_181 0 1 (dk_at dksJ25_init_2_0 6 rfl rfl)
theorem dJ25_init_2_9 : decode cJ25_init_2 9 = .ok (.aload_n 0, 1) := dk_42 (dk_at dksJ25_init_2_0 9 rfl rfl)
theorem dJ25_init_2_10 : decode cJ25_init_2 10 = .ok (.iconst 0, 1) := dk_3 (dk_at dksJ25_init_2_0 10 rfl rfl)
theorem dJ25_init_2_11 : decode cJ25_init_2 11 = .ok (.putfield 64, 3) := dk_181 0 64 (dk_at dksJ25_init_2_0 11 rfl rfl)
theorem dJ25_init_2_14 : decode cJ25_init_2 14 = .ok (.return_, 1) := dk_177 (dk_at dksJ25_init_2_0 14 rfl rfl)
abbrev cJ25_get : ByteArray := prog_62_method_20_code
def yJ25_get : MethodName := ⟨RJ25, "get", "(Ljava/lang/Object;)Ljava/lang/Object;"⟩
def dkwJ25_get_1 : List UInt8 := [44, 180, 0, 107, 176]
abbrev dktJ25_get_1 : List UInt8 := dkwJ25_get_1 ++ []
def dkwJ25_get_0 : List UInt8 := [42, 43, 182, 0, 99, 89, 77, 199, 0, 5, 1, 176, 42, 180, 0, 64, 153, 0, 8, 42, 44, 182, 0, 103]
abbrev dktJ25_get_0 : List UInt8 := dkwJ25_get_0 ++ dktJ25_get_1
theorem dksJ25_get_0 : cJ25_get.data.toList.drop 0 = dktJ25_get_0 := by decide +kernel
theorem dksJ25_get_1 : cJ25_get.data.toList.drop 24 = dktJ25_get_1 := dk_seg dksJ25_get_0 24 rfl rfl
theorem dJ25_get_0 : decode cJ25_get 0 = .ok (.aload_n 0, 1) := dk_42 (dk_at dksJ25_get_0 0 rfl rfl)
theorem dJ25_get_1 : decode cJ25_get 1 = .ok (.aload_n 1, 1) := dk_43 (dk_at dksJ25_get_0 1 rfl rfl)
theorem dJ25_get_2 : decode cJ25_get 2 = .ok (.invokevirtual 99, 3) := dk_182 0 99 (dk_at dksJ25_get_0 2 rfl rfl)
theorem dJ25_get_5 : decode cJ25_get 5 = .ok (.dup, 1) := dk_89 (dk_at dksJ25_get_0 5 rfl rfl)
theorem dJ25_get_6 : decode cJ25_get 6 = .ok (.astore_n 2, 1) := dk_77 (dk_at dksJ25_get_0 6 rfl rfl)
theorem dJ25_get_7 : decode cJ25_get 7 = .ok (.ifnonnull 5, 3) := dk_199 0 5 (dk_at dksJ25_get_0 7 rfl rfl)
theorem dJ25_get_10 : decode cJ25_get 10 = .ok (.aconst_null, 1) := dk_1 (dk_at dksJ25_get_0 10 rfl rfl)
theorem dJ25_get_11 : decode cJ25_get 11 = .ok (.areturn, 1) := dk_176 (dk_at dksJ25_get_0 11 rfl rfl)
theorem dJ25_get_12 : decode cJ25_get 12 = .ok (.aload_n 0, 1) := dk_42 (dk_at dksJ25_get_0 12 rfl rfl)
theorem dJ25_get_13 : decode cJ25_get 13 = .ok (.getfield 64, 3) := dk_180 0 64 (dk_at dksJ25_get_0 13 rfl rfl)
theorem dJ25_get_16 : decode cJ25_get 16 = .ok (.ifCond .eq 8, 3) := dk_153 0 8 (dk_at dksJ25_get_0 16 rfl rfl)
theorem dJ25_get_19 : decode cJ25_get 19 = .ok (.aload_n 0, 1) := dk_42 (dk_at dksJ25_get_0 19 rfl rfl)
theorem dJ25_get_20 : decode cJ25_get 20 = .ok (.aload_n 2, 1) := dk_44 (dk_at dksJ25_get_0 20 rfl rfl)
theorem dJ25_get_21 : decode cJ25_get 21 = .ok (.invokevirtual 103, 3) := dk_182 0 103 (dk_at dksJ25_get_0 21 rfl rfl)
theorem dJ25_get_24 : decode cJ25_get 24 = .ok (.aload_n 2, 1) := dk_44 (dk_at dksJ25_get_1 0 rfl rfl)
theorem dJ25_get_25 : decode cJ25_get 25 = .ok (.getfield 107, 3) := dk_180 0 107 (dk_at dksJ25_get_1 1 rfl rfl)
theorem dJ25_get_28 : decode cJ25_get 28 = .ok (.areturn, 1) := dk_176 (dk_at dksJ25_get_1 4 rfl rfl)
abbrev cJ26_floatToIntBits : ByteArray := prog_24_method_24_code
def yJ26_floatToIntBits : MethodName := ⟨RJ26, "floatToIntBits", "(F)I"⟩
def dkwJ26_floatToIntBits_0 : List UInt8 := [34, 184, 0, 59, 154, 0, 8, 34, 184, 0, 74, 172, 18, 77, 172]
abbrev dktJ26_floatToIntBits_0 : List UInt8 := dkwJ26_floatToIntBits_0 ++ []
theorem dksJ26_floatToIntBits_0 : cJ26_floatToIntBits.data.toList.drop 0 = dktJ26_floatToIntBits_0 := by decide +kernel
theorem dJ26_floatToIntBits_0 : decode cJ26_floatToIntBits 0 = .ok (.fload_n 0, 1) := dk_34 (dk_at dksJ26_floatToIntBits_0 0 rfl rfl)
theorem dJ26_floatToIntBits_1 : decode cJ26_floatToIntBits 1 = .ok (.invokestatic 59, 3) := dk_184 0 59 (dk_at dksJ26_floatToIntBits_0 1 rfl rfl)
theorem dJ26_floatToIntBits_4 : decode cJ26_floatToIntBits 4 = .ok (.ifCond .ne 8, 3) := dk_154 0 8 (dk_at dksJ26_floatToIntBits_0 4 rfl rfl)
theorem dJ26_floatToIntBits_7 : decode cJ26_floatToIntBits 7 = .ok (.fload_n 0, 1) := dk_34 (dk_at dksJ26_floatToIntBits_0 7 rfl rfl)
theorem dJ26_floatToIntBits_8 : decode cJ26_floatToIntBits 8 = .ok (.invokestatic 74, 3) := dk_184 0 74 (dk_at dksJ26_floatToIntBits_0 8 rfl rfl)
theorem dJ26_floatToIntBits_11 : decode cJ26_floatToIntBits 11 = .ok (.ireturn, 1) := dk_172 (dk_at dksJ26_floatToIntBits_0 11 rfl rfl)
theorem dJ26_floatToIntBits_12 : decode cJ26_floatToIntBits 12 = .ok (.ldc 77, 2) := dk_18 77 (dk_at dksJ26_floatToIntBits_0 12 rfl rfl)
theorem dJ26_floatToIntBits_14 : decode cJ26_floatToIntBits 14 = .ok (.ireturn, 1) := dk_172 (dk_at dksJ26_floatToIntBits_0 14 rfl rfl)
abbrev cJ32_getKey : ByteArray := prog_58_method_2_code
def yJ32_getKey : MethodName := ⟨RJ32, "getKey", "()Ljava/lang/Object;"⟩
theorem dJ32_getKey_0 : decode cJ32_getKey 0 = .ok (.aload_n 0, 1) := by decide +kernel
theorem dJ32_getKey_1 : decode cJ32_getKey 1 = .ok (.getfield 13, 3) := by decide +kernel
theorem dJ32_getKey_4 : decode cJ32_getKey 4 = .ok (.areturn, 1) := by decide +kernel
abbrev cJ41_hasNext : ByteArray := prog_64_method_2_code
def yJ41_hasNext : MethodName := ⟨RJ41, "hasNext", "()Z"⟩
def dkwJ41_hasNext_0 : List UInt8 := [42, 180, 0, 26, 198, 0, 7, 4, 167, 0, 4, 3, 172]
abbrev dktJ41_hasNext_0 : List UInt8 := dkwJ41_hasNext_0 ++ []
theorem dksJ41_hasNext_0 : cJ41_hasNext.data.toList.drop 0 = dktJ41_hasNext_0 := by decide +kernel
theorem dJ41_hasNext_0 : decode cJ41_hasNext 0 = .ok (.aload_n 0, 1) := dk_42 (dk_at dksJ41_hasNext_0 0 rfl rfl)
theorem dJ41_hasNext_1 : decode cJ41_hasNext 1 = .ok (.getfield 26, 3) := dk_180 0 26 (dk_at dksJ41_hasNext_0 1 rfl rfl)
theorem dJ41_hasNext_4 : decode cJ41_hasNext 4 = .ok (.ifnull 7, 3) := dk_198 0 7 (dk_at dksJ41_hasNext_0 4 rfl rfl)
theorem dJ41_hasNext_7 : decode cJ41_hasNext 7 = .ok (.iconst 1, 1) := dk_4 (dk_at dksJ41_hasNext_0 7 rfl rfl)
theorem dJ41_hasNext_8 : decode cJ41_hasNext 8 = .ok (.goto 4, 3) := dk_167 0 4 (dk_at dksJ41_hasNext_0 8 rfl rfl)
theorem dJ41_hasNext_11 : decode cJ41_hasNext 11 = .ok (.iconst 0, 1) := dk_3 (dk_at dksJ41_hasNext_0 11 rfl rfl)
theorem dJ41_hasNext_12 : decode cJ41_hasNext 12 = .ok (.ireturn, 1) := dk_172 (dk_at dksJ41_hasNext_0 12 rfl rfl)
abbrev cJ41_nextNode : ByteArray := prog_64_method_3_code
def yJ41_nextNode : MethodName := ⟨RJ41, "nextNode", "()Ljava/util/LinkedHashMap$Entry;"⟩
def dkwJ41_nextNode_2 : List UInt8 := [180, 0, 13, 153, 0, 10, 43, 180, 0, 45, 167, 0, 7, 43, 180, 0, 50, 181, 0, 26, 43, 176]
abbrev dktJ41_nextNode_2 : List UInt8 := dkwJ41_nextNode_2 ++ []
def dkwJ41_nextNode_1 : List UInt8 := [183, 0, 41, 191, 43, 199, 0, 11, 187, 0, 42, 89, 183, 0, 44, 191, 42, 43, 181, 0, 36, 42, 42]
abbrev dktJ41_nextNode_1 : List UInt8 := dkwJ41_nextNode_1 ++ dktJ41_nextNode_2
def dkwJ41_nextNode_0 : List UInt8 := [42, 180, 0, 26, 76, 42, 180, 0, 1, 180, 0, 29, 42, 180, 0, 33, 159, 0, 11, 187, 0, 39, 89]
abbrev dktJ41_nextNode_0 : List UInt8 := dkwJ41_nextNode_0 ++ dktJ41_nextNode_1
theorem dksJ41_nextNode_0 : cJ41_nextNode.data.toList.drop 0 = dktJ41_nextNode_0 := by decide +kernel
theorem dksJ41_nextNode_1 : cJ41_nextNode.data.toList.drop 23 = dktJ41_nextNode_1 := dk_seg dksJ41_nextNode_0 23 rfl rfl
theorem dksJ41_nextNode_2 : cJ41_nextNode.data.toList.drop 46 = dktJ41_nextNode_2 := dk_seg dksJ41_nextNode_1 23 rfl rfl
theorem dJ41_nextNode_0 : decode cJ41_nextNode 0 = .ok (.aload_n 0, 1) := dk_42 (dk_at dksJ41_nextNode_0 0 rfl rfl)
theorem dJ41_nextNode_1 : decode cJ41_nextNode 1 = .ok (.getfield 26, 3) := dk_180 0 26 (dk_at dksJ41_nextNode_0 1 rfl rfl)
theorem dJ41_nextNode_4 : decode cJ41_nextNode 4 = .ok (.astore_n 1, 1) := dk_76 (dk_at dksJ41_nextNode_0 4 rfl rfl)
theorem dJ41_nextNode_5 : decode cJ41_nextNode 5 = .ok (.aload_n 0, 1) := dk_42 (dk_at dksJ41_nextNode_0 5 rfl rfl)
theorem dJ41_nextNode_6 : decode cJ41_nextNode 6 = .ok (.getfield 1, 3) := dk_180 0 1 (dk_at dksJ41_nextNode_0 6 rfl rfl)
theorem dJ41_nextNode_9 : decode cJ41_nextNode 9 = .ok (.getfield 29, 3) := dk_180 0 29 (dk_at dksJ41_nextNode_0 9 rfl rfl)
theorem dJ41_nextNode_12 : decode cJ41_nextNode 12 = .ok (.aload_n 0, 1) := dk_42 (dk_at dksJ41_nextNode_0 12 rfl rfl)
theorem dJ41_nextNode_13 : decode cJ41_nextNode 13 = .ok (.getfield 33, 3) := dk_180 0 33 (dk_at dksJ41_nextNode_0 13 rfl rfl)
theorem dJ41_nextNode_16 : decode cJ41_nextNode 16 = .ok (.if_icmp .eq 11, 3) := dk_159 0 11 (dk_at dksJ41_nextNode_0 16 rfl rfl)
theorem dJ41_nextNode_19 : decode cJ41_nextNode 19 = .ok (.new 39, 3) := dk_187 0 39 (dk_at dksJ41_nextNode_0 19 rfl rfl)
theorem dJ41_nextNode_22 : decode cJ41_nextNode 22 = .ok (.dup, 1) := dk_89 (dk_at dksJ41_nextNode_0 22 rfl rfl)
theorem dJ41_nextNode_23 : decode cJ41_nextNode 23 = .ok (.invokespecial 41, 3) := dk_183 0 41 (dk_at dksJ41_nextNode_1 0 rfl rfl)
theorem dJ41_nextNode_26 : decode cJ41_nextNode 26 = .ok (.athrow, 1) := dk_191 (dk_at dksJ41_nextNode_1 3 rfl rfl)
theorem dJ41_nextNode_27 : decode cJ41_nextNode 27 = .ok (.aload_n 1, 1) := dk_43 (dk_at dksJ41_nextNode_1 4 rfl rfl)
theorem dJ41_nextNode_28 : decode cJ41_nextNode 28 = .ok (.ifnonnull 11, 3) := dk_199 0 11 (dk_at dksJ41_nextNode_1 5 rfl rfl)
theorem dJ41_nextNode_31 : decode cJ41_nextNode 31 = .ok (.new 42, 3) := dk_187 0 42 (dk_at dksJ41_nextNode_1 8 rfl rfl)
theorem dJ41_nextNode_34 : decode cJ41_nextNode 34 = .ok (.dup, 1) := dk_89 (dk_at dksJ41_nextNode_1 11 rfl rfl)
theorem dJ41_nextNode_35 : decode cJ41_nextNode 35 = .ok (.invokespecial 44, 3) := dk_183 0 44 (dk_at dksJ41_nextNode_1 12 rfl rfl)
theorem dJ41_nextNode_38 : decode cJ41_nextNode 38 = .ok (.athrow, 1) := dk_191 (dk_at dksJ41_nextNode_1 15 rfl rfl)
theorem dJ41_nextNode_39 : decode cJ41_nextNode 39 = .ok (.aload_n 0, 1) := dk_42 (dk_at dksJ41_nextNode_1 16 rfl rfl)
theorem dJ41_nextNode_40 : decode cJ41_nextNode 40 = .ok (.aload_n 1, 1) := dk_43 (dk_at dksJ41_nextNode_1 17 rfl rfl)
theorem dJ41_nextNode_41 : decode cJ41_nextNode 41 = .ok (.putfield 36, 3) := dk_181 0 36 (dk_at dksJ41_nextNode_1 18 rfl rfl)
theorem dJ41_nextNode_44 : decode cJ41_nextNode 44 = .ok (.aload_n 0, 1) := dk_42 (dk_at dksJ41_nextNode_1 21 rfl rfl)
theorem dJ41_nextNode_45 : decode cJ41_nextNode 45 = .ok (.aload_n 0, 1) := dk_42 (dk_at dksJ41_nextNode_1 22 rfl rfl)
theorem dJ41_nextNode_46 : decode cJ41_nextNode 46 = .ok (.getfield 13, 3) := dk_180 0 13 (dk_at dksJ41_nextNode_2 0 rfl rfl)
theorem dJ41_nextNode_49 : decode cJ41_nextNode 49 = .ok (.ifCond .eq 10, 3) := dk_153 0 10 (dk_at dksJ41_nextNode_2 3 rfl rfl)
theorem dJ41_nextNode_52 : decode cJ41_nextNode 52 = .ok (.aload_n 1, 1) := dk_43 (dk_at dksJ41_nextNode_2 6 rfl rfl)
theorem dJ41_nextNode_53 : decode cJ41_nextNode 53 = .ok (.getfield 45, 3) := dk_180 0 45 (dk_at dksJ41_nextNode_2 7 rfl rfl)
theorem dJ41_nextNode_56 : decode cJ41_nextNode 56 = .ok (.goto 7, 3) := dk_167 0 7 (dk_at dksJ41_nextNode_2 10 rfl rfl)
theorem dJ41_nextNode_59 : decode cJ41_nextNode 59 = .ok (.aload_n 1, 1) := dk_43 (dk_at dksJ41_nextNode_2 13 rfl rfl)
theorem dJ41_nextNode_60 : decode cJ41_nextNode 60 = .ok (.getfield 50, 3) := dk_180 0 50 (dk_at dksJ41_nextNode_2 14 rfl rfl)
theorem dJ41_nextNode_63 : decode cJ41_nextNode 63 = .ok (.putfield 26, 3) := dk_181 0 26 (dk_at dksJ41_nextNode_2 17 rfl rfl)
theorem dJ41_nextNode_66 : decode cJ41_nextNode 66 = .ok (.aload_n 1, 1) := dk_43 (dk_at dksJ41_nextNode_2 20 rfl rfl)
theorem dJ41_nextNode_67 : decode cJ41_nextNode 67 = .ok (.areturn, 1) := dk_176 (dk_at dksJ41_nextNode_2 21 rfl rfl)
abbrev cJ42_next : ByteArray := prog_65_method_2_code
def yJ42_next : MethodName := ⟨RJ42, "next", "()Ljava/lang/Object;"⟩
def dkwJ42_next_0 : List UInt8 := [42, 182, 0, 7, 182, 0, 13, 176]
abbrev dktJ42_next_0 : List UInt8 := dkwJ42_next_0 ++ []
theorem dksJ42_next_0 : cJ42_next.data.toList.drop 0 = dktJ42_next_0 := by decide +kernel
theorem dJ42_next_0 : decode cJ42_next 0 = .ok (.aload_n 0, 1) := dk_42 (dk_at dksJ42_next_0 0 rfl rfl)
theorem dJ42_next_1 : decode cJ42_next 1 = .ok (.invokevirtual 7, 3) := dk_182 0 7 (dk_at dksJ42_next_0 1 rfl rfl)
theorem dJ42_next_4 : decode cJ42_next 4 = .ok (.invokevirtual 13, 3) := dk_182 0 13 (dk_at dksJ42_next_0 4 rfl rfl)
theorem dJ42_next_7 : decode cJ42_next 7 = .ok (.areturn, 1) := dk_176 (dk_at dksJ42_next_0 7 rfl rfl)
abbrev cX11_init : ByteArray := prog_4_method_1_code
def yX11_init : MethodName := ⟨RX11, "<init>", "(IIZ)V"⟩
def dkwX11_init_0 : List UInt8 := [42, 183, 0, 1, 42, 27, 181, 0, 7, 42, 28, 181, 0, 13, 42, 29, 181, 0, 16, 177]
abbrev dktX11_init_0 : List UInt8 := dkwX11_init_0 ++ []
theorem dksX11_init_0 : cX11_init.data.toList.drop 0 = dktX11_init_0 := by decide +kernel
theorem dX11_init_0 : decode cX11_init 0 = .ok (.aload_n 0, 1) := dk_42 (dk_at dksX11_init_0 0 rfl rfl)
theorem dX11_init_1 : decode cX11_init 1 = .ok (.invokespecial 1, 3) := dk_183 0 1 (dk_at dksX11_init_0 1 rfl rfl)
theorem dX11_init_4 : decode cX11_init 4 = .ok (.aload_n 0, 1) := dk_42 (dk_at dksX11_init_0 4 rfl rfl)
theorem dX11_init_5 : decode cX11_init 5 = .ok (.iload_n 1, 1) := dk_27 (dk_at dksX11_init_0 5 rfl rfl)
theorem dX11_init_6 : decode cX11_init 6 = .ok (.putfield 7, 3) := dk_181 0 7 (dk_at dksX11_init_0 6 rfl rfl)
theorem dX11_init_9 : decode cX11_init 9 = .ok (.aload_n 0, 1) := dk_42 (dk_at dksX11_init_0 9 rfl rfl)
theorem dX11_init_10 : decode cX11_init 10 = .ok (.iload_n 2, 1) := dk_28 (dk_at dksX11_init_0 10 rfl rfl)
theorem dX11_init_11 : decode cX11_init 11 = .ok (.putfield 13, 3) := dk_181 0 13 (dk_at dksX11_init_0 11 rfl rfl)
theorem dX11_init_14 : decode cX11_init 14 = .ok (.aload_n 0, 1) := dk_42 (dk_at dksX11_init_0 14 rfl rfl)
theorem dX11_init_15 : decode cX11_init 15 = .ok (.iload_n 3, 1) := dk_29 (dk_at dksX11_init_0 15 rfl rfl)
theorem dX11_init_16 : decode cX11_init 16 = .ok (.putfield 16, 3) := dk_181 0 16 (dk_at dksX11_init_0 16 rfl rfl)
theorem dX11_init_19 : decode cX11_init 19 = .ok (.return_, 1) := dk_177 (dk_at dksX11_init_0 19 rfl rfl)
abbrev cX12_init : ByteArray := prog_2_method_1_code
def yX12_init : MethodName := ⟨RX12, "<init>", "(II)V"⟩
def dkwX12_init_0 : List UInt8 := [42, 183, 0, 1, 42, 27, 181, 0, 7, 42, 28, 181, 0, 13, 177]
abbrev dktX12_init_0 : List UInt8 := dkwX12_init_0 ++ []
theorem dksX12_init_0 : cX12_init.data.toList.drop 0 = dktX12_init_0 := by decide +kernel
theorem dX12_init_0 : decode cX12_init 0 = .ok (.aload_n 0, 1) := dk_42 (dk_at dksX12_init_0 0 rfl rfl)
theorem dX12_init_1 : decode cX12_init 1 = .ok (.invokespecial 1, 3) := dk_183 0 1 (dk_at dksX12_init_0 1 rfl rfl)
theorem dX12_init_4 : decode cX12_init 4 = .ok (.aload_n 0, 1) := dk_42 (dk_at dksX12_init_0 4 rfl rfl)
theorem dX12_init_5 : decode cX12_init 5 = .ok (.iload_n 1, 1) := dk_27 (dk_at dksX12_init_0 5 rfl rfl)
theorem dX12_init_6 : decode cX12_init 6 = .ok (.putfield 7, 3) := dk_181 0 7 (dk_at dksX12_init_0 6 rfl rfl)
theorem dX12_init_9 : decode cX12_init 9 = .ok (.aload_n 0, 1) := dk_42 (dk_at dksX12_init_0 9 rfl rfl)
theorem dX12_init_10 : decode cX12_init 10 = .ok (.iload_n 2, 1) := dk_28 (dk_at dksX12_init_0 10 rfl rfl)
theorem dX12_init_11 : decode cX12_init 11 = .ok (.putfield 13, 3) := dk_181 0 13 (dk_at dksX12_init_0 11 rfl rfl)
theorem dX12_init_14 : decode cX12_init 14 = .ok (.return_, 1) := dk_177 (dk_at dksX12_init_0 14 rfl rfl)
abbrev cX12_ofTold : ByteArray := prog_2_method_2_code
def yX12_ofTold : MethodName := ⟨RX12, "ofTold", "(I)LTrailMarkers$Cell;"⟩
def dkwX12_ofTold_0 : List UInt8 := [187, 0, 8, 89, 26, 16, 100, 108, 26, 16, 100, 112, 183, 0, 16, 176]
abbrev dktX12_ofTold_0 : List UInt8 := dkwX12_ofTold_0 ++ []
theorem dksX12_ofTold_0 : cX12_ofTold.data.toList.drop 0 = dktX12_ofTold_0 := by decide +kernel
theorem dX12_ofTold_0 : decode cX12_ofTold 0 = .ok (.new 8, 3) := dk_187 0 8 (dk_at dksX12_ofTold_0 0 rfl rfl)
theorem dX12_ofTold_3 : decode cX12_ofTold 3 = .ok (.dup, 1) := dk_89 (dk_at dksX12_ofTold_0 3 rfl rfl)
theorem dX12_ofTold_4 : decode cX12_ofTold 4 = .ok (.iload_n 0, 1) := dk_26 (dk_at dksX12_ofTold_0 4 rfl rfl)
theorem dX12_ofTold_5 : decode cX12_ofTold 5 = .ok (.bipush 100, 2) := dk_16 100 (dk_at dksX12_ofTold_0 5 rfl rfl)
theorem dX12_ofTold_7 : decode cX12_ofTold 7 = .ok (.idiv, 1) := dk_108 (dk_at dksX12_ofTold_0 7 rfl rfl)
theorem dX12_ofTold_8 : decode cX12_ofTold 8 = .ok (.iload_n 0, 1) := dk_26 (dk_at dksX12_ofTold_0 8 rfl rfl)
theorem dX12_ofTold_9 : decode cX12_ofTold 9 = .ok (.bipush 100, 2) := dk_16 100 (dk_at dksX12_ofTold_0 9 rfl rfl)
theorem dX12_ofTold_11 : decode cX12_ofTold 11 = .ok (.irem, 1) := dk_112 (dk_at dksX12_ofTold_0 11 rfl rfl)
theorem dX12_ofTold_12 : decode cX12_ofTold 12 = .ok (.invokespecial 16, 3) := dk_183 0 16 (dk_at dksX12_ofTold_0 12 rfl rfl)
theorem dX12_ofTold_15 : decode cX12_ofTold 15 = .ok (.areturn, 1) := dk_176 (dk_at dksX12_ofTold_0 15 rfl rfl)
abbrev cX11_write : ByteArray := prog_4_method_4_code
def yX11_write : MethodName := ⟨RX11, "write", "(Ljava/lang/StringBuilder;)V"⟩
def dkwX11_write_1 : List UInt8 := [180, 0, 16, 153, 0, 10, 43, 16, 120, 182, 0, 34, 87, 177]
abbrev dktX11_write_1 : List UInt8 := dkwX11_write_1 ++ []
def dkwX11_write_0 : List UInt8 := [43, 42, 180, 0, 7, 182, 0, 20, 18, 26, 42, 180, 0, 13, 182, 0, 28, 182, 0, 34, 87, 42]
abbrev dktX11_write_0 : List UInt8 := dkwX11_write_0 ++ dktX11_write_1
theorem dksX11_write_0 : cX11_write.data.toList.drop 0 = dktX11_write_0 := by decide +kernel
theorem dksX11_write_1 : cX11_write.data.toList.drop 22 = dktX11_write_1 := dk_seg dksX11_write_0 22 rfl rfl
theorem dX11_write_0 : decode cX11_write 0 = .ok (.aload_n 1, 1) := dk_43 (dk_at dksX11_write_0 0 rfl rfl)
theorem dX11_write_1 : decode cX11_write 1 = .ok (.aload_n 0, 1) := dk_42 (dk_at dksX11_write_0 1 rfl rfl)
theorem dX11_write_2 : decode cX11_write 2 = .ok (.getfield 7, 3) := dk_180 0 7 (dk_at dksX11_write_0 2 rfl rfl)
theorem dX11_write_5 : decode cX11_write 5 = .ok (.invokevirtual 20, 3) := dk_182 0 20 (dk_at dksX11_write_0 5 rfl rfl)
theorem dX11_write_8 : decode cX11_write 8 = .ok (.ldc 26, 2) := dk_18 26 (dk_at dksX11_write_0 8 rfl rfl)
theorem dX11_write_10 : decode cX11_write 10 = .ok (.aload_n 0, 1) := dk_42 (dk_at dksX11_write_0 10 rfl rfl)
theorem dX11_write_11 : decode cX11_write 11 = .ok (.getfield 13, 3) := dk_180 0 13 (dk_at dksX11_write_0 11 rfl rfl)
theorem dX11_write_14 : decode cX11_write 14 = .ok (.invokevirtual 28, 3) := dk_182 0 28 (dk_at dksX11_write_0 14 rfl rfl)
theorem dX11_write_17 : decode cX11_write 17 = .ok (.invokevirtual 34, 3) := dk_182 0 34 (dk_at dksX11_write_0 17 rfl rfl)
theorem dX11_write_20 : decode cX11_write 20 = .ok (.pop, 1) := dk_87 (dk_at dksX11_write_0 20 rfl rfl)
theorem dX11_write_21 : decode cX11_write 21 = .ok (.aload_n 0, 1) := dk_42 (dk_at dksX11_write_0 21 rfl rfl)
theorem dX11_write_22 : decode cX11_write 22 = .ok (.getfield 16, 3) := dk_180 0 16 (dk_at dksX11_write_1 0 rfl rfl)
theorem dX11_write_25 : decode cX11_write 25 = .ok (.ifCond .eq 10, 3) := dk_153 0 10 (dk_at dksX11_write_1 3 rfl rfl)
theorem dX11_write_28 : decode cX11_write 28 = .ok (.aload_n 1, 1) := dk_43 (dk_at dksX11_write_1 6 rfl rfl)
theorem dX11_write_29 : decode cX11_write 29 = .ok (.bipush 120, 2) := dk_16 120 (dk_at dksX11_write_1 7 rfl rfl)
theorem dX11_write_31 : decode cX11_write 31 = .ok (.invokevirtual 34, 3) := dk_182 0 34 (dk_at dksX11_write_1 9 rfl rfl)
theorem dX11_write_34 : decode cX11_write 34 = .ok (.pop, 1) := dk_87 (dk_at dksX11_write_1 12 rfl rfl)
theorem dX11_write_35 : decode cX11_write 35 = .ok (.return_, 1) := dk_177 (dk_at dksX11_write_1 13 rfl rfl)
theorem q140 : (Jvm.Cond.initialized "java/util/AbstractCollection") ∈ lw_all := lw_g (lw_at lw_m1 3 rfl) rfl
theorem q141 : (Jvm.Cond.initialized "java/util/ArrayDeque") ∈ lw_all := lw_g (lw_at lw_m1 4 rfl) rfl
theorem q160 : (Jvm.Cond.initialized "java/lang/Number") ∈ lw_all := lw_g (lw_at lw_m1 23 rfl) rfl
theorem q169 : (Jvm.Cond.initialized "TrailMarkers$Leg") ∈ lw_all := lw_g (lw_at lw_m1 32 rfl) rfl
theorem q170 : (Jvm.Cond.initialized "java/util/AbstractSet") ∈ lw_all := lw_g (lw_at lw_m1 33 rfl) rfl
theorem q171 : (Jvm.Cond.initialized "java/util/HashSet") ∈ lw_all := lw_g (lw_at lw_m1 34 rfl) rfl
theorem q173 : (Jvm.Cond.initialized "java/util/AbstractMap") ∈ lw_all := lw_g (lw_at lw_m1 36 rfl) rfl
theorem q174 : (Jvm.Cond.initialized "java/util/HashMap") ∈ lw_all := lw_g (lw_at lw_m1 37 rfl) rfl
theorem q175 : (Jvm.Cond.initialized "java/util/LinkedHashMap") ∈ lw_all := lw_g (lw_at lw_m1 38 rfl) rfl
theorem q176 : (Jvm.Cond.initialized "java/lang/Float") ∈ lw_all := lw_g (lw_at lw_m1 39 rfl) rfl
theorem q182 : (Jvm.Cond.initialized "TrailMarkers$Cell") ∈ lw_all := lw_g (lw_at lw_m1 45 rfl) rfl
theorem q183 : (Jvm.Cond.initialized "java/util/HashMap$Node") ∈ lw_all := lw_g (lw_at lw_m1 46 rfl) rfl
theorem q184 : (Jvm.Cond.initialized "java/util/LinkedHashMap$Entry") ∈ lw_all := lw_g (lw_at lw_m1 47 rfl) rfl
theorem q190 : (Jvm.Cond.initialized "java/util/LinkedHashMap$LinkedKeySet") ∈ lw_all := lw_g (lw_at lw_m1 53 rfl) rfl
theorem q193 : (Jvm.Cond.initialized "java/util/LinkedHashMap$LinkedHashIterator") ∈ lw_all := lw_g (lw_at lw_m1 56 rfl) rfl
theorem q194 : (Jvm.Cond.initialized "java/util/LinkedHashMap$LinkedKeyIterator") ∈ lw_all := lw_g (lw_at lw_m1 57 rfl) rfl
theorem q258 : (Jvm.Cond.methodLink "java/util/ArrayDeque" (42 : Nat) ({ cls := "java/util/AbstractCollection", name := "<init>", desc := "()V" } : Jvm.MethodName)) ∈ lw_all := lw_g (lw_at lw_m1 121 rfl) rfl
theorem q259 : (Jvm.Cond.instanceMethod ({ cls := "java/util/AbstractCollection", name := "<init>", desc := "()V" } : Jvm.MethodName)) ∈ lw_all := lw_g (lw_at lw_m1 122 rfl) rfl
theorem q260 : (Jvm.Cond.code ({ cls := "java/util/AbstractCollection", name := "<init>", desc := "()V" } : Jvm.MethodName) prog_45_method_1_code (1 : Nat) (Option.none : Option Jvm.ClassFile.FieldType)) ∈ lw_all := lw_g (lw_at lw_m1 123 rfl) rfl
theorem q261 : (Jvm.Cond.methodLink "java/util/AbstractCollection" (1 : Nat) ({ cls := "java/lang/Object", name := "<init>", desc := "()V" } : Jvm.MethodName)) ∈ lw_all := lw_g (lw_at lw_m1 124 rfl) rfl
theorem q262 : (Jvm.Cond.classLink "java/util/ArrayDeque" (47 : Nat) "java/lang/Object") ∈ lw_all := lw_g (lw_at lw_m1 125 rfl) rfl
theorem q263 : (Jvm.Cond.arrayOver (Jvm.ClassFile.FieldType.object "java/lang/Object")) ∈ lw_tbl := lw_at lw_m1 126 rfl
theorem q264 : (Jvm.Cond.fieldLink "java/util/ArrayDeque" (3 : Nat) "java/util/ArrayDeque" "elements" "[Ljava/lang/Object;") ∈ lw_all := lw_g (lw_at lw_m1 127 rfl) rfl
theorem q265 : (Jvm.Cond.fieldLink "java/util/ArrayDeque" (24 : Nat) "java/util/ArrayDeque" "head" "I") ∈ lw_all := lw_g (lw_at lw_m1 128 rfl) rfl
theorem q266 : (Jvm.Cond.fieldLink "java/util/ArrayDeque" (20 : Nat) "java/util/ArrayDeque" "tail" "I") ∈ lw_all := lw_g (lw_at lw_m1 129 rfl) rfl
theorem q547 : (Jvm.Cond.instanceMethod ({ cls := "java/lang/StringBuilder", name := "append", desc := "(C)Ljava/lang/StringBuilder;" } : Jvm.MethodName)) ∈ lw_all := lw_g (lw_at lw_m2 170 rfl) rfl
theorem q548 : (Jvm.Cond.selects "java/lang/StringBuilder" ({ cls := "java/lang/StringBuilder", name := "append", desc := "(C)Ljava/lang/StringBuilder;" } : Jvm.MethodName) ({ cls := "java/lang/StringBuilder", name := "append", desc := "(C)Ljava/lang/StringBuilder;" } : Jvm.MethodName)) ∈ lw_all := lw_g (lw_at lw_m2 171 rfl) rfl
theorem q549 : (Jvm.Cond.code ({ cls := "java/lang/StringBuilder", name := "append", desc := "(C)Ljava/lang/StringBuilder;" } : Jvm.MethodName) prog_37_method_14_code (2 : Nat) (Option.some (Jvm.ClassFile.FieldType.object "java/lang/StringBuilder"))) ∈ lw_all := lw_g (lw_at lw_m2 172 rfl) rfl
theorem q835 : (Jvm.Cond.instanceMethod ({ cls := "java/lang/String", name := "equals", desc := "(Ljava/lang/Object;)Z" } : Jvm.MethodName)) ∈ lw_all := lw_g (lw_at lw_m3 218 rfl) rfl
theorem q837 : (Jvm.Cond.code ({ cls := "java/lang/String", name := "equals", desc := "(Ljava/lang/Object;)Z" } : Jvm.MethodName) prog_35_method_66_code (3 : Nat) (Option.some Jvm.ClassFile.FieldType.boolean)) ∈ lw_all := lw_g (lw_at lw_m3 220 rfl) rfl
theorem q862 : (Jvm.Cond.instanceMethod ({ cls := "java/lang/String", name := "hashCode", desc := "()I" } : Jvm.MethodName)) ∈ lw_all := lw_g (lw_at lw_m4 5 rfl) rfl
theorem q864 : (Jvm.Cond.code ({ cls := "java/lang/String", name := "hashCode", desc := "()I" } : Jvm.MethodName) prog_35_method_78_code (2 : Nat) (Option.some Jvm.ClassFile.FieldType.int)) ∈ lw_all := lw_g (lw_at lw_m4 7 rfl) rfl
theorem q1014 : (Jvm.Cond.methodLink "java/util/ArrayDeque" (127 : Nat) ({ cls := "java/util/ArrayDeque", name := "sub", desc := "(III)I" } : Jvm.MethodName)) ∈ lw_all := lw_g (lw_at lw_m4 157 rfl) rfl
theorem q1015 : (Jvm.Cond.static ({ cls := "java/util/ArrayDeque", name := "sub", desc := "(III)I" } : Jvm.MethodName)) ∈ lw_all := lw_g (lw_at lw_m4 158 rfl) rfl
theorem q1016 : (Jvm.Cond.code ({ cls := "java/util/ArrayDeque", name := "sub", desc := "(III)I" } : Jvm.MethodName) prog_49_method_9_code (3 : Nat) (Option.some Jvm.ClassFile.FieldType.int)) ∈ lw_all := lw_g (lw_at lw_m4 159 rfl) rfl
theorem q1021 : (Jvm.Cond.methodLink "java/util/ArrayDeque" (93 : Nat) ({ cls := "java/util/ArrayDeque", name := "pollFirst", desc := "()Ljava/lang/Object;" } : Jvm.MethodName)) ∈ lw_all := lw_g (lw_at lw_m4 164 rfl) rfl
theorem q1022 : (Jvm.Cond.instanceMethod ({ cls := "java/util/ArrayDeque", name := "pollFirst", desc := "()Ljava/lang/Object;" } : Jvm.MethodName)) ∈ lw_all := lw_g (lw_at lw_m4 165 rfl) rfl
theorem q1023 : (Jvm.Cond.selects "java/util/ArrayDeque" ({ cls := "java/util/ArrayDeque", name := "pollFirst", desc := "()Ljava/lang/Object;" } : Jvm.MethodName) ({ cls := "java/util/ArrayDeque", name := "pollFirst", desc := "()Ljava/lang/Object;" } : Jvm.MethodName)) ∈ lw_all := lw_g (lw_at lw_m4 166 rfl) rfl
theorem q1024 : (Jvm.Cond.code ({ cls := "java/util/ArrayDeque", name := "pollFirst", desc := "()Ljava/lang/Object;" } : Jvm.MethodName) prog_49_method_20_code (4 : Nat) (Option.some (Jvm.ClassFile.FieldType.object "java/lang/Object"))) ∈ lw_all := lw_g (lw_at lw_m4 167 rfl) rfl
theorem q1025 : (Jvm.Cond.methodLink "java/util/ArrayDeque" (103 : Nat) ({ cls := "java/util/ArrayDeque", name := "elementAt", desc := "([Ljava/lang/Object;I)Ljava/lang/Object;" } : Jvm.MethodName)) ∈ lw_all := lw_g (lw_at lw_m4 168 rfl) rfl
theorem q1026 : (Jvm.Cond.static ({ cls := "java/util/ArrayDeque", name := "elementAt", desc := "([Ljava/lang/Object;I)Ljava/lang/Object;" } : Jvm.MethodName)) ∈ lw_all := lw_g (lw_at lw_m4 169 rfl) rfl
theorem q1027 : (Jvm.Cond.code ({ cls := "java/util/ArrayDeque", name := "elementAt", desc := "([Ljava/lang/Object;I)Ljava/lang/Object;" } : Jvm.MethodName) prog_49_method_10_code (2 : Nat) (Option.some (Jvm.ClassFile.FieldType.object "java/lang/Object"))) ∈ lw_all := lw_g (lw_at lw_m4 170 rfl) rfl
theorem q1028 : (Jvm.Cond.methodLink "java/util/ArrayDeque" (74 : Nat) ({ cls := "java/util/ArrayDeque", name := "inc", desc := "(II)I" } : Jvm.MethodName)) ∈ lw_all := lw_g (lw_at lw_m4 171 rfl) rfl
theorem q1029 : (Jvm.Cond.static ({ cls := "java/util/ArrayDeque", name := "inc", desc := "(II)I" } : Jvm.MethodName)) ∈ lw_all := lw_g (lw_at lw_m4 172 rfl) rfl
theorem q1030 : (Jvm.Cond.code ({ cls := "java/util/ArrayDeque", name := "inc", desc := "(II)I" } : Jvm.MethodName) prog_49_method_6_code (2 : Nat) (Option.some Jvm.ClassFile.FieldType.int)) ∈ lw_all := lw_g (lw_at lw_m4 173 rfl) rfl
theorem q1340 : (Jvm.Cond.methodLink "TrailMarkers$Leg" (1 : Nat) ({ cls := "java/lang/Object", name := "<init>", desc := "()V" } : Jvm.MethodName)) ∈ lw_all := lw_g (lw_at lw_m6 3 rfl) rfl
theorem q1341 : (Jvm.Cond.fieldLink "TrailMarkers$Leg" (7 : Nat) "TrailMarkers$Leg" "steps" "I") ∈ lw_all := lw_g (lw_at lw_m6 4 rfl) rfl
theorem q1343 : (Jvm.Cond.fieldLink "TrailMarkers$Leg" (13 : Nat) "TrailMarkers$Leg" "direction" "I") ∈ lw_all := lw_g (lw_at lw_m6 6 rfl) rfl
theorem q1344 : (Jvm.Cond.fieldLink "TrailMarkers$Leg" (16 : Nat) "TrailMarkers$Leg" "isInferred" "Z") ∈ lw_all := lw_g (lw_at lw_m6 7 rfl) rfl
theorem q1551 : (Jvm.Cond.methodLink "java/util/ArrayDeque" (100 : Nat) ({ cls := "java/util/ArrayDeque", name := "pollLast", desc := "()Ljava/lang/Object;" } : Jvm.MethodName)) ∈ lw_all := lw_g (lw_at lw_m6 214 rfl) rfl
theorem q1552 : (Jvm.Cond.instanceMethod ({ cls := "java/util/ArrayDeque", name := "pollLast", desc := "()Ljava/lang/Object;" } : Jvm.MethodName)) ∈ lw_all := lw_g (lw_at lw_m6 215 rfl) rfl
theorem q1553 : (Jvm.Cond.selects "java/util/ArrayDeque" ({ cls := "java/util/ArrayDeque", name := "pollLast", desc := "()Ljava/lang/Object;" } : Jvm.MethodName) ({ cls := "java/util/ArrayDeque", name := "pollLast", desc := "()Ljava/lang/Object;" } : Jvm.MethodName)) ∈ lw_all := lw_g (lw_at lw_m6 216 rfl) rfl
theorem q1554 : (Jvm.Cond.code ({ cls := "java/util/ArrayDeque", name := "pollLast", desc := "()Ljava/lang/Object;" } : Jvm.MethodName) prog_49_method_21_code (4 : Nat) (Option.some (Jvm.ClassFile.FieldType.object "java/lang/Object"))) ∈ lw_all := lw_g (lw_at lw_m6 217 rfl) rfl
theorem q1555 : (Jvm.Cond.methodLink "java/util/ArrayDeque" (68 : Nat) ({ cls := "java/util/ArrayDeque", name := "dec", desc := "(II)I" } : Jvm.MethodName)) ∈ lw_all := lw_g (lw_at lw_m6 218 rfl) rfl
theorem q1556 : (Jvm.Cond.static ({ cls := "java/util/ArrayDeque", name := "dec", desc := "(II)I" } : Jvm.MethodName)) ∈ lw_all := lw_g (lw_at lw_m6 219 rfl) rfl
theorem q1557 : (Jvm.Cond.code ({ cls := "java/util/ArrayDeque", name := "dec", desc := "(II)I" } : Jvm.MethodName) prog_49_method_7_code (2 : Nat) (Option.some Jvm.ClassFile.FieldType.int)) ∈ lw_all := lw_g (lw_at lw_m6 220 rfl) rfl
theorem q1694 : (Jvm.Cond.constantFloat "java/util/LinkedHashSet" (7 : Nat) (1061158912 : UInt32)) ∈ lw_all := lw_g (lw_at lw_m7 117 rfl) rfl
theorem q1695 : (Jvm.Cond.methodLink "java/util/LinkedHashSet" (1 : Nat) ({ cls := "java/util/HashSet", name := "<init>", desc := "(IFZ)V" } : Jvm.MethodName)) ∈ lw_all := lw_g (lw_at lw_m7 118 rfl) rfl
theorem q1696 : (Jvm.Cond.instanceMethod ({ cls := "java/util/HashSet", name := "<init>", desc := "(IFZ)V" } : Jvm.MethodName)) ∈ lw_all := lw_g (lw_at lw_m7 119 rfl) rfl
theorem q1697 : (Jvm.Cond.code ({ cls := "java/util/HashSet", name := "<init>", desc := "(IFZ)V" } : Jvm.MethodName) prog_60_method_5_code (4 : Nat) (Option.none : Option Jvm.ClassFile.FieldType)) ∈ lw_all := lw_g (lw_at lw_m7 120 rfl) rfl
theorem q1698 : (Jvm.Cond.methodLink "java/util/HashSet" (1 : Nat) ({ cls := "java/util/AbstractSet", name := "<init>", desc := "()V" } : Jvm.MethodName)) ∈ lw_all := lw_g (lw_at lw_m7 121 rfl) rfl
theorem q1699 : (Jvm.Cond.instanceMethod ({ cls := "java/util/AbstractSet", name := "<init>", desc := "()V" } : Jvm.MethodName)) ∈ lw_all := lw_g (lw_at lw_m7 122 rfl) rfl
theorem q1700 : (Jvm.Cond.code ({ cls := "java/util/AbstractSet", name := "<init>", desc := "()V" } : Jvm.MethodName) prog_48_method_1_code (1 : Nat) (Option.none : Option Jvm.ClassFile.FieldType)) ∈ lw_all := lw_g (lw_at lw_m7 123 rfl) rfl
theorem q1701 : (Jvm.Cond.methodLink "java/util/AbstractSet" (1 : Nat) ({ cls := "java/util/AbstractCollection", name := "<init>", desc := "()V" } : Jvm.MethodName)) ∈ lw_all := lw_g (lw_at lw_m7 124 rfl) rfl
theorem q1702 : (Jvm.Cond.classLink "java/util/HashSet" (42 : Nat) "java/util/LinkedHashMap") ∈ lw_all := lw_g (lw_at lw_m7 125 rfl) rfl
theorem q1703 : (Jvm.Cond.instantiable "java/util/LinkedHashMap" (12 : Nat)) ∈ lw_all := lw_g (lw_at lw_m7 126 rfl) rfl
theorem q1704 : (Jvm.Cond.methodLink "java/util/HashSet" (44 : Nat) ({ cls := "java/util/LinkedHashMap", name := "<init>", desc := "(IF)V" } : Jvm.MethodName)) ∈ lw_all := lw_g (lw_at lw_m7 127 rfl) rfl
theorem q1705 : (Jvm.Cond.instanceMethod ({ cls := "java/util/LinkedHashMap", name := "<init>", desc := "(IF)V" } : Jvm.MethodName)) ∈ lw_all := lw_g (lw_at lw_m7 128 rfl) rfl
theorem q1706 : (Jvm.Cond.code ({ cls := "java/util/LinkedHashMap", name := "<init>", desc := "(IF)V" } : Jvm.MethodName) prog_62_method_14_code (3 : Nat) (Option.none : Option Jvm.ClassFile.FieldType)) ∈ lw_all := lw_g (lw_at lw_m7 129 rfl) rfl
theorem q1707 : (Jvm.Cond.methodLink "java/util/LinkedHashMap" (81 : Nat) ({ cls := "java/util/HashMap", name := "<init>", desc := "(IF)V" } : Jvm.MethodName)) ∈ lw_all := lw_g (lw_at lw_m7 130 rfl) rfl
theorem q1708 : (Jvm.Cond.instanceMethod ({ cls := "java/util/HashMap", name := "<init>", desc := "(IF)V" } : Jvm.MethodName)) ∈ lw_all := lw_g (lw_at lw_m7 131 rfl) rfl
theorem q1709 : (Jvm.Cond.code ({ cls := "java/util/HashMap", name := "<init>", desc := "(IF)V" } : Jvm.MethodName) prog_54_method_5_code (3 : Nat) (Option.none : Option Jvm.ClassFile.FieldType)) ∈ lw_all := lw_g (lw_at lw_m7 132 rfl) rfl
theorem q1710 : (Jvm.Cond.methodLink "java/util/HashMap" (43 : Nat) ({ cls := "java/util/AbstractMap", name := "<init>", desc := "()V" } : Jvm.MethodName)) ∈ lw_all := lw_g (lw_at lw_m7 133 rfl) rfl
theorem q1711 : (Jvm.Cond.instanceMethod ({ cls := "java/util/AbstractMap", name := "<init>", desc := "()V" } : Jvm.MethodName)) ∈ lw_all := lw_g (lw_at lw_m7 134 rfl) rfl
theorem q1712 : (Jvm.Cond.code ({ cls := "java/util/AbstractMap", name := "<init>", desc := "()V" } : Jvm.MethodName) prog_47_method_1_code (1 : Nat) (Option.none : Option Jvm.ClassFile.FieldType)) ∈ lw_all := lw_g (lw_at lw_m7 135 rfl) rfl
theorem q1713 : (Jvm.Cond.methodLink "java/util/AbstractMap" (1 : Nat) ({ cls := "java/lang/Object", name := "<init>", desc := "()V" } : Jvm.MethodName)) ∈ lw_all := lw_g (lw_at lw_m7 136 rfl) rfl
theorem q1714 : (Jvm.Cond.classLink "java/util/HashMap" (49 : Nat) "java/lang/IllegalArgumentException") ∈ lw_all := lw_g (lw_at lw_m7 137 rfl) rfl
theorem q1715 : (Jvm.Cond.classLink "java/util/HashMap" (51 : Nat) "java/lang/StringBuilder") ∈ lw_all := lw_g (lw_at lw_m7 138 rfl) rfl
theorem q1716 : (Jvm.Cond.methodLink "java/util/HashMap" (53 : Nat) ({ cls := "java/lang/StringBuilder", name := "<init>", desc := "()V" } : Jvm.MethodName)) ∈ lw_all := lw_g (lw_at lw_m7 139 rfl) rfl
theorem q1722 : (Jvm.Cond.constant "java/util/HashMap" (42 : Nat) (1073741824 : Int32)) ∈ lw_all := lw_g (lw_at lw_m7 145 rfl) rfl
theorem q1723 : (Jvm.Cond.methodLink "java/util/HashMap" (70 : Nat) ({ cls := "java/lang/Float", name := "isNaN", desc := "(F)Z" } : Jvm.MethodName)) ∈ lw_all := lw_g (lw_at lw_m7 146 rfl) rfl
theorem q1724 : (Jvm.Cond.static ({ cls := "java/lang/Float", name := "isNaN", desc := "(F)Z" } : Jvm.MethodName)) ∈ lw_all := lw_g (lw_at lw_m7 147 rfl) rfl
theorem q1725 : (Jvm.Cond.code ({ cls := "java/lang/Float", name := "isNaN", desc := "(F)Z" } : Jvm.MethodName) prog_24_method_6_code (1 : Nat) (Option.some Jvm.ClassFile.FieldType.boolean)) ∈ lw_all := lw_g (lw_at lw_m7 148 rfl) rfl
theorem q1759 : (Jvm.Cond.static ({ cls := "java/lang/Float", name := "floatToRawIntBits", desc := "(F)I" } : Jvm.MethodName)) ∈ lw_all := lw_g (lw_at lw_m7 182 rfl) rfl
theorem q1760 : (Jvm.Cond.native ({ cls := "java/lang/Float", name := "floatToRawIntBits", desc := "(F)I" } : Jvm.MethodName)) ∈ lw_all := lw_g (lw_at lw_m7 183 rfl) rfl
theorem q1772 : (Jvm.Cond.static ({ cls := "java/lang/Integer", name := "numberOfLeadingZeros", desc := "(I)I" } : Jvm.MethodName)) ∈ lw_all := lw_g (lw_at lw_m7 195 rfl) rfl
theorem q1773 : (Jvm.Cond.code ({ cls := "java/lang/Integer", name := "numberOfLeadingZeros", desc := "(I)I" } : Jvm.MethodName) prog_28_method_47_code (2 : Nat) (Option.some Jvm.ClassFile.FieldType.int)) ∈ lw_all := lw_g (lw_at lw_m7 196 rfl) rfl
theorem q1774 : (Jvm.Cond.constant "java/lang/Integer" (264 : Nat) (65536 : Int32)) ∈ lw_all := lw_g (lw_at lw_m7 197 rfl) rfl
theorem q2123 : (Jvm.Cond.methodLink "java/util/HashMap" (85 : Nat) ({ cls := "java/util/HashMap", name := "tableSizeFor", desc := "(I)I" } : Jvm.MethodName)) ∈ lw_all := lw_g (lw_at lw_m9 66 rfl) rfl
theorem q2124 : (Jvm.Cond.static ({ cls := "java/util/HashMap", name := "tableSizeFor", desc := "(I)I" } : Jvm.MethodName)) ∈ lw_all := lw_g (lw_at lw_m9 67 rfl) rfl
theorem q2125 : (Jvm.Cond.code ({ cls := "java/util/HashMap", name := "tableSizeFor", desc := "(I)I" } : Jvm.MethodName) prog_54_method_4_code (2 : Nat) (Option.some Jvm.ClassFile.FieldType.int)) ∈ lw_all := lw_g (lw_at lw_m9 68 rfl) rfl
theorem q2126 : (Jvm.Cond.methodLink "java/util/HashMap" (34 : Nat) ({ cls := "java/lang/Integer", name := "numberOfLeadingZeros", desc := "(I)I" } : Jvm.MethodName)) ∈ lw_all := lw_g (lw_at lw_m9 69 rfl) rfl
theorem q2127 : (Jvm.Cond.fieldLink "java/util/LinkedHashMap" (7 : Nat) "java/util/LinkedHashMap" "head" "Ljava/util/LinkedHashMap$Entry;") ∈ lw_all := lw_g (lw_at lw_m9 70 rfl) rfl
theorem q2128 : (Jvm.Cond.fieldLink "java/util/LinkedHashMap$LinkedHashIterator" (23 : Nat) "java/util/LinkedHashMap" "head" "Ljava/util/LinkedHashMap$Entry;") ∈ lw_all := lw_g (lw_at lw_m9 71 rfl) rfl
theorem q2129 : (Jvm.Cond.fieldLink "java/util/LinkedHashMap$LinkedHashIterator" (17 : Nat) "java/util/LinkedHashMap" "tail" "Ljava/util/LinkedHashMap$Entry;") ∈ lw_all := lw_g (lw_at lw_m9 72 rfl) rfl
theorem q2130 : (Jvm.Cond.fieldLink "java/util/LinkedHashMap" (11 : Nat) "java/util/LinkedHashMap" "tail" "Ljava/util/LinkedHashMap$Entry;") ∈ lw_all := lw_g (lw_at lw_m9 73 rfl) rfl
theorem q2131 : (Jvm.Cond.fieldLink "java/util/LinkedHashMap" (64 : Nat) "java/util/LinkedHashMap" "accessOrder" "Z") ∈ lw_all := lw_g (lw_at lw_m9 74 rfl) rfl
theorem q2132 : (Jvm.Cond.fieldLink "java/util/LinkedHashMap" (1 : Nat) "java/util/LinkedHashMap" "putMode" "I") ∈ lw_all := lw_g (lw_at lw_m9 75 rfl) rfl
theorem q2134 : (Jvm.Cond.fieldLink "java/util/HashMap" (105 : Nat) "java/util/HashMap" "table" "[Ljava/util/HashMap$Node;") ∈ lw_all := lw_g (lw_at lw_m9 77 rfl) rfl
theorem q2136 : (Jvm.Cond.fieldLink "java/util/HashMap" (156 : Nat) "java/util/HashMap" "size" "I") ∈ lw_all := lw_g (lw_at lw_m9 79 rfl) rfl
theorem q2138 : (Jvm.Cond.fieldLink "java/util/LinkedHashMap$LinkedHashIterator" (29 : Nat) "java/util/LinkedHashMap" "modCount" "I") ∈ lw_all := lw_g (lw_at lw_m9 81 rfl) rfl
theorem q2139 : (Jvm.Cond.sameField "java/util/LinkedHashMap" "java/util/HashMap" "modCount" "I") ∈ lw_all := lw_g (lw_at lw_m9 82 rfl) rfl
theorem q2140 : (Jvm.Cond.fieldLink "java/util/LinkedHashMap" (68 : Nat) "java/util/LinkedHashMap" "modCount" "I") ∈ lw_all := lw_g (lw_at lw_m9 83 rfl) rfl
theorem q2141 : (Jvm.Cond.fieldLink "java/util/HashMap" (202 : Nat) "java/util/HashMap" "modCount" "I") ∈ lw_all := lw_g (lw_at lw_m9 84 rfl) rfl
theorem q2142 : (Jvm.Cond.fieldLink "java/util/HashMap" (88 : Nat) "java/util/HashMap" "threshold" "I") ∈ lw_all := lw_g (lw_at lw_m9 85 rfl) rfl
theorem q2143 : (Jvm.Cond.fieldLink "java/util/HashMap" (81 : Nat) "java/util/HashMap" "loadFactor" "F") ∈ lw_all := lw_g (lw_at lw_m9 86 rfl) rfl
theorem q2146 : (Jvm.Cond.fieldLink "java/util/LinkedHashMap" (117 : Nat) "java/util/LinkedHashMap" "keySet" "Ljava/util/Set;") ∈ lw_all := lw_g (lw_at lw_m9 89 rfl) rfl
theorem q2147 : (Jvm.Cond.sameField "java/util/LinkedHashMap" "java/util/AbstractMap" "keySet" "Ljava/util/Set;") ∈ lw_all := lw_g (lw_at lw_m9 90 rfl) rfl
theorem q2173 : (Jvm.Cond.fieldLink "java/util/HashSet" (10 : Nat) "java/util/HashSet" "map" "Ljava/util/HashMap;") ∈ lw_all := lw_g (lw_at lw_m9 116 rfl) rfl
theorem q2180 : (Jvm.Cond.classLink "TrailMarkers$Cell" (8 : Nat) "TrailMarkers$Cell") ∈ lw_all := lw_g (lw_at lw_m9 123 rfl) rfl
theorem q2181 : (Jvm.Cond.instantiable "TrailMarkers$Cell" (2 : Nat)) ∈ lw_all := lw_g (lw_at lw_m9 124 rfl) rfl
theorem q2182 : (Jvm.Cond.methodLink "TrailMarkers$Cell" (16 : Nat) ({ cls := "TrailMarkers$Cell", name := "<init>", desc := "(II)V" } : Jvm.MethodName)) ∈ lw_all := lw_g (lw_at lw_m9 125 rfl) rfl
theorem q2183 : (Jvm.Cond.instanceMethod ({ cls := "TrailMarkers$Cell", name := "<init>", desc := "(II)V" } : Jvm.MethodName)) ∈ lw_all := lw_g (lw_at lw_m9 126 rfl) rfl
theorem q2184 : (Jvm.Cond.code ({ cls := "TrailMarkers$Cell", name := "<init>", desc := "(II)V" } : Jvm.MethodName) prog_2_method_1_code (3 : Nat) (Option.none : Option Jvm.ClassFile.FieldType)) ∈ lw_all := lw_g (lw_at lw_m9 127 rfl) rfl
theorem q2185 : (Jvm.Cond.methodLink "TrailMarkers$Cell" (1 : Nat) ({ cls := "java/lang/Object", name := "<init>", desc := "()V" } : Jvm.MethodName)) ∈ lw_all := lw_g (lw_at lw_m9 128 rfl) rfl
theorem q2186 : (Jvm.Cond.fieldLink "TrailMarkers$Cell" (7 : Nat) "TrailMarkers$Cell" "x" "I") ∈ lw_all := lw_g (lw_at lw_m9 129 rfl) rfl
theorem q2187 : (Jvm.Cond.fieldLink "TrailMarkers$Cell" (13 : Nat) "TrailMarkers$Cell" "y" "I") ∈ lw_all := lw_g (lw_at lw_m9 130 rfl) rfl
theorem q2199 : (Jvm.Cond.fieldLink "java/util/HashSet" (64 : Nat) "java/util/HashSet" "PRESENT" "Ljava/lang/Object;") ∈ lw_all := lw_g (lw_at lw_m9 142 rfl) rfl
theorem q2201 : (Jvm.Cond.methodLink "java/util/HashSet" (68 : Nat) ({ cls := "java/util/HashMap", name := "put", desc := "(Ljava/lang/Object;Ljava/lang/Object;)Ljava/lang/Object;" } : Jvm.MethodName)) ∈ lw_all := lw_g (lw_at lw_m9 144 rfl) rfl
theorem q2202 : (Jvm.Cond.instanceMethod ({ cls := "java/util/HashMap", name := "put", desc := "(Ljava/lang/Object;Ljava/lang/Object;)Ljava/lang/Object;" } : Jvm.MethodName)) ∈ lw_all := lw_g (lw_at lw_m9 145 rfl) rfl
theorem q2203 : (Jvm.Cond.sameMethod "java/util/HashMap" "java/util/HashMap" "put" "(Ljava/lang/Object;Ljava/lang/Object;)Ljava/lang/Object;") ∈ lw_all := lw_g (lw_at lw_m9 146 rfl) rfl
theorem q2204 : (Jvm.Cond.selects "java/util/LinkedHashMap" ({ cls := "java/util/HashMap", name := "put", desc := "(Ljava/lang/Object;Ljava/lang/Object;)Ljava/lang/Object;" } : Jvm.MethodName) ({ cls := "java/util/HashMap", name := "put", desc := "(Ljava/lang/Object;Ljava/lang/Object;)Ljava/lang/Object;" } : Jvm.MethodName)) ∈ lw_all := lw_g (lw_at lw_m9 147 rfl) rfl
theorem q2205 : (Jvm.Cond.code ({ cls := "java/util/HashMap", name := "put", desc := "(Ljava/lang/Object;Ljava/lang/Object;)Ljava/lang/Object;" } : Jvm.MethodName) prog_54_method_15_code (3 : Nat) (Option.some (Jvm.ClassFile.FieldType.object "java/lang/Object"))) ∈ lw_all := lw_g (lw_at lw_m9 148 rfl) rfl
theorem q2206 : (Jvm.Cond.methodLink "java/util/HashMap" (149 : Nat) ({ cls := "java/util/HashMap", name := "hash", desc := "(Ljava/lang/Object;)I" } : Jvm.MethodName)) ∈ lw_all := lw_g (lw_at lw_m9 149 rfl) rfl
theorem q2207 : (Jvm.Cond.static ({ cls := "java/util/HashMap", name := "hash", desc := "(Ljava/lang/Object;)I" } : Jvm.MethodName)) ∈ lw_all := lw_g (lw_at lw_m9 150 rfl) rfl
theorem q2208 : (Jvm.Cond.code ({ cls := "java/util/HashMap", name := "hash", desc := "(Ljava/lang/Object;)I" } : Jvm.MethodName) prog_54_method_1_code (2 : Nat) (Option.some Jvm.ClassFile.FieldType.int)) ∈ lw_all := lw_g (lw_at lw_m9 151 rfl) rfl
theorem q2209 : (Jvm.Cond.declares ({ cls := "java/lang/Object", name := "hashCode", desc := "()I" } : Jvm.MethodName)) ∈ lw_tbl := lw_at lw_m9 152 rfl
theorem q2210 : (Jvm.Cond.methodLink "java/util/HashMap" (1 : Nat) ({ cls := "java/lang/Object", name := "hashCode", desc := "()I" } : Jvm.MethodName)) ∈ lw_all := lw_g (lw_at lw_m9 153 rfl) rfl
theorem q2212 : (Jvm.Cond.sameMethod "java/lang/Object" "java/lang/Object" "hashCode" "()I") ∈ lw_all := lw_g (lw_at lw_m9 155 rfl) rfl
theorem q2214 : (Jvm.Cond.selects "TrailMarkers$Cell" ({ cls := "java/lang/Object", name := "hashCode", desc := "()I" } : Jvm.MethodName) ({ cls := "TrailMarkers$Cell", name := "hashCode", desc := "()I" } : Jvm.MethodName)) ∈ lw_all := lw_g (lw_at lw_m9 157 rfl) rfl
theorem q2215 : (Jvm.Cond.instanceMethod ({ cls := "TrailMarkers$Cell", name := "hashCode", desc := "()I" } : Jvm.MethodName)) ∈ lw_all := lw_g (lw_at lw_m9 158 rfl) rfl
theorem q2216 : (Jvm.Cond.code ({ cls := "TrailMarkers$Cell", name := "hashCode", desc := "()I" } : Jvm.MethodName) prog_2_method_4_code (1 : Nat) (Option.some Jvm.ClassFile.FieldType.int)) ∈ lw_all := lw_g (lw_at lw_m9 159 rfl) rfl
theorem q2218 : (Jvm.Cond.selects "TrailMarkers$Leg" ({ cls := "java/lang/Object", name := "hashCode", desc := "()I" } : Jvm.MethodName) ({ cls := "TrailMarkers$Leg", name := "hashCode", desc := "()I" } : Jvm.MethodName)) ∈ lw_all := lw_g (lw_at lw_m9 161 rfl) rfl
theorem q2219 : (Jvm.Cond.instanceMethod ({ cls := "TrailMarkers$Leg", name := "hashCode", desc := "()I" } : Jvm.MethodName)) ∈ lw_all := lw_g (lw_at lw_m9 162 rfl) rfl
theorem q2220 : (Jvm.Cond.code ({ cls := "TrailMarkers$Leg", name := "hashCode", desc := "()I" } : Jvm.MethodName) prog_4_method_3_code (1 : Nat) (Option.some Jvm.ClassFile.FieldType.int)) ∈ lw_all := lw_g (lw_at lw_m9 163 rfl) rfl
theorem q2240 : (Jvm.Cond.selects "java/lang/String" ({ cls := "java/lang/Object", name := "hashCode", desc := "()I" } : Jvm.MethodName) ({ cls := "java/lang/String", name := "hashCode", desc := "()I" } : Jvm.MethodName)) ∈ lw_all := lw_g (lw_at lw_m9 183 rfl) rfl
theorem q2246 : (Jvm.Cond.methodLink "java/util/HashMap" (152 : Nat) ({ cls := "java/util/HashMap", name := "putVal", desc := "(ILjava/lang/Object;Ljava/lang/Object;ZZ)Ljava/lang/Object;" } : Jvm.MethodName)) ∈ lw_all := lw_g (lw_at lw_m9 189 rfl) rfl
theorem q2247 : (Jvm.Cond.instanceMethod ({ cls := "java/util/HashMap", name := "putVal", desc := "(ILjava/lang/Object;Ljava/lang/Object;ZZ)Ljava/lang/Object;" } : Jvm.MethodName)) ∈ lw_all := lw_g (lw_at lw_m9 190 rfl) rfl
theorem q2248 : (Jvm.Cond.sameMethod "java/util/HashMap" "java/util/HashMap" "putVal" "(ILjava/lang/Object;Ljava/lang/Object;ZZ)Ljava/lang/Object;") ∈ lw_all := lw_g (lw_at lw_m9 191 rfl) rfl
theorem q2249 : (Jvm.Cond.selects "java/util/LinkedHashMap" ({ cls := "java/util/HashMap", name := "putVal", desc := "(ILjava/lang/Object;Ljava/lang/Object;ZZ)Ljava/lang/Object;" } : Jvm.MethodName) ({ cls := "java/util/HashMap", name := "putVal", desc := "(ILjava/lang/Object;Ljava/lang/Object;ZZ)Ljava/lang/Object;" } : Jvm.MethodName)) ∈ lw_all := lw_g (lw_at lw_m9 192 rfl) rfl
theorem q2250 : (Jvm.Cond.code ({ cls := "java/util/HashMap", name := "putVal", desc := "(ILjava/lang/Object;Ljava/lang/Object;ZZ)Ljava/lang/Object;" } : Jvm.MethodName) prog_54_method_16_code (13 : Nat) (Option.some (Jvm.ClassFile.FieldType.object "java/lang/Object"))) ∈ lw_all := lw_g (lw_at lw_m9 193 rfl) rfl
theorem q2251 : (Jvm.Cond.methodLink "java/util/HashMap" (117 : Nat) ({ cls := "java/util/HashMap", name := "resize", desc := "()[Ljava/util/HashMap$Node;" } : Jvm.MethodName)) ∈ lw_all := lw_g (lw_at lw_m9 194 rfl) rfl
theorem q2252 : (Jvm.Cond.instanceMethod ({ cls := "java/util/HashMap", name := "resize", desc := "()[Ljava/util/HashMap$Node;" } : Jvm.MethodName)) ∈ lw_all := lw_g (lw_at lw_m9 195 rfl) rfl
theorem q2253 : (Jvm.Cond.sameMethod "java/util/HashMap" "java/util/HashMap" "resize" "()[Ljava/util/HashMap$Node;") ∈ lw_all := lw_g (lw_at lw_m9 196 rfl) rfl
theorem q2254 : (Jvm.Cond.selects "java/util/LinkedHashMap" ({ cls := "java/util/HashMap", name := "resize", desc := "()[Ljava/util/HashMap$Node;" } : Jvm.MethodName) ({ cls := "java/util/HashMap", name := "resize", desc := "()[Ljava/util/HashMap$Node;" } : Jvm.MethodName)) ∈ lw_all := lw_g (lw_at lw_m9 197 rfl) rfl
theorem q2255 : (Jvm.Cond.code ({ cls := "java/util/HashMap", name := "resize", desc := "()[Ljava/util/HashMap$Node;" } : Jvm.MethodName) prog_54_method_17_code (14 : Nat) (Option.some (Jvm.ClassFile.FieldType.array (Jvm.ClassFile.FieldType.object "java/util/HashMap$Node")))) ∈ lw_all := lw_g (lw_at lw_m9 198 rfl) rfl
theorem q2256 : (Jvm.Cond.constant "java/util/HashMap" (209 : Nat) (2147483647 : Int32)) ∈ lw_all := lw_g (lw_at lw_m9 199 rfl) rfl
theorem q2257 : (Jvm.Cond.constantFloat "java/util/HashMap" (210 : Nat) (1317011456 : UInt32)) ∈ lw_all := lw_g (lw_at lw_m9 200 rfl) rfl
theorem q2258 : (Jvm.Cond.classLink "java/util/HashMap" (163 : Nat) "java/util/HashMap$Node") ∈ lw_all := lw_g (lw_at lw_m9 201 rfl) rfl
theorem q2259 : (Jvm.Cond.arrayOver (Jvm.ClassFile.FieldType.object "java/util/HashMap$Node")) ∈ lw_tbl := lw_at lw_m9 202 rfl
theorem q2260 : (Jvm.Cond.classLink "java/util/HashMap" (180 : Nat) "java/util/HashMap$TreeNode") ∈ lw_all := lw_g (lw_at lw_m9 203 rfl) rfl
theorem q2276 : (Jvm.Cond.classLink "java/util/LinkedHashMap" (15 : Nat) "java/util/LinkedHashMap$Entry") ∈ lw_all := lw_g (lw_at lw_m9 219 rfl) rfl
theorem q2277 : (Jvm.Cond.instantiable "java/util/LinkedHashMap$Entry" (6 : Nat)) ∈ lw_all := lw_g (lw_at lw_m9 220 rfl) rfl
theorem q2278 : (Jvm.Cond.methodLink "java/util/LinkedHashMap" (28 : Nat) ({ cls := "java/util/LinkedHashMap$Entry", name := "<init>", desc := "(ILjava/lang/Object;Ljava/lang/Object;Ljava/util/HashMap$Node;)V" } : Jvm.MethodName)) ∈ lw_all := lw_g (lw_at lw_m9 221 rfl) rfl
theorem q2279 : (Jvm.Cond.instanceMethod ({ cls := "java/util/LinkedHashMap$Entry", name := "<init>", desc := "(ILjava/lang/Object;Ljava/lang/Object;Ljava/util/HashMap$Node;)V" } : Jvm.MethodName)) ∈ lw_all := lw_g (lw_at lw_m9 222 rfl) rfl
theorem q2280 : (Jvm.Cond.code ({ cls := "java/util/LinkedHashMap$Entry", name := "<init>", desc := "(ILjava/lang/Object;Ljava/lang/Object;Ljava/util/HashMap$Node;)V" } : Jvm.MethodName) prog_63_method_1_code (5 : Nat) (Option.none : Option Jvm.ClassFile.FieldType)) ∈ lw_all := lw_g (lw_at lw_m9 223 rfl) rfl
theorem q2281 : (Jvm.Cond.methodLink "java/util/LinkedHashMap$Entry" (1 : Nat) ({ cls := "java/util/HashMap$Node", name := "<init>", desc := "(ILjava/lang/Object;Ljava/lang/Object;Ljava/util/HashMap$Node;)V" } : Jvm.MethodName)) ∈ lw_all := lw_g (lw_at lw_m9 224 rfl) rfl
theorem q2282 : (Jvm.Cond.instanceMethod ({ cls := "java/util/HashMap$Node", name := "<init>", desc := "(ILjava/lang/Object;Ljava/lang/Object;Ljava/util/HashMap$Node;)V" } : Jvm.MethodName)) ∈ lw_all := lw_g (lw_at lw_m9 225 rfl) rfl
theorem q2283 : (Jvm.Cond.code ({ cls := "java/util/HashMap$Node", name := "<init>", desc := "(ILjava/lang/Object;Ljava/lang/Object;Ljava/util/HashMap$Node;)V" } : Jvm.MethodName) prog_58_method_1_code (5 : Nat) (Option.none : Option Jvm.ClassFile.FieldType)) ∈ lw_all := lw_g (lw_at lw_m9 226 rfl) rfl
theorem q2284 : (Jvm.Cond.methodLink "java/util/HashMap$Node" (1 : Nat) ({ cls := "java/lang/Object", name := "<init>", desc := "()V" } : Jvm.MethodName)) ∈ lw_all := lw_g (lw_at lw_m9 227 rfl) rfl
theorem q2285 : (Jvm.Cond.fieldLink "java/util/LinkedHashMap" (19 : Nat) "java/util/LinkedHashMap$Entry" "before" "Ljava/util/LinkedHashMap$Entry;") ∈ lw_all := lw_g (lw_at lw_m9 228 rfl) rfl
theorem q2286 : (Jvm.Cond.fieldLink "java/util/LinkedHashMap$LinkedHashIterator" (45 : Nat) "java/util/LinkedHashMap$Entry" "before" "Ljava/util/LinkedHashMap$Entry;") ∈ lw_all := lw_g (lw_at lw_m9 229 rfl) rfl
theorem q2287 : (Jvm.Cond.fieldLink "java/util/LinkedHashMap" (14 : Nat) "java/util/LinkedHashMap$Entry" "after" "Ljava/util/LinkedHashMap$Entry;") ∈ lw_all := lw_g (lw_at lw_m9 230 rfl) rfl
theorem q2288 : (Jvm.Cond.fieldLink "java/util/LinkedHashMap$LinkedHashIterator" (50 : Nat) "java/util/LinkedHashMap$Entry" "after" "Ljava/util/LinkedHashMap$Entry;") ∈ lw_all := lw_g (lw_at lw_m9 231 rfl) rfl
theorem q2289 : (Jvm.Cond.fieldLink "java/util/HashMap$Node" (7 : Nat) "java/util/HashMap$Node" "hash" "I") ∈ lw_all := lw_g (lw_at lw_m9 232 rfl) rfl
theorem q2294 : (Jvm.Cond.fieldLink "java/util/HashMap" (168 : Nat) "java/util/HashMap$Node" "hash" "I") ∈ lw_all := lw_g (lw_at lw_m9 237 rfl) rfl
theorem q2295 : (Jvm.Cond.fieldLink "java/util/HashMap$Node" (13 : Nat) "java/util/HashMap$Node" "key" "Ljava/lang/Object;") ∈ lw_all := lw_g (lw_at lw_m9 238 rfl) rfl
theorem q2299 : (Jvm.Cond.fieldLink "java/util/LinkedHashMap" (39 : Nat) "java/util/LinkedHashMap$Entry" "key" "Ljava/lang/Object;") ∈ lw_all := lw_g (lw_at lw_m10 2 rfl) rfl
theorem q2300 : (Jvm.Cond.sameField "java/util/LinkedHashMap$Entry" "java/util/HashMap$Node" "key" "Ljava/lang/Object;") ∈ lw_all := lw_g (lw_at lw_m10 3 rfl) rfl
theorem q2301 : (Jvm.Cond.fieldLink "java/util/HashMap" (170 : Nat) "java/util/HashMap$Node" "key" "Ljava/lang/Object;") ∈ lw_all := lw_g (lw_at lw_m10 4 rfl) rfl
theorem q2302 : (Jvm.Cond.fieldLink "java/util/HashMap$Node" (17 : Nat) "java/util/HashMap$Node" "value" "Ljava/lang/Object;") ∈ lw_all := lw_g (lw_at lw_m10 5 rfl) rfl
theorem q2305 : (Jvm.Cond.fieldLink "java/util/HashMap" (162 : Nat) "java/util/HashMap$Node" "value" "Ljava/lang/Object;") ∈ lw_all := lw_g (lw_at lw_m10 8 rfl) rfl
theorem q2306 : (Jvm.Cond.fieldLink "java/util/LinkedHashMap" (107 : Nat) "java/util/HashMap$Node" "value" "Ljava/lang/Object;") ∈ lw_all := lw_g (lw_at lw_m10 9 rfl) rfl
theorem q2307 : (Jvm.Cond.fieldLink "java/util/HashMap$Node" (20 : Nat) "java/util/HashMap$Node" "next" "Ljava/util/HashMap$Node;") ∈ lw_all := lw_g (lw_at lw_m10 10 rfl) rfl
theorem q2310 : (Jvm.Cond.sameField "java/util/HashMap$TreeNode" "java/util/HashMap$Node" "next" "Ljava/util/HashMap$Node;") ∈ lw_all := lw_g (lw_at lw_m10 13 rfl) rfl
theorem q2312 : (Jvm.Cond.fieldLink "java/util/HashMap" (177 : Nat) "java/util/HashMap$Node" "next" "Ljava/util/HashMap$Node;") ∈ lw_all := lw_g (lw_at lw_m10 15 rfl) rfl
theorem q2313 : (Jvm.Cond.fieldLink "java/util/HashMap" (223 : Nat) "java/util/HashMap$TreeNode" "next" "Ljava/util/HashMap$Node;") ∈ lw_all := lw_g (lw_at lw_m10 16 rfl) rfl
theorem q2355 : (Jvm.Cond.classLink "java/lang/Integer" (1 : Nat) "java/lang/Integer") ∈ lw_all := lw_g (lw_at lw_m10 58 rfl) rfl
theorem q2552 : (Jvm.Cond.methodLink "java/util/HashMap" (186 : Nat) ({ cls := "java/util/HashMap", name := "newNode", desc := "(ILjava/lang/Object;Ljava/lang/Object;Ljava/util/HashMap$Node;)Ljava/util/HashMap$Node;" } : Jvm.MethodName)) ∈ lw_all := lw_g (lw_at lw_m11 15 rfl) rfl
theorem q2554 : (Jvm.Cond.sameMethod "java/util/HashMap" "java/util/HashMap" "newNode" "(ILjava/lang/Object;Ljava/lang/Object;Ljava/util/HashMap$Node;)Ljava/util/HashMap$Node;") ∈ lw_all := lw_g (lw_at lw_m11 17 rfl) rfl
theorem q2555 : (Jvm.Cond.selects "java/util/LinkedHashMap" ({ cls := "java/util/HashMap", name := "newNode", desc := "(ILjava/lang/Object;Ljava/lang/Object;Ljava/util/HashMap$Node;)Ljava/util/HashMap$Node;" } : Jvm.MethodName) ({ cls := "java/util/LinkedHashMap", name := "newNode", desc := "(ILjava/lang/Object;Ljava/lang/Object;Ljava/util/HashMap$Node;)Ljava/util/HashMap$Node;" } : Jvm.MethodName)) ∈ lw_all := lw_g (lw_at lw_m11 18 rfl) rfl
theorem q2556 : (Jvm.Cond.instanceMethod ({ cls := "java/util/LinkedHashMap", name := "newNode", desc := "(ILjava/lang/Object;Ljava/lang/Object;Ljava/util/HashMap$Node;)Ljava/util/HashMap$Node;" } : Jvm.MethodName)) ∈ lw_all := lw_g (lw_at lw_m11 19 rfl) rfl
theorem q2557 : (Jvm.Cond.code ({ cls := "java/util/LinkedHashMap", name := "newNode", desc := "(ILjava/lang/Object;Ljava/lang/Object;Ljava/util/HashMap$Node;)Ljava/util/HashMap$Node;" } : Jvm.MethodName) prog_62_method_4_code (6 : Nat) (Option.some (Jvm.ClassFile.FieldType.object "java/util/HashMap$Node"))) ∈ lw_all := lw_g (lw_at lw_m11 20 rfl) rfl
theorem q2558 : (Jvm.Cond.methodLink "java/util/LinkedHashMap" (32 : Nat) ({ cls := "java/util/LinkedHashMap", name := "linkNodeAtEnd", desc := "(Ljava/util/LinkedHashMap$Entry;)V" } : Jvm.MethodName)) ∈ lw_all := lw_g (lw_at lw_m11 21 rfl) rfl
theorem q2560 : (Jvm.Cond.instanceMethod ({ cls := "java/util/LinkedHashMap", name := "linkNodeAtEnd", desc := "(Ljava/util/LinkedHashMap$Entry;)V" } : Jvm.MethodName)) ∈ lw_all := lw_g (lw_at lw_m11 23 rfl) rfl
theorem q2561 : (Jvm.Cond.code ({ cls := "java/util/LinkedHashMap", name := "linkNodeAtEnd", desc := "(Ljava/util/LinkedHashMap$Entry;)V" } : Jvm.MethodName) prog_62_method_1_code (3 : Nat) (Option.none : Option Jvm.ClassFile.FieldType)) ∈ lw_all := lw_g (lw_at lw_m11 24 rfl) rfl
theorem q2562 : (Jvm.Cond.declares ({ cls := "java/util/HashMap", name := "newNode", desc := "(ILjava/lang/Object;Ljava/lang/Object;Ljava/util/HashMap$Node;)Ljava/util/HashMap$Node;" } : Jvm.MethodName)) ∈ lw_tbl := lw_at lw_m11 25 rfl
theorem q2564 : (Jvm.Cond.methodLink "java/util/HashMap" (173 : Nat) ({ cls := "java/lang/Object", name := "equals", desc := "(Ljava/lang/Object;)Z" } : Jvm.MethodName)) ∈ lw_all := lw_g (lw_at lw_m11 27 rfl) rfl
theorem q2565 : (Jvm.Cond.instanceMethod ({ cls := "java/lang/Object", name := "equals", desc := "(Ljava/lang/Object;)Z" } : Jvm.MethodName)) ∈ lw_all := lw_g (lw_at lw_m11 28 rfl) rfl
theorem q2566 : (Jvm.Cond.sameMethod "java/lang/Object" "java/lang/Object" "equals" "(Ljava/lang/Object;)Z") ∈ lw_all := lw_g (lw_at lw_m11 29 rfl) rfl
theorem q2568 : (Jvm.Cond.selects "TrailMarkers$Cell" ({ cls := "java/lang/Object", name := "equals", desc := "(Ljava/lang/Object;)Z" } : Jvm.MethodName) ({ cls := "TrailMarkers$Cell", name := "equals", desc := "(Ljava/lang/Object;)Z" } : Jvm.MethodName)) ∈ lw_all := lw_g (lw_at lw_m11 31 rfl) rfl
theorem q2569 : (Jvm.Cond.instanceMethod ({ cls := "TrailMarkers$Cell", name := "equals", desc := "(Ljava/lang/Object;)Z" } : Jvm.MethodName)) ∈ lw_all := lw_g (lw_at lw_m11 32 rfl) rfl
theorem q2570 : (Jvm.Cond.code ({ cls := "TrailMarkers$Cell", name := "equals", desc := "(Ljava/lang/Object;)Z" } : Jvm.MethodName) prog_2_method_3_code (3 : Nat) (Option.some Jvm.ClassFile.FieldType.boolean)) ∈ lw_all := lw_g (lw_at lw_m11 33 rfl) rfl
theorem q2572 : (Jvm.Cond.selects "TrailMarkers$Leg" ({ cls := "java/lang/Object", name := "equals", desc := "(Ljava/lang/Object;)Z" } : Jvm.MethodName) ({ cls := "TrailMarkers$Leg", name := "equals", desc := "(Ljava/lang/Object;)Z" } : Jvm.MethodName)) ∈ lw_all := lw_g (lw_at lw_m11 35 rfl) rfl
theorem q2573 : (Jvm.Cond.instanceMethod ({ cls := "TrailMarkers$Leg", name := "equals", desc := "(Ljava/lang/Object;)Z" } : Jvm.MethodName)) ∈ lw_all := lw_g (lw_at lw_m11 36 rfl) rfl
theorem q2574 : (Jvm.Cond.code ({ cls := "TrailMarkers$Leg", name := "equals", desc := "(Ljava/lang/Object;)Z" } : Jvm.MethodName) prog_4_method_2_code (3 : Nat) (Option.some Jvm.ClassFile.FieldType.boolean)) ∈ lw_all := lw_g (lw_at lw_m11 37 rfl) rfl
theorem q2575 : (Jvm.Cond.classLink "TrailMarkers$Leg" (8 : Nat) "TrailMarkers$Leg") ∈ lw_all := lw_g (lw_at lw_m11 38 rfl) rfl
theorem q2596 : (Jvm.Cond.selects "java/lang/String" ({ cls := "java/lang/Object", name := "equals", desc := "(Ljava/lang/Object;)Z" } : Jvm.MethodName) ({ cls := "java/lang/String", name := "equals", desc := "(Ljava/lang/Object;)Z" } : Jvm.MethodName)) ∈ lw_all := lw_g (lw_at lw_m11 59 rfl) rfl
theorem q2601 : (Jvm.Cond.code ({ cls := "java/lang/Object", name := "equals", desc := "(Ljava/lang/Object;)Z" } : Jvm.MethodName) object_method_4_code (2 : Nat) (Option.some Jvm.ClassFile.FieldType.boolean)) ∈ lw_all := lw_g (lw_at lw_m11 64 rfl) rfl
theorem q2651 : (Jvm.Cond.methodLink "java/util/HashMap" (194 : Nat) ({ cls := "java/util/HashMap", name := "treeifyBin", desc := "([Ljava/util/HashMap$Node;I)V" } : Jvm.MethodName)) ∈ lw_all := lw_g (lw_at lw_m11 114 rfl) rfl
theorem q2652 : (Jvm.Cond.instanceMethod ({ cls := "java/util/HashMap", name := "treeifyBin", desc := "([Ljava/util/HashMap$Node;I)V" } : Jvm.MethodName)) ∈ lw_all := lw_g (lw_at lw_m11 115 rfl) rfl
theorem q2653 : (Jvm.Cond.sameMethod "java/util/HashMap" "java/util/HashMap" "treeifyBin" "([Ljava/util/HashMap$Node;I)V") ∈ lw_all := lw_g (lw_at lw_m11 116 rfl) rfl
theorem q2654 : (Jvm.Cond.selects "java/util/LinkedHashMap" ({ cls := "java/util/HashMap", name := "treeifyBin", desc := "([Ljava/util/HashMap$Node;I)V" } : Jvm.MethodName) ({ cls := "java/util/HashMap", name := "treeifyBin", desc := "([Ljava/util/HashMap$Node;I)V" } : Jvm.MethodName)) ∈ lw_all := lw_g (lw_at lw_m11 117 rfl) rfl
theorem q2655 : (Jvm.Cond.code ({ cls := "java/util/HashMap", name := "treeifyBin", desc := "([Ljava/util/HashMap$Node;I)V" } : Jvm.MethodName) prog_54_method_18_code (9 : Nat) (Option.none : Option Jvm.ClassFile.FieldType)) ∈ lw_all := lw_g (lw_at lw_m11 118 rfl) rfl
theorem q2664 : (Jvm.Cond.methodLink "java/util/HashMap" (198 : Nat) ({ cls := "java/util/HashMap", name := "afterNodeAccess", desc := "(Ljava/util/HashMap$Node;)V" } : Jvm.MethodName)) ∈ lw_all := lw_g (lw_at lw_m11 127 rfl) rfl
theorem q2666 : (Jvm.Cond.sameMethod "java/util/HashMap" "java/util/HashMap" "afterNodeAccess" "(Ljava/util/HashMap$Node;)V") ∈ lw_all := lw_g (lw_at lw_m11 129 rfl) rfl
theorem q2667 : (Jvm.Cond.selects "java/util/LinkedHashMap" ({ cls := "java/util/HashMap", name := "afterNodeAccess", desc := "(Ljava/util/HashMap$Node;)V" } : Jvm.MethodName) ({ cls := "java/util/LinkedHashMap", name := "afterNodeAccess", desc := "(Ljava/util/HashMap$Node;)V" } : Jvm.MethodName)) ∈ lw_all := lw_g (lw_at lw_m11 130 rfl) rfl
theorem q2668 : (Jvm.Cond.instanceMethod ({ cls := "java/util/LinkedHashMap", name := "afterNodeAccess", desc := "(Ljava/util/HashMap$Node;)V" } : Jvm.MethodName)) ∈ lw_all := lw_g (lw_at lw_m11 131 rfl) rfl
theorem q2669 : (Jvm.Cond.code ({ cls := "java/util/LinkedHashMap", name := "afterNodeAccess", desc := "(Ljava/util/HashMap$Node;)V" } : Jvm.MethodName) prog_62_method_10_code (7 : Nat) (Option.none : Option Jvm.ClassFile.FieldType)) ∈ lw_all := lw_g (lw_at lw_m11 132 rfl) rfl
theorem q2670 : (Jvm.Cond.declares ({ cls := "java/util/HashMap", name := "afterNodeAccess", desc := "(Ljava/util/HashMap$Node;)V" } : Jvm.MethodName)) ∈ lw_tbl := lw_at lw_m11 133 rfl
theorem q2671 : (Jvm.Cond.methodLink "java/util/HashMap" (205 : Nat) ({ cls := "java/util/HashMap", name := "afterNodeInsertion", desc := "(Z)V" } : Jvm.MethodName)) ∈ lw_all := lw_g (lw_at lw_m11 134 rfl) rfl
theorem q2673 : (Jvm.Cond.sameMethod "java/util/HashMap" "java/util/HashMap" "afterNodeInsertion" "(Z)V") ∈ lw_all := lw_g (lw_at lw_m11 136 rfl) rfl
theorem q2674 : (Jvm.Cond.selects "java/util/LinkedHashMap" ({ cls := "java/util/HashMap", name := "afterNodeInsertion", desc := "(Z)V" } : Jvm.MethodName) ({ cls := "java/util/LinkedHashMap", name := "afterNodeInsertion", desc := "(Z)V" } : Jvm.MethodName)) ∈ lw_all := lw_g (lw_at lw_m11 137 rfl) rfl
theorem q2675 : (Jvm.Cond.instanceMethod ({ cls := "java/util/LinkedHashMap", name := "afterNodeInsertion", desc := "(Z)V" } : Jvm.MethodName)) ∈ lw_all := lw_g (lw_at lw_m11 138 rfl) rfl
theorem q2676 : (Jvm.Cond.code ({ cls := "java/util/LinkedHashMap", name := "afterNodeInsertion", desc := "(Z)V" } : Jvm.MethodName) prog_62_method_9_code (4 : Nat) (Option.none : Option Jvm.ClassFile.FieldType)) ∈ lw_all := lw_g (lw_at lw_m11 139 rfl) rfl
theorem q2677 : (Jvm.Cond.methodLink "java/util/LinkedHashMap" (53 : Nat) ({ cls := "java/util/LinkedHashMap", name := "removeEldestEntry", desc := "(Ljava/util/Map$Entry;)Z" } : Jvm.MethodName)) ∈ lw_all := lw_g (lw_at lw_m11 140 rfl) rfl
theorem q2678 : (Jvm.Cond.instanceMethod ({ cls := "java/util/LinkedHashMap", name := "removeEldestEntry", desc := "(Ljava/util/Map$Entry;)Z" } : Jvm.MethodName)) ∈ lw_all := lw_g (lw_at lw_m11 141 rfl) rfl
theorem q2679 : (Jvm.Cond.selects "java/util/LinkedHashMap" ({ cls := "java/util/LinkedHashMap", name := "removeEldestEntry", desc := "(Ljava/util/Map$Entry;)Z" } : Jvm.MethodName) ({ cls := "java/util/LinkedHashMap", name := "removeEldestEntry", desc := "(Ljava/util/Map$Entry;)Z" } : Jvm.MethodName)) ∈ lw_all := lw_g (lw_at lw_m11 142 rfl) rfl
theorem q2680 : (Jvm.Cond.code ({ cls := "java/util/LinkedHashMap", name := "removeEldestEntry", desc := "(Ljava/util/Map$Entry;)Z" } : Jvm.MethodName) prog_62_method_23_code (2 : Nat) (Option.some Jvm.ClassFile.FieldType.boolean)) ∈ lw_all := lw_g (lw_at lw_m11 143 rfl) rfl
theorem q2681 : (Jvm.Cond.declares ({ cls := "java/util/HashMap", name := "afterNodeInsertion", desc := "(Z)V" } : Jvm.MethodName)) ∈ lw_tbl := lw_at lw_m11 144 rfl
theorem q2688 : (Jvm.Cond.methodLink "java/util/HashSet" (45 : Nat) ({ cls := "java/util/HashMap", name := "keySet", desc := "()Ljava/util/Set;" } : Jvm.MethodName)) ∈ lw_all := lw_g (lw_at lw_m11 151 rfl) rfl
theorem q2690 : (Jvm.Cond.sameMethod "java/util/HashMap" "java/util/HashMap" "keySet" "()Ljava/util/Set;") ∈ lw_all := lw_g (lw_at lw_m11 153 rfl) rfl
theorem q2691 : (Jvm.Cond.selects "java/util/LinkedHashMap" ({ cls := "java/util/HashMap", name := "keySet", desc := "()Ljava/util/Set;" } : Jvm.MethodName) ({ cls := "java/util/LinkedHashMap", name := "keySet", desc := "()Ljava/util/Set;" } : Jvm.MethodName)) ∈ lw_all := lw_g (lw_at lw_m11 154 rfl) rfl
theorem q2692 : (Jvm.Cond.instanceMethod ({ cls := "java/util/LinkedHashMap", name := "keySet", desc := "()Ljava/util/Set;" } : Jvm.MethodName)) ∈ lw_all := lw_g (lw_at lw_m11 155 rfl) rfl
theorem q2693 : (Jvm.Cond.code ({ cls := "java/util/LinkedHashMap", name := "keySet", desc := "()Ljava/util/Set;" } : Jvm.MethodName) prog_62_method_24_code (1 : Nat) (Option.some (Jvm.ClassFile.FieldType.object "java/util/Set"))) ∈ lw_all := lw_g (lw_at lw_m11 156 rfl) rfl
theorem q2694 : (Jvm.Cond.methodLink "java/util/LinkedHashMap" (113 : Nat) ({ cls := "java/util/LinkedHashMap", name := "sequencedKeySet", desc := "()Ljava/util/SequencedSet;" } : Jvm.MethodName)) ∈ lw_all := lw_g (lw_at lw_m11 157 rfl) rfl
theorem q2695 : (Jvm.Cond.instanceMethod ({ cls := "java/util/LinkedHashMap", name := "sequencedKeySet", desc := "()Ljava/util/SequencedSet;" } : Jvm.MethodName)) ∈ lw_all := lw_g (lw_at lw_m11 158 rfl) rfl
theorem q2696 : (Jvm.Cond.selects "java/util/LinkedHashMap" ({ cls := "java/util/LinkedHashMap", name := "sequencedKeySet", desc := "()Ljava/util/SequencedSet;" } : Jvm.MethodName) ({ cls := "java/util/LinkedHashMap", name := "sequencedKeySet", desc := "()Ljava/util/SequencedSet;" } : Jvm.MethodName)) ∈ lw_all := lw_g (lw_at lw_m11 159 rfl) rfl
theorem q2697 : (Jvm.Cond.code ({ cls := "java/util/LinkedHashMap", name := "sequencedKeySet", desc := "()Ljava/util/SequencedSet;" } : Jvm.MethodName) prog_62_method_25_code (3 : Nat) (Option.some (Jvm.ClassFile.FieldType.object "java/util/SequencedSet"))) ∈ lw_all := lw_g (lw_at lw_m11 160 rfl) rfl
theorem q2698 : (Jvm.Cond.classLink "java/util/LinkedHashMap" (121 : Nat) "java/util/LinkedHashMap$LinkedKeySet") ∈ lw_all := lw_g (lw_at lw_m11 161 rfl) rfl
theorem q2699 : (Jvm.Cond.instantiable "java/util/LinkedHashMap$LinkedKeySet" (2 : Nat)) ∈ lw_all := lw_g (lw_at lw_m11 162 rfl) rfl
theorem q2700 : (Jvm.Cond.methodLink "java/util/LinkedHashMap" (123 : Nat) ({ cls := "java/util/LinkedHashMap$LinkedKeySet", name := "<init>", desc := "(Ljava/util/LinkedHashMap;Z)V" } : Jvm.MethodName)) ∈ lw_all := lw_g (lw_at lw_m11 163 rfl) rfl
theorem q2701 : (Jvm.Cond.instanceMethod ({ cls := "java/util/LinkedHashMap$LinkedKeySet", name := "<init>", desc := "(Ljava/util/LinkedHashMap;Z)V" } : Jvm.MethodName)) ∈ lw_all := lw_g (lw_at lw_m11 164 rfl) rfl
theorem q2702 : (Jvm.Cond.code ({ cls := "java/util/LinkedHashMap$LinkedKeySet", name := "<init>", desc := "(Ljava/util/LinkedHashMap;Z)V" } : Jvm.MethodName) prog_66_method_1_code (3 : Nat) (Option.none : Option Jvm.ClassFile.FieldType)) ∈ lw_all := lw_g (lw_at lw_m11 165 rfl) rfl
theorem q2703 : (Jvm.Cond.methodLink "java/util/LinkedHashMap$LinkedKeySet" (7 : Nat) ({ cls := "java/util/AbstractSet", name := "<init>", desc := "()V" } : Jvm.MethodName)) ∈ lw_all := lw_g (lw_at lw_m11 166 rfl) rfl
theorem q2704 : (Jvm.Cond.fieldLink "java/util/LinkedHashMap$LinkedKeySet" (13 : Nat) "java/util/LinkedHashMap$LinkedKeySet" "reversed" "Z") ∈ lw_all := lw_g (lw_at lw_m11 167 rfl) rfl
theorem q2705 : (Jvm.Cond.fieldLink "java/util/LinkedHashMap$LinkedKeySet" (1 : Nat) "java/util/LinkedHashMap$LinkedKeySet" "this$0" "Ljava/util/LinkedHashMap;") ∈ lw_all := lw_g (lw_at lw_m11 168 rfl) rfl
theorem q2711 : (Jvm.Cond.classLink "java/util/LinkedHashMap" (126 : Nat) "java/util/SequencedSet") ∈ lw_all := lw_g (lw_at lw_m11 174 rfl) rfl
theorem q2712 : (Jvm.Cond.declares ({ cls := "java/util/HashMap", name := "keySet", desc := "()Ljava/util/Set;" } : Jvm.MethodName)) ∈ lw_tbl := lw_at lw_m11 175 rfl
theorem q2714 : (Jvm.Cond.methodLink "java/util/HashSet" (49 : Nat) ({ cls := "java/util/Set", name := "iterator", desc := "()Ljava/util/Iterator;" } : Jvm.MethodName)) ∈ lw_all := lw_g (lw_at lw_m11 177 rfl) rfl
theorem q2749 : (Jvm.Cond.selects "java/util/LinkedHashMap$LinkedKeySet" ({ cls := "java/util/Set", name := "iterator", desc := "()Ljava/util/Iterator;" } : Jvm.MethodName) ({ cls := "java/util/LinkedHashMap$LinkedKeySet", name := "iterator", desc := "()Ljava/util/Iterator;" } : Jvm.MethodName)) ∈ lw_all := lw_g (lw_at lw_m11 212 rfl) rfl
theorem q2751 : (Jvm.Cond.instanceMethod ({ cls := "java/util/LinkedHashMap$LinkedKeySet", name := "iterator", desc := "()Ljava/util/Iterator;" } : Jvm.MethodName)) ∈ lw_all := lw_g (lw_at lw_m11 214 rfl) rfl
theorem q2753 : (Jvm.Cond.code ({ cls := "java/util/LinkedHashMap$LinkedKeySet", name := "iterator", desc := "()Ljava/util/Iterator;" } : Jvm.MethodName) prog_66_method_4_code (1 : Nat) (Option.some (Jvm.ClassFile.FieldType.object "java/util/Iterator"))) ∈ lw_all := lw_g (lw_at lw_m11 216 rfl) rfl
theorem q2754 : (Jvm.Cond.classLink "java/util/LinkedHashMap$LinkedKeySet" (26 : Nat) "java/util/LinkedHashMap$LinkedKeyIterator") ∈ lw_all := lw_g (lw_at lw_m11 217 rfl) rfl
theorem q2755 : (Jvm.Cond.instantiable "java/util/LinkedHashMap$LinkedKeyIterator" (5 : Nat)) ∈ lw_all := lw_g (lw_at lw_m11 218 rfl) rfl
theorem q2756 : (Jvm.Cond.methodLink "java/util/LinkedHashMap$LinkedKeySet" (28 : Nat) ({ cls := "java/util/LinkedHashMap$LinkedKeyIterator", name := "<init>", desc := "(Ljava/util/LinkedHashMap;Z)V" } : Jvm.MethodName)) ∈ lw_all := lw_g (lw_at lw_m11 219 rfl) rfl
theorem q2757 : (Jvm.Cond.instanceMethod ({ cls := "java/util/LinkedHashMap$LinkedKeyIterator", name := "<init>", desc := "(Ljava/util/LinkedHashMap;Z)V" } : Jvm.MethodName)) ∈ lw_all := lw_g (lw_at lw_m11 220 rfl) rfl
theorem q2758 : (Jvm.Cond.code ({ cls := "java/util/LinkedHashMap$LinkedKeyIterator", name := "<init>", desc := "(Ljava/util/LinkedHashMap;Z)V" } : Jvm.MethodName) prog_65_method_1_code (3 : Nat) (Option.none : Option Jvm.ClassFile.FieldType)) ∈ lw_all := lw_g (lw_at lw_m11 221 rfl) rfl
theorem q2759 : (Jvm.Cond.methodLink "java/util/LinkedHashMap$LinkedKeyIterator" (1 : Nat) ({ cls := "java/util/LinkedHashMap$LinkedHashIterator", name := "<init>", desc := "(Ljava/util/LinkedHashMap;Z)V" } : Jvm.MethodName)) ∈ lw_all := lw_g (lw_at lw_m11 222 rfl) rfl
theorem q2760 : (Jvm.Cond.instanceMethod ({ cls := "java/util/LinkedHashMap$LinkedHashIterator", name := "<init>", desc := "(Ljava/util/LinkedHashMap;Z)V" } : Jvm.MethodName)) ∈ lw_all := lw_g (lw_at lw_m11 223 rfl) rfl
theorem q2761 : (Jvm.Cond.code ({ cls := "java/util/LinkedHashMap$LinkedHashIterator", name := "<init>", desc := "(Ljava/util/LinkedHashMap;Z)V" } : Jvm.MethodName) prog_64_method_1_code (3 : Nat) (Option.none : Option Jvm.ClassFile.FieldType)) ∈ lw_all := lw_g (lw_at lw_m11 224 rfl) rfl
theorem q2762 : (Jvm.Cond.methodLink "java/util/LinkedHashMap$LinkedHashIterator" (7 : Nat) ({ cls := "java/lang/Object", name := "<init>", desc := "()V" } : Jvm.MethodName)) ∈ lw_all := lw_g (lw_at lw_m11 225 rfl) rfl
theorem q2763 : (Jvm.Cond.fieldLink "java/util/LinkedHashMap$LinkedHashIterator" (26 : Nat) "java/util/LinkedHashMap$LinkedHashIterator" "next" "Ljava/util/LinkedHashMap$Entry;") ∈ lw_all := lw_g (lw_at lw_m11 226 rfl) rfl
theorem q2764 : (Jvm.Cond.fieldLink "java/util/LinkedHashMap$LinkedHashIterator" (36 : Nat) "java/util/LinkedHashMap$LinkedHashIterator" "current" "Ljava/util/LinkedHashMap$Entry;") ∈ lw_all := lw_g (lw_at lw_m11 227 rfl) rfl
theorem q2765 : (Jvm.Cond.fieldLink "java/util/LinkedHashMap$LinkedHashIterator" (33 : Nat) "java/util/LinkedHashMap$LinkedHashIterator" "expectedModCount" "I") ∈ lw_all := lw_g (lw_at lw_m11 228 rfl) rfl
theorem q2766 : (Jvm.Cond.fieldLink "java/util/LinkedHashMap$LinkedHashIterator" (13 : Nat) "java/util/LinkedHashMap$LinkedHashIterator" "reversed" "Z") ∈ lw_all := lw_g (lw_at lw_m11 229 rfl) rfl
theorem q2767 : (Jvm.Cond.fieldLink "java/util/LinkedHashMap$LinkedHashIterator" (1 : Nat) "java/util/LinkedHashMap$LinkedHashIterator" "this$0" "Ljava/util/LinkedHashMap;") ∈ lw_all := lw_g (lw_at lw_m11 230 rfl) rfl
theorem q2819 : (Jvm.Cond.methodLink "java/util/LinkedHashMap$LinkedKeyIterator" (7 : Nat) ({ cls := "java/util/LinkedHashMap$LinkedKeyIterator", name := "nextNode", desc := "()Ljava/util/LinkedHashMap$Entry;" } : Jvm.MethodName)) ∈ lw_all := lw_g (lw_at lw_m12 42 rfl) rfl
theorem q2820 : (Jvm.Cond.sameMethod "java/util/LinkedHashMap$LinkedKeyIterator" "java/util/LinkedHashMap$LinkedHashIterator" "nextNode" "()Ljava/util/LinkedHashMap$Entry;") ∈ lw_all := lw_g (lw_at lw_m12 43 rfl) rfl
theorem q2822 : (Jvm.Cond.selects "java/util/LinkedHashMap$LinkedKeyIterator" ({ cls := "java/util/LinkedHashMap$LinkedKeyIterator", name := "nextNode", desc := "()Ljava/util/LinkedHashMap$Entry;" } : Jvm.MethodName) ({ cls := "java/util/LinkedHashMap$LinkedHashIterator", name := "nextNode", desc := "()Ljava/util/LinkedHashMap$Entry;" } : Jvm.MethodName)) ∈ lw_all := lw_g (lw_at lw_m12 45 rfl) rfl
theorem q2823 : (Jvm.Cond.instanceMethod ({ cls := "java/util/LinkedHashMap$LinkedHashIterator", name := "nextNode", desc := "()Ljava/util/LinkedHashMap$Entry;" } : Jvm.MethodName)) ∈ lw_all := lw_g (lw_at lw_m12 46 rfl) rfl
theorem q2824 : (Jvm.Cond.code ({ cls := "java/util/LinkedHashMap$LinkedHashIterator", name := "nextNode", desc := "()Ljava/util/LinkedHashMap$Entry;" } : Jvm.MethodName) prog_64_method_3_code (2 : Nat) (Option.some (Jvm.ClassFile.FieldType.object "java/util/LinkedHashMap$Entry"))) ∈ lw_all := lw_g (lw_at lw_m12 47 rfl) rfl
theorem q2825 : (Jvm.Cond.methodLink "java/util/LinkedHashMap$LinkedKeyIterator" (13 : Nat) ({ cls := "java/util/LinkedHashMap$Entry", name := "getKey", desc := "()Ljava/lang/Object;" } : Jvm.MethodName)) ∈ lw_all := lw_g (lw_at lw_m12 48 rfl) rfl
theorem q2826 : (Jvm.Cond.sameMethod "java/util/LinkedHashMap$Entry" "java/util/HashMap$Node" "getKey" "()Ljava/lang/Object;") ∈ lw_all := lw_g (lw_at lw_m12 49 rfl) rfl
theorem q2829 : (Jvm.Cond.selects "java/util/LinkedHashMap$Entry" ({ cls := "java/util/LinkedHashMap$Entry", name := "getKey", desc := "()Ljava/lang/Object;" } : Jvm.MethodName) ({ cls := "java/util/HashMap$Node", name := "getKey", desc := "()Ljava/lang/Object;" } : Jvm.MethodName)) ∈ lw_all := lw_g (lw_at lw_m12 52 rfl) rfl
theorem q2830 : (Jvm.Cond.instanceMethod ({ cls := "java/util/HashMap$Node", name := "getKey", desc := "()Ljava/lang/Object;" } : Jvm.MethodName)) ∈ lw_all := lw_g (lw_at lw_m12 53 rfl) rfl
theorem q2831 : (Jvm.Cond.code ({ cls := "java/util/HashMap$Node", name := "getKey", desc := "()Ljava/lang/Object;" } : Jvm.MethodName) prog_58_method_2_code (1 : Nat) (Option.some (Jvm.ClassFile.FieldType.object "java/lang/Object"))) ∈ lw_all := lw_g (lw_at lw_m12 54 rfl) rfl
theorem q2839 : (Jvm.Cond.methodLink "java/util/HashSet" (60 : Nat) ({ cls := "java/util/HashMap", name := "containsKey", desc := "(Ljava/lang/Object;)Z" } : Jvm.MethodName)) ∈ lw_all := lw_g (lw_at lw_m12 62 rfl) rfl
theorem q2840 : (Jvm.Cond.instanceMethod ({ cls := "java/util/HashMap", name := "containsKey", desc := "(Ljava/lang/Object;)Z" } : Jvm.MethodName)) ∈ lw_all := lw_g (lw_at lw_m12 63 rfl) rfl
theorem q2841 : (Jvm.Cond.sameMethod "java/util/HashMap" "java/util/HashMap" "containsKey" "(Ljava/lang/Object;)Z") ∈ lw_all := lw_g (lw_at lw_m12 64 rfl) rfl
theorem q2842 : (Jvm.Cond.selects "java/util/LinkedHashMap" ({ cls := "java/util/HashMap", name := "containsKey", desc := "(Ljava/lang/Object;)Z" } : Jvm.MethodName) ({ cls := "java/util/HashMap", name := "containsKey", desc := "(Ljava/lang/Object;)Z" } : Jvm.MethodName)) ∈ lw_all := lw_g (lw_at lw_m12 65 rfl) rfl
theorem q2843 : (Jvm.Cond.code ({ cls := "java/util/HashMap", name := "containsKey", desc := "(Ljava/lang/Object;)Z" } : Jvm.MethodName) prog_54_method_14_code (2 : Nat) (Option.some Jvm.ClassFile.FieldType.boolean)) ∈ lw_all := lw_g (lw_at lw_m12 66 rfl) rfl
theorem q2844 : (Jvm.Cond.methodLink "java/util/HashMap" (158 : Nat) ({ cls := "java/util/HashMap", name := "getNode", desc := "(Ljava/lang/Object;)Ljava/util/HashMap$Node;" } : Jvm.MethodName)) ∈ lw_all := lw_g (lw_at lw_m12 67 rfl) rfl
theorem q2845 : (Jvm.Cond.instanceMethod ({ cls := "java/util/HashMap", name := "getNode", desc := "(Ljava/lang/Object;)Ljava/util/HashMap$Node;" } : Jvm.MethodName)) ∈ lw_all := lw_g (lw_at lw_m12 68 rfl) rfl
theorem q2846 : (Jvm.Cond.sameMethod "java/util/HashMap" "java/util/HashMap" "getNode" "(Ljava/lang/Object;)Ljava/util/HashMap$Node;") ∈ lw_all := lw_g (lw_at lw_m12 69 rfl) rfl
theorem q2847 : (Jvm.Cond.selects "java/util/LinkedHashMap" ({ cls := "java/util/HashMap", name := "getNode", desc := "(Ljava/lang/Object;)Ljava/util/HashMap$Node;" } : Jvm.MethodName) ({ cls := "java/util/HashMap", name := "getNode", desc := "(Ljava/lang/Object;)Ljava/util/HashMap$Node;" } : Jvm.MethodName)) ∈ lw_all := lw_g (lw_at lw_m12 70 rfl) rfl
theorem q2848 : (Jvm.Cond.code ({ cls := "java/util/HashMap", name := "getNode", desc := "(Ljava/lang/Object;)Ljava/util/HashMap$Node;" } : Jvm.MethodName) prog_54_method_13_code (8 : Nat) (Option.some (Jvm.ClassFile.FieldType.object "java/util/HashMap$Node"))) ∈ lw_all := lw_g (lw_at lw_m12 71 rfl) rfl
theorem q2925 : (Jvm.Cond.methodLink "java/lang/Float" (59 : Nat) ({ cls := "java/lang/Float", name := "isNaN", desc := "(F)Z" } : Jvm.MethodName)) ∈ lw_all := lw_g (lw_at lw_m12 148 rfl) rfl
theorem q2926 : (Jvm.Cond.methodLink "java/lang/Float" (74 : Nat) ({ cls := "java/lang/Float", name := "floatToRawIntBits", desc := "(F)I" } : Jvm.MethodName)) ∈ lw_all := lw_g (lw_at lw_m12 149 rfl) rfl
theorem q2927 : (Jvm.Cond.constant "java/lang/Float" (77 : Nat) (2143289344 : Int32)) ∈ lw_all := lw_g (lw_at lw_m12 150 rfl) rfl
theorem q2946 : (Jvm.Cond.methodLink "java/util/LinkedHashMap" (87 : Nat) ({ cls := "java/util/HashMap", name := "<init>", desc := "()V" } : Jvm.MethodName)) ∈ lw_all := lw_g (lw_at lw_m12 169 rfl) rfl
theorem q2947 : (Jvm.Cond.instanceMethod ({ cls := "java/util/HashMap", name := "<init>", desc := "()V" } : Jvm.MethodName)) ∈ lw_all := lw_g (lw_at lw_m12 170 rfl) rfl
theorem q2948 : (Jvm.Cond.code ({ cls := "java/util/HashMap", name := "<init>", desc := "()V" } : Jvm.MethodName) prog_54_method_7_code (1 : Nat) (Option.none : Option Jvm.ClassFile.FieldType)) ∈ lw_all := lw_g (lw_at lw_m12 171 rfl) rfl
theorem q2949 : (Jvm.Cond.constantFloat "java/util/HashMap" (92 : Nat) (1061158912 : UInt32)) ∈ lw_all := lw_g (lw_at lw_m12 172 rfl) rfl
theorem q2954 : (Jvm.Cond.methodLink "java/util/LinkedHashMap" (99 : Nat) ({ cls := "java/util/LinkedHashMap", name := "getNode", desc := "(Ljava/lang/Object;)Ljava/util/HashMap$Node;" } : Jvm.MethodName)) ∈ lw_all := lw_g (lw_at lw_m12 177 rfl) rfl
theorem q2955 : (Jvm.Cond.sameMethod "java/util/LinkedHashMap" "java/util/HashMap" "getNode" "(Ljava/lang/Object;)Ljava/util/HashMap$Node;") ∈ lw_all := lw_g (lw_at lw_m12 178 rfl) rfl
theorem q2957 : (Jvm.Cond.selects "java/util/LinkedHashMap" ({ cls := "java/util/LinkedHashMap", name := "getNode", desc := "(Ljava/lang/Object;)Ljava/util/HashMap$Node;" } : Jvm.MethodName) ({ cls := "java/util/HashMap", name := "getNode", desc := "(Ljava/lang/Object;)Ljava/util/HashMap$Node;" } : Jvm.MethodName)) ∈ lw_all := lw_g (lw_at lw_m12 180 rfl) rfl
theorem q2958 : (Jvm.Cond.methodLink "java/util/LinkedHashMap" (103 : Nat) ({ cls := "java/util/LinkedHashMap", name := "afterNodeAccess", desc := "(Ljava/util/HashMap$Node;)V" } : Jvm.MethodName)) ∈ lw_all := lw_g (lw_at lw_m12 181 rfl) rfl
theorem q2969 : (Jvm.Cond.fieldLink "java/lang/Integer" (191 : Nat) "java/lang/Integer$IntegerCache" "high" "I") ∈ lw_all := lw_g (lw_at lw_m12 192 rfl) rfl
theorem q2971 : (Jvm.Cond.fieldLink "java/lang/Integer" (195 : Nat) "java/lang/Integer$IntegerCache" "cache" "[Ljava/lang/Integer;") ∈ lw_all := lw_g (lw_at lw_m12 194 rfl) rfl
theorem q2973 : (Jvm.Cond.instantiable "java/lang/Integer" (1 : Nat)) ∈ lw_all := lw_g (lw_at lw_m12 196 rfl) rfl
theorem q2974 : (Jvm.Cond.methodLink "java/lang/Integer" (199 : Nat) ({ cls := "java/lang/Integer", name := "<init>", desc := "(I)V" } : Jvm.MethodName)) ∈ lw_all := lw_g (lw_at lw_m12 197 rfl) rfl
theorem q2975 : (Jvm.Cond.instanceMethod ({ cls := "java/lang/Integer", name := "<init>", desc := "(I)V" } : Jvm.MethodName)) ∈ lw_all := lw_g (lw_at lw_m12 198 rfl) rfl
theorem q2976 : (Jvm.Cond.code ({ cls := "java/lang/Integer", name := "<init>", desc := "(I)V" } : Jvm.MethodName) prog_28_method_23_code (2 : Nat) (Option.none : Option Jvm.ClassFile.FieldType)) ∈ lw_all := lw_g (lw_at lw_m12 199 rfl) rfl
theorem q2977 : (Jvm.Cond.methodLink "java/lang/Integer" (202 : Nat) ({ cls := "java/lang/Number", name := "<init>", desc := "()V" } : Jvm.MethodName)) ∈ lw_all := lw_g (lw_at lw_m12 200 rfl) rfl
theorem q2978 : (Jvm.Cond.instanceMethod ({ cls := "java/lang/Number", name := "<init>", desc := "()V" } : Jvm.MethodName)) ∈ lw_all := lw_g (lw_at lw_m12 201 rfl) rfl
theorem q2979 : (Jvm.Cond.code ({ cls := "java/lang/Number", name := "<init>", desc := "()V" } : Jvm.MethodName) prog_33_method_1_code (1 : Nat) (Option.none : Option Jvm.ClassFile.FieldType)) ∈ lw_all := lw_g (lw_at lw_m12 202 rfl) rfl
theorem q2980 : (Jvm.Cond.methodLink "java/lang/Number" (1 : Nat) ({ cls := "java/lang/Object", name := "<init>", desc := "()V" } : Jvm.MethodName)) ∈ lw_all := lw_g (lw_at lw_m12 203 rfl) rfl
theorem q2981 : (Jvm.Cond.fieldLink "java/lang/Integer" (205 : Nat) "java/lang/Integer" "value" "I") ∈ lw_all := lw_g (lw_at lw_m12 204 rfl) rfl
theorem q3004 : (Jvm.Cond.methodLink "TrailMarkers$Leg" (20 : Nat) ({ cls := "java/lang/StringBuilder", name := "append", desc := "(I)Ljava/lang/StringBuilder;" } : Jvm.MethodName)) ∈ lw_all := lw_g (lw_at lw_m12 227 rfl) rfl
theorem q3006 : (Jvm.Cond.methodLink "TrailMarkers$Leg" (28 : Nat) ({ cls := "java/lang/String", name := "charAt", desc := "(I)C" } : Jvm.MethodName)) ∈ lw_all := lw_g (lw_at lw_m12 229 rfl) rfl
theorem q3007 : (Jvm.Cond.methodLink "TrailMarkers$Leg" (34 : Nat) ({ cls := "java/lang/StringBuilder", name := "append", desc := "(C)Ljava/lang/StringBuilder;" } : Jvm.MethodName)) ∈ lw_all := lw_g (lw_at lw_m12 230 rfl) rfl
theorem q3695 : (Jvm.Cond.selects "java/util/LinkedHashMap" ({ cls := "java/util/LinkedHashMap", name := "afterNodeAccess", desc := "(Ljava/util/HashMap$Node;)V" } : Jvm.MethodName) ({ cls := "java/util/LinkedHashMap", name := "afterNodeAccess", desc := "(Ljava/util/HashMap$Node;)V" } : Jvm.MethodName)) ∈ lw_all := lw_g (lw_at lw_m15 198 rfl) rfl
theorem q3698 : (Jvm.Cond.castable "java/util/LinkedHashMap$LinkedKeySet" "java/util/SequencedSet") ∈ lw_tbl := lw_at lw_m15 201 rfl
theorem q3699 : (Jvm.Cond.castable "java/util/LinkedHashSet" "java/util/SequencedSet") ∈ lw_tbl := lw_at lw_m15 202 rfl
theorem q3710 : (Jvm.Cond.castable "TrailMarkers$Trails" "java/lang/Object") ∈ lw_tbl := lw_at lw_m15 213 rfl
theorem q3743 : (Jvm.Cond.castable "java/util/LinkedHashMap$Entry" "java/util/HashMap$Node") ∈ lw_tbl := lw_at lw_m16 6 rfl
theorem cf_J1 : CF 12 RJ1 TJ1 3 := ⟨rfl, in_J1, ⟨tyJ1, tyJ1_ok⟩, nmJ1⟩
theorem fp_J1_3 : FP "java/util/ArrayDeque" 3 12 0 (tyJ1 0) false := ⟨RJ1, TJ1, 3, "java/util/ArrayDeque", cf_J1, by decide, q264, Or.inl rfl, tyJ1_ok 0 (by decide), rfl, fun h9 => nomatch h9⟩
theorem m_J1_42 : MI "java/util/ArrayDeque" 42 yJ0_init cJ0_init 1 0 := ⟨q258, q259, rfl, q140, q260, by decide +kernel, by decide +kernel, by decide +kernel⟩
theorem fa_J1_20 : FA "java/util/ArrayDeque" 20 12 2 := ⟨RJ1, TJ1, 3, "java/util/ArrayDeque", cf_J1, by decide, q266, Or.inl rfl⟩
theorem fa_J1_24 : FA "java/util/ArrayDeque" 24 12 1 := ⟨RJ1, TJ1, 3, "java/util/ArrayDeque", cf_J1, by decide, q265, Or.inl rfl⟩
theorem fa_J1_3 : FA "java/util/ArrayDeque" 3 12 0 := ⟨RJ1, TJ1, 3, "java/util/ArrayDeque", cf_J1, by decide, q264, Or.inl rfl⟩
theorem m_J1_127 : MS "java/util/ArrayDeque" 127 yJ1_sub cJ1_sub 3 (Option.some Jvm.ClassFile.FieldType.int) 3 := ⟨q1014, q1015, q141, q1016, by decide +kernel, by decide +kernel, by decide +kernel⟩
theorem m_J1_93 : MV "java/util/ArrayDeque" 93 yJ1_pollFirst cJ1_pollFirst 4 (Option.some (Jvm.ClassFile.FieldType.object "java/lang/Object")) 0 := ⟨q1021, q1022, q1023, q141, q1024, by decide +kernel, by decide +kernel, by decide +kernel⟩
theorem co_1_java_lang_Object : CO 1 "java/lang/Object" := ⟨_, rfl, Or.inr q3710⟩
theorem cos_java_lang_Object_1 : ∀ ci ∈ [1], CO ci "java/lang/Object" := List.forall_mem_cons.mpr ⟨co_1_java_lang_Object, fun _ h => nomatch h⟩
theorem fp_J1_24 : FP "java/util/ArrayDeque" 24 12 1 (tyJ1 1) false := ⟨RJ1, TJ1, 3, "java/util/ArrayDeque", cf_J1, by decide, q265, Or.inl rfl, tyJ1_ok 1 (by decide), rfl, fun h9 => nomatch h9⟩
theorem m_J1_74 : MS "java/util/ArrayDeque" 74 yJ1_inc cJ1_inc 2 (Option.some Jvm.ClassFile.FieldType.int) 2 := ⟨q1028, q1029, q141, q1030, by decide +kernel, by decide +kernel, by decide +kernel⟩
theorem m_J1_103 : MS "java/util/ArrayDeque" 103 yJ1_elementAt cJ1_elementAt 2 (Option.some (Jvm.ClassFile.FieldType.object "java/lang/Object")) 2 := ⟨q1025, q1026, q141, q1027, by decide +kernel, by decide +kernel, by decide +kernel⟩
theorem fp_J1_20 : FP "java/util/ArrayDeque" 20 12 2 (tyJ1 2) false := ⟨RJ1, TJ1, 3, "java/util/ArrayDeque", cf_J1, by decide, q266, Or.inl rfl, tyJ1_ok 2 (by decide), rfl, fun h9 => nomatch h9⟩
theorem m_J1_100 : MV "java/util/ArrayDeque" 100 yJ1_pollLast cJ1_pollLast 4 (Option.some (Jvm.ClassFile.FieldType.object "java/lang/Object")) 0 := ⟨q1551, q1552, q1553, q141, q1554, by decide +kernel, by decide +kernel, by decide +kernel⟩
theorem m_J1_68 : MS "java/util/ArrayDeque" 68 yJ1_dec cJ1_dec 2 (Option.some Jvm.ClassFile.FieldType.int) 2 := ⟨q1555, q1556, q141, q1557, by decide +kernel, by decide +kernel, by decide +kernel⟩
theorem cf_J16 : CF 15 RJ16 TJ16 1 := ⟨rfl, in_J16, ⟨tyJ16, tyJ16_ok⟩, nmJ16⟩
theorem fp_J16_205 : FP "java/lang/Integer" 205 15 0 (tyJ16 0) true := ⟨RJ16, TJ16, 1, "java/lang/Integer", cf_J16, by decide, q2981, Or.inl rfl, tyJ16_ok 0 (by decide), rfl, fun _ => rfl⟩
theorem m_J16_202 : MI "java/lang/Integer" 202 yJ15_init cJ15_init 1 0 := ⟨q2977, q2978, rfl, q160, q2979, by decide +kernel, by decide +kernel, by decide +kernel⟩
theorem nw_J16_1 : NW "java/lang/Integer" 1 15 1 [vI 0] := ⟨RJ16, TJ16, 1, tyJ16, cf_J16, tyJ16_ok, rfl, q2355, q2973, q161⟩
theorem m_J16_199 : MI "java/lang/Integer" 199 yJ16_init cJ16_init 2 1 := ⟨q2974, q2975, rfl, q161, q2976, by decide +kernel, by decide +kernel, by decide +kernel⟩
theorem fa_J16_205 : FA "java/lang/Integer" 205 15 0 := ⟨RJ16, TJ16, 1, "java/lang/Integer", cf_J16, by decide, q2981, Or.inl rfl⟩
theorem m_J20_1 : MI "java/util/AbstractSet" 1 yJ0_init cJ0_init 1 0 := ⟨q1701, q259, rfl, q140, q260, by decide +kernel, by decide +kernel, by decide +kernel⟩
theorem cf_J25 : CF 17 RJ25 TJ25 12 := ⟨rfl, in_J25, ⟨tyJ25, tyJ25_ok⟩, nmJ25⟩
theorem nw_J21_42 : NW "java/util/HashSet" 42 17 12 [vR none, vR none, vI 0, vI 0, vI 0, vF 0, vR none, vR none, vR none, vR none, vI 0, vI 0] := ⟨RJ25, TJ25, 12, tyJ25, cf_J25, tyJ25_ok, rfl, q1702, q1703, q175⟩
theorem cf_J22 : CF 16 RJ22 TJ22 1 := ⟨rfl, in_J22, ⟨tyJ22, tyJ22_ok⟩, nmJ22⟩
theorem fp_J21_10_J22 : FP "java/util/HashSet" 10 16 0 (tyJ22 0) false := ⟨RJ22, TJ22, 1, "java/util/HashSet", cf_J22, by decide, q2173, Or.inl rfl, tyJ22_ok 0 (by decide), rfl, fun h9 => nomatch h9⟩
theorem m_J21_44 : MI "java/util/HashSet" 44 yJ25_init cJ25_init 3 2 := ⟨q1704, q1705, rfl, q175, q1706, by decide +kernel, by decide +kernel, by decide +kernel⟩
theorem m_J21_1 : MI "java/util/HashSet" 1 yJ20_init cJ20_init 1 0 := ⟨q1698, q1699, rfl, q170, q1700, by decide +kernel, by decide +kernel, by decide +kernel⟩
theorem fa_J21_10_J22 : FA "java/util/HashSet" 10 16 0 := ⟨RJ22, TJ22, 1, "java/util/HashSet", cf_J22, by decide, q2173, Or.inl rfl⟩
theorem mu_J21_68_17 : MU "java/util/HashSet" 68 "java/util/LinkedHashMap" "java/util/HashMap" ⟨"java/util/HashMap", "put", "(Ljava/lang/Object;Ljava/lang/Object;)Ljava/lang/Object;"⟩ yJ24_put cJ24_put 3 (Option.some (Jvm.ClassFile.FieldType.object "java/lang/Object")) 2 := ⟨q2201, q2203, q2204, q2202, q174, q2205, ⟨by decide +kernel, by decide +kernel, by decide +kernel⟩, Or.inl rfl⟩
theorem mu_J21_60_17 : MU "java/util/HashSet" 60 "java/util/LinkedHashMap" "java/util/HashMap" ⟨"java/util/HashMap", "containsKey", "(Ljava/lang/Object;)Z"⟩ yJ24_containsKey cJ24_containsKey 2 (Option.some Jvm.ClassFile.FieldType.boolean) 1 := ⟨q2839, q2841, q2842, q2840, q174, q2843, ⟨by decide +kernel, by decide +kernel, by decide +kernel⟩, Or.inl rfl⟩
theorem mf_J21_49_19 : MF "java/util/HashSet" 49 "java/util/LinkedHashMap$LinkedKeySet" ⟨"java/util/Set", "iterator", "()Ljava/util/Iterator;"⟩ yJ38_iterator cJ38_iterator 1 (Option.some (Jvm.ClassFile.FieldType.object "java/util/Iterator")) 0 := ⟨q2714, q2749, q2751, q190, q2753, List.mem_of_getElem? (i := 2) rfl, by decide +kernel⟩
theorem mu_J21_45_17 : MU "java/util/HashSet" 45 "java/util/LinkedHashMap" "java/util/HashMap" ⟨"java/util/HashMap", "keySet", "()Ljava/util/Set;"⟩ yJ25_keySet cJ25_keySet 1 (Option.some (Jvm.ClassFile.FieldType.object "java/util/Set")) 0 := ⟨q2688, q2690, q2691, q2692, q175, q2693, ⟨by decide +kernel, by decide +kernel, by decide +kernel⟩, Or.inr (Or.inr q2712)⟩
theorem m_J22_1 : MI "java/util/LinkedHashSet" 1 yJ21_init cJ21_init 4 3 := ⟨q1695, q1696, rfl, q171, q1697, by decide +kernel, by decide +kernel, by decide +kernel⟩
theorem nw_J24_49 : NW "java/util/HashMap" 49 21 6 [vR none, vR none, vR none, vR none, vR none, vI 0] := ⟨RJ10, TJ10, 6, tyJ10, cf_J10, tyJ10_ok, rfl, q1714, q676, q154⟩
theorem nw_J24_51 : NW "java/util/HashMap" 51 14 4 [vR none, vI 0, vI 0, vI 0] := ⟨RJ12, TJ12, 4, tyJ12, cf_J12, tyJ12_ok, rfl, q1715, q515, q157⟩
theorem fp_J24_81_J25 : FP "java/util/HashMap" 81 17 5 (tyJ25 5) true := ⟨RJ25, TJ25, 12, "java/util/HashMap", cf_J25, by decide, q2143, Or.inl rfl, tyJ25_ok 5 (by decide), rfl, fun _ => rfl⟩
theorem fp_J24_88_J25 : FP "java/util/HashMap" 88 17 4 (tyJ25 4) false := ⟨RJ25, TJ25, 12, "java/util/HashMap", cf_J25, by decide, q2142, Or.inl rfl, tyJ25_ok 4 (by decide), rfl, fun h9 => nomatch h9⟩
theorem m_J24_53 : MI "java/util/HashMap" 53 yJ12_init cJ12_init 1 0 := ⟨q1716, q517, rfl, q157, q518, by decide +kernel, by decide +kernel, by decide +kernel⟩
theorem m_J24_85 : MS "java/util/HashMap" 85 yJ24_tableSizeFor cJ24_tableSizeFor 2 (Option.some Jvm.ClassFile.FieldType.int) 1 := ⟨q2123, q2124, q174, q2125, by decide +kernel, by decide +kernel, by decide +kernel⟩
theorem m_J24_70 : MS "java/util/HashMap" 70 yJ26_isNaN cJ26_isNaN 1 (Option.some Jvm.ClassFile.FieldType.boolean) 1 := ⟨q1723, q1724, q176, q1725, by decide +kernel, by decide +kernel, by decide +kernel⟩
theorem m_J24_43 : MI "java/util/HashMap" 43 yJ23_init cJ23_init 1 0 := ⟨q1710, q1711, rfl, q173, q1712, by decide +kernel, by decide +kernel, by decide +kernel⟩
theorem m_J24_34 : MS "java/util/HashMap" 34 yJ16_numberOfLeadingZeros cJ16_numberOfLeadingZeros 2 (Option.some Jvm.ClassFile.FieldType.int) 1 := ⟨q2126, q1772, q161, q1773, by decide +kernel, by decide +kernel, by decide +kernel⟩
theorem mu_J24_152_17 : MU "java/util/HashMap" 152 "java/util/LinkedHashMap" "java/util/HashMap" ⟨"java/util/HashMap", "putVal", "(ILjava/lang/Object;Ljava/lang/Object;ZZ)Ljava/lang/Object;"⟩ yJ24_putVal cJ24_putVal 13 (Option.some (Jvm.ClassFile.FieldType.object "java/lang/Object")) 5 := ⟨q2246, q2248, q2249, q2247, q174, q2250, ⟨by decide +kernel, by decide +kernel, by decide +kernel⟩, Or.inl rfl⟩
theorem m_J24_149 : MS "java/util/HashMap" 149 yJ24_hash cJ24_hash 2 (Option.some Jvm.ClassFile.FieldType.int) 1 := ⟨q2206, q2207, q174, q2208, by decide +kernel, by decide +kernel, by decide +kernel⟩
theorem mu_J24_1_10 : MU "java/util/HashMap" 1 "TrailMarkers$Leg" "java/lang/Object" ⟨"java/lang/Object", "hashCode", "()I"⟩ yX11_hashCode cX11_hashCode 1 (Option.some Jvm.ClassFile.FieldType.int) 0 := ⟨q2210, q2212, q2218, q2219, q169, q2220, ⟨by decide +kernel, by decide +kernel, by decide +kernel⟩, Or.inr (Or.inr q2209)⟩
theorem mu_J24_1_11 : MU "java/util/HashMap" 1 "TrailMarkers$Cell" "java/lang/Object" ⟨"java/lang/Object", "hashCode", "()I"⟩ yX12_hashCode cX12_hashCode 1 (Option.some Jvm.ClassFile.FieldType.int) 0 := ⟨q2210, q2212, q2214, q2215, q182, q2216, ⟨by decide +kernel, by decide +kernel, by decide +kernel⟩, Or.inr (Or.inr q2209)⟩
theorem mu_J24_1_13 : MU "java/util/HashMap" 1 "java/lang/String" "java/lang/Object" ⟨"java/lang/Object", "hashCode", "()I"⟩ yJ4_hashCode cJ4_hashCode 2 (Option.some Jvm.ClassFile.FieldType.int) 0 := ⟨q2210, q2212, q2240, q862, q147, q864, ⟨by decide +kernel, by decide +kernel, by decide +kernel⟩, Or.inr (Or.inr q2209)⟩
theorem fa_J24_105_J25 : FA "java/util/HashMap" 105 17 0 := ⟨RJ25, TJ25, 12, "java/util/HashMap", cf_J25, by decide, q2134, Or.inl rfl⟩
theorem co_18_java_util_HashMap_Node : CO 18 "java/util/HashMap$Node" := ⟨_, rfl, Or.inr q3743⟩
theorem cos_java_util_HashMap_Node_18 : ∀ ci ∈ [18], CO ci "java/util/HashMap$Node" := List.forall_mem_cons.mpr ⟨co_18_java_util_HashMap_Node, fun _ h => nomatch h⟩
theorem cf_J33 : CF 18 RJ33 TJ33 6 := ⟨rfl, in_J33, ⟨tyJ33, tyJ33_ok⟩, nmJ33⟩
theorem fa_J24_168_J33 : FA "java/util/HashMap" 168 18 0 := ⟨RJ33, TJ33, 6, "java/util/HashMap$Node", cf_J33, by decide, q2294, Or.inl rfl⟩
theorem fa_J24_170_J33 : FA "java/util/HashMap" 170 18 1 := ⟨RJ33, TJ33, 6, "java/util/HashMap$Node", cf_J33, by decide, q2301, Or.inl rfl⟩
theorem cos_java_util_HashMap_TreeNode_ : ∀ ci ∈ ([] : List Nat), CO ci "java/util/HashMap$TreeNode" := fun _ h => nomatch h
theorem cns_java_util_HashMap_TreeNode_18 : ∀ ci ∈ [18], CN ci "java/util/HashMap$TreeNode" := List.forall_mem_cons.mpr ⟨⟨_, rfl, by decide⟩, fun _ h => nomatch h⟩
theorem fa_J24_177_J33 : FA "java/util/HashMap" 177 18 3 := ⟨RJ33, TJ33, 6, "java/util/HashMap$Node", cf_J33, by decide, q2312, Or.inl rfl⟩
theorem fp_J24_177_J33 : FP "java/util/HashMap" 177 18 3 (tyJ33 3) false := ⟨RJ33, TJ33, 6, "java/util/HashMap$Node", cf_J33, by decide, q2312, Or.inl rfl, tyJ33_ok 3 (by decide), rfl, fun h9 => nomatch h9⟩
theorem fa_J24_162_J33 : FA "java/util/HashMap" 162 18 2 := ⟨RJ33, TJ33, 6, "java/util/HashMap$Node", cf_J33, by decide, q2305, Or.inl rfl⟩
theorem fp_J24_162_J33 : FP "java/util/HashMap" 162 18 2 (tyJ33 2) false := ⟨RJ33, TJ33, 6, "java/util/HashMap$Node", cf_J33, by decide, q2305, Or.inl rfl, tyJ33_ok 2 (by decide), rfl, fun h9 => nomatch h9⟩
theorem fa_J24_202_J25 : FA "java/util/HashMap" 202 17 3 := ⟨RJ25, TJ25, 12, "java/util/HashMap", cf_J25, by decide, q2141, Or.inl rfl⟩
theorem fp_J24_202_J25 : FP "java/util/HashMap" 202 17 3 (tyJ25 3) false := ⟨RJ25, TJ25, 12, "java/util/HashMap", cf_J25, by decide, q2141, Or.inl rfl, tyJ25_ok 3 (by decide), rfl, fun h9 => nomatch h9⟩
theorem fa_J24_156_J25 : FA "java/util/HashMap" 156 17 2 := ⟨RJ25, TJ25, 12, "java/util/HashMap", cf_J25, by decide, q2136, Or.inl rfl⟩
theorem fp_J24_156_J25 : FP "java/util/HashMap" 156 17 2 (tyJ25 2) false := ⟨RJ25, TJ25, 12, "java/util/HashMap", cf_J25, by decide, q2136, Or.inl rfl, tyJ25_ok 2 (by decide), rfl, fun h9 => nomatch h9⟩
theorem fa_J24_88_J25 : FA "java/util/HashMap" 88 17 4 := ⟨RJ25, TJ25, 12, "java/util/HashMap", cf_J25, by decide, q2142, Or.inl rfl⟩
theorem mu_J24_205_17 : MU "java/util/HashMap" 205 "java/util/LinkedHashMap" "java/util/HashMap" ⟨"java/util/HashMap", "afterNodeInsertion", "(Z)V"⟩ yJ25_afterNodeInsertion cJ25_afterNodeInsertion 4 (Option.none : Option Jvm.ClassFile.FieldType) 1 := ⟨q2671, q2673, q2674, q2675, q175, q2676, ⟨by decide +kernel, by decide +kernel, by decide +kernel⟩, Or.inr (Or.inr q2681)⟩
theorem mu_J24_117_17 : MU "java/util/HashMap" 117 "java/util/LinkedHashMap" "java/util/HashMap" ⟨"java/util/HashMap", "resize", "()[Ljava/util/HashMap$Node;"⟩ yJ24_resize cJ24_resize 14 (Option.some (Jvm.ClassFile.FieldType.array (Jvm.ClassFile.FieldType.object "java/util/HashMap$Node"))) 0 := ⟨q2251, q2253, q2254, q2252, q174, q2255, ⟨by decide +kernel, by decide +kernel, by decide +kernel⟩, Or.inl rfl⟩
theorem mu_J24_198_17 : MU "java/util/HashMap" 198 "java/util/LinkedHashMap" "java/util/HashMap" ⟨"java/util/HashMap", "afterNodeAccess", "(Ljava/util/HashMap$Node;)V"⟩ yJ25_afterNodeAccess cJ25_afterNodeAccess 7 (Option.none : Option Jvm.ClassFile.FieldType) 1 := ⟨q2664, q2666, q2667, q2668, q175, q2669, ⟨by decide +kernel, by decide +kernel, by decide +kernel⟩, Or.inr (Or.inr q2670)⟩
theorem mu_J24_173_10 : MU "java/util/HashMap" 173 "TrailMarkers$Leg" "java/lang/Object" ⟨"java/lang/Object", "equals", "(Ljava/lang/Object;)Z"⟩ yX11_equals cX11_equals 3 (Option.some Jvm.ClassFile.FieldType.boolean) 1 := ⟨q2564, q2566, q2572, q2573, q169, q2574, ⟨by decide +kernel, by decide +kernel, by decide +kernel⟩, Or.inr (Or.inl ⟨q2565, _, _, _, q2601⟩)⟩
theorem mu_J24_173_11 : MU "java/util/HashMap" 173 "TrailMarkers$Cell" "java/lang/Object" ⟨"java/lang/Object", "equals", "(Ljava/lang/Object;)Z"⟩ yX12_equals cX12_equals 3 (Option.some Jvm.ClassFile.FieldType.boolean) 1 := ⟨q2564, q2566, q2568, q2569, q182, q2570, ⟨by decide +kernel, by decide +kernel, by decide +kernel⟩, Or.inr (Or.inl ⟨q2565, _, _, _, q2601⟩)⟩
theorem mu_J24_173_13 : MU "java/util/HashMap" 173 "java/lang/String" "java/lang/Object" ⟨"java/lang/Object", "equals", "(Ljava/lang/Object;)Z"⟩ yJ4_equals cJ4_equals 3 (Option.some Jvm.ClassFile.FieldType.boolean) 1 := ⟨q2564, q2566, q2596, q835, q147, q837, ⟨by decide +kernel, by decide +kernel, by decide +kernel⟩, Or.inr (Or.inl ⟨q2565, _, _, _, q2601⟩)⟩
theorem mu_J24_194_17 : MU "java/util/HashMap" 194 "java/util/LinkedHashMap" "java/util/HashMap" ⟨"java/util/HashMap", "treeifyBin", "([Ljava/util/HashMap$Node;I)V"⟩ yJ24_treeifyBin cJ24_treeifyBin 9 (Option.none : Option Jvm.ClassFile.FieldType) 2 := ⟨q2651, q2653, q2654, q2652, q174, q2655, ⟨by decide +kernel, by decide +kernel, by decide +kernel⟩, Or.inl rfl⟩
theorem mu_J24_186_17 : MU "java/util/HashMap" 186 "java/util/LinkedHashMap" "java/util/HashMap" ⟨"java/util/HashMap", "newNode", "(ILjava/lang/Object;Ljava/lang/Object;Ljava/util/HashMap$Node;)Ljava/util/HashMap$Node;"⟩ yJ25_newNode cJ25_newNode 6 (Option.some (Jvm.ClassFile.FieldType.object "java/util/HashMap$Node")) 4 := ⟨q2552, q2554, q2555, q2556, q175, q2557, ⟨by decide +kernel, by decide +kernel, by decide +kernel⟩, Or.inr (Or.inr q2562)⟩
theorem fa_J24_81_J25 : FA "java/util/HashMap" 81 17 5 := ⟨RJ25, TJ25, 12, "java/util/HashMap", cf_J25, by decide, q2143, Or.inl rfl⟩
theorem fp_J24_105_J25 : FP "java/util/HashMap" 105 17 0 (tyJ25 0) false := ⟨RJ25, TJ25, 12, "java/util/HashMap", cf_J25, by decide, q2134, Or.inl rfl, tyJ25_ok 0 (by decide), rfl, fun h9 => nomatch h9⟩
theorem fp_J24_223_J33 : FP "java/util/HashMap" 223 18 3 (tyJ33 3) false := ⟨RJ33, TJ33, 6, "java/util/HashMap$TreeNode", cf_J33, by decide, q2313, Or.inr q2310, tyJ33_ok 3 (by decide), rfl, fun h9 => nomatch h9⟩
theorem mu_J24_158_17 : MU "java/util/HashMap" 158 "java/util/LinkedHashMap" "java/util/HashMap" ⟨"java/util/HashMap", "getNode", "(Ljava/lang/Object;)Ljava/util/HashMap$Node;"⟩ yJ24_getNode cJ24_getNode 8 (Option.some (Jvm.ClassFile.FieldType.object "java/util/HashMap$Node")) 1 := ⟨q2844, q2846, q2847, q2845, q174, q2848, ⟨by decide +kernel, by decide +kernel, by decide +kernel⟩, Or.inl rfl⟩
theorem fp_J25_1 : FP "java/util/LinkedHashMap" 1 17 11 (tyJ25 11) false := ⟨RJ25, TJ25, 12, "java/util/LinkedHashMap", cf_J25, by decide, q2132, Or.inl rfl, tyJ25_ok 11 (by decide), rfl, fun h9 => nomatch h9⟩
theorem fp_J25_64 : FP "java/util/LinkedHashMap" 64 17 10 (tyJ25 10) true := ⟨RJ25, TJ25, 12, "java/util/LinkedHashMap", cf_J25, by decide, q2131, Or.inl rfl, tyJ25_ok 10 (by decide), rfl, fun _ => rfl⟩
theorem m_J25_81 : MI "java/util/LinkedHashMap" 81 yJ24_init cJ24_init 3 2 := ⟨q1707, q1708, rfl, q174, q1709, by decide +kernel, by decide +kernel, by decide +kernel⟩
theorem m_J25_87 : MI "java/util/LinkedHashMap" 87 yJ24_init_2 cJ24_init_2 1 0 := ⟨q2946, q2947, rfl, q174, q2948, by decide +kernel, by decide +kernel, by decide +kernel⟩
theorem nw_J25_15 : NW "java/util/LinkedHashMap" 15 18 6 [vI 0, vR none, vR none, vR none, vR none, vR none] := ⟨RJ33, TJ33, 6, tyJ33, cf_J33, tyJ33_ok, rfl, q2276, q2277, q184⟩
theorem m_J25_32 : MV "java/util/LinkedHashMap" 32 yJ25_linkNodeAtEnd cJ25_linkNodeAtEnd 3 (Option.none : Option Jvm.ClassFile.FieldType) 1 := ⟨q2558, q2560, qs57, q175, q2561, by decide +kernel, by decide +kernel, by decide +kernel⟩
theorem m_J25_28 : MI "java/util/LinkedHashMap" 28 yJ33_init cJ33_init 5 4 := ⟨q2278, q2279, rfl, q184, q2280, by decide +kernel, by decide +kernel, by decide +kernel⟩
theorem fa_J25_1 : FA "java/util/LinkedHashMap" 1 17 11 := ⟨RJ25, TJ25, 12, "java/util/LinkedHashMap", cf_J25, by decide, q2132, Or.inl rfl⟩
theorem fa_J25_7 : FA "java/util/LinkedHashMap" 7 17 8 := ⟨RJ25, TJ25, 12, "java/util/LinkedHashMap", cf_J25, by decide, q2127, Or.inl rfl⟩
theorem fp_J25_7 : FP "java/util/LinkedHashMap" 7 17 8 (tyJ25 8) false := ⟨RJ25, TJ25, 12, "java/util/LinkedHashMap", cf_J25, by decide, q2127, Or.inl rfl, tyJ25_ok 8 (by decide), rfl, fun h9 => nomatch h9⟩
theorem fp_J25_11 : FP "java/util/LinkedHashMap" 11 17 9 (tyJ25 9) false := ⟨RJ25, TJ25, 12, "java/util/LinkedHashMap", cf_J25, by decide, q2130, Or.inl rfl, tyJ25_ok 9 (by decide), rfl, fun h9 => nomatch h9⟩
theorem fp_J25_14_J33 : FP "java/util/LinkedHashMap" 14 18 5 (tyJ33 5) false := ⟨RJ33, TJ33, 6, "java/util/LinkedHashMap$Entry", cf_J33, by decide, q2287, Or.inl rfl, tyJ33_ok 5 (by decide), rfl, fun h9 => nomatch h9⟩
theorem fp_J25_19_J33 : FP "java/util/LinkedHashMap" 19 18 4 (tyJ33 4) false := ⟨RJ33, TJ33, 6, "java/util/LinkedHashMap$Entry", cf_J33, by decide, q2285, Or.inl rfl, tyJ33_ok 4 (by decide), rfl, fun h9 => nomatch h9⟩
theorem fa_J25_11 : FA "java/util/LinkedHashMap" 11 17 9 := ⟨RJ25, TJ25, 12, "java/util/LinkedHashMap", cf_J25, by decide, q2130, Or.inl rfl⟩
theorem fa_J25_64 : FA "java/util/LinkedHashMap" 64 17 10 := ⟨RJ25, TJ25, 12, "java/util/LinkedHashMap", cf_J25, by decide, q2131, Or.inl rfl⟩
theorem fa_J25_19_J33 : FA "java/util/LinkedHashMap" 19 18 4 := ⟨RJ33, TJ33, 6, "java/util/LinkedHashMap$Entry", cf_J33, by decide, q2285, Or.inl rfl⟩
theorem fa_J25_14_J33 : FA "java/util/LinkedHashMap" 14 18 5 := ⟨RJ33, TJ33, 6, "java/util/LinkedHashMap$Entry", cf_J33, by decide, q2287, Or.inl rfl⟩
theorem fa_J25_68 : FA "java/util/LinkedHashMap" 68 17 3 := ⟨RJ25, TJ25, 12, "java/util/LinkedHashMap", cf_J25, by decide, q2140, Or.inr q2139⟩
theorem fp_J25_68 : FP "java/util/LinkedHashMap" 68 17 3 (tyJ25 3) false := ⟨RJ25, TJ25, 12, "java/util/LinkedHashMap", cf_J25, by decide, q2140, Or.inr q2139, tyJ25_ok 3 (by decide), rfl, fun h9 => nomatch h9⟩
theorem co_18_java_util_LinkedHashMap_Entry : CO 18 "java/util/LinkedHashMap$Entry" := ⟨_, rfl, Or.inl rfl⟩
theorem cos_java_util_LinkedHashMap_Entry_18 : ∀ ci ∈ [18], CO ci "java/util/LinkedHashMap$Entry" := List.forall_mem_cons.mpr ⟨co_18_java_util_LinkedHashMap_Entry, fun _ h => nomatch h⟩
theorem fa_J25_39_J33 : FA "java/util/LinkedHashMap" 39 18 1 := ⟨RJ33, TJ33, 6, "java/util/LinkedHashMap$Entry", cf_J33, by decide, q2299, Or.inr q2300⟩
theorem m_J25_53 : MV "java/util/LinkedHashMap" 53 yJ25_removeEldestEntry cJ25_removeEldestEntry 2 (Option.some Jvm.ClassFile.FieldType.boolean) 1 := ⟨q2677, q2678, q2679, q175, q2680, by decide +kernel, by decide +kernel, by decide +kernel⟩
theorem m_J25_113 : MV "java/util/LinkedHashMap" 113 yJ25_sequencedKeySet cJ25_sequencedKeySet 3 (Option.some (Jvm.ClassFile.FieldType.object "java/util/SequencedSet")) 0 := ⟨q2694, q2695, q2696, q175, q2697, by decide +kernel, by decide +kernel, by decide +kernel⟩
theorem fa_J25_117 : FA "java/util/LinkedHashMap" 117 17 6 := ⟨RJ25, TJ25, 12, "java/util/LinkedHashMap", cf_J25, by decide, q2146, Or.inr q2147⟩
theorem cf_J38 : CF 19 RJ38 TJ38 2 := ⟨rfl, in_J38, ⟨tyJ38, tyJ38_ok⟩, nmJ38⟩
theorem nw_J25_121 : NW "java/util/LinkedHashMap" 121 19 2 [vI 0, vR none] := ⟨RJ38, TJ38, 2, tyJ38, cf_J38, tyJ38_ok, rfl, q2698, q2699, q190⟩
theorem fp_J25_117 : FP "java/util/LinkedHashMap" 117 17 6 (tyJ25 6) false := ⟨RJ25, TJ25, 12, "java/util/LinkedHashMap", cf_J25, by decide, q2146, Or.inr q2147, tyJ25_ok 6 (by decide), rfl, fun h9 => nomatch h9⟩
theorem co_16_java_util_SequencedSet : CO 16 "java/util/SequencedSet" := ⟨_, rfl, Or.inr q3699⟩
theorem co_19_java_util_SequencedSet : CO 19 "java/util/SequencedSet" := ⟨_, rfl, Or.inr q3698⟩
theorem cos_java_util_SequencedSet_16_19 : ∀ ci ∈ [16, 19], CO ci "java/util/SequencedSet" := List.forall_mem_cons.mpr ⟨co_16_java_util_SequencedSet, List.forall_mem_cons.mpr ⟨co_19_java_util_SequencedSet, fun _ h => nomatch h⟩⟩
theorem m_J25_123 : MI "java/util/LinkedHashMap" 123 yJ38_init cJ38_init 3 2 := ⟨q2700, q2701, rfl, q190, q2702, by decide +kernel, by decide +kernel, by decide +kernel⟩
theorem fa_J25_107_J33 : FA "java/util/LinkedHashMap" 107 18 2 := ⟨RJ33, TJ33, 6, "java/util/HashMap$Node", cf_J33, by decide, q2306, Or.inl rfl⟩
theorem m_J25_103 : MV "java/util/LinkedHashMap" 103 yJ25_afterNodeAccess cJ25_afterNodeAccess 7 (Option.none : Option Jvm.ClassFile.FieldType) 1 := ⟨q2958, q2668, q3695, q175, q2669, by decide +kernel, by decide +kernel, by decide +kernel⟩
theorem mu_J25_99_17 : MU "java/util/LinkedHashMap" 99 "java/util/LinkedHashMap" "java/util/HashMap" ⟨"java/util/LinkedHashMap", "getNode", "(Ljava/lang/Object;)Ljava/util/HashMap$Node;"⟩ yJ24_getNode cJ24_getNode 8 (Option.some (Jvm.ClassFile.FieldType.object "java/util/HashMap$Node")) 1 := ⟨q2954, q2955, q2957, q2845, q174, q2848, ⟨by decide +kernel, by decide +kernel, by decide +kernel⟩, Or.inl rfl⟩
theorem m_J26_59 : MS "java/lang/Float" 59 yJ26_isNaN cJ26_isNaN 1 (Option.some Jvm.ClassFile.FieldType.boolean) 1 := ⟨q2925, q1724, q176, q1725, by decide +kernel, by decide +kernel, by decide +kernel⟩
theorem fp_J32_7_J33 : FP "java/util/HashMap$Node" 7 18 0 (tyJ33 0) true := ⟨RJ33, TJ33, 6, "java/util/HashMap$Node", cf_J33, by decide, q2289, Or.inl rfl, tyJ33_ok 0 (by decide), rfl, fun _ => rfl⟩
theorem fp_J32_13_J33 : FP "java/util/HashMap$Node" 13 18 1 (tyJ33 1) true := ⟨RJ33, TJ33, 6, "java/util/HashMap$Node", cf_J33, by decide, q2295, Or.inl rfl, tyJ33_ok 1 (by decide), rfl, fun _ => rfl⟩
theorem fp_J32_17_J33 : FP "java/util/HashMap$Node" 17 18 2 (tyJ33 2) false := ⟨RJ33, TJ33, 6, "java/util/HashMap$Node", cf_J33, by decide, q2302, Or.inl rfl, tyJ33_ok 2 (by decide), rfl, fun h9 => nomatch h9⟩
theorem fp_J32_20_J33 : FP "java/util/HashMap$Node" 20 18 3 (tyJ33 3) false := ⟨RJ33, TJ33, 6, "java/util/HashMap$Node", cf_J33, by decide, q2307, Or.inl rfl, tyJ33_ok 3 (by decide), rfl, fun h9 => nomatch h9⟩
theorem fa_J32_13_J33 : FA "java/util/HashMap$Node" 13 18 1 := ⟨RJ33, TJ33, 6, "java/util/HashMap$Node", cf_J33, by decide, q2295, Or.inl rfl⟩
theorem m_J33_1 : MI "java/util/LinkedHashMap$Entry" 1 yJ32_init cJ32_init 5 4 := ⟨q2281, q2282, rfl, q183, q2283, by decide +kernel, by decide +kernel, by decide +kernel⟩
theorem fp_J38_1 : FP "java/util/LinkedHashMap$LinkedKeySet" 1 19 1 (tyJ38 1) true := ⟨RJ38, TJ38, 2, "java/util/LinkedHashMap$LinkedKeySet", cf_J38, by decide, q2705, Or.inl rfl, tyJ38_ok 1 (by decide), rfl, fun _ => rfl⟩
theorem fp_J38_13 : FP "java/util/LinkedHashMap$LinkedKeySet" 13 19 0 (tyJ38 0) true := ⟨RJ38, TJ38, 2, "java/util/LinkedHashMap$LinkedKeySet", cf_J38, by decide, q2704, Or.inl rfl, tyJ38_ok 0 (by decide), rfl, fun _ => rfl⟩
theorem m_J38_7 : MI "java/util/LinkedHashMap$LinkedKeySet" 7 yJ20_init cJ20_init 1 0 := ⟨q2703, q1699, rfl, q170, q1700, by decide +kernel, by decide +kernel, by decide +kernel⟩
theorem cf_J42 : CF 20 RJ42 TJ42 5 := ⟨rfl, in_J42, ⟨tyJ42, tyJ42_ok⟩, nmJ42⟩
theorem nw_J38_26 : NW "java/util/LinkedHashMap$LinkedKeySet" 26 20 5 [vR none, vR none, vI 0, vI 0, vR none] := ⟨RJ42, TJ42, 5, tyJ42, cf_J42, tyJ42_ok, rfl, q2754, q2755, q194⟩
theorem fa_J38_1 : FA "java/util/LinkedHashMap$LinkedKeySet" 1 19 1 := ⟨RJ38, TJ38, 2, "java/util/LinkedHashMap$LinkedKeySet", cf_J38, by decide, q2705, Or.inl rfl⟩
theorem fa_J38_13 : FA "java/util/LinkedHashMap$LinkedKeySet" 13 19 0 := ⟨RJ38, TJ38, 2, "java/util/LinkedHashMap$LinkedKeySet", cf_J38, by decide, q2704, Or.inl rfl⟩
theorem m_J38_28 : MI "java/util/LinkedHashMap$LinkedKeySet" 28 yJ42_init cJ42_init 3 2 := ⟨q2756, q2757, rfl, q194, q2758, by decide +kernel, by decide +kernel, by decide +kernel⟩
theorem fp_J41_1_J42 : FP "java/util/LinkedHashMap$LinkedHashIterator" 1 20 4 (tyJ42 4) true := ⟨RJ42, TJ42, 5, "java/util/LinkedHashMap$LinkedHashIterator", cf_J42, by decide, q2767, Or.inl rfl, tyJ42_ok 4 (by decide), rfl, fun _ => rfl⟩
theorem fp_J41_13_J42 : FP "java/util/LinkedHashMap$LinkedHashIterator" 13 20 3 (tyJ42 3) false := ⟨RJ42, TJ42, 5, "java/util/LinkedHashMap$LinkedHashIterator", cf_J42, by decide, q2766, Or.inl rfl, tyJ42_ok 3 (by decide), rfl, fun h9 => nomatch h9⟩
theorem fa_J41_17_J25 : FA "java/util/LinkedHashMap$LinkedHashIterator" 17 17 9 := ⟨RJ25, TJ25, 12, "java/util/LinkedHashMap", cf_J25, by decide, q2129, Or.inl rfl⟩
theorem fa_J41_23_J25 : FA "java/util/LinkedHashMap$LinkedHashIterator" 23 17 8 := ⟨RJ25, TJ25, 12, "java/util/LinkedHashMap", cf_J25, by decide, q2128, Or.inl rfl⟩
theorem fp_J41_26_J42 : FP "java/util/LinkedHashMap$LinkedHashIterator" 26 20 0 (tyJ42 0) false := ⟨RJ42, TJ42, 5, "java/util/LinkedHashMap$LinkedHashIterator", cf_J42, by decide, q2763, Or.inl rfl, tyJ42_ok 0 (by decide), rfl, fun h9 => nomatch h9⟩
theorem fa_J41_29_J25 : FA "java/util/LinkedHashMap$LinkedHashIterator" 29 17 3 := ⟨RJ25, TJ25, 12, "java/util/LinkedHashMap", cf_J25, by decide, q2138, Or.inr q2139⟩
theorem fp_J41_33_J42 : FP "java/util/LinkedHashMap$LinkedHashIterator" 33 20 2 (tyJ42 2) false := ⟨RJ42, TJ42, 5, "java/util/LinkedHashMap$LinkedHashIterator", cf_J42, by decide, q2765, Or.inl rfl, tyJ42_ok 2 (by decide), rfl, fun h9 => nomatch h9⟩
theorem fp_J41_36_J42 : FP "java/util/LinkedHashMap$LinkedHashIterator" 36 20 1 (tyJ42 1) false := ⟨RJ42, TJ42, 5, "java/util/LinkedHashMap$LinkedHashIterator", cf_J42, by decide, q2764, Or.inl rfl, tyJ42_ok 1 (by decide), rfl, fun h9 => nomatch h9⟩
theorem fa_J41_26_J42 : FA "java/util/LinkedHashMap$LinkedHashIterator" 26 20 0 := ⟨RJ42, TJ42, 5, "java/util/LinkedHashMap$LinkedHashIterator", cf_J42, by decide, q2763, Or.inl rfl⟩
theorem fa_J41_1_J42 : FA "java/util/LinkedHashMap$LinkedHashIterator" 1 20 4 := ⟨RJ42, TJ42, 5, "java/util/LinkedHashMap$LinkedHashIterator", cf_J42, by decide, q2767, Or.inl rfl⟩
theorem fa_J41_33_J42 : FA "java/util/LinkedHashMap$LinkedHashIterator" 33 20 2 := ⟨RJ42, TJ42, 5, "java/util/LinkedHashMap$LinkedHashIterator", cf_J42, by decide, q2765, Or.inl rfl⟩
theorem fa_J41_13_J42 : FA "java/util/LinkedHashMap$LinkedHashIterator" 13 20 3 := ⟨RJ42, TJ42, 5, "java/util/LinkedHashMap$LinkedHashIterator", cf_J42, by decide, q2766, Or.inl rfl⟩
theorem fa_J41_45_J33 : FA "java/util/LinkedHashMap$LinkedHashIterator" 45 18 4 := ⟨RJ33, TJ33, 6, "java/util/LinkedHashMap$Entry", cf_J33, by decide, q2286, Or.inl rfl⟩
theorem fa_J41_50_J33 : FA "java/util/LinkedHashMap$LinkedHashIterator" 50 18 5 := ⟨RJ33, TJ33, 6, "java/util/LinkedHashMap$Entry", cf_J33, by decide, q2288, Or.inl rfl⟩
theorem m_J42_1 : MI "java/util/LinkedHashMap$LinkedKeyIterator" 1 yJ41_init cJ41_init 3 2 := ⟨q2759, q2760, rfl, q193, q2761, by decide +kernel, by decide +kernel, by decide +kernel⟩
theorem mu_J42_13_18 : MU "java/util/LinkedHashMap$LinkedKeyIterator" 13 "java/util/LinkedHashMap$Entry" "java/util/HashMap$Node" ⟨"java/util/LinkedHashMap$Entry", "getKey", "()Ljava/lang/Object;"⟩ yJ32_getKey cJ32_getKey 1 (Option.some (Jvm.ClassFile.FieldType.object "java/lang/Object")) 0 := ⟨q2825, q2826, q2829, q2830, q183, q2831, ⟨by decide +kernel, by decide +kernel, by decide +kernel⟩, Or.inl rfl⟩
theorem mu_J42_7_20 : MU "java/util/LinkedHashMap$LinkedKeyIterator" 7 "java/util/LinkedHashMap$LinkedKeyIterator" "java/util/LinkedHashMap$LinkedHashIterator" ⟨"java/util/LinkedHashMap$LinkedKeyIterator", "nextNode", "()Ljava/util/LinkedHashMap$Entry;"⟩ yJ41_nextNode cJ41_nextNode 2 (Option.some (Jvm.ClassFile.FieldType.object "java/util/LinkedHashMap$Entry")) 0 := ⟨q2819, q2820, q2822, q2823, q193, q2824, ⟨by decide +kernel, by decide +kernel, by decide +kernel⟩, Or.inl rfl⟩
theorem cf_X11 : CF 10 RX11 TX11 3 := ⟨rfl, in_X11, ⟨tyX11, tyX11_ok⟩, nmX11⟩
theorem fp_X11_7 : FP "TrailMarkers$Leg" 7 10 0 (tyX11 0) true := ⟨RX11, TX11, 3, "TrailMarkers$Leg", cf_X11, by decide, q1341, Or.inl rfl, tyX11_ok 0 (by decide), rfl, fun _ => rfl⟩
theorem fp_X11_13 : FP "TrailMarkers$Leg" 13 10 1 (tyX11 1) true := ⟨RX11, TX11, 3, "TrailMarkers$Leg", cf_X11, by decide, q1343, Or.inl rfl, tyX11_ok 1 (by decide), rfl, fun _ => rfl⟩
theorem fp_X11_16 : FP "TrailMarkers$Leg" 16 10 2 (tyX11 2) true := ⟨RX11, TX11, 3, "TrailMarkers$Leg", cf_X11, by decide, q1344, Or.inl rfl, tyX11_ok 2 (by decide), rfl, fun _ => rfl⟩
theorem fa_X11_7 : FA "TrailMarkers$Leg" 7 10 0 := ⟨RX11, TX11, 3, "TrailMarkers$Leg", cf_X11, by decide, q1341, Or.inl rfl⟩
theorem fa_X11_13 : FA "TrailMarkers$Leg" 13 10 1 := ⟨RX11, TX11, 3, "TrailMarkers$Leg", cf_X11, by decide, q1343, Or.inl rfl⟩
theorem fa_X11_16 : FA "TrailMarkers$Leg" 16 10 2 := ⟨RX11, TX11, 3, "TrailMarkers$Leg", cf_X11, by decide, q1344, Or.inl rfl⟩
theorem co_10_TrailMarkers_Leg : CO 10 "TrailMarkers$Leg" := ⟨_, rfl, Or.inl rfl⟩
theorem cos_TrailMarkers_Leg_10 : ∀ ci ∈ [10], CO ci "TrailMarkers$Leg" := List.forall_mem_cons.mpr ⟨co_10_TrailMarkers_Leg, fun _ h => nomatch h⟩
theorem cns_TrailMarkers_Leg_ : ∀ ci ∈ ([] : List Nat), CN ci "TrailMarkers$Leg" := fun _ h => nomatch h
theorem cf_X12 : CF 11 RX12 TX12 2 := ⟨rfl, in_X12, ⟨tyX12, tyX12_ok⟩, nmX12⟩
theorem fp_X12_7 : FP "TrailMarkers$Cell" 7 11 0 (tyX12 0) true := ⟨RX12, TX12, 2, "TrailMarkers$Cell", cf_X12, by decide, q2186, Or.inl rfl, tyX12_ok 0 (by decide), rfl, fun _ => rfl⟩
theorem fp_X12_13 : FP "TrailMarkers$Cell" 13 11 1 (tyX12 1) true := ⟨RX12, TX12, 2, "TrailMarkers$Cell", cf_X12, by decide, q2187, Or.inl rfl, tyX12_ok 1 (by decide), rfl, fun _ => rfl⟩
theorem fa_X12_7 : FA "TrailMarkers$Cell" 7 11 0 := ⟨RX12, TX12, 2, "TrailMarkers$Cell", cf_X12, by decide, q2186, Or.inl rfl⟩
theorem fa_X12_13 : FA "TrailMarkers$Cell" 13 11 1 := ⟨RX12, TX12, 2, "TrailMarkers$Cell", cf_X12, by decide, q2187, Or.inl rfl⟩
theorem co_11_TrailMarkers_Cell : CO 11 "TrailMarkers$Cell" := ⟨_, rfl, Or.inl rfl⟩
theorem cos_TrailMarkers_Cell_11 : ∀ ci ∈ [11], CO ci "TrailMarkers$Cell" := List.forall_mem_cons.mpr ⟨co_11_TrailMarkers_Cell, fun _ h => nomatch h⟩
theorem cns_TrailMarkers_Cell_ : ∀ ci ∈ ([] : List Nat), CN ci "TrailMarkers$Cell" := fun _ h => nomatch h
theorem nw_X12_8 : NW "TrailMarkers$Cell" 8 11 2 [vI 0, vI 0] := ⟨RX12, TX12, 2, tyX12, cf_X12, tyX12_ok, rfl, q2180, q2181, q182⟩
theorem m_X12_16 : MI "TrailMarkers$Cell" 16 yX12_init cX12_init 3 2 := ⟨q2182, q2183, rfl, q182, q2184, by decide +kernel, by decide +kernel, by decide +kernel⟩
theorem m_X11_34 : MV "TrailMarkers$Leg" 34 yJ12_append cJ12_append 2 (Option.some (Jvm.ClassFile.FieldType.object "java/lang/StringBuilder")) 1 := ⟨q3007, q547, q548, q157, q549, by decide +kernel, by decide +kernel, by decide +kernel⟩
theorem m_X11_28 : MV "TrailMarkers$Leg" 28 yJ4_charAt cJ4_charAt 2 (Option.some Jvm.ClassFile.FieldType.char) 1 := ⟨q3006, q961, q962, q147, q963, by decide +kernel, by decide +kernel, by decide +kernel⟩
theorem m_X11_20 : MV "TrailMarkers$Leg" 20 yJ12_append_2 cJ12_append_2 2 (Option.some (Jvm.ClassFile.FieldType.object "java/lang/StringBuilder")) 1 := ⟨q3004, q689, q690, q157, q691, by decide +kernel, by decide +kernel, by decide +kernel⟩
