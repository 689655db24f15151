set_option maxRecDepth 100000
def RJ2 : String := "java/lang/Throwable"
abbrev cJ2_init : ByteArray := prog_42_method_1_code
def yJ2_init : MethodName := ⟨RJ2, "<init>", "()V"⟩
def dkwJ2_init_1 : List UInt8 := [182, 0, 27, 87, 177]
abbrev dktJ2_init_1 : List UInt8 := dkwJ2_init_1 ++ []
def dkwJ2_init_0 : List UInt8 := [42, 183, 0, 1, 42, 42, 181, 0, 7, 42, 178, 0, 13, 181, 0, 17, 42, 178, 0, 20, 181, 0, 24, 42]
abbrev dktJ2_init_0 : List UInt8 := dkwJ2_init_0 ++ dktJ2_init_1
theorem dksJ2_init_0 : cJ2_init.data.toList.drop 0 = dktJ2_init_0 := by decide +kernel
theorem dksJ2_init_1 : cJ2_init.data.toList.drop 24 = dktJ2_init_1 := dk_seg dksJ2_init_0 24 rfl rfl
theorem dJ2_init_0 : decode cJ2_init 0 = .ok (.aload_n 0, 1) := dk_42 (dk_at dksJ2_init_0 0 rfl rfl)
theorem dJ2_init_1 : decode cJ2_init 1 = .ok (.invokespecial 1, 3) := dk_183 0 1 (dk_at dksJ2_init_0 1 rfl rfl)
theorem dJ2_init_4 : decode cJ2_init 4 = .ok (.aload_n 0, 1) := dk_42 (dk_at dksJ2_init_0 4 rfl rfl)
theorem dJ2_init_5 : decode cJ2_init 5 = .ok (.aload_n 0, 1) := dk_42 (dk_at dksJ2_init_0 5 rfl rfl)
theorem dJ2_init_6 : decode cJ2_init 6 = .ok (.putfield 7, 3) := dk_181 0 7 (dk_at dksJ2_init_0 6 rfl rfl)
theorem dJ2_init_9 : decode cJ2_init 9 = .ok (.aload_n 0, 1) := dk_42 (dk_at dksJ2_init_0 9 rfl rfl)
theorem dJ2_init_10 : decode cJ2_init 10 = .ok (.getstatic 13, 3) := dk_178 0 13 (dk_at dksJ2_init_0 10 rfl rfl)
theorem dJ2_init_13 : decode cJ2_init 13 = .ok (.putfield 17, 3) := dk_181 0 17 (dk_at dksJ2_init_0 13 rfl rfl)
theorem dJ2_init_16 : decode cJ2_init 16 = .ok (.aload_n 0, 1) := dk_42 (dk_at dksJ2_init_0 16 rfl rfl)
theorem dJ2_init_17 : decode cJ2_init 17 = .ok (.getstatic 20, 3) := dk_178 0 20 (dk_at dksJ2_init_0 17 rfl rfl)
theorem dJ2_init_20 : decode cJ2_init 20 = .ok (.putfield 24, 3) := dk_181 0 24 (dk_at dksJ2_init_0 20 rfl rfl)
theorem dJ2_init_23 : decode cJ2_init 23 = .ok (.aload_n 0, 1) := dk_42 (dk_at dksJ2_init_0 23 rfl rfl)
theorem dJ2_init_24 : decode cJ2_init 24 = .ok (.invokevirtual 27, 3) := dk_182 0 27 (dk_at dksJ2_init_1 0 rfl rfl)
theorem dJ2_init_27 : decode cJ2_init 27 = .ok (.pop, 1) := dk_87 (dk_at dksJ2_init_1 3 rfl rfl)
theorem dJ2_init_28 : decode cJ2_init 28 = .ok (.return_, 1) := dk_177 (dk_at dksJ2_init_1 4 rfl rfl)
abbrev cJ2_init_3 : ByteArray := prog_42_method_3_code
def yJ2_init_3 : MethodName := ⟨RJ2, "<init>", "(Ljava/lang/String;Ljava/lang/Throwable;)V"⟩
def dkwJ2_init_3_1 : List UInt8 := [182, 0, 27, 87, 42, 43, 181, 0, 31, 42, 44, 181, 0, 7, 177]
abbrev dktJ2_init_3_1 : List UInt8 := dkwJ2_init_3_1 ++ []
def dkwJ2_init_3_0 : List UInt8 := [42, 183, 0, 1, 42, 42, 181, 0, 7, 42, 178, 0, 13, 181, 0, 17, 42, 178, 0, 20, 181, 0, 24, 42]
abbrev dktJ2_init_3_0 : List UInt8 := dkwJ2_init_3_0 ++ dktJ2_init_3_1
theorem dksJ2_init_3_0 : cJ2_init_3.data.toList.drop 0 = dktJ2_init_3_0 := by decide +kernel
theorem dksJ2_init_3_1 : cJ2_init_3.data.toList.drop 24 = dktJ2_init_3_1 := dk_seg dksJ2_init_3_0 24 rfl rfl
theorem dJ2_init_3_0 : decode cJ2_init_3 0 = .ok (.aload_n 0, 1) := dk_42 (dk_at dksJ2_init_3_0 0 rfl rfl)
theorem dJ2_init_3_1 : decode cJ2_init_3 1 = .ok (.invokespecial 1, 3) := dk_183 0 1 (dk_at dksJ2_init_3_0 1 rfl rfl)
theorem dJ2_init_3_4 : decode cJ2_init_3 4 = .ok (.aload_n 0, 1) := dk_42 (dk_at dksJ2_init_3_0 4 rfl rfl)
theorem dJ2_init_3_5 : decode cJ2_init_3 5 = .ok (.aload_n 0, 1) := dk_42 (dk_at dksJ2_init_3_0 5 rfl rfl)
theorem dJ2_init_3_6 : decode cJ2_init_3 6 = .ok (.putfield 7, 3) := dk_181 0 7 (dk_at dksJ2_init_3_0 6 rfl rfl)
theorem dJ2_init_3_9 : decode cJ2_init_3 9 = .ok (.aload_n 0, 1) := dk_42 (dk_at dksJ2_init_3_0 9 rfl rfl)
theorem dJ2_init_3_10 : decode cJ2_init_3 10 = .ok (.getstatic 13, 3) := dk_178 0 13 (dk_at dksJ2_init_3_0 10 rfl rfl)
theorem dJ2_init_3_13 : decode cJ2_init_3 13 = .ok (.putfield 17, 3) := dk_181 0 17 (dk_at dksJ2_init_3_0 13 rfl rfl)
theorem dJ2_init_3_16 : decode cJ2_init_3 16 = .ok (.aload_n 0, 1) := dk_42 (dk_at dksJ2_init_3_0 16 rfl rfl)
theorem dJ2_init_3_17 : decode cJ2_init_3 17 = .ok (.getstatic 20, 3) := dk_178 0 20 (dk_at dksJ2_init_3_0 17 rfl rfl)
theorem dJ2_init_3_20 : decode cJ2_init_3 20 = .ok (.putfield 24, 3) := dk_181 0 24 (dk_at dksJ2_init_3_0 20 rfl rfl)
theorem dJ2_init_3_23 : decode cJ2_init_3 23 = .ok (.aload_n 0, 1) := dk_42 (dk_at dksJ2_init_3_0 23 rfl rfl)
theorem dJ2_init_3_24 : decode cJ2_init_3 24 = .ok (.invokevirtual 27, 3) := dk_182 0 27 (dk_at dksJ2_init_3_1 0 rfl rfl)
theorem dJ2_init_3_27 : decode cJ2_init_3 27 = .ok (.pop, 1) := dk_87 (dk_at dksJ2_init_3_1 3 rfl rfl)
theorem dJ2_init_3_28 : decode cJ2_init_3 28 = .ok (.aload_n 0, 1) := dk_42 (dk_at dksJ2_init_3_1 4 rfl rfl)
theorem dJ2_init_3_29 : decode cJ2_init_3 29 = .ok (.aload_n 1, 1) := dk_43 (dk_at dksJ2_init_3_1 5 rfl rfl)
theorem dJ2_init_3_30 : decode cJ2_init_3 30 = .ok (.putfield 31, 3) := dk_181 0 31 (dk_at dksJ2_init_3_1 6 rfl rfl)
theorem dJ2_init_3_33 : decode cJ2_init_3 33 = .ok (.aload_n 0, 1) := dk_42 (dk_at dksJ2_init_3_1 9 rfl rfl)
theorem dJ2_init_3_34 : decode cJ2_init_3 34 = .ok (.aload_n 2, 1) := dk_44 (dk_at dksJ2_init_3_1 10 rfl rfl)
theorem dJ2_init_3_35 : decode cJ2_init_3 35 = .ok (.putfield 7, 3) := dk_181 0 7 (dk_at dksJ2_init_3_1 11 rfl rfl)
theorem dJ2_init_3_38 : decode cJ2_init_3 38 = .ok (.return_, 1) := dk_177 (dk_at dksJ2_init_3_1 14 rfl rfl)
def RJ3 : String := "java/lang/Exception"
abbrev cJ3_init : ByteArray := prog_23_method_1_code
def yJ3_init : MethodName := ⟨RJ3, "<init>", "()V"⟩
theorem dJ3_init_0 : decode cJ3_init 0 = .ok (.aload_n 0, 1) := by decide +kernel
theorem dJ3_init_1 : decode cJ3_init 1 = .ok (.invokespecial 1, 3) := by decide +kernel
theorem dJ3_init_4 : decode cJ3_init 4 = .ok (.return_, 1) := by decide +kernel
abbrev cJ3_init_3 : ByteArray := prog_23_method_3_code
def yJ3_init_3 : MethodName := ⟨RJ3, "<init>", "(Ljava/lang/String;Ljava/lang/Throwable;)V"⟩
def dkwJ3_init_3_0 : List UInt8 := [42, 43, 44, 183, 0, 10, 177]
abbrev dktJ3_init_3_0 : List UInt8 := dkwJ3_init_3_0 ++ []
theorem dksJ3_init_3_0 : cJ3_init_3.data.toList.drop 0 = dktJ3_init_3_0 := by decide +kernel
theorem dJ3_init_3_0 : decode cJ3_init_3 0 = .ok (.aload_n 0, 1) := dk_42 (dk_at dksJ3_init_3_0 0 rfl rfl)
theorem dJ3_init_3_1 : decode cJ3_init_3 1 = .ok (.aload_n 1, 1) := dk_43 (dk_at dksJ3_init_3_0 1 rfl rfl)
theorem dJ3_init_3_2 : decode cJ3_init_3 2 = .ok (.aload_n 2, 1) := dk_44 (dk_at dksJ3_init_3_0 2 rfl rfl)
theorem dJ3_init_3_3 : decode cJ3_init_3 3 = .ok (.invokespecial 10, 3) := dk_183 0 10 (dk_at dksJ3_init_3_0 3 rfl rfl)
theorem dJ3_init_3_6 : decode cJ3_init_3 6 = .ok (.return_, 1) := dk_177 (dk_at dksJ3_init_3_0 6 rfl rfl)
def RJ9 : String := "java/lang/RuntimeException"
abbrev cJ9_init_2 : ByteArray := prog_34_method_1_code
def yJ9_init_2 : MethodName := ⟨RJ9, "<init>", "()V"⟩
theorem dJ9_init_2_0 : decode cJ9_init_2 0 = .ok (.aload_n 0, 1) := by decide +kernel
theorem dJ9_init_2_1 : decode cJ9_init_2 1 = .ok (.invokespecial 1, 3) := by decide +kernel
theorem dJ9_init_2_4 : decode cJ9_init_2 4 = .ok (.return_, 1) := by decide +kernel
abbrev cJ10_init_2 : ByteArray := prog_25_method_1_code
def yJ10_init_2 : MethodName := ⟨RJ10, "<init>", "()V"⟩
theorem dJ10_init_2_0 : decode cJ10_init_2 0 = .ok (.aload_n 0, 1) := by decide +kernel
theorem dJ10_init_2_1 : decode cJ10_init_2 1 = .ok (.invokespecial 1, 3) := by decide +kernel
theorem dJ10_init_2_4 : decode cJ10_init_2 4 = .ok (.return_, 1) := by decide +kernel
abbrev cJ17_init_2 : ByteArray := prog_26_method_1_code
def yJ17_init_2 : MethodName := ⟨RJ17, "<init>", "()V"⟩
theorem dJ17_init_2_0 : decode cJ17_init_2 0 = .ok (.aload_n 0, 1) := by decide +kernel
theorem dJ17_init_2_1 : decode cJ17_init_2 1 = .ok (.invokespecial 1, 3) := by decide +kernel
theorem dJ17_init_2_4 : decode cJ17_init_2 4 = .ok (.return_, 1) := by decide +kernel
abbrev cJ18_init_2 : ByteArray := prog_27_method_1_code
def yJ18_init_2 : MethodName := ⟨RJ18, "<init>", "()V"⟩
theorem dJ18_init_2_0 : decode cJ18_init_2 0 = .ok (.aload_n 0, 1) := by decide +kernel
theorem dJ18_init_2_1 : decode cJ18_init_2 1 = .ok (.invokespecial 1, 3) := by decide +kernel
theorem dJ18_init_2_4 : decode cJ18_init_2 4 = .ok (.return_, 1) := by decide +kernel
abbrev cX4_init : ByteArray := prog_5_method_1_code
def yX4_init : MethodName := ⟨RX4, "<init>", "(I)V"⟩
def dkwX4_init_0 : List UInt8 := [42, 183, 0, 1, 42, 27, 181, 0, 7, 177]
abbrev dktX4_init_0 : List UInt8 := dkwX4_init_0 ++ []
theorem dksX4_init_0 : cX4_init.data.toList.drop 0 = dktX4_init_0 := by decide +kernel
theorem dX4_init_0 : decode cX4_init 0 = .ok (.aload_n 0, 1) := dk_42 (dk_at dksX4_init_0 0 rfl rfl)
theorem dX4_init_1 : decode cX4_init 1 = .ok (.invokespecial 1, 3) := dk_183 0 1 (dk_at dksX4_init_0 1 rfl rfl)
theorem dX4_init_4 : decode cX4_init 4 = .ok (.aload_n 0, 1) := dk_42 (dk_at dksX4_init_0 4 rfl rfl)
theorem dX4_init_5 : decode cX4_init 5 = .ok (.iload_n 1, 1) := dk_27 (dk_at dksX4_init_0 5 rfl rfl)
theorem dX4_init_6 : decode cX4_init 6 = .ok (.putfield 7, 3) := dk_181 0 7 (dk_at dksX4_init_0 6 rfl rfl)
theorem dX4_init_9 : decode cX4_init 9 = .ok (.return_, 1) := dk_177 (dk_at dksX4_init_0 9 rfl rfl)
abbrev cX7_init : ByteArray := prog_8_method_1_code
def yX7_init : MethodName := ⟨RX7, "<init>", "(II)V"⟩
def dkwX7_init_0 : List UInt8 := [42, 183, 0, 1, 42, 27, 181, 0, 7, 42, 28, 181, 0, 13, 177]
abbrev dktX7_init_0 : List UInt8 := dkwX7_init_0 ++ []
theorem dksX7_init_0 : cX7_init.data.toList.drop 0 = dktX7_init_0 := by decide +kernel
theorem dX7_init_0 : decode cX7_init 0 = .ok (.aload_n 0, 1) := dk_42 (dk_at dksX7_init_0 0 rfl rfl)
theorem dX7_init_1 : decode cX7_init 1 = .ok (.invokespecial 1, 3) := dk_183 0 1 (dk_at dksX7_init_0 1 rfl rfl)
theorem dX7_init_4 : decode cX7_init 4 = .ok (.aload_n 0, 1) := dk_42 (dk_at dksX7_init_0 4 rfl rfl)
theorem dX7_init_5 : decode cX7_init 5 = .ok (.iload_n 1, 1) := dk_27 (dk_at dksX7_init_0 5 rfl rfl)
theorem dX7_init_6 : decode cX7_init 6 = .ok (.putfield 7, 3) := dk_181 0 7 (dk_at dksX7_init_0 6 rfl rfl)
theorem dX7_init_9 : decode cX7_init 9 = .ok (.aload_n 0, 1) := dk_42 (dk_at dksX7_init_0 9 rfl rfl)
theorem dX7_init_10 : decode cX7_init 10 = .ok (.iload_n 2, 1) := dk_28 (dk_at dksX7_init_0 10 rfl rfl)
theorem dX7_init_11 : decode cX7_init 11 = .ok (.putfield 13, 3) := dk_181 0 13 (dk_at dksX7_init_0 11 rfl rfl)
theorem dX7_init_14 : decode cX7_init 14 = .ok (.return_, 1) := dk_177 (dk_at dksX7_init_0 14 rfl rfl)
abbrev cX7_init_2 : ByteArray := prog_8_method_2_code
def yX7_init_2 : MethodName := ⟨RX7, "<init>", "(LTrailMarkers$PlaceException;I)V"⟩
def dkwX7_init_2_0 : List UInt8 := [42, 1, 43, 183, 0, 16, 42, 8, 181, 0, 7, 42, 28, 181, 0, 13, 177]
abbrev dktX7_init_2_0 : List UInt8 := dkwX7_init_2_0 ++ []
theorem dksX7_init_2_0 : cX7_init_2.data.toList.drop 0 = dktX7_init_2_0 := by decide +kernel
theorem dX7_init_2_0 : decode cX7_init_2 0 = .ok (.aload_n 0, 1) := dk_42 (dk_at dksX7_init_2_0 0 rfl rfl)
theorem dX7_init_2_1 : decode cX7_init_2 1 = .ok (.aconst_null, 1) := dk_1 (dk_at dksX7_init_2_0 1 rfl rfl)
theorem dX7_init_2_2 : decode cX7_init_2 2 = .ok (.aload_n 1, 1) := dk_43 (dk_at dksX7_init_2_0 2 rfl rfl)
theorem dX7_init_2_3 : decode cX7_init_2 3 = .ok (.invokespecial 16, 3) := dk_183 0 16 (dk_at dksX7_init_2_0 3 rfl rfl)
theorem dX7_init_2_6 : decode cX7_init_2 6 = .ok (.aload_n 0, 1) := dk_42 (dk_at dksX7_init_2_0 6 rfl rfl)
theorem dX7_init_2_7 : decode cX7_init_2 7 = .ok (.iconst 5, 1) := dk_8 (dk_at dksX7_init_2_0 7 rfl rfl)
theorem dX7_init_2_8 : decode cX7_init_2 8 = .ok (.putfield 7, 3) := dk_181 0 7 (dk_at dksX7_init_2_0 8 rfl rfl)
theorem dX7_init_2_11 : decode cX7_init_2 11 = .ok (.aload_n 0, 1) := dk_42 (dk_at dksX7_init_2_0 11 rfl rfl)
theorem dX7_init_2_12 : decode cX7_init_2 12 = .ok (.iload_n 2, 1) := dk_28 (dk_at dksX7_init_2_0 12 rfl rfl)
theorem dX7_init_2_13 : decode cX7_init_2 13 = .ok (.putfield 13, 3) := dk_181 0 13 (dk_at dksX7_init_2_0 13 rfl rfl)
theorem dX7_init_2_16 : decode cX7_init_2 16 = .ok (.return_, 1) := dk_177 (dk_at dksX7_init_2_0 16 rfl rfl)
abbrev cX7_reason : ByteArray := prog_8_method_3_code
def yX7_reason : MethodName := ⟨RX7, "reason", "()I"⟩
def dkwX7_reason_1 : List UInt8 := [3, 172]
abbrev dktX7_reason_1 : List UInt8 := dkwX7_reason_1 ++ []
def dkwX7_reason_0 : List UInt8 := [42, 182, 0, 19, 77, 44, 193, 0, 23, 153, 0, 15, 44, 192, 0, 23, 76, 43, 180, 0, 25, 167, 0, 4]
abbrev dktX7_reason_0 : List UInt8 := dkwX7_reason_0 ++ dktX7_reason_1
theorem dksX7_reason_0 : cX7_reason.data.toList.drop 0 = dktX7_reason_0 := by decide +kernel
theorem dksX7_reason_1 : cX7_reason.data.toList.drop 24 = dktX7_reason_1 := dk_seg dksX7_reason_0 24 rfl rfl
theorem dX7_reason_0 : decode cX7_reason 0 = .ok (.aload_n 0, 1) := dk_42 (dk_at dksX7_reason_0 0 rfl rfl)
theorem dX7_reason_1 : decode cX7_reason 1 = .ok (.invokevirtual 19, 3) := dk_182 0 19 (dk_at dksX7_reason_0 1 rfl rfl)
theorem dX7_reason_4 : decode cX7_reason 4 = .ok (.astore_n 2, 1) := dk_77 (dk_at dksX7_reason_0 4 rfl rfl)
theorem dX7_reason_5 : decode cX7_reason 5 = .ok (.aload_n 2, 1) := dk_44 (dk_at dksX7_reason_0 5 rfl rfl)
theorem dX7_reason_6 : decode cX7_reason 6 = .ok (.instanceof 23, 3) := dk_193 0 23 (dk_at dksX7_reason_0 6 rfl rfl)
theorem dX7_reason_9 : decode cX7_reason 9 = .ok (.ifCond .eq 15, 3) := dk_153 0 15 (dk_at dksX7_reason_0 9 rfl rfl)
theorem dX7_reason_12 : decode cX7_reason 12 = .ok (.aload_n 2, 1) := dk_44 (dk_at dksX7_reason_0 12 rfl rfl)
theorem dX7_reason_13 : decode cX7_reason 13 = .ok (.checkcast 23, 3) := dk_192 0 23 (dk_at dksX7_reason_0 13 rfl rfl)
theorem dX7_reason_16 : decode cX7_reason 16 = .ok (.astore_n 1, 1) := dk_76 (dk_at dksX7_reason_0 16 rfl rfl)
theorem dX7_reason_17 : decode cX7_reason 17 = .ok (.aload_n 1, 1) := dk_43 (dk_at dksX7_reason_0 17 rfl rfl)
theorem dX7_reason_18 : decode cX7_reason 18 = .ok (.getfield 25, 3) := dk_180 0 25 (dk_at dksX7_reason_0 18 rfl rfl)
theorem dX7_reason_21 : decode cX7_reason 21 = .ok (.goto 4, 3) := dk_167 0 4 (dk_at dksX7_reason_0 21 rfl rfl)
theorem dX7_reason_24 : decode cX7_reason 24 = .ok (.iconst 0, 1) := dk_3 (dk_at dksX7_reason_1 0 rfl rfl)
theorem dX7_reason_25 : decode cX7_reason 25 = .ok (.ireturn, 1) := dk_172 (dk_at dksX7_reason_1 1 rfl rfl)
theorem q144 : (Jvm.Cond.initialized "java/lang/Exception") ∈ lw_all := lw_g (lw_at lw_m1 7 rfl) rfl
theorem q153 : (Jvm.Cond.initialized "java/lang/RuntimeException") ∈ lw_all := lw_g (lw_at lw_m1 16 rfl) rfl
theorem q385 : (Jvm.Cond.methodLink "TrailMarkers$PlaceException" (1 : Nat) ({ cls := "java/lang/Exception", name := "<init>", desc := "()V" } : Jvm.MethodName)) ∈ lw_all := lw_g (lw_at lw_m2 8 rfl) rfl
theorem q386 : (Jvm.Cond.instanceMethod ({ cls := "java/lang/Exception", name := "<init>", desc := "()V" } : Jvm.MethodName)) ∈ lw_all := lw_g (lw_at lw_m2 9 rfl) rfl
theorem q387 : (Jvm.Cond.code ({ cls := "java/lang/Exception", name := "<init>", desc := "()V" } : Jvm.MethodName) prog_23_method_1_code (1 : Nat) (Option.none : Option Jvm.ClassFile.FieldType)) ∈ lw_all := lw_g (lw_at lw_m2 10 rfl) rfl
theorem q388 : (Jvm.Cond.methodLink "java/lang/Exception" (1 : Nat) ({ cls := "java/lang/Throwable", name := "<init>", desc := "()V" } : Jvm.MethodName)) ∈ lw_all := lw_g (lw_at lw_m2 11 rfl) rfl
theorem q389 : (Jvm.Cond.fieldLink "TrailMarkers$PlaceException" (7 : Nat) "TrailMarkers$PlaceException" "reason" "I") ∈ lw_all := lw_g (lw_at lw_m2 12 rfl) rfl
theorem q390 : (Jvm.Cond.fieldLink "TrailMarkers$TextException" (25 : Nat) "TrailMarkers$PlaceException" "reason" "I") ∈ lw_all := lw_g (lw_at lw_m2 13 rfl) rfl
theorem q392 : (Jvm.Cond.fieldLink "java/lang/Throwable" (31 : Nat) "java/lang/Throwable" "detailMessage" "Ljava/lang/String;") ∈ lw_all := lw_g (lw_at lw_m2 15 rfl) rfl
theorem q818 : (Jvm.Cond.methodLink "TrailMarkers$TextException" (1 : Nat) ({ cls := "java/lang/Exception", name := "<init>", desc := "()V" } : Jvm.MethodName)) ∈ lw_all := lw_g (lw_at lw_m3 201 rfl) rfl
theorem q819 : (Jvm.Cond.fieldLink "TrailMarkers$TextException" (7 : Nat) "TrailMarkers$TextException" "code" "I") ∈ lw_all := lw_g (lw_at lw_m3 202 rfl) rfl
theorem q821 : (Jvm.Cond.fieldLink "TrailMarkers$TextException" (13 : Nat) "TrailMarkers$TextException" "offset" "I") ∈ lw_all := lw_g (lw_at lw_m3 204 rfl) rfl
theorem q996 : (Jvm.Cond.methodLink "TrailMarkers$TextException" (16 : Nat) ({ cls := "java/lang/Exception", name := "<init>", desc := "(Ljava/lang/String;Ljava/lang/Throwable;)V" } : Jvm.MethodName)) ∈ lw_all := lw_g (lw_at lw_m4 139 rfl) rfl
theorem q997 : (Jvm.Cond.instanceMethod ({ cls := "java/lang/Exception", name := "<init>", desc := "(Ljava/lang/String;Ljava/lang/Throwable;)V" } : Jvm.MethodName)) ∈ lw_all := lw_g (lw_at lw_m4 140 rfl) rfl
theorem q998 : (Jvm.Cond.code ({ cls := "java/lang/Exception", name := "<init>", desc := "(Ljava/lang/String;Ljava/lang/Throwable;)V" } : Jvm.MethodName) prog_23_method_3_code (3 : Nat) (Option.none : Option Jvm.ClassFile.FieldType)) ∈ lw_all := lw_g (lw_at lw_m4 141 rfl) rfl
theorem q999 : (Jvm.Cond.methodLink "java/lang/Exception" (10 : Nat) ({ cls := "java/lang/Throwable", name := "<init>", desc := "(Ljava/lang/String;Ljava/lang/Throwable;)V" } : Jvm.MethodName)) ∈ lw_all := lw_g (lw_at lw_m4 142 rfl) rfl
theorem q1000 : (Jvm.Cond.instanceMethod ({ cls := "java/lang/Throwable", name := "<init>", desc := "(Ljava/lang/String;Ljava/lang/Throwable;)V" } : Jvm.MethodName)) ∈ lw_all := lw_g (lw_at lw_m4 143 rfl) rfl
theorem q1001 : (Jvm.Cond.code ({ cls := "java/lang/Throwable", name := "<init>", desc := "(Ljava/lang/String;Ljava/lang/Throwable;)V" } : Jvm.MethodName) prog_42_method_3_code (3 : Nat) (Option.none : Option Jvm.ClassFile.FieldType)) ∈ lw_all := lw_g (lw_at lw_m4 144 rfl) rfl
theorem q1117 : (Jvm.Cond.classLink "TrailMarkers$TextException" (23 : Nat) "TrailMarkers$PlaceException") ∈ lw_all := lw_g (lw_at lw_m5 20 rfl) rfl
theorem q1405 : (Jvm.Cond.methodLink "java/lang/IllegalArgumentException" (1 : Nat) ({ cls := "java/lang/RuntimeException", name := "<init>", desc := "()V" } : Jvm.MethodName)) ∈ lw_all := lw_g (lw_at lw_m6 68 rfl) rfl
theorem q1406 : (Jvm.Cond.instanceMethod ({ cls := "java/lang/RuntimeException", name := "<init>", desc := "()V" } : Jvm.MethodName)) ∈ lw_all := lw_g (lw_at lw_m6 69 rfl) rfl
theorem q1407 : (Jvm.Cond.code ({ cls := "java/lang/RuntimeException", name := "<init>", desc := "()V" } : Jvm.MethodName) prog_34_method_1_code (1 : Nat) (Option.none : Option Jvm.ClassFile.FieldType)) ∈ lw_all := lw_g (lw_at lw_m6 70 rfl) rfl
theorem q1408 : (Jvm.Cond.methodLink "java/lang/RuntimeException" (1 : Nat) ({ cls := "java/lang/Exception", name := "<init>", desc := "()V" } : Jvm.MethodName)) ∈ lw_all := lw_g (lw_at lw_m6 71 rfl) rfl
theorem q1459 : (Jvm.Cond.methodLink "java/lang/IndexOutOfBoundsException" (1 : Nat) ({ cls := "java/lang/RuntimeException", name := "<init>", desc := "()V" } : Jvm.MethodName)) ∈ lw_all := lw_g (lw_at lw_m6 122 rfl) rfl
theorem q1470 : (Jvm.Cond.methodLink "java/lang/IllegalStateException" (1 : Nat) ({ cls := "java/lang/RuntimeException", name := "<init>", desc := "()V" } : Jvm.MethodName)) ∈ lw_all := lw_g (lw_at lw_m6 133 rfl) rfl
theorem fp_J2_7_X4 : FP "java/lang/Throwable" 7 3 0 (tyX4 0) false := ⟨RX4, TX4, 7, "java/lang/Throwable", cf_X4, by decide, q393, Or.inl rfl, tyX4_ok 0 (by decide), rfl, fun h9 => nomatch h9⟩
theorem fp_J2_7_X7 : FP "java/lang/Throwable" 7 6 0 (tyX7 0) false := ⟨RX7, TX7, 8, "java/lang/Throwable", cf_X7, by decide, q393, Or.inl rfl, tyX7_ok 0 (by decide), rfl, fun h9 => nomatch h9⟩
theorem fp_J2_7_J10 : FP "java/lang/Throwable" 7 21 0 (tyJ10 0) false := ⟨RJ10, TJ10, 6, "java/lang/Throwable", cf_J10, by decide, q393, Or.inl rfl, tyJ10_ok 0 (by decide), rfl, fun h9 => nomatch h9⟩
theorem fp_J2_7_J17 : FP "java/lang/Throwable" 7 22 0 (tyJ17 0) false := ⟨RJ17, TJ17, 6, "java/lang/Throwable", cf_J17, by decide, q393, Or.inl rfl, tyJ17_ok 0 (by decide), rfl, fun h9 => nomatch h9⟩
theorem fp_J2_7_J18 : FP "java/lang/Throwable" 7 23 0 (tyJ18 0) false := ⟨RJ18, TJ18, 6, "java/lang/Throwable", cf_J18, by decide, q393, Or.inl rfl, tyJ18_ok 0 (by decide), rfl, fun h9 => nomatch h9⟩
theorem fpL_J2_7 : ∀ ci ∈ [3, 6, 21, 22, 23], FP "java/lang/Throwable" 7 ci 0 (tyX4 0) false := List.forall_mem_cons.mpr ⟨fp_J2_7_X4, List.forall_mem_cons.mpr ⟨fp_J2_7_X7, List.forall_mem_cons.mpr ⟨fp_J2_7_J10, List.forall_mem_cons.mpr ⟨fp_J2_7_J17, List.forall_mem_cons.mpr ⟨fp_J2_7_J18, fun _ h => nomatch h⟩⟩⟩⟩⟩
theorem fp_J2_17_X4 : FP "java/lang/Throwable" 17 3 1 (tyX4 1) false := ⟨RX4, TX4, 7, "java/lang/Throwable", cf_X4, by decide, q394, Or.inl rfl, tyX4_ok 1 (by decide), rfl, fun h9 => nomatch h9⟩
theorem fp_J2_17_X7 : FP "java/lang/Throwable" 17 6 1 (tyX7 1) false := ⟨RX7, TX7, 8, "java/lang/Throwable", cf_X7, by decide, q394, Or.inl rfl, tyX7_ok 1 (by decide), rfl, fun h9 => nomatch h9⟩
theorem fp_J2_17_J10 : FP "java/lang/Throwable" 17 21 1 (tyJ10 1) false := ⟨RJ10, TJ10, 6, "java/lang/Throwable", cf_J10, by decide, q394, Or.inl rfl, tyJ10_ok 1 (by decide), rfl, fun h9 => nomatch h9⟩
theorem fp_J2_17_J17 : FP "java/lang/Throwable" 17 22 1 (tyJ17 1) false := ⟨RJ17, TJ17, 6, "java/lang/Throwable", cf_J17, by decide, q394, Or.inl rfl, tyJ17_ok 1 (by decide), rfl, fun h9 => nomatch h9⟩
theorem fp_J2_17_J18 : FP "java/lang/Throwable" 17 23 1 (tyJ18 1) false := ⟨RJ18, TJ18, 6, "java/lang/Throwable", cf_J18, by decide, q394, Or.inl rfl, tyJ18_ok 1 (by decide), rfl, fun h9 => nomatch h9⟩
theorem fpL_J2_17 : ∀ ci ∈ [3, 6, 21, 22, 23], FP "java/lang/Throwable" 17 ci 1 (tyX4 1) false := List.forall_mem_cons.mpr ⟨fp_J2_17_X4, List.forall_mem_cons.mpr ⟨fp_J2_17_X7, List.forall_mem_cons.mpr ⟨fp_J2_17_J10, List.forall_mem_cons.mpr ⟨fp_J2_17_J17, List.forall_mem_cons.mpr ⟨fp_J2_17_J18, fun _ h => nomatch h⟩⟩⟩⟩⟩
theorem fp_J2_24_X4 : FP "java/lang/Throwable" 24 3 2 (tyX4 2) false := ⟨RX4, TX4, 7, "java/lang/Throwable", cf_X4, by decide, q395, Or.inl rfl, tyX4_ok 2 (by decide), rfl, fun h9 => nomatch h9⟩
theorem fp_J2_24_X7 : FP "java/lang/Throwable" 24 6 2 (tyX7 2) false := ⟨RX7, TX7, 8, "java/lang/Throwable", cf_X7, by decide, q395, Or.inl rfl, tyX7_ok 2 (by decide), rfl, fun h9 => nomatch h9⟩
theorem fp_J2_24_J10 : FP "java/lang/Throwable" 24 21 2 (tyJ10 2) false := ⟨RJ10, TJ10, 6, "java/lang/Throwable", cf_J10, by decide, q395, Or.inl rfl, tyJ10_ok 2 (by decide), rfl, fun h9 => nomatch h9⟩
theorem fp_J2_24_J17 : FP "java/lang/Throwable" 24 22 2 (tyJ17 2) false := ⟨RJ17, TJ17, 6, "java/lang/Throwable", cf_J17, by decide, q395, Or.inl rfl, tyJ17_ok 2 (by decide), rfl, fun h9 => nomatch h9⟩
theorem fp_J2_24_J18 : FP "java/lang/Throwable" 24 23 2 (tyJ18 2) false := ⟨RJ18, TJ18, 6, "java/lang/Throwable", cf_J18, by decide, q395, Or.inl rfl, tyJ18_ok 2 (by decide), rfl, fun h9 => nomatch h9⟩
theorem fpL_J2_24 : ∀ ci ∈ [3, 6, 21, 22, 23], FP "java/lang/Throwable" 24 ci 2 (tyX4 2) false := List.forall_mem_cons.mpr ⟨fp_J2_24_X4, List.forall_mem_cons.mpr ⟨fp_J2_24_X7, List.forall_mem_cons.mpr ⟨fp_J2_24_J10, List.forall_mem_cons.mpr ⟨fp_J2_24_J17, List.forall_mem_cons.mpr ⟨fp_J2_24_J18, fun _ h => nomatch h⟩⟩⟩⟩⟩
theorem fp_J2_31_X4 : FP "java/lang/Throwable" 31 3 3 (tyX4 3) false := ⟨RX4, TX4, 7, "java/lang/Throwable", cf_X4, by decide, q392, Or.inl rfl, tyX4_ok 3 (by decide), rfl, fun h9 => nomatch h9⟩
theorem fp_J2_31_X7 : FP "java/lang/Throwable" 31 6 3 (tyX7 3) false := ⟨RX7, TX7, 8, "java/lang/Throwable", cf_X7, by decide, q392, Or.inl rfl, tyX7_ok 3 (by decide), rfl, fun h9 => nomatch h9⟩
theorem fp_J2_31_J10 : FP "java/lang/Throwable" 31 21 3 (tyJ10 3) false := ⟨RJ10, TJ10, 6, "java/lang/Throwable", cf_J10, by decide, q392, Or.inl rfl, tyJ10_ok 3 (by decide), rfl, fun h9 => nomatch h9⟩
theorem fp_J2_31_J17 : FP "java/lang/Throwable" 31 22 3 (tyJ17 3) false := ⟨RJ17, TJ17, 6, "java/lang/Throwable", cf_J17, by decide, q392, Or.inl rfl, tyJ17_ok 3 (by decide), rfl, fun h9 => nomatch h9⟩
theorem fp_J2_31_J18 : FP "java/lang/Throwable" 31 23 3 (tyJ18 3) false := ⟨RJ18, TJ18, 6, "java/lang/Throwable", cf_J18, by decide, q392, Or.inl rfl, tyJ18_ok 3 (by decide), rfl, fun h9 => nomatch h9⟩
theorem fpL_J2_31 : ∀ ci ∈ [3, 6, 21, 22, 23], FP "java/lang/Throwable" 31 ci 3 (tyX4 3) false := List.forall_mem_cons.mpr ⟨fp_J2_31_X4, List.forall_mem_cons.mpr ⟨fp_J2_31_X7, List.forall_mem_cons.mpr ⟨fp_J2_31_J10, List.forall_mem_cons.mpr ⟨fp_J2_31_J17, List.forall_mem_cons.mpr ⟨fp_J2_31_J18, fun _ h => nomatch h⟩⟩⟩⟩⟩
theorem m_J3_1 : MI "java/lang/Exception" 1 yJ2_init cJ2_init 1 0 := ⟨q388, q360, rfl, q143, q361, by decide +kernel, by decide +kernel, by decide +kernel⟩
theorem m_J3_10 : MI "java/lang/Exception" 10 yJ2_init_3 cJ2_init_3 3 2 := ⟨q999, q1000, rfl, q143, q1001, by decide +kernel, by decide +kernel, by decide +kernel⟩
theorem m_J9_1 : MI "java/lang/RuntimeException" 1 yJ3_init cJ3_init 1 0 := ⟨q1408, q386, rfl, q144, q387, by decide +kernel, by decide +kernel, by decide +kernel⟩
theorem m_J10_1 : MI "java/lang/IllegalArgumentException" 1 yJ9_init_2 cJ9_init_2 1 0 := ⟨q1405, q1406, rfl, q153, q1407, by decide +kernel, by decide +kernel, by decide +kernel⟩
theorem m_J17_1 : MI "java/lang/IllegalStateException" 1 yJ9_init_2 cJ9_init_2 1 0 := ⟨q1470, q1406, rfl, q153, q1407, by decide +kernel, by decide +kernel, by decide +kernel⟩
theorem m_J18_1 : MI "java/lang/IndexOutOfBoundsException" 1 yJ9_init_2 cJ9_init_2 1 0 := ⟨q1459, q1406, rfl, q153, q1407, by decide +kernel, by decide +kernel, by decide +kernel⟩
theorem fp_X4_7 : FP "TrailMarkers$PlaceException" 7 3 6 (tyX4 6) true := ⟨RX4, TX4, 7, "TrailMarkers$PlaceException", cf_X4, by decide, q389, Or.inl rfl, tyX4_ok 6 (by decide), rfl, fun _ => rfl⟩
theorem m_X4_1 : MI "TrailMarkers$PlaceException" 1 yJ3_init cJ3_init 1 0 := ⟨q385, q386, rfl, q144, q387, by decide +kernel, by decide +kernel, by decide +kernel⟩
theorem fp_X7_7 : FP "TrailMarkers$TextException" 7 6 6 (tyX7 6) true := ⟨RX7, TX7, 8, "TrailMarkers$TextException", cf_X7, by decide, q819, Or.inl rfl, tyX7_ok 6 (by decide), rfl, fun _ => rfl⟩
theorem fp_X7_13 : FP "TrailMarkers$TextException" 13 6 7 (tyX7 7) true := ⟨RX7, TX7, 8, "TrailMarkers$TextException", cf_X7, by decide, q821, Or.inl rfl, tyX7_ok 7 (by decide), rfl, fun _ => rfl⟩
theorem m_X7_1 : MI "TrailMarkers$TextException" 1 yJ3_init cJ3_init 1 0 := ⟨q818, q386, rfl, q144, q387, by decide +kernel, by decide +kernel, by decide +kernel⟩
theorem m_X7_16 : MI "TrailMarkers$TextException" 16 yJ3_init_3 cJ3_init_3 3 2 := ⟨q996, q997, rfl, q144, q998, by decide +kernel, by decide +kernel, by decide +kernel⟩
theorem co_3_TrailMarkers_PlaceException : CO 3 "TrailMarkers$PlaceException" := ⟨_, rfl, Or.inl rfl⟩
theorem cos_TrailMarkers_PlaceException_3 : ∀ ci ∈ [3], CO ci "TrailMarkers$PlaceException" := List.forall_mem_cons.mpr ⟨co_3_TrailMarkers_PlaceException, fun _ h => nomatch h⟩
theorem cns_TrailMarkers_PlaceException_6_22_21_23 : ∀ ci ∈ [6, 22, 21, 23], CN ci "TrailMarkers$PlaceException" := List.forall_mem_cons.mpr ⟨⟨_, rfl, by decide⟩, List.forall_mem_cons.mpr ⟨⟨_, rfl, by decide⟩, List.forall_mem_cons.mpr ⟨⟨_, rfl, by decide⟩, List.forall_mem_cons.mpr ⟨⟨_, rfl, by decide⟩, fun _ h => nomatch h⟩⟩⟩⟩
theorem fa_X7_25_X4 : FA "TrailMarkers$TextException" 25 3 6 := ⟨RX4, TX4, 7, "TrailMarkers$PlaceException", cf_X4, by decide, q390, Or.inl rfl⟩
