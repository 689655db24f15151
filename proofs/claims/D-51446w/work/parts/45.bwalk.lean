set_option maxRecDepth 100000
set_option maxHeartbeats 4000000 in
theorem w_J5_canEncode {K : KT} {Y : YT} {Qx : QxT} {h : AH} {n z : Nat} {κ : Int → Prop} (X : XY K "java/lang/StringLatin1" "canEncode" cJ5_canEncode (Option.some Jvm.ClassFile.FieldType.boolean) [] 1 0 0 Y) (E : YE K Y (pQ h n z κ) Qx) {x0 : Int} (hk : P_J5_canEncode κ x0) : G K Y h n z 0 (lv_argsA 0 [vI x0]) [] := by
  show G K Y h n z 0 [(0, vI x0)] []
  refine r_iload_n X (pc := 0) dJ5_canEncode_0 rfl (q := 0) rfl ?_
  refine r_sipush X (pc := 1) dJ5_canEncode_1 (by decide) ?_
  obtain ⟨b3, hk⟩ := hk
  refine r_icmp_gt X (pc := 4) (tgt := 11) dJ5_canEncode_4 (by decide) ⟨b3, (by decide)⟩ (fun c4 => ?_) (fun c4 => ?_)
  · have hk := hk.1 c4
    refine r_iconst X (pc := 11) dJ5_canEncode_11 ?_
    exact r_iret X E (pc := 12) dJ5_canEncode_12 rfl ⟨_, rfl, rfl, rfl, rfl, hk⟩
  · have hk := hk.2 c4
    refine r_iconst X (pc := 7) dJ5_canEncode_7 ?_
    refine r_goto X (pc := 8) (tgt := 12) dJ5_canEncode_8 (by decide) ?_
    exact r_iret X E (pc := 12) dJ5_canEncode_12 rfl ⟨_, rfl, rfl, rfl, rfl, hk⟩
theorem s_J5_canEncode {K : KT} {l : Launch} {n z : Nat} {h : AH} {κ : Int → Prop} {x0 : Int} (hk : P_J5_canEncode κ x0) : Ct K l yJ5_canEncode (ws_ yJ5_canEncode cJ5_canEncode 1 (Option.some Jvm.ClassFile.FieldType.boolean)) 0 0 ([vI x0].map cV) h n z (pQ h n z κ) noX :=
  ct_of (by decide +kernel) (Nat.le_of_ble_eq_true rfl) (fun Y X E => w_J5_canEncode X E hk)
set_option maxHeartbeats 4000000 in
theorem w_J13_newLength {K : KT} {Y : YT} {Qx : QxT} {h : AH} {n z : Nat} {κ : Int → Prop} (X : XY K "jdk/internal/util/ArraysSupport" "newLength" cJ13_newLength (Option.some Jvm.ClassFile.FieldType.int) [] 4 1 60 Y) (E : YE K Y (pQ h n z κ) Qx) {x0 : Int} {x1 : Int} {x2 : Int} (hk : P_J13_newLength κ x0 x1 x2) : G K Y h n z 0 (lv_argsA 0 [vI x0, vI x1, vI x2]) [] := by
  show G K Y h n z 0 [(0, vI x0), (1, vI x1), (2, vI x2)] []
  refine r_iload_n X (pc := 0) dJ13_newLength_0 rfl (q := 0) rfl ?_
  refine r_iload_n X (pc := 1) dJ13_newLength_1 rfl (q := 1) rfl ?_
  refine r_iload_n X (pc := 2) dJ13_newLength_2 rfl (q := 2) rfl ?_
  obtain ⟨b8, b9, hk⟩ := hk
  refine r_mmax X (pc := 3) q564 q565 q152 q566 b8 b9 ⟨by decide, Nat.le_of_ble_eq_true rfl⟩ dJ13_newLength_3 ?_
  refine r_iadd X (pc := 6) dJ13_newLength_6 ?_
  refine r_istore_n X (pc := 7) (lv1 := [(3, vI (x0 + (jmax x1 x2))), (0, vI x0), (1, vI x1), (2, vI x2)]) dJ13_newLength_7 rfl (by decide) rfl ?_
  refine r_iconst X (pc := 8) dJ13_newLength_8 ?_
  refine r_iload_n X (pc := 9) dJ13_newLength_9 rfl (q := 0) rfl ?_
  obtain ⟨b10, hk⟩ := hk
  refine r_icmp_ge X (pc := 10) (tgt := 21) dJ13_newLength_10 (by decide) ⟨(by decide), b10⟩ (fun c11 => ?_) (fun c11 => ?_)
  · have hk := hk.2 c11
    refine r_iload_n X (pc := 21) dJ13_newLength_21 rfl (q := 1) rfl ?_
    refine r_iload_n X (pc := 22) dJ13_newLength_22 rfl (q := 2) rfl ?_
    exact hk.elim
  · have hk := hk.1 c11
    refine r_iload_n X (pc := 13) dJ13_newLength_13 rfl (q := 0) rfl ?_
    refine r_ldcI X (pc := 14) (v := 2147483639) dJ13_newLength_14 q567 (by decide) ?_
    refine r_icmp_gt X (pc := 16) (tgt := 21) dJ13_newLength_16 (by decide) ⟨b10, (by decide)⟩ (fun c13 => ?_) (fun c13 => ?_)
    · have hk := hk.1 c13
      refine r_iload_n X (pc := 21) dJ13_newLength_21 rfl (q := 1) rfl ?_
      refine r_iload_n X (pc := 22) dJ13_newLength_22 rfl (q := 2) rfl ?_
      exact hk.elim
    · have hk := hk.2 c13
      refine r_iload_n X (pc := 19) dJ13_newLength_19 rfl (q := 0) rfl ?_
      exact r_iret X E (pc := 20) dJ13_newLength_20 rfl ⟨_, rfl, rfl, rfl, rfl, hk⟩
theorem s_J13_newLength {K : KT} {l : Launch} {n z : Nat} {h : AH} {κ : Int → Prop} {x0 : Int} {x1 : Int} {x2 : Int} (hk : P_J13_newLength κ x0 x1 x2) : Ct K l yJ13_newLength (ws_ yJ13_newLength cJ13_newLength 4 (Option.some Jvm.ClassFile.FieldType.int)) 1 60 ([vI x0, vI x1, vI x2].map cV) h n z (pQ h n z κ) noX :=
  ct_of (by decide +kernel) (Nat.le_of_ble_eq_true rfl) (fun Y X E => w_J13_newLength X E hk)
set_option maxHeartbeats 4000000 in
theorem w_J11_init {K : KT} {Y : YT} {o : Nat} {κ : AH → Nat → Nat → Prop} {χ : QxT} (X : XY K "java/lang/AbstractStringBuilder" "<init>" cJ11_init none [] 2 1 60 Y) (E : YE K Y (QvV κ) χ) {h : AH} {n : Nat} {z : Nat} {x1 : Int} (hk : P_J11_init K o κ χ h n z x1) : G K Y h n z 0 (lv_argsA 0 [vR (some o), vI x1]) [] := by
  show G K Y h n z 0 [(0, vR (some o)), (1, vI x1)] []
  refine r_aload_n X (pc := 0) dJ11_init_0 rfl (q := 0) rfl ?_
  refine r_objinit X (pc := 1) q522 q203 q204 ⟨by decide, Nat.le_of_ble_eq_true rfl⟩ dJ11_init_1 ?_
  refine r_gets X (pc := 4) (v := vI 1) (j := 0) rfl rfl q523 dJ11_init_4 ?_
  refine r_if_eq X (pc := 7) (tgt := 25) dJ11_init_7 (by decide) (by decide) (fun c11 => ?_) (fun c11 => ?_)
  · exact absurd c11 (by decide)
  · refine r_aload_n X (pc := 10) dJ11_init_10 rfl (q := 0) rfl ?_
    refine r_iload_n X (pc := 11) dJ11_init_11 rfl (q := 1) rfl ?_
    refine r_hNewA X (pc := 12) (t := 1) rfl rfl q250 (fun _ _ h9 => h9) (fun _ => rfl) (by decide) dJ11_init_12 hk (fun h8 hk => ?_)
    refine r_hPut X (pc := 14) fp_J11_15_J12 (fit_arr (some n)).1 (fit_arr (some n)).2 dJ11_init_14 hk (fun h9 hk => ?_)
    refine r_aload_n X (pc := 17) dJ11_init_17 rfl (q := 0) rfl ?_
    refine r_iconst X (pc := 18) dJ11_init_18 ?_
    refine r_hPut X (pc := 19) fp_J11_22_J12 (fit_byte (Or.inl rfl)).1 (fit_byte (Or.inl rfl)).2 dJ11_init_19 hk (fun h10 hk => ?_)
    refine r_goto X (pc := 22) (tgt := 38) dJ11_init_22 (by decide) ?_
    exact r_vret X E (pc := 38) dJ11_init_38 ⟨rfl, hk⟩
theorem s_J11_init {K : KT} {l : Launch} {o : Nat} {κ : AH → Nat → Nat → Prop} {χ : QxT} {h : AH} {n : Nat} {z : Nat} {x1 : Int} (hk : P_J11_init K o κ χ h n z x1) : Ct K l yJ11_init (ws_ yJ11_init cJ11_init 2 none) 1 60 ([vR (some o), vI x1].map cV) h n z (QvV κ) χ :=
  ct_of (by decide +kernel) (Nat.le_of_ble_eq_true rfl) (fun Y X E => w_J11_init X E hk)
set_option maxHeartbeats 4000000 in
theorem w_J11_isLatin1 {K : KT} {Y : YT} {o : Nat} {κ : Int → AH → Nat → Nat → Prop} {χ : QxT} (X : XY K "java/lang/AbstractStringBuilder" "isLatin1" cJ11_isLatin1 (Option.some Jvm.ClassFile.FieldType.boolean) [] 1 0 0 Y) (E : YE K Y (QvI κ) χ) {h : AH} {n : Nat} {z : Nat} (hk : P_J11_isLatin1 K o κ χ h n z) : G K Y h n z 0 (lv_argsA 0 [vR (some o)]) [] := by
  show G K Y h n z 0 [(0, vR (some o))] []
  refine r_gets X (pc := 0) (v := vI 1) (j := 0) rfl rfl q523 dJ11_isLatin1_0 ?_
  refine r_if_eq X (pc := 3) (tgt := 17) dJ11_isLatin1_3 (by decide) (by decide) (fun c8 => ?_) (fun c8 => ?_)
  · exact absurd c8 (by decide)
  · refine r_aload_n X (pc := 6) dJ11_isLatin1_6 rfl (q := 0) rfl ?_
    refine r_hGI X (pc := 7) fa_J11_22_J12 dJ11_isLatin1_7 hk (fun y5 hk => ?_)
    obtain ⟨b6, hk⟩ := hk
    refine r_if_ne X (pc := 10) (tgt := 17) dJ11_isLatin1_10 (by decide) b6 (fun c7 => ?_) (fun c7 => ?_)
    · have hk := hk.2 c7
      refine r_iconst X (pc := 17) dJ11_isLatin1_17 ?_
      exact r_iret X E (pc := 18) dJ11_isLatin1_18 rfl ⟨_, rfl, hk⟩
    · have hk := hk.1 c7
      refine r_iconst X (pc := 13) dJ11_isLatin1_13 ?_
      refine r_goto X (pc := 14) (tgt := 18) dJ11_isLatin1_14 (by decide) ?_
      exact r_iret X E (pc := 18) dJ11_isLatin1_18 rfl ⟨_, rfl, hk⟩
theorem s_J11_isLatin1 {K : KT} {l : Launch} {o : Nat} {κ : Int → AH → Nat → Nat → Prop} {χ : QxT} {h : AH} {n : Nat} {z : Nat} (hk : P_J11_isLatin1 K o κ χ h n z) : Ct K l yJ11_isLatin1 (ws_ yJ11_isLatin1 cJ11_isLatin1 1 (Option.some Jvm.ClassFile.FieldType.boolean)) 0 0 ([vR (some o)].map cV) h n z (QvI κ) χ :=
  ct_of (by decide +kernel) (Nat.le_of_ble_eq_true rfl) (fun Y X E => w_J11_isLatin1 X E hk)
set_option maxHeartbeats 4000000 in
theorem w_J11_getValue {K : KT} {Y : YT} {o : Nat} {κ : Option Nat → AH → Nat → Nat → Prop} {χ : QxT} (X : XY K "java/lang/AbstractStringBuilder" "getValue" cJ11_getValue (Option.some (Jvm.ClassFile.FieldType.array Jvm.ClassFile.FieldType.byte)) [] 1 0 0 Y) (E : YE K Y (QvR κ) χ) {h : AH} {n : Nat} {z : Nat} (hk : P_J11_getValue K o κ χ h n z) : G K Y h n z 0 (lv_argsA 0 [vR (some o)]) [] := by
  show G K Y h n z 0 [(0, vR (some o))] []
  refine r_aload_n X (pc := 0) dJ11_getValue_0 rfl (q := 0) rfl ?_
  refine r_hGR X (pc := 1) fa_J11_15_J12 dJ11_getValue_1 hk (fun y2 hk => ?_)
  exact r_aret X E (Or.inr ⟨_, rfl⟩) (pc := 4) dJ11_getValue_4 ⟨_, rfl, hk⟩
theorem s_J11_getValue {K : KT} {l : Launch} {o : Nat} {κ : Option Nat → AH → Nat → Nat → Prop} {χ : QxT} {h : AH} {n : Nat} {z : Nat} (hk : P_J11_getValue K o κ χ h n z) : Ct K l yJ11_getValue (ws_ yJ11_getValue cJ11_getValue 1 (Option.some (Jvm.ClassFile.FieldType.array Jvm.ClassFile.FieldType.byte))) 0 0 ([vR (some o)].map cV) h n z (QvR κ) χ :=
  ct_of (by decide +kernel) (Nat.le_of_ble_eq_true rfl) (fun Y X E => w_J11_getValue X E hk)
set_option maxHeartbeats 4000000 in
theorem w_J11_length {K : KT} {Y : YT} {o : Nat} {κ : Int → AH → Nat → Nat → Prop} {χ : QxT} (X : XY K "java/lang/AbstractStringBuilder" "length" cJ11_length (Option.some Jvm.ClassFile.FieldType.int) [] 1 0 0 Y) (E : YE K Y (QvI κ) χ) {h : AH} {n : Nat} {z : Nat} (hk : P_J11_length K o κ χ h n z) : G K Y h n z 0 (lv_argsA 0 [vR (some o)]) [] := by
  show G K Y h n z 0 [(0, vR (some o))] []
  refine r_aload_n X (pc := 0) dJ11_length_0 rfl (q := 0) rfl ?_
  refine r_hGI X (pc := 1) fa_J11_79_J12 dJ11_length_1 hk (fun y2 hk => ?_)
  exact r_iret X E (pc := 4) dJ11_length_4 rfl ⟨_, rfl, hk⟩
theorem s_J11_length {K : KT} {l : Launch} {o : Nat} {κ : Int → AH → Nat → Nat → Prop} {χ : QxT} {h : AH} {n : Nat} {z : Nat} (hk : P_J11_length K o κ χ h n z) : Ct K l yJ11_length (ws_ yJ11_length cJ11_length 1 (Option.some Jvm.ClassFile.FieldType.int)) 0 0 ([vR (some o)].map cV) h n z (QvI κ) χ :=
  ct_of (by decide +kernel) (Nat.le_of_ble_eq_true rfl) (fun Y X E => w_J11_length X E hk)
set_option maxHeartbeats 4000000 in
theorem w_J11_newCapacity {K : KT} {Y : YT} {o : Nat} {κ : Int → AH → Nat → Nat → Prop} {χ : QxT} (X : XY K "java/lang/AbstractStringBuilder" "newCapacity" cJ11_newCapacity (Option.some Jvm.ClassFile.FieldType.int) [] 6 2 83 Y) (E : YE K Y (QvI κ) χ) {h : AH} {n : Nat} {z : Nat} {x1 : Int} (hk : P_J11_newCapacity K o κ χ h n z x1) : G K Y h n z 0 (lv_argsA 0 [vR (some o), vI x1]) [] := by
  show G K Y h n z 0 [(0, vR (some o)), (1, vI x1)] []
  refine r_aload_n X (pc := 0) dJ11_newCapacity_0 rfl (q := 0) rfl ?_
  refine r_hGR X (pc := 1) fa_J11_15_J12 dJ11_newCapacity_1 hk (fun y9 hk => ?_)
  refine r_hLen X (pc := 4) (t := 1) rfl dJ11_newCapacity_4 hk (fun y10 hk => ?_)
  refine r_istore_n X (pc := 5) (lv1 := [(2, vI y10), (0, vR (some o)), (1, vI x1)]) dJ11_newCapacity_5 rfl (by decide) rfl ?_
  refine r_iload_n X (pc := 6) dJ11_newCapacity_6 rfl (q := 2) rfl ?_
  refine r_aload_n X (pc := 7) dJ11_newCapacity_7 rfl (q := 1) rfl ?_
  refine r_hGI X (pc := 8) fa_J11_22_J12 dJ11_newCapacity_8 hk (fun y11 hk => ?_)
  refine r_ishl X (pc := 11) dJ11_newCapacity_11 ?_
  refine r_istore_n X (pc := 12) (lv1 := [(3, vI (ishl x1 y11)), (2, vI y10), (0, vR (some o)), (1, vI x1)]) dJ11_newCapacity_12 rfl (by decide) rfl ?_
  refine r_iload_n X (pc := 13) dJ11_newCapacity_13 rfl (q := 0) rfl ?_
  refine r_iload_n X (pc := 14) dJ11_newCapacity_14 rfl (q := 1) rfl ?_
  refine r_isub X (pc := 15) dJ11_newCapacity_15 ?_
  refine r_istore X (pc := 16) (lv1 := [(4, vI ((ishl x1 y11) - y10)), (3, vI (ishl x1 y11)), (2, vI y10), (0, vR (some o)), (1, vI x1)]) dJ11_newCapacity_16 (by decide) rfl ?_
  refine r_iload_n X (pc := 18) dJ11_newCapacity_18 rfl (q := 2) rfl ?_
  refine r_iload X (pc := 19) dJ11_newCapacity_19 (q := 0) rfl ?_
  refine r_iload_n X (pc := 21) dJ11_newCapacity_21 rfl (q := 2) rfl ?_
  refine r_iconst X (pc := 22) dJ11_newCapacity_22 ?_
  refine r_aload_n X (pc := 23) dJ11_newCapacity_23 rfl (q := 3) rfl ?_
  refine r_hGI X (pc := 24) fa_J11_22_J12 dJ11_newCapacity_24 hk (fun y12 hk => ?_)
  refine r_ishl X (pc := 27) dJ11_newCapacity_27 ?_
  refine r_iadd X (pc := 28) dJ11_newCapacity_28 ?_
  refine r_callS X (pc := 29) (As := [vI y10, vI ((ishl x1 y11) - y10), vI (y10 + (ishl 2 y12))]) (st := []) m_J11_114 (fun _ => s_J13_newLength hk) ⟨by decide, by decide⟩ (Nat.le_of_ble_eq_true rfl) dJ11_newCapacity_29 (fun v9 h9 n9 z9 hq => ?_) (fun ci9 q9 h9 n9 z9 hf => ?_)
  · obtain ⟨r13, rfl, rfl, rfl, rfl, hk⟩ := hq
    refine ⟨[vI r13], rfl, ?_⟩
    refine r_istore X (pc := 32) (lv1 := [(5, vI r13), (4, vI ((ishl x1 y11) - y10)), (3, vI (ishl x1 y11)), (2, vI y10), (0, vR (some o)), (1, vI x1)]) dJ11_newCapacity_32 (by decide) rfl ?_
    refine r_iload X (pc := 34) dJ11_newCapacity_34 (q := 0) rfl ?_
    refine r_ldcI X (pc := 36) (v := 2147483647) dJ11_newCapacity_36 q571 (by decide) ?_
    obtain ⟨b14, hk⟩ := hk
    refine r_icmp_ne X (pc := 38) (tgt := 51) dJ11_newCapacity_38 (by decide) ⟨b14, (by decide)⟩ (fun c15 => ?_) (fun c15 => ?_)
    · have hk := hk.2 c15
      refine r_iload X (pc := 51) dJ11_newCapacity_51 (q := 0) rfl ?_
      refine r_aload_n X (pc := 53) dJ11_newCapacity_53 rfl (q := 4) rfl ?_
      refine r_hGI X (pc := 54) fa_J11_22_J12 dJ11_newCapacity_54 hk (fun y16 hk => ?_)
      refine r_ishr X (pc := 57) dJ11_newCapacity_57 ?_
      exact r_iret X E (pc := 58) dJ11_newCapacity_58 rfl ⟨_, rfl, hk⟩
    · have hk := hk.1 c15
      exact hk.elim
  · exact hf.elim
theorem s_J11_newCapacity {K : KT} {l : Launch} {o : Nat} {κ : Int → AH → Nat → Nat → Prop} {χ : QxT} {h : AH} {n : Nat} {z : Nat} {x1 : Int} (hk : P_J11_newCapacity K o κ χ h n z x1) : Ct K l yJ11_newCapacity (ws_ yJ11_newCapacity cJ11_newCapacity 6 (Option.some Jvm.ClassFile.FieldType.int)) 2 83 ([vR (some o), vI x1].map cV) h n z (QvI κ) χ :=
  ct_of (by decide +kernel) (Nat.le_of_ble_eq_true rfl) (fun Y X E => w_J11_newCapacity X E hk)
set_option maxHeartbeats 4000000 in
theorem w_J14_copyOf {K : KT} {Y : YT} {κ : Option Nat → AH → Nat → Nat → Prop} {χ : QxT} (X : XY K "java/util/Arrays" "copyOf" cJ14_copyOf (Option.some (Jvm.ClassFile.FieldType.array Jvm.ClassFile.FieldType.byte)) [] 3 1 60 Y) (E : YE K Y (QvR κ) χ) {h : AH} {n : Nat} {z : Nat} {x0 : Option Nat} {x1 : Int} (hk : P_J14_copyOf K κ χ h n z x0 x1) : G K Y h n z 0 (lv_argsA 0 [vR x0, vI x1]) [] := by
  show G K Y h n z 0 [(0, vR x0), (1, vI x1)] []
  refine r_iload_n X (pc := 0) dJ14_copyOf_0 rfl (q := 1) rfl ?_
  refine r_aload_n X (pc := 1) dJ14_copyOf_1 rfl (q := 0) rfl ?_
  refine r_hLen X (pc := 2) (t := 1) rfl dJ14_copyOf_2 hk (fun y12 hk => ?_)
  obtain ⟨b13, b14, hk⟩ := hk
  refine r_icmp_ne X (pc := 3) (tgt := 14) dJ14_copyOf_3 (by decide) ⟨b13, b14⟩ (fun c15 => ?_) (fun c15 => ?_)
  · have hk := hk.2 c15
    refine r_iload_n X (pc := 14) dJ14_copyOf_14 rfl (q := 1) rfl ?_
    refine r_hNewA X (pc := 15) (t := 1) rfl rfl q250 (fun _ _ h9 => h9) (fun _ => rfl) (by decide) dJ14_copyOf_15 hk (fun h16 hk => ?_)
    refine r_astore_n X (pc := 17) (lv1 := [(2, vR (some n)), (0, vR x0), (1, vI x1)]) dJ14_copyOf_17 rfl (by decide) rfl ?_
    refine r_aload_n X (pc := 18) dJ14_copyOf_18 rfl (q := 1) rfl ?_
    refine r_iconst X (pc := 19) dJ14_copyOf_19 ?_
    refine r_aload_n X (pc := 20) dJ14_copyOf_20 rfl (q := 0) rfl ?_
    refine r_iconst X (pc := 21) dJ14_copyOf_21 ?_
    refine r_aload_n X (pc := 22) dJ14_copyOf_22 rfl (q := 1) rfl ?_
    refine r_hLen X (pc := 23) (t := 1) rfl dJ14_copyOf_23 hk (fun y17 hk => ?_)
    refine r_iload_n X (pc := 24) dJ14_copyOf_24 rfl (q := 2) rfl ?_
    obtain ⟨b18, hk⟩ := hk
    refine r_mmin X (pc := 25) q582 q512 q152 q513 b18 b13 ⟨by decide, Nat.le_of_ble_eq_true rfl⟩ dJ14_copyOf_25 ?_
    refine r_hCopyB X (pc := 28) q583 q585 q584 q151 ⟨by decide, Nat.le_of_ble_eq_true rfl⟩ dJ14_copyOf_28 hk (fun h19 hk => ?_)
    refine r_aload_n X (pc := 31) dJ14_copyOf_31 rfl (q := 0) rfl ?_
    exact r_aret X E (Or.inr ⟨_, rfl⟩) (pc := 32) dJ14_copyOf_32 ⟨_, rfl, hk⟩
  · have hk := hk.1 c15
    refine r_aload_n X (pc := 6) dJ14_copyOf_6 rfl (q := 0) rfl ?_
    refine r_hClone X (pc := 7) q575 q576 q577 q578 q579 q580 ⟨by decide, Nat.le_of_ble_eq_true rfl⟩ dJ14_copyOf_7 hk (fun h20 z21 hk => ?_)
    refine r_hCastA X (pc := 10) (t := 1) q581 rfl (fun _ _ h9 => h9) dJ14_copyOf_10 hk (fun hk => ?_)
    exact r_aret X E (Or.inr ⟨_, rfl⟩) (pc := 13) dJ14_copyOf_13 ⟨_, rfl, hk⟩
theorem s_J14_copyOf {K : KT} {l : Launch} {κ : Option Nat → AH → Nat → Nat → Prop} {χ : QxT} {h : AH} {n : Nat} {z : Nat} {x0 : Option Nat} {x1 : Int} (hk : P_J14_copyOf K κ χ h n z x0 x1) : Ct K l yJ14_copyOf (ws_ yJ14_copyOf cJ14_copyOf 3 (Option.some (Jvm.ClassFile.FieldType.array Jvm.ClassFile.FieldType.byte))) 1 60 ([vR x0, vI x1].map cV) h n z (QvR κ) χ :=
  ct_of (by decide +kernel) (Nat.le_of_ble_eq_true rfl) (fun Y X E => w_J14_copyOf X E hk)
set_option maxHeartbeats 4000000 in
theorem w_J11_ensureCapacityInternal {K : KT} {Y : YT} {o : Nat} {κ : AH → Nat → Nat → Prop} {χ : QxT} (X : XY K "java/lang/AbstractStringBuilder" "ensureCapacityInternal" cJ11_ensureCapacityInternal (Option.none : Option Jvm.ClassFile.FieldType) [] 3 3 108 Y) (E : YE K Y (QvV κ) χ) {h : AH} {n : Nat} {z : Nat} {x1 : Int} (hk : P_J11_ensureCapacityInternal K o κ χ h n z x1) : G K Y h n z 0 (lv_argsA 0 [vR (some o), vI x1]) [] := by
  show G K Y h n z 0 [(0, vR (some o)), (1, vI x1)] []
  refine r_aload_n X (pc := 0) dJ11_ensureCapacityInternal_0 rfl (q := 0) rfl ?_
  refine r_hGR X (pc := 1) fa_J11_15_J12 dJ11_ensureCapacityInternal_1 hk (fun y11 hk => ?_)
  refine r_hLen X (pc := 4) (t := 1) rfl dJ11_ensureCapacityInternal_4 hk (fun y12 hk => ?_)
  refine r_aload_n X (pc := 5) dJ11_ensureCapacityInternal_5 rfl (q := 0) rfl ?_
  refine r_hGI X (pc := 6) fa_J11_22_J12 dJ11_ensureCapacityInternal_6 hk (fun y13 hk => ?_)
  refine r_ishr X (pc := 9) dJ11_ensureCapacityInternal_9 ?_
  refine r_istore_n X (pc := 10) (lv1 := [(2, vI (ishr y12 y13)), (0, vR (some o)), (1, vI x1)]) dJ11_ensureCapacityInternal_10 rfl (by decide) rfl ?_
  refine r_iload_n X (pc := 11) dJ11_ensureCapacityInternal_11 rfl (q := 2) rfl ?_
  refine r_iload_n X (pc := 12) dJ11_ensureCapacityInternal_12 rfl (q := 0) rfl ?_
  refine r_isub X (pc := 13) dJ11_ensureCapacityInternal_13 ?_
  obtain ⟨b14, hk⟩ := hk
  refine r_if_le X (pc := 14) (tgt := 38) dJ11_ensureCapacityInternal_14 (by decide) b14 (fun c15 => ?_) (fun c15 => ?_)
  · have hk := hk.2 c15
    exact r_vret X E (pc := 38) dJ11_ensureCapacityInternal_38 ⟨rfl, hk⟩
  · have hk := hk.1 c15
    refine r_aload_n X (pc := 17) dJ11_ensureCapacityInternal_17 rfl (q := 1) rfl ?_
    refine r_aload_n X (pc := 18) dJ11_ensureCapacityInternal_18 rfl (q := 1) rfl ?_
    refine r_hGR X (pc := 19) fa_J11_15_J12 dJ11_ensureCapacityInternal_19 hk (fun y16 hk => ?_)
    refine r_aload_n X (pc := 22) dJ11_ensureCapacityInternal_22 rfl (q := 1) rfl ?_
    refine r_iload_n X (pc := 23) dJ11_ensureCapacityInternal_23 rfl (q := 2) rfl ?_
    obtain ⟨o37, fs38, e9, b39, hk⟩ := hk
    refine r_callZ X (pc := 24) (As := [vI x1]) (st := [vR y16, vR (some o)]) rfl rfl e9 b39 mz_J11_104_14 (fun _ => s_J11_newCapacity hk) ⟨by decide, by decide⟩ (Nat.le_of_ble_eq_true rfl) dJ11_ensureCapacityInternal_24 (fun v9 h18 n19 z20 hq => ?_) (fun ci32 q33 h34 n35 z36 hf => ?_)
    · obtain ⟨r17, rfl, hk⟩ := hq
      refine ⟨[vI r17], rfl, ?_⟩
      refine r_aload_n X (pc := 27) dJ11_ensureCapacityInternal_27 rfl (q := 1) rfl ?_
      refine r_hGI X (pc := 28) fa_J11_22_J12 dJ11_ensureCapacityInternal_28 hk (fun y21 hk => ?_)
      refine r_ishl X (pc := 31) dJ11_ensureCapacityInternal_31 ?_
      refine r_callS X (pc := 32) (As := [vR y16, vI (ishl r17 y21)]) (st := [vR (some o)]) m_J11_108 (fun _ => s_J14_copyOf hk) ⟨by decide, by decide⟩ (Nat.le_of_ble_eq_true rfl) dJ11_ensureCapacityInternal_32 (fun v9 h23 n24 z25 hq => ?_) (fun ci27 q28 h29 n30 z31 hf => ?_)
      · obtain ⟨r22, rfl, hk⟩ := hq
        refine ⟨[vR r22], rfl, ?_⟩
        refine r_hPut X (pc := 35) fp_J11_15_J12 (fit_arr r22).1 (fit_arr r22).2 dJ11_ensureCapacityInternal_35 hk (fun h26 hk => ?_)
        exact r_vret X E (pc := 38) dJ11_ensureCapacityInternal_38 ⟨rfl, hk⟩
      · have hk := hf
        exact r_out X E (fun _ h9 => nomatch h9) hk
    · have hk := hf
      exact r_out X E (fun _ h9 => nomatch h9) hk
theorem s_J11_ensureCapacityInternal {K : KT} {l : Launch} {o : Nat} {κ : AH → Nat → Nat → Prop} {χ : QxT} {h : AH} {n : Nat} {z : Nat} {x1 : Int} (hk : P_J11_ensureCapacityInternal K o κ χ h n z x1) : Ct K l yJ11_ensureCapacityInternal (ws_ yJ11_ensureCapacityInternal cJ11_ensureCapacityInternal 3 (Option.none : Option Jvm.ClassFile.FieldType)) 3 108 ([vR (some o), vI x1].map cV) h n z (QvV κ) χ :=
  ct_of (by decide +kernel) (Nat.le_of_ble_eq_true rfl) (fun Y X E => w_J11_ensureCapacityInternal X E hk)
set_option maxHeartbeats 4000000 in
theorem w_J11_append_56 {K : KT} {Y : YT} {o : Nat} {κ : Option Nat → AH → Nat → Nat → Prop} {χ : QxT} (X : XY K "java/lang/AbstractStringBuilder" "append" cJ11_append (Option.some (Jvm.ClassFile.FieldType.object "java/lang/AbstractStringBuilder")) [] 2 4 130 Y) (E : YE K Y (QvR κ) χ) : ∀ (h : AH) (n : Nat) (z : Nat) (x1 : Int), P_J11_append_56 K o κ χ h n z x1 → G K Y h n z 56 [(0, vR (some o)), (1, vI x1)] [] := by
  intro h n z x1 hk
  refine r_aload_n X (pc := 56) dJ11_append_56 rfl (q := 0) rfl ?_
  refine r_hGR X (pc := 57) fa_J11_15_J12 dJ11_append_57 hk (fun y18 hk => ?_)
  refine r_aload_n X (pc := 60) dJ11_append_60 rfl (q := 0) rfl ?_
  refine r_dup X (pc := 61) dJ11_append_61 rfl ?_
  refine r_hGI X (pc := 62) fa_J11_79_J12 dJ11_append_62 hk (fun y19 hk => ?_)
  refine r_dup_x1 X (pc := 65) dJ11_append_65 rfl rfl ?_
  refine r_iconst X (pc := 66) dJ11_append_66 ?_
  refine r_iadd X (pc := 67) dJ11_append_67 ?_
  refine r_hPut X (pc := 68) fp_J11_79_J12 rfl rfl dJ11_append_68 hk (fun h20 hk => ?_)
  refine r_iload_n X (pc := 71) dJ11_append_71 rfl (q := 1) rfl ?_
  exact hk.elim
set_option maxHeartbeats 4000000 in
theorem w_J11_append_45 {K : KT} {Y : YT} {o : Nat} {κ : Option Nat → AH → Nat → Nat → Prop} {χ : QxT} (X : XY K "java/lang/AbstractStringBuilder" "append" cJ11_append (Option.some (Jvm.ClassFile.FieldType.object "java/lang/AbstractStringBuilder")) [] 2 4 130 Y) (E : YE K Y (QvR κ) χ) : ∀ (h : AH) (n : Nat) (z : Nat) (x1 : Int), P_J11_append_45 K o κ χ h n z x1 → G K Y h n z 45 [(0, vR (some o)), (1, vI x1)] [] := by
  intro h n z x1 hk
  refine r_aload_n X (pc := 45) dJ11_append_45 rfl (q := 0) rfl ?_
  obtain ⟨o32, fs33, e9, b34, hk⟩ := hk
  refine r_callU X (pc := 46) (As := []) (st := []) rfl rfl e9 b34 mu_J11_83_14 (fun _ => s_J11_isLatin1 hk) ⟨by decide, by decide⟩ (Nat.le_of_ble_eq_true rfl) dJ11_append_46 (fun v9 h22 n23 z24 hq => ?_) (fun ci27 q28 h29 n30 z31 hf => ?_)
  · obtain ⟨r21, rfl, hk⟩ := hq
    refine ⟨[vI r21], rfl, ?_⟩
    obtain ⟨b25, hk⟩ := hk
    refine r_if_eq X (pc := 49) (tgt := 56) dJ11_append_49 (by decide) b25 (fun c26 => ?_) (fun c26 => ?_)
    · have hk := hk.1 c26
      exact w_J11_append_56 X E h22 n23 z24 x1 hk
    · have hk := hk.2 c26
      refine r_aload_n X (pc := 52) dJ11_append_52 rfl (q := 0) rfl ?_
      exact hk.elim
  · have hk := hf
    exact r_out X E (fun _ h9 => nomatch h9) hk
set_option maxHeartbeats 4000000 in
theorem w_J11_append {K : KT} {Y : YT} {o : Nat} {κ : Option Nat → AH → Nat → Nat → Prop} {χ : QxT} (X : XY K "java/lang/AbstractStringBuilder" "append" cJ11_append (Option.some (Jvm.ClassFile.FieldType.object "java/lang/AbstractStringBuilder")) [] 2 4 130 Y) (E : YE K Y (QvR κ) χ) {h : AH} {n : Nat} {z : Nat} {x1 : Int} (hk : P_J11_append K o κ χ h n z x1) : G K Y h n z 0 (lv_argsA 0 [vR (some o), vI x1]) [] := by
  show G K Y h n z 0 [(0, vR (some o)), (1, vI x1)] []
  refine r_aload_n X (pc := 0) dJ11_append_0 rfl (q := 0) rfl ?_
  refine r_aload_n X (pc := 1) dJ11_append_1 rfl (q := 0) rfl ?_
  refine r_hGI X (pc := 2) fa_J11_79_J12 dJ11_append_2 hk (fun y35 hk => ?_)
  refine r_iconst X (pc := 5) dJ11_append_5 ?_
  refine r_iadd X (pc := 6) dJ11_append_6 ?_
  obtain ⟨o65, fs66, e9, b67, hk⟩ := hk
  refine r_callZ X (pc := 7) (As := [vI (y35 + 1)]) (st := []) rfl rfl e9 b67 mz_J11_100_14 (fun _ => s_J11_ensureCapacityInternal hk) ⟨by decide, by decide⟩ (Nat.le_of_ble_eq_true rfl) dJ11_append_7 (fun v9 h36 n37 z38 hq => ?_) (fun ci60 q61 h62 n63 z64 hf => ?_)
  · obtain ⟨rfl, hk⟩ := hq
    refine ⟨[], rfl, ?_⟩
    refine r_aload_n X (pc := 10) dJ11_append_10 rfl (q := 0) rfl ?_
    obtain ⟨o57, fs58, e9, b59, hk⟩ := hk
    refine r_callU X (pc := 11) (As := []) (st := []) rfl rfl e9 b59 mu_J11_83_14 (fun _ => s_J11_isLatin1 hk) ⟨by decide, by decide⟩ (Nat.le_of_ble_eq_true rfl) dJ11_append_11 (fun v9 h40 n41 z42 hq => ?_) (fun ci52 q53 h54 n55 z56 hf => ?_)
    · obtain ⟨r39, rfl, hk⟩ := hq
      refine ⟨[vI r39], rfl, ?_⟩
      obtain ⟨b43, hk⟩ := hk
      refine r_if_eq X (pc := 14) (tgt := 45) dJ11_append_14 (by decide) b43 (fun c44 => ?_) (fun c44 => ?_)
      · have hk := hk.1 c44
        exact w_J11_append_45 X E h40 n41 z42 x1 hk
      · have hk := hk.2 c44
        refine r_iload_n X (pc := 17) dJ11_append_17 rfl (q := 1) rfl ?_
        refine r_callS X (pc := 18) (As := [vI x1]) (st := []) m_J11_191 (fun _ => s_J5_canEncode hk) ⟨by decide, by decide⟩ (Nat.le_of_ble_eq_true rfl) dJ11_append_18 (fun v9 h9 n9 z9 hq => ?_) (fun ci9 q9 h9 n9 z9 hf => ?_)
        · obtain ⟨r45, rfl, rfl, rfl, rfl, hk⟩ := hq
          refine ⟨[vI r45], rfl, ?_⟩
          obtain ⟨b46, hk⟩ := hk
          refine r_if_eq X (pc := 21) (tgt := 45) dJ11_append_21 (by decide) b46 (fun c47 => ?_) (fun c47 => ?_)
          · have hk := hk.1 c47
            exact w_J11_append_45 X E h40 n41 z42 x1 hk
          · have hk := hk.2 c47
            refine r_aload_n X (pc := 24) dJ11_append_24 rfl (q := 0) rfl ?_
            refine r_hGR X (pc := 25) fa_J11_15_J12 dJ11_append_25 hk (fun y48 hk => ?_)
            refine r_aload_n X (pc := 28) dJ11_append_28 rfl (q := 0) rfl ?_
            refine r_dup X (pc := 29) dJ11_append_29 rfl ?_
            refine r_hGI X (pc := 30) fa_J11_79_J12 dJ11_append_30 hk (fun y49 hk => ?_)
            refine r_dup_x1 X (pc := 33) dJ11_append_33 rfl rfl ?_
            refine r_iconst X (pc := 34) dJ11_append_34 ?_
            refine r_iadd X (pc := 35) dJ11_append_35 ?_
            refine r_hPut X (pc := 36) fp_J11_79_J12 rfl rfl dJ11_append_36 hk (fun h50 hk => ?_)
            refine r_iload_n X (pc := 39) dJ11_append_39 rfl (q := 1) rfl ?_
            refine r_i2b X (pc := 40) dJ11_append_40 ?_
            refine r_hSB X (pc := 41) dJ11_append_41 hk (fun h51 hk => ?_)
            refine r_goto X (pc := 42) (tgt := 75) dJ11_append_42 (by decide) ?_
            refine r_aload_n X (pc := 75) dJ11_append_75 rfl (q := 0) rfl ?_
            exact r_aret X E (Or.inl ⟨_, rfl⟩) (pc := 76) dJ11_append_76 ⟨_, rfl, hk⟩
        · exact hf.elim
    · have hk := hf
      exact r_out X E (fun _ h9 => nomatch h9) hk
  · have hk := hf
    exact r_out X E (fun _ h9 => nomatch h9) hk
theorem s_J11_append {K : KT} {l : Launch} {o : Nat} {κ : Option Nat → AH → Nat → Nat → Prop} {χ : QxT} {h : AH} {n : Nat} {z : Nat} {x1 : Int} (hk : P_J11_append K o κ χ h n z x1) : Ct K l yJ11_append (ws_ yJ11_append cJ11_append 2 (Option.some (Jvm.ClassFile.FieldType.object "java/lang/AbstractStringBuilder"))) 4 130 ([vR (some o), vI x1].map cV) h n z (QvR κ) χ :=
  ct_of (by decide +kernel) (Nat.le_of_ble_eq_true rfl) (fun Y X E => w_J11_append X E hk)
set_option maxHeartbeats 4000000 in
theorem w_J16_getChars_22 {K : KT} {Y : YT} {κ : Int → AH → Nat → Nat → Prop} {χ : QxT} (X : XY K "java/lang/Integer" "getChars" cJ16_getChars (Option.some Jvm.ClassFile.FieldType.int) [] 7 0 0 Y) (E : YE K Y (QvI κ) χ) {k_72 : AH → Nat → Nat → Int → Option Nat → Int → Int → Prop} (H_72 : ∀ (h : AH) (n : Nat) (z : Nat) (x0 : Int) (x2 : Option Nat) (x5 : Int) (x6 : Int), k_72 h n z x0 x2 x5 x6 → G K Y h n z 72 [(0, vI x0), (2, vR x2), (5, vI x5), (6, vI x6)] []) : ∀ (f : Nat) (h : AH) (n : Nat) (z : Nat) (x0 : Int) (x2 : Option Nat) (x5 : Int) (x6 : Int), L_J16_getChars_22 K k_72 κ χ f h n z x0 x2 x5 x6 → G K Y h n z 22 [(0, vI x0), (2, vR x2), (5, vI x5), (6, vI x6)] [] := by
  intro f
  induction f with
  | zero => intro h n z x0 x2 x5 x6 hk; exact hk.elim
  | succ f ih =>
    intro h n z x0 x2 x5 x6 hk
    refine r_iload_n X (pc := 22) dJ16_getChars_22 rfl (q := 0) rfl ?_
    refine r_bipush X (pc := 23) dJ16_getChars_23 (by decide) ?_
    obtain ⟨b21, hk⟩ := hk
    refine r_icmp_gt X (pc := 25) (tgt := 72) dJ16_getChars_25 (by decide) ⟨b21, (by decide)⟩ (fun c22 => ?_) (fun c22 => ?_)
    · have hk := hk.1 c22
      exact H_72 h n z x0 x2 x5 x6 hk
    · have hk := hk.2 c22
      refine r_iload_n X (pc := 28) dJ16_getChars_28 rfl (q := 0) rfl ?_
      refine r_bipush X (pc := 29) dJ16_getChars_29 (by decide) ?_
      refine r_idiv X (pc := 31) dJ16_getChars_31 ⟨⟨b21, (by decide)⟩, (by decide)⟩ ?_
      refine r_istore_n X (pc := 32) (lv1 := [(3, vI (x0.tdiv 100)), (0, vI x0), (2, vR x2), (5, vI x5), (6, vI x6)]) dJ16_getChars_32 rfl (by decide) rfl ?_
      refine r_iload_n X (pc := 33) dJ16_getChars_33 rfl (q := 0) rfl ?_
      refine r_bipush X (pc := 34) dJ16_getChars_34 (by decide) ?_
      refine r_imul X (pc := 36) dJ16_getChars_36 ?_
      refine r_iload_n X (pc := 37) dJ16_getChars_37 rfl (q := 1) rfl ?_
      refine r_isub X (pc := 38) dJ16_getChars_38 ?_
      refine r_istore X (pc := 39) (lv1 := [(4, vI (((x0.tdiv 100) * 100) - x0)), (3, vI (x0.tdiv 100)), (0, vI x0), (2, vR x2), (5, vI x5), (6, vI x6)]) dJ16_getChars_39 (by decide) rfl ?_
      refine r_iload_n X (pc := 41) dJ16_getChars_41 rfl (q := 1) rfl ?_
      refine r_istore_n X (pc := 42) (lv1 := [(0, vI (x0.tdiv 100)), (4, vI (((x0.tdiv 100) * 100) - x0)), (3, vI (x0.tdiv 100)), (2, vR x2), (5, vI x5), (6, vI x6)]) dJ16_getChars_42 rfl (by decide) rfl ?_
      refine r_aload_n X (pc := 43) dJ16_getChars_43 rfl (q := 3) rfl ?_
      refine r_iinc X (pc := 44) (q := 4) (lv1 := [(5, vI (x5 + (-1))), (0, vI (x0.tdiv 100)), (4, vI (((x0.tdiv 100) * 100) - x0)), (3, vI (x0.tdiv 100)), (2, vR x2), (6, vI x6)]) dJ16_getChars_44 rfl (by decide) rfl ?_
      refine r_iload X (pc := 47) dJ16_getChars_47 (q := 0) rfl ?_
      refine r_gets X (pc := 49) (v := vR (some (kl K 200))) (j := 3) rfl rfl q701 dJ16_getChars_49 ?_
      refine r_iload X (pc := 52) dJ16_getChars_52 (q := 2) rfl ?_
      refine r_hAB X (pc := 54) dJ16_getChars_54 hk (fun y23 hk => ?_)
      refine r_hSB X (pc := 55) dJ16_getChars_55 hk (fun h24 hk => ?_)
      refine r_aload_n X (pc := 56) dJ16_getChars_56 rfl (q := 4) rfl ?_
      refine r_iinc X (pc := 57) (q := 0) (lv1 := [(5, vI ((x5 + (-1)) + (-1))), (0, vI (x0.tdiv 100)), (4, vI (((x0.tdiv 100) * 100) - x0)), (3, vI (x0.tdiv 100)), (2, vR x2), (6, vI x6)]) dJ16_getChars_57 rfl (by decide) rfl ?_
      refine r_iload X (pc := 60) dJ16_getChars_60 (q := 0) rfl ?_
      refine r_gets X (pc := 62) (v := vR (some (kl K 201))) (j := 4) rfl rfl q703 dJ16_getChars_62 ?_
      refine r_iload X (pc := 65) dJ16_getChars_65 (q := 2) rfl ?_
      refine r_hAB X (pc := 67) dJ16_getChars_67 hk (fun y25 hk => ?_)
      refine r_hSB X (pc := 68) dJ16_getChars_68 hk (fun h26 hk => ?_)
      refine r_goto X (pc := 69) (tgt := 22) dJ16_getChars_69 (by decide) ?_
      refine G.sub [1, 4, 0, 5] rfl ?_
      exact ih h26 n z (x0.tdiv 100) x2 ((x5 + (-1)) + (-1)) x6 hk
set_option maxHeartbeats 4000000 in
theorem w_J16_getChars_104 {K : KT} {Y : YT} {κ : Int → AH → Nat → Nat → Prop} {χ : QxT} (X : XY K "java/lang/Integer" "getChars" cJ16_getChars (Option.some Jvm.ClassFile.FieldType.int) [] 7 0 0 Y) (E : YE K Y (QvI κ) χ) : ∀ (h : AH) (n : Nat) (z : Nat) (x2 : Option Nat) (x5 : Int) (x6 : Int), P_J16_getChars_104 K κ χ h n z x2 x5 x6 → G K Y h n z 104 [(2, vR x2), (5, vI x5), (6, vI x6)] [] := by
  intro h n z x2 x5 x6 hk
  refine r_iload X (pc := 104) dJ16_getChars_104 (q := 2) rfl ?_
  obtain ⟨b27, hk⟩ := hk
  refine r_if_eq X (pc := 106) (tgt := 118) dJ16_getChars_106 (by decide) b27 (fun c28 => ?_) (fun c28 => ?_)
  · have hk := hk.1 c28
    refine r_iload X (pc := 118) dJ16_getChars_118 (q := 1) rfl ?_
    exact r_iret X E (pc := 120) dJ16_getChars_120 rfl ⟨_, rfl, hk⟩
  · have hk := hk.2 c28
    refine r_aload_n X (pc := 109) dJ16_getChars_109 rfl (q := 0) rfl ?_
    refine r_iinc X (pc := 110) (q := 1) (lv1 := [(5, vI (x5 + (-1))), (2, vR x2), (6, vI x6)]) dJ16_getChars_110 rfl (by decide) rfl ?_
    refine r_iload X (pc := 113) dJ16_getChars_113 (q := 0) rfl ?_
    refine r_bipush X (pc := 115) dJ16_getChars_115 (by decide) ?_
    refine r_hSB X (pc := 117) dJ16_getChars_117 hk (fun h29 hk => ?_)
    refine r_iload X (pc := 118) dJ16_getChars_118 (q := 0) rfl ?_
    exact r_iret X E (pc := 120) dJ16_getChars_120 rfl ⟨_, rfl, hk⟩
set_option maxHeartbeats 4000000 in
theorem w_J16_getChars_72 {K : KT} {Y : YT} {κ : Int → AH → Nat → Nat → Prop} {χ : QxT} (X : XY K "java/lang/Integer" "getChars" cJ16_getChars (Option.some Jvm.ClassFile.FieldType.int) [] 7 0 0 Y) (E : YE K Y (QvI κ) χ) : ∀ (h : AH) (n : Nat) (z : Nat) (x0 : Int) (x2 : Option Nat) (x5 : Int) (x6 : Int), P_J16_getChars_72 K κ χ h n z x0 x2 x5 x6 → G K Y h n z 72 [(0, vI x0), (2, vR x2), (5, vI x5), (6, vI x6)] [] := by
  intro h n z x0 x2 x5 x6 hk
  refine r_aload_n X (pc := 72) dJ16_getChars_72 rfl (q := 1) rfl ?_
  refine r_iinc X (pc := 73) (q := 2) (lv1 := [(5, vI (x5 + (-1))), (0, vI x0), (2, vR x2), (6, vI x6)]) dJ16_getChars_73 rfl (by decide) rfl ?_
  refine r_iload X (pc := 76) dJ16_getChars_76 (q := 0) rfl ?_
  refine r_gets X (pc := 78) (v := vR (some (kl K 200))) (j := 3) rfl rfl q701 dJ16_getChars_78 ?_
  refine r_iload_n X (pc := 81) dJ16_getChars_81 rfl (q := 1) rfl ?_
  refine r_ineg X (pc := 82) dJ16_getChars_82 ?_
  refine r_hAB X (pc := 83) dJ16_getChars_83 hk (fun y30 hk => ?_)
  refine r_hSB X (pc := 84) dJ16_getChars_84 hk (fun h31 hk => ?_)
  refine r_iload_n X (pc := 85) dJ16_getChars_85 rfl (q := 1) rfl ?_
  refine r_bipush X (pc := 86) dJ16_getChars_86 (by decide) ?_
  obtain ⟨b32, hk⟩ := hk
  refine r_icmp_ge X (pc := 88) (tgt := 104) dJ16_getChars_88 (by decide) ⟨b32, (by decide)⟩ (fun c33 => ?_) (fun c33 => ?_)
  · have hk := hk.2 c33
    refine G.sub [2, 0, 3] rfl ?_
    exact w_J16_getChars_104 X E h31 n z x2 (x5 + (-1)) x6 hk
  · have hk := hk.1 c33
    refine r_aload_n X (pc := 91) dJ16_getChars_91 rfl (q := 2) rfl ?_
    refine r_iinc X (pc := 92) (q := 0) (lv1 := [(5, vI ((x5 + (-1)) + (-1))), (0, vI x0), (2, vR x2), (6, vI x6)]) dJ16_getChars_92 rfl (by decide) rfl ?_
    refine r_iload X (pc := 95) dJ16_getChars_95 (q := 0) rfl ?_
    refine r_gets X (pc := 97) (v := vR (some (kl K 201))) (j := 4) rfl rfl q703 dJ16_getChars_97 ?_
    refine r_iload_n X (pc := 100) dJ16_getChars_100 rfl (q := 1) rfl ?_
    refine r_ineg X (pc := 101) dJ16_getChars_101 ?_
    refine r_hAB X (pc := 102) dJ16_getChars_102 hk (fun y34 hk => ?_)
    refine r_hSB X (pc := 103) dJ16_getChars_103 hk (fun h35 hk => ?_)
    refine G.sub [2, 0, 3] rfl ?_
    exact w_J16_getChars_104 X E h35 n z x2 ((x5 + (-1)) + (-1)) x6 hk
set_option maxHeartbeats 4000000 in
theorem w_J16_getChars_12 {K : KT} {Y : YT} {κ : Int → AH → Nat → Nat → Prop} {χ : QxT} (X : XY K "java/lang/Integer" "getChars" cJ16_getChars (Option.some Jvm.ClassFile.FieldType.int) [] 7 0 0 Y) (E : YE K Y (QvI κ) χ) : ∀ (h : AH) (n : Nat) (z : Nat) (x0 : Int) (x2 : Option Nat) (x5 : Int) (s0 : Int), P_J16_getChars_12 K κ χ h n z x0 x2 x5 s0 → G K Y h n z 12 [(0, vI x0), (2, vR x2), (5, vI x5)] [vI s0] := by
  intro h n z x0 x2 x5 s0 hk
  refine r_istore X (pc := 12) (lv1 := [(6, vI s0), (0, vI x0), (2, vR x2), (5, vI x5)]) dJ16_getChars_12 (by decide) rfl ?_
  refine r_iload X (pc := 14) dJ16_getChars_14 (q := 0) rfl ?_
  obtain ⟨b36, hk⟩ := hk
  refine r_if_ne X (pc := 16) (tgt := 22) dJ16_getChars_16 (by decide) b36 (fun c37 => ?_) (fun c37 => ?_)
  · have hk := hk.2 c37
    refine G.sub [1, 2, 3, 0] rfl ?_
    have HH38 : ∀ (h : AH) (n : Nat) (z : Nat) (x0 : Int) (x2 : Option Nat) (x5 : Int) (x6 : Int), (P_J16_getChars_72 K κ χ h n z x0 x2 x5 x6) → G K Y h n z 72 [(0, vI x0), (2, vR x2), (5, vI x5), (6, vI x6)] [] := by
        intro h n z x0 x2 x5 x6 hk
        exact w_J16_getChars_72 X E h n z x0 x2 x5 x6 hk
    obtain ⟨f9, hk⟩ := hk
    exact w_J16_getChars_22 X E HH38 f9 h n z x0 x2 x5 s0 hk
  · have hk := hk.1 c37
    refine r_iload_n X (pc := 19) dJ16_getChars_19 rfl (q := 1) rfl ?_
    refine r_ineg X (pc := 20) dJ16_getChars_20 ?_
    refine r_istore_n X (pc := 21) (lv1 := [(0, vI (-x0)), (6, vI s0), (2, vR x2), (5, vI x5)]) dJ16_getChars_21 rfl (by decide) rfl ?_
    refine G.sub [0, 2, 3, 1] rfl ?_
    have HH39 : ∀ (h : AH) (n : Nat) (z : Nat) (x0 : Int) (x2 : Option Nat) (x5 : Int) (x6 : Int), (P_J16_getChars_72 K κ χ h n z x0 x2 x5 x6) → G K Y h n z 72 [(0, vI x0), (2, vR x2), (5, vI x5), (6, vI x6)] [] := by
        intro h n z x0 x2 x5 x6 hk
        exact w_J16_getChars_72 X E h n z x0 x2 x5 x6 hk
    obtain ⟨f9, hk⟩ := hk
    exact w_J16_getChars_22 X E HH39 f9 h n z (-x0) x2 x5 s0 hk
set_option maxHeartbeats 4000000 in
theorem w_J16_getChars {K : KT} {Y : YT} {κ : Int → AH → Nat → Nat → Prop} {χ : QxT} (X : XY K "java/lang/Integer" "getChars" cJ16_getChars (Option.some Jvm.ClassFile.FieldType.int) [] 7 0 0 Y) (E : YE K Y (QvI κ) χ) {h : AH} {n : Nat} {z : Nat} {x0 : Int} {x1 : Int} {x2 : Option Nat} (hk : P_J16_getChars K κ χ h n z x0 x1 x2) : G K Y h n z 0 (lv_argsA 0 [vI x0, vI x1, vR x2]) [] := by
  show G K Y h n z 0 [(0, vI x0), (1, vI x1), (2, vR x2)] []
  refine r_iload_n X (pc := 0) dJ16_getChars_0 rfl (q := 1) rfl ?_
  refine r_istore X (pc := 1) (lv1 := [(5, vI x1), (0, vI x0), (1, vI x1), (2, vR x2)]) dJ16_getChars_1 (by decide) rfl ?_
  refine r_iload_n X (pc := 3) dJ16_getChars_3 rfl (q := 1) rfl ?_
  obtain ⟨b40, hk⟩ := hk
  refine r_if_ge X (pc := 4) (tgt := 11) dJ16_getChars_4 (by decide) b40 (fun c41 => ?_) (fun c41 => ?_)
  · have hk := hk.2 c41
    refine r_iconst X (pc := 11) dJ16_getChars_11 ?_
    refine G.sub [1, 3, 0] rfl ?_
    exact w_J16_getChars_12 X E h n z x0 x2 x1 0 hk
  · have hk := hk.1 c41
    refine r_iconst X (pc := 7) dJ16_getChars_7 ?_
    refine r_goto X (pc := 8) (tgt := 12) dJ16_getChars_8 (by decide) ?_
    refine G.sub [1, 3, 0] rfl ?_
    exact w_J16_getChars_12 X E h n z x0 x2 x1 1 hk
theorem s_J16_getChars {K : KT} {l : Launch} {κ : Int → AH → Nat → Nat → Prop} {χ : QxT} {h : AH} {n : Nat} {z : Nat} {x0 : Int} {x1 : Int} {x2 : Option Nat} (hk : P_J16_getChars K κ χ h n z x0 x1 x2) : Ct K l yJ16_getChars (ws_ yJ16_getChars cJ16_getChars 7 (Option.some Jvm.ClassFile.FieldType.int)) 0 0 ([vI x0, vI x1, vR x2].map cV) h n z (QvI κ) χ :=
  ct_of (by decide +kernel) (Nat.le_of_ble_eq_true rfl) (fun Y X E => w_J16_getChars X E hk)
set_option maxHeartbeats 4000000 in
theorem w_J16_stringSize_16 {K : KT} {Y : YT} {Qx : QxT} {h : AH} {n z : Nat} {κ : Int → Prop} (X : XY K "java/lang/Integer" "stringSize" cJ16_stringSize (Option.some Jvm.ClassFile.FieldType.int) [] 4 0 0 Y) (E : YE K Y (pQ h n z κ) Qx) {k_27 : Int → Int → Prop} {k_42 : Int → Prop} (H_27 : ∀ (x1 : Int) (x3 : Int), k_27 x1 x3 → G K Y h n z 27 [(1, vI x1), (3, vI x3)] []) (H_42 : ∀ (x1 : Int), k_42 x1 → G K Y h n z 42 [(1, vI x1)] []) : ∀ (f : Nat) (x0 : Int) (x1 : Int) (x2 : Int) (x3 : Int), L_J16_stringSize_16 k_27 k_42 κ f x0 x1 x2 x3 → G K Y h n z 16 [(0, vI x0), (1, vI x1), (2, vI x2), (3, vI x3)] [] := by
  intro f
  induction f with
  | zero => intro x0 x1 x2 x3 hk; exact hk.elim
  | succ f ih =>
    intro x0 x1 x2 x3 hk
    refine r_iload_n X (pc := 16) dJ16_stringSize_16 rfl (q := 3) rfl ?_
    refine r_bipush X (pc := 17) dJ16_stringSize_17 (by decide) ?_
    obtain ⟨b8, hk⟩ := hk
    refine r_icmp_ge X (pc := 19) (tgt := 42) dJ16_stringSize_19 (by decide) ⟨b8, (by decide)⟩ (fun c9 => ?_) (fun c9 => ?_)
    · have hk := hk.2 c9
      refine G.sub [1] rfl ?_
      exact H_42 x1 hk
    · have hk := hk.1 c9
      refine r_iload_n X (pc := 22) dJ16_stringSize_22 rfl (q := 0) rfl ?_
      refine r_iload_n X (pc := 23) dJ16_stringSize_23 rfl (q := 2) rfl ?_
      obtain ⟨b10, b11, hk⟩ := hk
      refine r_icmp_le X (pc := 24) (tgt := 31) dJ16_stringSize_24 (by decide) ⟨b10, b11⟩ (fun c12 => ?_) (fun c12 => ?_)
      · have hk := hk.2 c12
        refine r_bipush X (pc := 31) dJ16_stringSize_31 (by decide) ?_
        refine r_iload_n X (pc := 33) dJ16_stringSize_33 rfl (q := 2) rfl ?_
        refine r_imul X (pc := 34) dJ16_stringSize_34 ?_
        refine r_istore_n X (pc := 35) (lv1 := [(2, vI (10 * x2)), (0, vI x0), (1, vI x1), (3, vI x3)]) dJ16_stringSize_35 rfl (by decide) rfl ?_
        refine r_iinc X (pc := 36) (q := 3) (lv1 := [(3, vI (x3 + 1)), (2, vI (10 * x2)), (0, vI x0), (1, vI x1)]) dJ16_stringSize_36 rfl (by decide) rfl ?_
        refine r_goto X (pc := 39) (tgt := 16) dJ16_stringSize_39 (by decide) ?_
        refine G.sub [2, 3, 1, 0] rfl ?_
        exact ih x0 x1 (10 * x2) (x3 + 1) hk
      · have hk := hk.1 c12
        refine G.sub [1, 3] rfl ?_
        exact H_27 x1 x3 hk
set_option maxHeartbeats 4000000 in
theorem w_J16_stringSize_27 {K : KT} {Y : YT} {Qx : QxT} {h : AH} {n z : Nat} {κ : Int → Prop} (X : XY K "java/lang/Integer" "stringSize" cJ16_stringSize (Option.some Jvm.ClassFile.FieldType.int) [] 4 0 0 Y) (E : YE K Y (pQ h n z κ) Qx) : ∀ (x1 : Int) (x3 : Int), P_J16_stringSize_27 κ x1 x3 → G K Y h n z 27 [(1, vI x1), (3, vI x3)] [] := by
  intro x1 x3 hk
  refine r_iload_n X (pc := 27) dJ16_stringSize_27 rfl (q := 1) rfl ?_
  refine r_iload_n X (pc := 28) dJ16_stringSize_28 rfl (q := 0) rfl ?_
  refine r_iadd X (pc := 29) dJ16_stringSize_29 ?_
  exact r_iret X E (pc := 30) dJ16_stringSize_30 rfl ⟨_, rfl, rfl, rfl, rfl, hk⟩
set_option maxHeartbeats 4000000 in
theorem w_J16_stringSize_42 {K : KT} {Y : YT} {Qx : QxT} {h : AH} {n z : Nat} {κ : Int → Prop} (X : XY K "java/lang/Integer" "stringSize" cJ16_stringSize (Option.some Jvm.ClassFile.FieldType.int) [] 4 0 0 Y) (E : YE K Y (pQ h n z κ) Qx) : ∀ (x1 : Int), P_J16_stringSize_42 κ x1 → G K Y h n z 42 [(1, vI x1)] [] := by
  intro x1 hk
  refine r_bipush X (pc := 42) dJ16_stringSize_42 (by decide) ?_
  refine r_iload_n X (pc := 44) dJ16_stringSize_44 rfl (q := 0) rfl ?_
  refine r_iadd X (pc := 45) dJ16_stringSize_45 ?_
  exact r_iret X E (pc := 46) dJ16_stringSize_46 rfl ⟨_, rfl, rfl, rfl, rfl, hk⟩
set_option maxHeartbeats 4000000 in
theorem w_J16_stringSize_11 {K : KT} {Y : YT} {Qx : QxT} {h : AH} {n z : Nat} {κ : Int → Prop} (X : XY K "java/lang/Integer" "stringSize" cJ16_stringSize (Option.some Jvm.ClassFile.FieldType.int) [] 4 0 0 Y) (E : YE K Y (pQ h n z κ) Qx) : ∀ (x0 : Int) (x1 : Int), P_J16_stringSize_11 κ x0 x1 → G K Y h n z 11 [(0, vI x0), (1, vI x1)] [] := by
  intro x0 x1 hk
  refine r_bipush X (pc := 11) dJ16_stringSize_11 (by decide) ?_
  refine r_istore_n X (pc := 13) (lv1 := [(2, vI (-10)), (0, vI x0), (1, vI x1)]) dJ16_stringSize_13 rfl (by decide) rfl ?_
  refine r_iconst X (pc := 14) dJ16_stringSize_14 ?_
  refine r_istore_n X (pc := 15) (lv1 := [(3, vI 1), (2, vI (-10)), (0, vI x0), (1, vI x1)]) dJ16_stringSize_15 rfl (by decide) rfl ?_
  refine G.sub [2, 3, 1, 0] rfl ?_
  have HH13 : ∀ (x1 : Int) (x3 : Int), (P_J16_stringSize_27 κ x1 x3) → G K Y h n z 27 [(1, vI x1), (3, vI x3)] [] := by
      intro x1 x3 hk
      exact w_J16_stringSize_27 X E x1 x3 hk
  have HH14 : ∀ (x1 : Int), (P_J16_stringSize_42 κ x1) → G K Y h n z 42 [(1, vI x1)] [] := by
      intro x1 hk
      exact w_J16_stringSize_42 X E x1 hk
  obtain ⟨f9, hk⟩ := hk
  exact w_J16_stringSize_16 X E HH13 HH14 f9 x0 x1 (-10) 1 hk
set_option maxHeartbeats 4000000 in
theorem w_J16_stringSize {K : KT} {Y : YT} {Qx : QxT} {h : AH} {n z : Nat} {κ : Int → Prop} (X : XY K "java/lang/Integer" "stringSize" cJ16_stringSize (Option.some Jvm.ClassFile.FieldType.int) [] 4 0 0 Y) (E : YE K Y (pQ h n z κ) Qx) {x0 : Int} (hk : P_J16_stringSize κ x0) : G K Y h n z 0 (lv_argsA 0 [vI x0]) [] := by
  show G K Y h n z 0 [(0, vI x0)] []
  refine r_iconst X (pc := 0) dJ16_stringSize_0 ?_
  refine r_istore_n X (pc := 1) (lv1 := [(1, vI 1), (0, vI x0)]) dJ16_stringSize_1 rfl (by decide) rfl ?_
  refine r_iload_n X (pc := 2) dJ16_stringSize_2 rfl (q := 1) rfl ?_
  obtain ⟨b15, hk⟩ := hk
  refine r_if_lt X (pc := 3) (tgt := 11) dJ16_stringSize_3 (by decide) b15 (fun c16 => ?_) (fun c16 => ?_)
  · have hk := hk.1 c16
    refine G.sub [1, 0] rfl ?_
    exact w_J16_stringSize_11 X E x0 1 hk
  · have hk := hk.2 c16
    refine r_iconst X (pc := 6) dJ16_stringSize_6 ?_
    refine r_istore_n X (pc := 7) (lv1 := [(1, vI 0), (0, vI x0)]) dJ16_stringSize_7 rfl (by decide) rfl ?_
    refine r_iload_n X (pc := 8) dJ16_stringSize_8 rfl (q := 1) rfl ?_
    refine r_ineg X (pc := 9) dJ16_stringSize_9 ?_
    refine r_istore_n X (pc := 10) (lv1 := [(0, vI (-x0)), (1, vI 0)]) dJ16_stringSize_10 rfl (by decide) rfl ?_
    exact w_J16_stringSize_11 X E (-x0) 0 hk
theorem s_J16_stringSize {K : KT} {l : Launch} {n z : Nat} {h : AH} {κ : Int → Prop} {x0 : Int} (hk : P_J16_stringSize κ x0) : Ct K l yJ16_stringSize (ws_ yJ16_stringSize cJ16_stringSize 4 (Option.some Jvm.ClassFile.FieldType.int)) 0 0 ([vI x0].map cV) h n z (pQ h n z κ) noX :=
  ct_of (by decide +kernel) (Nat.le_of_ble_eq_true rfl) (fun Y X E => w_J16_stringSize X E hk)
set_option maxHeartbeats 4000000 in
theorem w_J11_append_2_48 {K : KT} {Y : YT} {o : Nat} {κ : Option Nat → AH → Nat → Nat → Prop} {χ : QxT} (X : XY K "java/lang/AbstractStringBuilder" "append" cJ11_append_2 (Option.some (Jvm.ClassFile.FieldType.object "java/lang/AbstractStringBuilder")) [] 4 4 130 Y) (E : YE K Y (QvR κ) χ) : ∀ (h : AH) (n : Nat) (z : Nat) (x3 : Int), P_J11_append_2_48 K o κ χ h n z x3 → G K Y h n z 48 [(0, vR (some o)), (3, vI x3)] [] := by
  intro h n z x3 hk
  refine r_aload_n X (pc := 48) dJ11_append_2_48 rfl (q := 0) rfl ?_
  refine r_iload_n X (pc := 49) dJ11_append_2_49 rfl (q := 1) rfl ?_
  refine r_hPut X (pc := 50) fp_J11_79_J12 rfl rfl dJ11_append_2_50 hk (fun h11 hk => ?_)
  refine r_aload_n X (pc := 53) dJ11_append_2_53 rfl (q := 0) rfl ?_
  exact r_aret X E (Or.inl ⟨_, rfl⟩) (pc := 54) dJ11_append_2_54 ⟨_, rfl, hk⟩
set_option maxHeartbeats 4000000 in
theorem w_J11_append_2 {K : KT} {Y : YT} {o : Nat} {κ : Option Nat → AH → Nat → Nat → Prop} {χ : QxT} (X : XY K "java/lang/AbstractStringBuilder" "append" cJ11_append_2 (Option.some (Jvm.ClassFile.FieldType.object "java/lang/AbstractStringBuilder")) [] 4 4 130 Y) (E : YE K Y (QvR κ) χ) {h : AH} {n : Nat} {z : Nat} {x1 : Int} (hk : P_J11_append_2 K o κ χ h n z x1) : G K Y h n z 0 (lv_argsA 0 [vR (some o), vI x1]) [] := by
  show G K Y h n z 0 [(0, vR (some o)), (1, vI x1)] []
  refine r_aload_n X (pc := 0) dJ11_append_2_0 rfl (q := 0) rfl ?_
  refine r_hGI X (pc := 1) fa_J11_79_J12 dJ11_append_2_1 hk (fun y12 hk => ?_)
  refine r_istore_n X (pc := 4) (lv1 := [(2, vI y12), (0, vR (some o)), (1, vI x1)]) dJ11_append_2_4 rfl (by decide) rfl ?_
  refine r_iload_n X (pc := 5) dJ11_append_2_5 rfl (q := 0) rfl ?_
  refine r_iload_n X (pc := 6) dJ11_append_2_6 rfl (q := 2) rfl ?_
  refine r_callS X (pc := 7) (As := [vI x1]) (st := [vI y12]) m_J11_245 (fun _ => s_J16_stringSize hk) ⟨by decide, by decide⟩ (Nat.le_of_ble_eq_true rfl) dJ11_append_2_7 (fun v9 h9 n9 z9 hq => ?_) (fun ci9 q9 h9 n9 z9 hf => ?_)
  · obtain ⟨r13, rfl, rfl, rfl, rfl, hk⟩ := hq
    refine ⟨[vI r13], rfl, ?_⟩
    refine r_iadd X (pc := 10) dJ11_append_2_10 ?_
    refine r_istore_n X (pc := 11) (lv1 := [(3, vI (y12 + r13)), (2, vI y12), (0, vR (some o)), (1, vI x1)]) dJ11_append_2_11 rfl (by decide) rfl ?_
    refine r_aload_n X (pc := 12) dJ11_append_2_12 rfl (q := 2) rfl ?_
    refine r_iload_n X (pc := 13) dJ11_append_2_13 rfl (q := 0) rfl ?_
    obtain ⟨o48, fs49, e9, b50, hk⟩ := hk
    refine r_callZ X (pc := 14) (As := [vI (y12 + r13)]) (st := []) rfl rfl e9 b50 mz_J11_100_14 (fun _ => s_J11_ensureCapacityInternal hk) ⟨by decide, by decide⟩ (Nat.le_of_ble_eq_true rfl) dJ11_append_2_14 (fun v9 h14 n15 z16 hq => ?_) (fun ci43 q44 h45 n46 z47 hf => ?_)
    · obtain ⟨rfl, hk⟩ := hq
      refine ⟨[], rfl, ?_⟩
      refine r_aload_n X (pc := 17) dJ11_append_2_17 rfl (q := 2) rfl ?_
      obtain ⟨o40, fs41, e9, b42, hk⟩ := hk
      refine r_callU X (pc := 18) (As := []) (st := []) rfl rfl e9 b42 mu_J11_83_14 (fun _ => s_J11_isLatin1 hk) ⟨by decide, by decide⟩ (Nat.le_of_ble_eq_true rfl) dJ11_append_2_18 (fun v9 h18 n19 z20 hq => ?_) (fun ci35 q36 h37 n38 z39 hf => ?_)
      · obtain ⟨r17, rfl, hk⟩ := hq
        refine ⟨[vI r17], rfl, ?_⟩
        obtain ⟨b21, hk⟩ := hk
        refine r_if_eq X (pc := 21) (tgt := 37) dJ11_append_2_21 (by decide) b21 (fun c22 => ?_) (fun c22 => ?_)
        · have hk := hk.1 c22
          refine r_iload_n X (pc := 37) dJ11_append_2_37 rfl (q := 3) rfl ?_
          refine r_iload_n X (pc := 38) dJ11_append_2_38 rfl (q := 1) rfl ?_
          refine r_iload_n X (pc := 39) dJ11_append_2_39 rfl (q := 0) rfl ?_
          refine r_aload_n X (pc := 40) dJ11_append_2_40 rfl (q := 2) rfl ?_
          refine r_hGR X (pc := 41) fa_J11_15_J12 dJ11_append_2_41 hk (fun y23 hk => ?_)
          exact hk.elim
        · have hk := hk.2 c22
          refine r_iload_n X (pc := 24) dJ11_append_2_24 rfl (q := 3) rfl ?_
          refine r_iload_n X (pc := 25) dJ11_append_2_25 rfl (q := 0) rfl ?_
          refine r_aload_n X (pc := 26) dJ11_append_2_26 rfl (q := 2) rfl ?_
          refine r_hGR X (pc := 27) fa_J11_15_J12 dJ11_append_2_27 hk (fun y25 hk => ?_)
          refine r_callS X (pc := 30) (As := [vI x1, vI (y12 + r13), vR y25]) (st := []) m_J11_248 (fun _ => s_J16_getChars hk) ⟨by decide, by decide⟩ (Nat.le_of_ble_eq_true rfl) dJ11_append_2_30 (fun v9 h27 n28 z29 hq => ?_) (fun ci30 q31 h32 n33 z34 hf => ?_)
          · obtain ⟨r26, rfl, hk⟩ := hq
            refine ⟨[vI r26], rfl, ?_⟩
            refine r_pop X (pc := 33) dJ11_append_2_33 rfl ?_
            refine r_goto X (pc := 34) (tgt := 48) dJ11_append_2_34 (by decide) ?_
            refine G.sub [2, 0] rfl ?_
            exact w_J11_append_2_48 X E h27 n28 z29 (y12 + r13) hk
          · have hk := hf
            exact r_out X E (fun _ h9 => nomatch h9) hk
      · have hk := hf
        exact r_out X E (fun _ h9 => nomatch h9) hk
    · have hk := hf
      exact r_out X E (fun _ h9 => nomatch h9) hk
  · exact hf.elim
theorem s_J11_append_2 {K : KT} {l : Launch} {o : Nat} {κ : Option Nat → AH → Nat → Nat → Prop} {χ : QxT} {h : AH} {n : Nat} {z : Nat} {x1 : Int} (hk : P_J11_append_2 K o κ χ h n z x1) : Ct K l yJ11_append_2 (ws_ yJ11_append_2 cJ11_append_2 4 (Option.some (Jvm.ClassFile.FieldType.object "java/lang/AbstractStringBuilder"))) 4 130 ([vR (some o), vI x1].map cV) h n z (QvR κ) χ :=
  ct_of (by decide +kernel) (Nat.le_of_ble_eq_true rfl) (fun Y X E => w_J11_append_2 X E hk)
set_option maxHeartbeats 4000000 in
theorem w_J12_init {K : KT} {Y : YT} {o : Nat} {κ : AH → Nat → Nat → Prop} {χ : QxT} (X : XY K "java/lang/StringBuilder" "<init>" cJ12_init none [] 1 2 81 Y) (E : YE K Y (QvV κ) χ) {h : AH} {n : Nat} {z : Nat} (hk : P_J12_init K o κ χ h n z) : G K Y h n z 0 (lv_argsA 0 [vR (some o)]) [] := by
  show G K Y h n z 0 [(0, vR (some o))] []
  refine r_aload_n X (pc := 0) dJ12_init_0 rfl (q := 0) rfl ?_
  refine r_bipush X (pc := 1) dJ12_init_1 (by decide) ?_
  refine r_callI X (pc := 3) (As := [vI 16]) (st := []) m_J12_1 (fun _ => s_J11_init hk) ⟨by decide, by decide⟩ (Nat.le_of_ble_eq_true rfl) dJ12_init_3 (fun v9 h1 n2 z3 hq => ?_) (fun ci4 q5 h6 n7 z8 hf => ?_)
  · obtain ⟨rfl, hk⟩ := hq
    refine ⟨[], rfl, ?_⟩
    exact r_vret X E (pc := 6) dJ12_init_6 ⟨rfl, hk⟩
  · have hk := hf
    exact r_out X E (fun _ h9 => nomatch h9) hk
theorem s_J12_init {K : KT} {l : Launch} {o : Nat} {κ : AH → Nat → Nat → Prop} {χ : QxT} {h : AH} {n : Nat} {z : Nat} (hk : P_J12_init K o κ χ h n z) : Ct K l yJ12_init (ws_ yJ12_init cJ12_init 1 none) 2 81 ([vR (some o)].map cV) h n z (QvV κ) χ :=
  ct_of (by decide +kernel) (Nat.le_of_ble_eq_true rfl) (fun Y X E => w_J12_init X E hk)
set_option maxHeartbeats 4000000 in
theorem w_J12_append {K : KT} {Y : YT} {o : Nat} {κ : Option Nat → AH → Nat → Nat → Prop} {χ : QxT} (X : XY K "java/lang/StringBuilder" "append" cJ12_append (Option.some (Jvm.ClassFile.FieldType.object "java/lang/StringBuilder")) [] 2 5 151 Y) (E : YE K Y (QvR κ) χ) {h : AH} {n : Nat} {z : Nat} {x1 : Int} (hk : P_J12_append K o κ χ h n z x1) : G K Y h n z 0 (lv_argsA 0 [vR (some o), vI x1]) [] := by
  show G K Y h n z 0 [(0, vR (some o)), (1, vI x1)] []
  refine r_aload_n X (pc := 0) dJ12_append_0 rfl (q := 0) rfl ?_
  refine r_iload_n X (pc := 1) dJ12_append_1 rfl (q := 1) rfl ?_
  obtain ⟨o11, ci14, fs12, e9, b13, hk⟩ := hk
  refine r_callP X (pc := 2) (As := [vI x1]) (st := []) e9 b13 mp_J12_50 (fun _ => s_J11_append hk) ⟨by decide, by decide⟩ (Nat.le_of_ble_eq_true rfl) dJ12_append_2 (fun v9 h3 n4 z5 hq => ?_) (fun ci6 q7 h8 n9 z10 hf => ?_)
  · obtain ⟨r2, rfl, hk⟩ := hq
    refine ⟨[vR r2], rfl, ?_⟩
    refine r_pop X (pc := 5) dJ12_append_5 rfl ?_
    refine r_aload_n X (pc := 6) dJ12_append_6 rfl (q := 0) rfl ?_
    exact r_aret X E (Or.inl ⟨_, rfl⟩) (pc := 7) dJ12_append_7 ⟨_, rfl, hk⟩
  · have hk := hf
    exact r_out X E (fun _ h9 => nomatch h9) hk
theorem s_J12_append {K : KT} {l : Launch} {o : Nat} {κ : Option Nat → AH → Nat → Nat → Prop} {χ : QxT} {h : AH} {n : Nat} {z : Nat} {x1 : Int} (hk : P_J12_append K o κ χ h n z x1) : Ct K l yJ12_append (ws_ yJ12_append cJ12_append 2 (Option.some (Jvm.ClassFile.FieldType.object "java/lang/StringBuilder"))) 5 151 ([vR (some o), vI x1].map cV) h n z (QvR κ) χ :=
  ct_of (by decide +kernel) (Nat.le_of_ble_eq_true rfl) (fun Y X E => w_J12_append X E hk)
set_option maxHeartbeats 4000000 in
theorem w_J12_append_2 {K : KT} {Y : YT} {o : Nat} {κ : Option Nat → AH → Nat → Nat → Prop} {χ : QxT} (X : XY K "java/lang/StringBuilder" "append" cJ12_append_2 (Option.some (Jvm.ClassFile.FieldType.object "java/lang/StringBuilder")) [] 2 5 153 Y) (E : YE K Y (QvR κ) χ) {h : AH} {n : Nat} {z : Nat} {x1 : Int} (hk : P_J12_append_2 K o κ χ h n z x1) : G K Y h n z 0 (lv_argsA 0 [vR (some o), vI x1]) [] := by
  show G K Y h n z 0 [(0, vR (some o)), (1, vI x1)] []
  refine r_aload_n X (pc := 0) dJ12_append_2_0 rfl (q := 0) rfl ?_
  refine r_iload_n X (pc := 1) dJ12_append_2_1 rfl (q := 1) rfl ?_
  obtain ⟨o11, ci14, fs12, e9, b13, hk⟩ := hk
  refine r_callP X (pc := 2) (As := [vI x1]) (st := []) e9 b13 mp_J12_53 (fun _ => s_J11_append_2 hk) ⟨by decide, by decide⟩ (Nat.le_of_ble_eq_true rfl) dJ12_append_2_2 (fun v9 h3 n4 z5 hq => ?_) (fun ci6 q7 h8 n9 z10 hf => ?_)
  · obtain ⟨r2, rfl, hk⟩ := hq
    refine ⟨[vR r2], rfl, ?_⟩
    refine r_pop X (pc := 5) dJ12_append_2_5 rfl ?_
    refine r_aload_n X (pc := 6) dJ12_append_2_6 rfl (q := 0) rfl ?_
    exact r_aret X E (Or.inl ⟨_, rfl⟩) (pc := 7) dJ12_append_2_7 ⟨_, rfl, hk⟩
  · have hk := hf
    exact r_out X E (fun _ h9 => nomatch h9) hk
theorem s_J12_append_2 {K : KT} {l : Launch} {o : Nat} {κ : Option Nat → AH → Nat → Nat → Prop} {χ : QxT} {h : AH} {n : Nat} {z : Nat} {x1 : Int} (hk : P_J12_append_2 K o κ χ h n z x1) : Ct K l yJ12_append_2 (ws_ yJ12_append_2 cJ12_append_2 2 (Option.some (Jvm.ClassFile.FieldType.object "java/lang/StringBuilder"))) 5 153 ([vR (some o), vI x1].map cV) h n z (QvR κ) χ :=
  ct_of (by decide +kernel) (Nat.le_of_ble_eq_true rfl) (fun Y X E => w_J12_append_2 X E hk)
set_option maxHeartbeats 4000000 in
theorem w_J12_length {K : KT} {Y : YT} {o : Nat} {κ : Int → AH → Nat → Nat → Prop} {χ : QxT} (X : XY K "java/lang/StringBuilder" "length" cJ12_length (Option.some Jvm.ClassFile.FieldType.int) [] 1 1 20 Y) (E : YE K Y (QvI κ) χ) {h : AH} {n : Nat} {z : Nat} (hk : P_J12_length K o κ χ h n z) : G K Y h n z 0 (lv_argsA 0 [vR (some o)]) [] := by
  show G K Y h n z 0 [(0, vR (some o))] []
  refine r_aload_n X (pc := 0) dJ12_length_0 rfl (q := 0) rfl ?_
  obtain ⟨o11, ci14, fs12, e9, b13, hk⟩ := hk
  refine r_callP X (pc := 1) (As := []) (st := []) e9 b13 mp_J12_343 (fun _ => s_J11_length hk) ⟨by decide, by decide⟩ (Nat.le_of_ble_eq_true rfl) dJ12_length_1 (fun v9 h3 n4 z5 hq => ?_) (fun ci6 q7 h8 n9 z10 hf => ?_)
  · obtain ⟨r2, rfl, hk⟩ := hq
    refine ⟨[vI r2], rfl, ?_⟩
    exact r_iret X E (pc := 4) dJ12_length_4 rfl ⟨_, rfl, hk⟩
  · have hk := hf
    exact r_out X E (fun _ h9 => nomatch h9) hk
theorem s_J12_length {K : KT} {l : Launch} {o : Nat} {κ : Int → AH → Nat → Nat → Prop} {χ : QxT} {h : AH} {n : Nat} {z : Nat} (hk : P_J12_length K o κ χ h n z) : Ct K l yJ12_length (ws_ yJ12_length cJ12_length 1 (Option.some Jvm.ClassFile.FieldType.int)) 1 20 ([vR (some o)].map cV) h n z (QvI κ) χ :=
  ct_of (by decide +kernel) (Nat.le_of_ble_eq_true rfl) (fun Y X E => w_J12_length X E hk)
set_option maxHeartbeats 4000000 in
theorem w_J14_checkLength {K : KT} {Y : YT} {κ : AH → Nat → Nat → Prop} {χ : QxT} (X : XY K "java/util/Arrays" "checkLength" cJ14_checkLength (Option.none : Option Jvm.ClassFile.FieldType) [] 2 6 174 Y) (E : YE K Y (QvV κ) χ) {h : AH} {n : Nat} {z : Nat} {x0 : Int} {x1 : Int} (hk : P_J14_checkLength K κ χ h n z x0 x1) : G K Y h n z 0 (lv_argsA 0 [vI x0, vI x1]) [] := by
  show G K Y h n z 0 [(0, vI x0), (1, vI x1)] []
  refine r_iload_n X (pc := 0) dJ14_checkLength_0 rfl (q := 1) rfl ?_
  refine r_iload_n X (pc := 1) dJ14_checkLength_1 rfl (q := 0) rfl ?_
  obtain ⟨b10, b11, hk⟩ := hk
  refine r_icmp_ge X (pc := 2) (tgt := 37) dJ14_checkLength_2 (by decide) ⟨b10, b11⟩ (fun c12 => ?_) (fun c12 => ?_)
  · have hk := hk.2 c12
    exact r_vret X E (pc := 37) dJ14_checkLength_37 ⟨rfl, hk⟩
  · have hk := hk.1 c12
    refine r_hNew X (pc := 5) nw_J14_43 dJ14_checkLength_5 hk (fun h13 hk => ?_)
    refine r_dup X (pc := 8) dJ14_checkLength_8 rfl ?_
    refine r_hNew X (pc := 9) nw_J14_45 dJ14_checkLength_9 hk (fun h14 hk => ?_)
    refine r_dup X (pc := 12) dJ14_checkLength_12 rfl ?_
    refine r_callI X (pc := 13) (As := []) (st := [vR (some (n + 1)), vR (some n), vR (some n)]) m_J14_47 (fun _ => s_J12_init hk) ⟨by decide, by decide⟩ (Nat.le_of_ble_eq_true rfl) dJ14_checkLength_13 (fun v9 h15 n16 z17 hq => ?_) (fun ci30 q31 h32 n33 z34 hf => ?_)
    · obtain ⟨rfl, hk⟩ := hq
      refine ⟨[], rfl, ?_⟩
      refine r_iload_n X (pc := 16) dJ14_checkLength_16 rfl (q := 0) rfl ?_
      obtain ⟨o27, fs28, e9, b29, hk⟩ := hk
      refine r_callV X (pc := 17) (As := [vI x0]) (st := [vR (some n), vR (some n)]) rfl rfl e9 b29 m_J14_54 (fun _ => s_J12_append_2 hk) ⟨by decide, by decide⟩ (Nat.le_of_ble_eq_true rfl) dJ14_checkLength_17 (fun v9 h19 n20 z21 hq => ?_) (fun ci22 q23 h24 n25 z26 hf => ?_)
      · obtain ⟨r18, rfl, hk⟩ := hq
        refine ⟨[vR r18], rfl, ?_⟩
        exact hk.elim
      · have hk := hf
        exact r_out X E (fun _ h9 => nomatch h9) hk
    · have hk := hf
      exact r_out X E (fun _ h9 => nomatch h9) hk
theorem s_J14_checkLength {K : KT} {l : Launch} {κ : AH → Nat → Nat → Prop} {χ : QxT} {h : AH} {n : Nat} {z : Nat} {x0 : Int} {x1 : Int} (hk : P_J14_checkLength K κ χ h n z x0 x1) : Ct K l yJ14_checkLength (ws_ yJ14_checkLength cJ14_checkLength 2 (Option.none : Option Jvm.ClassFile.FieldType)) 6 174 ([vI x0, vI x1].map cV) h n z (QvV κ) χ :=
  ct_of (by decide +kernel) (Nat.le_of_ble_eq_true rfl) (fun Y X E => w_J14_checkLength X E hk)
set_option maxHeartbeats 4000000 in
theorem w_J14_copyOfRangeByte {K : KT} {Y : YT} {κ : Option Nat → AH → Nat → Nat → Prop} {χ : QxT} (X : XY K "java/util/Arrays" "copyOfRangeByte" cJ14_copyOfRangeByte (Option.some (Jvm.ClassFile.FieldType.array Jvm.ClassFile.FieldType.byte)) [] 5 7 195 Y) (E : YE K Y (QvR κ) χ) {h : AH} {n : Nat} {z : Nat} {x0 : Option Nat} {x1 : Int} {x2 : Int} (hk : P_J14_copyOfRangeByte K κ χ h n z x0 x1 x2) : G K Y h n z 0 (lv_argsA 0 [vR x0, vI x1, vI x2]) [] := by
  show G K Y h n z 0 [(0, vR x0), (1, vI x1), (2, vI x2)] []
  refine r_iload_n X (pc := 0) dJ14_copyOfRangeByte_0 rfl (q := 1) rfl ?_
  refine r_iload_n X (pc := 1) dJ14_copyOfRangeByte_1 rfl (q := 2) rfl ?_
  refine r_callS X (pc := 2) (As := [vI x1, vI x2]) (st := []) m_J14_343 (fun _ => s_J14_checkLength hk) ⟨by decide, by decide⟩ (Nat.le_of_ble_eq_true rfl) dJ14_copyOfRangeByte_2 (fun v9 h6 n7 z8 hq => ?_) (fun ci14 q15 h16 n17 z18 hf => ?_)
  · obtain ⟨rfl, hk⟩ := hq
    refine ⟨[], rfl, ?_⟩
    refine r_iload_n X (pc := 5) dJ14_copyOfRangeByte_5 rfl (q := 2) rfl ?_
    refine r_iload_n X (pc := 6) dJ14_copyOfRangeByte_6 rfl (q := 1) rfl ?_
    refine r_isub X (pc := 7) dJ14_copyOfRangeByte_7 ?_
    refine r_istore_n X (pc := 8) (lv1 := [(3, vI (x2 - x1)), (0, vR x0), (1, vI x1), (2, vI x2)]) dJ14_copyOfRangeByte_8 rfl (by decide) rfl ?_
    refine r_iload_n X (pc := 9) dJ14_copyOfRangeByte_9 rfl (q := 0) rfl ?_
    refine r_hNewA X (pc := 10) (t := 1) rfl rfl q250 (fun _ _ h9 => h9) (fun _ => rfl) (by decide) dJ14_copyOfRangeByte_10 hk (fun h9 hk => ?_)
    refine r_astore X (pc := 12) (lv1 := [(4, vR (some n7)), (3, vI (x2 - x1)), (0, vR x0), (1, vI x1), (2, vI x2)]) dJ14_copyOfRangeByte_12 (by decide) rfl ?_
    refine r_aload_n X (pc := 14) dJ14_copyOfRangeByte_14 rfl (q := 2) rfl ?_
    refine r_iload_n X (pc := 15) dJ14_copyOfRangeByte_15 rfl (q := 3) rfl ?_
    refine r_aload X (pc := 16) dJ14_copyOfRangeByte_16 (q := 0) rfl ?_
    refine r_iconst X (pc := 18) dJ14_copyOfRangeByte_18 ?_
    refine r_aload_n X (pc := 19) dJ14_copyOfRangeByte_19 rfl (q := 2) rfl ?_
    refine r_hLen X (pc := 20) (t := 1) rfl dJ14_copyOfRangeByte_20 hk (fun y10 hk => ?_)
    refine r_iload_n X (pc := 21) dJ14_copyOfRangeByte_21 rfl (q := 3) rfl ?_
    refine r_isub X (pc := 22) dJ14_copyOfRangeByte_22 ?_
    refine r_iload_n X (pc := 23) dJ14_copyOfRangeByte_23 rfl (q := 1) rfl ?_
    obtain ⟨b11, b12, hk⟩ := hk
    refine r_mmin X (pc := 24) q582 q512 q152 q513 b11 b12 ⟨by decide, Nat.le_of_ble_eq_true rfl⟩ dJ14_copyOfRangeByte_24 ?_
    refine r_hCopyB X (pc := 27) q583 q585 q584 q151 ⟨by decide, Nat.le_of_ble_eq_true rfl⟩ dJ14_copyOfRangeByte_27 hk (fun h13 hk => ?_)
    refine r_aload X (pc := 30) dJ14_copyOfRangeByte_30 (q := 0) rfl ?_
    exact r_aret X E (Or.inr ⟨_, rfl⟩) (pc := 32) dJ14_copyOfRangeByte_32 ⟨_, rfl, hk⟩
  · have hk := hf
    exact r_out X E (fun _ h9 => nomatch h9) hk
theorem s_J14_copyOfRangeByte {K : KT} {l : Launch} {κ : Option Nat → AH → Nat → Nat → Prop} {χ : QxT} {h : AH} {n : Nat} {z : Nat} {x0 : Option Nat} {x1 : Int} {x2 : Int} (hk : P_J14_copyOfRangeByte K κ χ h n z x0 x1 x2) : Ct K l yJ14_copyOfRangeByte (ws_ yJ14_copyOfRangeByte cJ14_copyOfRangeByte 5 (Option.some (Jvm.ClassFile.FieldType.array Jvm.ClassFile.FieldType.byte))) 7 195 ([vR x0, vI x1, vI x2].map cV) h n z (QvR κ) χ :=
  ct_of (by decide +kernel) (Nat.le_of_ble_eq_true rfl) (fun Y X E => w_J14_copyOfRangeByte X E hk)
set_option maxHeartbeats 4000000 in
theorem w_J14_copyOfRange_10 {K : KT} {Y : YT} {κ : Option Nat → AH → Nat → Nat → Prop} {χ : QxT} (X : XY K "java/util/Arrays" "copyOfRange" cJ14_copyOfRange (Option.some (Jvm.ClassFile.FieldType.array Jvm.ClassFile.FieldType.byte)) [] 3 8 219 Y) (E : YE K Y (QvR κ) χ) : ∀ (h : AH) (n : Nat) (z : Nat) (x0 : Option Nat) (x1 : Int) (x2 : Int), P_J14_copyOfRange_10 K κ χ h n z x0 x1 x2 → G K Y h n z 10 [(0, vR x0), (1, vI x1), (2, vI x2)] [] := by
  intro h n z x0 x1 x2 hk
  refine r_aload_n X (pc := 10) dJ14_copyOfRange_10 rfl (q := 0) rfl ?_
  refine r_iload_n X (pc := 11) dJ14_copyOfRange_11 rfl (q := 1) rfl ?_
  refine r_iload_n X (pc := 12) dJ14_copyOfRange_12 rfl (q := 2) rfl ?_
  refine r_callS X (pc := 13) (As := [vR x0, vI x1, vI x2]) (st := []) m_J14_339 (fun _ => s_J14_copyOfRangeByte hk) ⟨by decide, by decide⟩ (Nat.le_of_ble_eq_true rfl) dJ14_copyOfRange_13 (fun v9 h11 n12 z13 hq => ?_) (fun ci14 q15 h16 n17 z18 hf => ?_)
  · obtain ⟨r10, rfl, hk⟩ := hq
    refine ⟨[vR r10], rfl, ?_⟩
    exact r_aret X E (Or.inr ⟨_, rfl⟩) (pc := 16) dJ14_copyOfRange_16 ⟨_, rfl, hk⟩
  · have hk := hf
    exact r_out X E (fun _ h9 => nomatch h9) hk
set_option maxHeartbeats 4000000 in
theorem w_J14_copyOfRange {K : KT} {Y : YT} {κ : Option Nat → AH → Nat → Nat → Prop} {χ : QxT} (X : XY K "java/util/Arrays" "copyOfRange" cJ14_copyOfRange (Option.some (Jvm.ClassFile.FieldType.array Jvm.ClassFile.FieldType.byte)) [] 3 8 219 Y) (E : YE K Y (QvR κ) χ) {h : AH} {n : Nat} {z : Nat} {x0 : Option Nat} {x1 : Int} {x2 : Int} (hk : P_J14_copyOfRange K κ χ h n z x0 x1 x2) : G K Y h n z 0 (lv_argsA 0 [vR x0, vI x1, vI x2]) [] := by
  show G K Y h n z 0 [(0, vR x0), (1, vI x1), (2, vI x2)] []
  refine r_iload_n X (pc := 0) dJ14_copyOfRange_0 rfl (q := 1) rfl ?_
  obtain ⟨b19, hk⟩ := hk
  refine r_if_ne X (pc := 1) (tgt := 10) dJ14_copyOfRange_1 (by decide) b19 (fun c20 => ?_) (fun c20 => ?_)
  · have hk := hk.2 c20
    exact w_J14_copyOfRange_10 X E h n z x0 x1 x2 hk
  · have hk := hk.1 c20
    refine r_iload_n X (pc := 4) dJ14_copyOfRange_4 rfl (q := 2) rfl ?_
    refine r_aload_n X (pc := 5) dJ14_copyOfRange_5 rfl (q := 0) rfl ?_
    refine r_hLen X (pc := 6) (t := 1) rfl dJ14_copyOfRange_6 hk (fun y21 hk => ?_)
    obtain ⟨b22, b23, hk⟩ := hk
    refine r_icmp_eq X (pc := 7) (tgt := 17) dJ14_copyOfRange_7 (by decide) ⟨b22, b23⟩ (fun c24 => ?_) (fun c24 => ?_)
    · have hk := hk.1 c24
      refine r_aload_n X (pc := 17) dJ14_copyOfRange_17 rfl (q := 0) rfl ?_
      refine r_hClone X (pc := 18) q575 q576 q577 q578 q579 q580 ⟨by decide, Nat.le_of_ble_eq_true rfl⟩ dJ14_copyOfRange_18 hk (fun h25 z26 hk => ?_)
      refine r_hCastA X (pc := 21) (t := 1) q581 rfl (fun _ _ h9 => h9) dJ14_copyOfRange_21 hk (fun hk => ?_)
      exact r_aret X E (Or.inr ⟨_, rfl⟩) (pc := 24) dJ14_copyOfRange_24 ⟨_, rfl, hk⟩
    · have hk := hk.2 c24
      exact w_J14_copyOfRange_10 X E h n z x0 x1 x2 hk
theorem s_J14_copyOfRange {K : KT} {l : Launch} {κ : Option Nat → AH → Nat → Nat → Prop} {χ : QxT} {h : AH} {n : Nat} {z : Nat} {x0 : Option Nat} {x1 : Int} {x2 : Int} (hk : P_J14_copyOfRange K κ χ h n z x0 x1 x2) : Ct K l yJ14_copyOfRange (ws_ yJ14_copyOfRange cJ14_copyOfRange 3 (Option.some (Jvm.ClassFile.FieldType.array Jvm.ClassFile.FieldType.byte))) 8 219 ([vR x0, vI x1, vI x2].map cV) h n z (QvR κ) χ :=
  ct_of (by decide +kernel) (Nat.le_of_ble_eq_true rfl) (fun Y X E => w_J14_copyOfRange X E hk)
set_option maxHeartbeats 4000000 in
theorem w_J4_init_2_79 {K : KT} {Y : YT} {o : Nat} {κ : AH → Nat → Nat → Prop} {χ : QxT} (X : XY K "java/lang/String" "<init>" cJ4_init_2 none [] 5 9 241 Y) (E : YE K Y (QvV κ) χ) : ∀ (h : AH) (n : Nat) (z : Nat) (x3 : Option Nat) (x4 : Int), P_J4_init_2_79 K o κ χ h n z x3 x4 → G K Y h n z 79 [(0, vR (some o)), (3, vR x3), (4, vI x4)] [] := by
  intro h n z x3 x4 hk
  refine r_aload_n X (pc := 79) dJ4_init_2_79 rfl (q := 0) rfl ?_
  refine r_iconst X (pc := 80) dJ4_init_2_80 ?_
  refine r_hPutF X (pc := 81) fp_J4_15 rfl (fit_byte (Or.inr rfl)).1 (fit_byte (Or.inr rfl)).2 dJ4_init_2_81 hk (fun h22 hk => ?_)
  refine r_aload_n X (pc := 84) dJ4_init_2_84 rfl (q := 0) rfl ?_
  refine r_aload_n X (pc := 85) dJ4_init_2_85 rfl (q := 1) rfl ?_
  refine r_iconst X (pc := 86) dJ4_init_2_86 ?_
  refine r_iload X (pc := 87) dJ4_init_2_87 (q := 2) rfl ?_
  refine r_iconst X (pc := 89) dJ4_init_2_89 ?_
  refine r_ishl X (pc := 90) dJ4_init_2_90 ?_
  refine r_callS X (pc := 91) (As := [vR x3, vI 0, vI (ishl x4 1)]) (st := [vR (some o)]) m_J4_54 (fun _ => s_J14_copyOfRange hk) ⟨by decide, by decide⟩ (Nat.le_of_ble_eq_true rfl) dJ4_init_2_91 (fun v9 h24 n25 z26 hq => ?_) (fun ci28 q29 h30 n31 z32 hf => ?_)
  · obtain ⟨r23, rfl, hk⟩ := hq
    refine ⟨[vR r23], rfl, ?_⟩
    refine r_hPutF X (pc := 94) fp_J4_9 rfl (fit_arr r23).1 (fit_arr r23).2 dJ4_init_2_94 hk (fun h27 hk => ?_)
    exact r_vret X E (pc := 97) dJ4_init_2_97 ⟨rfl, hk⟩
  · have hk := hf
    exact r_out X E (fun _ h9 => nomatch h9) hk
set_option maxHeartbeats 4000000 in
theorem w_J4_init_2 {K : KT} {Y : YT} {o : Nat} {κ : AH → Nat → Nat → Prop} {χ : QxT} (X : XY K "java/lang/String" "<init>" cJ4_init_2 none [] 5 9 241 Y) (E : YE K Y (QvV κ) χ) {h : AH} {n : Nat} {z : Nat} {x1 : Option Nat} {x2 : Option Nat} (hk : P_J4_init_2 K o κ χ h n z x1 x2) : G K Y h n z 0 (lv_argsA 0 [vR (some o), vR x1, vR x2]) [] := by
  show G K Y h n z 0 [(0, vR (some o)), (1, vR x1), (2, vR x2)] []
  refine r_aload_n X (pc := 0) dJ4_init_2_0 rfl (q := 0) rfl ?_
  refine r_objinit X (pc := 1) q651 q203 q204 ⟨by decide, Nat.le_of_ble_eq_true rfl⟩ dJ4_init_2_1 ?_
  refine r_aload_n X (pc := 4) dJ4_init_2_4 rfl (q := 1) rfl ?_
  obtain ⟨o84, fs85, e9, b86, hk⟩ := hk
  refine r_callU X (pc := 5) (As := []) (st := []) rfl rfl e9 b86 mu_J4_552_14 (fun _ => s_J11_getValue hk) ⟨by decide, by decide⟩ (Nat.le_of_ble_eq_true rfl) dJ4_init_2_5 (fun v9 h34 n35 z36 hq => ?_) (fun ci79 q80 h81 n82 z83 hf => ?_)
  · obtain ⟨r33, rfl, hk⟩ := hq
    refine ⟨[vR r33], rfl, ?_⟩
    refine r_astore_n X (pc := 8) (lv1 := [(3, vR r33), (0, vR (some o)), (1, vR x1), (2, vR x2)]) dJ4_init_2_8 rfl (by decide) rfl ?_
    refine r_aload_n X (pc := 9) dJ4_init_2_9 rfl (q := 2) rfl ?_
    obtain ⟨o76, fs77, e9, b78, hk⟩ := hk
    refine r_callU X (pc := 10) (As := []) (st := []) rfl rfl e9 b78 mu_J4_549_14 (fun _ => s_J12_length hk) ⟨by decide, by decide⟩ (Nat.le_of_ble_eq_true rfl) dJ4_init_2_10 (fun v9 h38 n39 z40 hq => ?_) (fun ci71 q72 h73 n74 z75 hf => ?_)
    · obtain ⟨r37, rfl, hk⟩ := hq
      refine ⟨[vI r37], rfl, ?_⟩
      refine r_istore X (pc := 13) (lv1 := [(4, vI r37), (3, vR r33), (0, vR (some o)), (1, vR x1), (2, vR x2)]) dJ4_init_2_13 (by decide) rfl ?_
      refine r_aload_n X (pc := 15) dJ4_init_2_15 rfl (q := 3) rfl ?_
      obtain ⟨o68, fs69, e9, b70, hk⟩ := hk
      refine r_callU X (pc := 16) (As := []) (st := []) rfl rfl e9 b70 mu_J4_1047_14 (fun _ => s_J11_isLatin1 hk) ⟨by decide, by decide⟩ (Nat.le_of_ble_eq_true rfl) dJ4_init_2_16 (fun v9 h42 n43 z44 hq => ?_) (fun ci63 q64 h65 n66 z67 hf => ?_)
      · obtain ⟨r41, rfl, hk⟩ := hq
        refine ⟨[vI r41], rfl, ?_⟩
        obtain ⟨b45, hk⟩ := hk
        refine r_if_eq X (pc := 19) (tgt := 41) dJ4_init_2_19 (by decide) b45 (fun c46 => ?_) (fun c46 => ?_)
        · have hk := hk.1 c46
          refine r_gets X (pc := 41) (v := vI 1) (j := 0) rfl rfl q745 dJ4_init_2_41 ?_
          refine r_if_eq X (pc := 44) (tgt := 79) dJ4_init_2_44 (by decide) (by decide) (fun c51 => ?_) (fun c51 => ?_)
          · exact absurd c51 (by decide)
          · refine r_aload_n X (pc := 47) dJ4_init_2_47 rfl (q := 3) rfl ?_
            refine r_hGI X (pc := 48) fa_J4_1048_J12 dJ4_init_2_48 hk (fun y47 hk => ?_)
            obtain ⟨b48, hk⟩ := hk
            refine r_if_eq X (pc := 51) (tgt := 79) dJ4_init_2_51 (by decide) b48 (fun c49 => ?_) (fun c49 => ?_)
            · have hk := hk.1 c49
              refine G.sub [2, 1, 0] rfl ?_
              exact w_J4_init_2_79 X E h42 n43 z44 r33 r37 hk
            · have hk := hk.2 c49
              refine r_aload_n X (pc := 54) dJ4_init_2_54 rfl (q := 2) rfl ?_
              refine r_aload_n X (pc := 55) dJ4_init_2_55 rfl (q := 1) rfl ?_
              refine r_iconst X (pc := 56) dJ4_init_2_56 ?_
              refine r_iload X (pc := 57) dJ4_init_2_57 (q := 0) rfl ?_
              exact hk.elim
        · have hk := hk.2 c46
          refine r_aload_n X (pc := 22) dJ4_init_2_22 rfl (q := 2) rfl ?_
          refine r_iconst X (pc := 23) dJ4_init_2_23 ?_
          refine r_hPutF X (pc := 24) fp_J4_15 rfl (fit_byte (Or.inl rfl)).1 (fit_byte (Or.inl rfl)).2 dJ4_init_2_24 hk (fun h52 hk => ?_)
          refine r_aload_n X (pc := 27) dJ4_init_2_27 rfl (q := 2) rfl ?_
          refine r_aload_n X (pc := 28) dJ4_init_2_28 rfl (q := 1) rfl ?_
          refine r_iconst X (pc := 29) dJ4_init_2_29 ?_
          refine r_iload X (pc := 30) dJ4_init_2_30 (q := 0) rfl ?_
          refine r_callS X (pc := 32) (As := [vR r33, vI 0, vI r37]) (st := [vR (some o)]) m_J4_54 (fun _ => s_J14_copyOfRange hk) ⟨by decide, by decide⟩ (Nat.le_of_ble_eq_true rfl) dJ4_init_2_32 (fun v9 h54 n55 z56 hq => ?_) (fun ci58 q59 h60 n61 z62 hf => ?_)
          · obtain ⟨r53, rfl, hk⟩ := hq
            refine ⟨[vR r53], rfl, ?_⟩
            refine r_hPutF X (pc := 35) fp_J4_9 rfl (fit_arr r53).1 (fit_arr r53).2 dJ4_init_2_35 hk (fun h57 hk => ?_)
            refine r_goto X (pc := 38) (tgt := 97) dJ4_init_2_38 (by decide) ?_
            exact r_vret X E (pc := 97) dJ4_init_2_97 ⟨rfl, hk⟩
          · have hk := hf
            exact r_out X E (fun _ h9 => nomatch h9) hk
      · have hk := hf
        exact r_out X E (fun _ h9 => nomatch h9) hk
    · have hk := hf
      exact r_out X E (fun _ h9 => nomatch h9) hk
  · have hk := hf
    exact r_out X E (fun _ h9 => nomatch h9) hk
theorem s_J4_init_2 {K : KT} {l : Launch} {o : Nat} {κ : AH → Nat → Nat → Prop} {χ : QxT} {h : AH} {n : Nat} {z : Nat} {x1 : Option Nat} {x2 : Option Nat} (hk : P_J4_init_2 K o κ χ h n z x1 x2) : Ct K l yJ4_init_2 (ws_ yJ4_init_2 cJ4_init_2 5 none) 9 241 ([vR (some o), vR x1, vR x2].map cV) h n z (QvV κ) χ :=
  ct_of (by decide +kernel) (Nat.le_of_ble_eq_true rfl) (fun Y X E => w_J4_init_2 X E hk)
set_option maxHeartbeats 4000000 in
theorem w_J4_init {K : KT} {Y : YT} {o : Nat} {κ : AH → Nat → Nat → Prop} {χ : QxT} (X : XY K "java/lang/String" "<init>" cJ4_init none [] 2 10 265 Y) (E : YE K Y (QvV κ) χ) {h : AH} {n : Nat} {z : Nat} {x1 : Option Nat} (hk : P_J4_init K o κ χ h n z x1) : G K Y h n z 0 (lv_argsA 0 [vR (some o), vR x1]) [] := by
  show G K Y h n z 0 [(0, vR (some o)), (1, vR x1)] []
  refine r_aload_n X (pc := 0) dJ4_init_0 rfl (q := 0) rfl ?_
  refine r_aload_n X (pc := 1) dJ4_init_1 rfl (q := 1) rfl ?_
  refine r_null X (pc := 2) dJ4_init_2 ?_
  refine r_callI X (pc := 3) (As := [vR x1, vR none]) (st := []) m_J4_489 (fun _ => s_J4_init_2 hk) ⟨by decide, by decide⟩ (Nat.le_of_ble_eq_true rfl) dJ4_init_3 (fun v9 h1 n2 z3 hq => ?_) (fun ci4 q5 h6 n7 z8 hf => ?_)
  · obtain ⟨rfl, hk⟩ := hq
    refine ⟨[], rfl, ?_⟩
    exact r_vret X E (pc := 6) dJ4_init_6 ⟨rfl, hk⟩
  · have hk := hf
    exact r_out X E (fun _ h9 => nomatch h9) hk
theorem s_J4_init {K : KT} {l : Launch} {o : Nat} {κ : AH → Nat → Nat → Prop} {χ : QxT} {h : AH} {n : Nat} {z : Nat} {x1 : Option Nat} (hk : P_J4_init K o κ χ h n z x1) : Ct K l yJ4_init (ws_ yJ4_init cJ4_init 2 none) 10 265 ([vR (some o), vR x1].map cV) h n z (QvV κ) χ :=
  ct_of (by decide +kernel) (Nat.le_of_ble_eq_true rfl) (fun Y X E => w_J4_init X E hk)
set_option maxHeartbeats 4000000 in
theorem w_J12_toString {K : KT} {Y : YT} {o : Nat} {κ : Option Nat → AH → Nat → Nat → Prop} {χ : QxT} (X : XY K "java/lang/StringBuilder" "toString" cJ12_toString (Option.some (Jvm.ClassFile.FieldType.object "java/lang/String")) [] 1 11 286 Y) (E : YE K Y (QvR κ) χ) {h : AH} {n : Nat} {z : Nat} (hk : P_J12_toString K o κ χ h n z) : G K Y h n z 0 (lv_argsA 0 [vR (some o)]) [] := by
  show G K Y h n z 0 [(0, vR (some o))] []
  refine r_hNew X (pc := 0) nw_J12_18 dJ12_toString_0 hk (fun h2 hk => ?_)
  refine r_dup X (pc := 3) dJ12_toString_3 rfl ?_
  refine r_aload_n X (pc := 4) dJ12_toString_4 rfl (q := 0) rfl ?_
  refine r_callI X (pc := 5) (As := [vR (some o)]) (st := [vR (some n)]) m_J12_137 (fun _ => s_J4_init hk) ⟨by decide, by decide⟩ (Nat.le_of_ble_eq_true rfl) dJ12_toString_5 (fun v9 h3 n4 z5 hq => ?_) (fun ci6 q7 h8 n9 z10 hf => ?_)
  · obtain ⟨rfl, hk⟩ := hq
    refine ⟨[], rfl, ?_⟩
    exact r_aret X E (Or.inl ⟨_, rfl⟩) (pc := 8) dJ12_toString_8 ⟨_, rfl, hk⟩
  · have hk := hf
    exact r_out X E (fun _ h9 => nomatch h9) hk
theorem s_J12_toString {K : KT} {l : Launch} {o : Nat} {κ : Option Nat → AH → Nat → Nat → Prop} {χ : QxT} {h : AH} {n : Nat} {z : Nat} (hk : P_J12_toString K o κ χ h n z) : Ct K l yJ12_toString (ws_ yJ12_toString cJ12_toString 1 (Option.some (Jvm.ClassFile.FieldType.object "java/lang/String"))) 11 286 ([vR (some o)].map cV) h n z (QvR κ) χ :=
  ct_of (by decide +kernel) (Nat.le_of_ble_eq_true rfl) (fun Y X E => w_J12_toString X E hk)
set_option maxHeartbeats 4000000 in
theorem w_J5_equals_9 {K : KT} {Y : YT} {κ : Int → AH → Nat → Nat → Prop} {χ : QxT} (X : XY K "java/lang/StringLatin1" "equals" cJ5_equals (Option.some Jvm.ClassFile.FieldType.boolean) [] 3 0 0 Y) (E : YE K Y (QvI κ) χ) {k_24 : AH → Nat → Nat → Prop} {k_32 : AH → Nat → Nat → Prop} (H_24 : ∀ (h : AH) (n : Nat) (z : Nat), k_24 h n z → G K Y h n z 24 [] []) (H_32 : ∀ (h : AH) (n : Nat) (z : Nat), k_32 h n z → G K Y h n z 32 [] []) : ∀ (f : Nat) (h : AH) (n : Nat) (z : Nat) (x0 : Option Nat) (x1 : Option Nat) (x2 : Int), L_J5_equals_9 K k_24 k_32 κ χ f h n z x0 x1 x2 → G K Y h n z 9 [(0, vR x0), (1, vR x1), (2, vI x2)] [] := by
  intro f
  induction f with
  | zero => intro h n z x0 x1 x2 hk; exact hk.elim
  | succ f ih =>
    intro h n z x0 x1 x2 hk
    refine r_iload_n X (pc := 9) dJ5_equals_9 rfl (q := 2) rfl ?_
    refine r_aload_n X (pc := 10) dJ5_equals_10 rfl (q := 0) rfl ?_
    refine r_hLen X (pc := 11) (t := 1) rfl dJ5_equals_11 hk (fun y15 hk => ?_)
    obtain ⟨b16, b17, hk⟩ := hk
    refine r_icmp_ge X (pc := 12) (tgt := 32) dJ5_equals_12 (by decide) ⟨b16, b17⟩ (fun c18 => ?_) (fun c18 => ?_)
    · have hk := hk.2 c18
      refine G.sub [] rfl ?_
      exact H_32 h n z hk
    · have hk := hk.1 c18
      refine r_aload_n X (pc := 15) dJ5_equals_15 rfl (q := 0) rfl ?_
      refine r_iload_n X (pc := 16) dJ5_equals_16 rfl (q := 2) rfl ?_
      refine r_hAB X (pc := 17) dJ5_equals_17 hk (fun y19 hk => ?_)
      refine r_aload_n X (pc := 18) dJ5_equals_18 rfl (q := 1) rfl ?_
      refine r_iload_n X (pc := 19) dJ5_equals_19 rfl (q := 2) rfl ?_
      refine r_hAB X (pc := 20) dJ5_equals_20 hk (fun y20 hk => ?_)
      obtain ⟨b21, b22, hk⟩ := hk
      refine r_icmp_eq X (pc := 21) (tgt := 26) dJ5_equals_21 (by decide) ⟨b21, b22⟩ (fun c23 => ?_) (fun c23 => ?_)
      · have hk := hk.1 c23
        refine r_iinc X (pc := 26) (q := 2) (lv1 := [(2, vI (x2 + 1)), (0, vR x0), (1, vR x1)]) dJ5_equals_26 rfl (by decide) rfl ?_
        refine r_goto X (pc := 29) (tgt := 9) dJ5_equals_29 (by decide) ?_
        refine G.sub [1, 2, 0] rfl ?_
        exact ih h n z x0 x1 (x2 + 1) hk
      · have hk := hk.2 c23
        refine G.sub [] rfl ?_
        exact H_24 h n z hk
set_option maxHeartbeats 4000000 in
theorem w_J5_equals_24 {K : KT} {Y : YT} {κ : Int → AH → Nat → Nat → Prop} {χ : QxT} (X : XY K "java/lang/StringLatin1" "equals" cJ5_equals (Option.some Jvm.ClassFile.FieldType.boolean) [] 3 0 0 Y) (E : YE K Y (QvI κ) χ) : ∀ (h : AH) (n : Nat) (z : Nat), P_J5_equals_24 K κ χ h n z → G K Y h n z 24 [] [] := by
  intro h n z hk
  refine r_iconst X (pc := 24) dJ5_equals_24 ?_
  exact r_iret X E (pc := 25) dJ5_equals_25 rfl ⟨_, rfl, hk⟩
set_option maxHeartbeats 4000000 in
theorem w_J5_equals_32 {K : KT} {Y : YT} {κ : Int → AH → Nat → Nat → Prop} {χ : QxT} (X : XY K "java/lang/StringLatin1" "equals" cJ5_equals (Option.some Jvm.ClassFile.FieldType.boolean) [] 3 0 0 Y) (E : YE K Y (QvI κ) χ) : ∀ (h : AH) (n : Nat) (z : Nat), P_J5_equals_32 K κ χ h n z → G K Y h n z 32 [] [] := by
  intro h n z hk
  refine r_iconst X (pc := 32) dJ5_equals_32 ?_
  exact r_iret X E (pc := 33) dJ5_equals_33 rfl ⟨_, rfl, hk⟩
set_option maxHeartbeats 4000000 in
theorem w_J5_equals {K : KT} {Y : YT} {κ : Int → AH → Nat → Nat → Prop} {χ : QxT} (X : XY K "java/lang/StringLatin1" "equals" cJ5_equals (Option.some Jvm.ClassFile.FieldType.boolean) [] 3 0 0 Y) (E : YE K Y (QvI κ) χ) {h : AH} {n : Nat} {z : Nat} {x0 : Option Nat} {x1 : Option Nat} (hk : P_J5_equals K κ χ h n z x0 x1) : G K Y h n z 0 (lv_argsA 0 [vR x0, vR x1]) [] := by
  show G K Y h n z 0 [(0, vR x0), (1, vR x1)] []
  refine r_aload_n X (pc := 0) dJ5_equals_0 rfl (q := 0) rfl ?_
  refine r_hLen X (pc := 1) (t := 1) rfl dJ5_equals_1 hk (fun y24 hk => ?_)
  refine r_aload_n X (pc := 2) dJ5_equals_2 rfl (q := 1) rfl ?_
  refine r_hLen X (pc := 3) (t := 1) rfl dJ5_equals_3 hk (fun y25 hk => ?_)
  obtain ⟨b26, b27, hk⟩ := hk
  refine r_icmp_ne X (pc := 4) (tgt := 34) dJ5_equals_4 (by decide) ⟨b26, b27⟩ (fun c28 => ?_) (fun c28 => ?_)
  · have hk := hk.2 c28
    refine r_iconst X (pc := 34) dJ5_equals_34 ?_
    exact r_iret X E (pc := 35) dJ5_equals_35 rfl ⟨_, rfl, hk⟩
  · have hk := hk.1 c28
    refine r_iconst X (pc := 7) dJ5_equals_7 ?_
    refine r_istore_n X (pc := 8) (lv1 := [(2, vI 0), (0, vR x0), (1, vR x1)]) dJ5_equals_8 rfl (by decide) rfl ?_
    refine G.sub [1, 2, 0] rfl ?_
    have HH29 : ∀ (h : AH) (n : Nat) (z : Nat), (P_J5_equals_24 K κ χ h n z) → G K Y h n z 24 [] [] := by
        intro h n z hk
        exact w_J5_equals_24 X E h n z hk
    have HH30 : ∀ (h : AH) (n : Nat) (z : Nat), (P_J5_equals_32 K κ χ h n z) → G K Y h n z 32 [] [] := by
        intro h n z hk
        exact w_J5_equals_32 X E h n z hk
    obtain ⟨f9, hk⟩ := hk
    exact w_J5_equals_9 X E HH29 HH30 f9 h n z x0 x1 0 hk
theorem s_J5_equals {K : KT} {l : Launch} {κ : Int → AH → Nat → Nat → Prop} {χ : QxT} {h : AH} {n : Nat} {z : Nat} {x0 : Option Nat} {x1 : Option Nat} (hk : P_J5_equals K κ χ h n z x0 x1) : Ct K l yJ5_equals (ws_ yJ5_equals cJ5_equals 3 (Option.some Jvm.ClassFile.FieldType.boolean)) 0 0 ([vR x0, vR x1].map cV) h n z (QvI κ) χ :=
  ct_of (by decide +kernel) (Nat.le_of_ble_eq_true rfl) (fun Y X E => w_J5_equals X E hk)
set_option maxHeartbeats 4000000 in
theorem w_J4_equals_36 {K : KT} {Y : YT} {o : Nat} {κ : Int → AH → Nat → Nat → Prop} {χ : QxT} (X : XY K "java/lang/String" "equals" cJ4_equals (Option.some Jvm.ClassFile.FieldType.boolean) [] 3 1 22 Y) (E : YE K Y (QvI κ) χ) : ∀ (h : AH) (n : Nat) (z : Nat) (x2 : Option Nat), P_J4_equals_36 K o κ χ h n z x2 → G K Y h n z 36 [(0, vR (some o)), (2, vR x2)] [] := by
  intro h n z x2 hk
  refine r_aload_n X (pc := 36) dJ4_equals_36 rfl (q := 0) rfl ?_
  refine r_hGR X (pc := 37) fa_J4_9 dJ4_equals_37 hk (fun y16 hk => ?_)
  refine r_aload_n X (pc := 40) dJ4_equals_40 rfl (q := 1) rfl ?_
  refine r_hGR X (pc := 41) fa_J4_9 dJ4_equals_41 hk (fun y17 hk => ?_)
  refine r_callS X (pc := 44) (As := [vR y16, vR y17]) (st := []) m_J4_541 (fun _ => s_J5_equals hk) ⟨by decide, by decide⟩ (Nat.le_of_ble_eq_true rfl) dJ4_equals_44 (fun v9 h19 n20 z21 hq => ?_) (fun ci24 q25 h26 n27 z28 hf => ?_)
  · obtain ⟨r18, rfl, hk⟩ := hq
    refine ⟨[vI r18], rfl, ?_⟩
    obtain ⟨b22, hk⟩ := hk
    refine r_if_eq X (pc := 47) (tgt := 54) dJ4_equals_47 (by decide) b22 (fun c23 => ?_) (fun c23 => ?_)
    · have hk := hk.1 c23
      refine r_iconst X (pc := 54) dJ4_equals_54 ?_
      exact r_iret X E (pc := 55) dJ4_equals_55 rfl ⟨_, rfl, hk⟩
    · have hk := hk.2 c23
      refine r_iconst X (pc := 50) dJ4_equals_50 ?_
      refine r_goto X (pc := 51) (tgt := 55) dJ4_equals_51 (by decide) ?_
      exact r_iret X E (pc := 55) dJ4_equals_55 rfl ⟨_, rfl, hk⟩
  · have hk := hf
    exact r_out X E (fun _ h9 => nomatch h9) hk
set_option maxHeartbeats 4000000 in
theorem w_J4_equals {K : KT} {Y : YT} {o : Nat} {κ : Int → AH → Nat → Nat → Prop} {χ : QxT} (X : XY K "java/lang/String" "equals" cJ4_equals (Option.some Jvm.ClassFile.FieldType.boolean) [] 3 1 22 Y) (E : YE K Y (QvI κ) χ) {h : AH} {n : Nat} {z : Nat} {x1 : Option Nat} (hk : P_J4_equals K o κ χ h n z x1) : G K Y h n z 0 (lv_argsA 0 [vR (some o), vR x1]) [] := by
  show G K Y h n z 0 [(0, vR (some o)), (1, vR x1)] []
  refine r_aload_n X (pc := 0) dJ4_equals_0 rfl (q := 0) rfl ?_
  refine r_aload_n X (pc := 1) dJ4_equals_1 rfl (q := 1) rfl ?_
  refine r_acmp_ne X (pc := 2) (tgt := 7) dJ4_equals_2 (by decide) (fun c29 => ?_) (fun c29 => ?_)
  · have hk := hk.2 c29
    refine r_aload_n X (pc := 7) dJ4_equals_7 rfl (q := 1) rfl ?_
    refine r_hInst X (pc := 8) q838 cos_java_lang_String_13 cns_java_lang_String_ dJ4_equals_8 hk (fun y30 hk => ?_)
    obtain ⟨b31, hk⟩ := hk
    refine r_if_eq X (pc := 11) (tgt := 54) dJ4_equals_11 (by decide) b31 (fun c32 => ?_) (fun c32 => ?_)
    · have hk := hk.1 c32
      refine r_iconst X (pc := 54) dJ4_equals_54 ?_
      exact r_iret X E (pc := 55) dJ4_equals_55 rfl ⟨_, rfl, hk⟩
    · have hk := hk.2 c32
      refine r_aload_n X (pc := 14) dJ4_equals_14 rfl (q := 1) rfl ?_
      refine r_hCast X (pc := 15) q838 cos_java_lang_String_13 dJ4_equals_15 hk (fun hk => ?_)
      refine r_astore_n X (pc := 18) (lv1 := [(2, vR x1), (0, vR (some o)), (1, vR x1)]) dJ4_equals_18 rfl (by decide) rfl ?_
      refine r_gets X (pc := 19) (v := vI 1) (j := 0) rfl rfl q745 dJ4_equals_19 ?_
      refine r_if_eq X (pc := 22) (tgt := 36) dJ4_equals_22 (by decide) (by decide) (fun c38 => ?_) (fun c38 => ?_)
      · exact absurd c38 (by decide)
      · refine r_aload_n X (pc := 25) dJ4_equals_25 rfl (q := 1) rfl ?_
        refine r_hGI X (pc := 26) fa_J4_15 dJ4_equals_26 hk (fun y33 hk => ?_)
        refine r_aload_n X (pc := 29) dJ4_equals_29 rfl (q := 0) rfl ?_
        refine r_hGI X (pc := 30) fa_J4_15 dJ4_equals_30 hk (fun y34 hk => ?_)
        obtain ⟨b35, b36, hk⟩ := hk
        refine r_icmp_ne X (pc := 33) (tgt := 54) dJ4_equals_33 (by decide) ⟨b35, b36⟩ (fun c37 => ?_) (fun c37 => ?_)
        · have hk := hk.2 c37
          refine r_iconst X (pc := 54) dJ4_equals_54 ?_
          exact r_iret X E (pc := 55) dJ4_equals_55 rfl ⟨_, rfl, hk⟩
        · have hk := hk.1 c37
          refine G.sub [1, 0] rfl ?_
          exact w_J4_equals_36 X E h n z x1 hk
  · have hk := hk.1 (Classical.not_not.mp c29)
    refine r_iconst X (pc := 5) dJ4_equals_5 ?_
    exact r_iret X E (pc := 6) dJ4_equals_6 rfl ⟨_, rfl, hk⟩
theorem s_J4_equals {K : KT} {l : Launch} {o : Nat} {κ : Int → AH → Nat → Nat → Prop} {χ : QxT} {h : AH} {n : Nat} {z : Nat} {x1 : Option Nat} (hk : P_J4_equals K o κ χ h n z x1) : Ct K l yJ4_equals (ws_ yJ4_equals cJ4_equals 3 (Option.some Jvm.ClassFile.FieldType.boolean)) 1 22 ([vR (some o), vR x1].map cV) h n z (QvI κ) χ :=
  ct_of (by decide +kernel) (Nat.le_of_ble_eq_true rfl) (fun Y X E => w_J4_equals X E hk)
set_option maxHeartbeats 4000000 in
theorem w_J13_hashCode_2_8 {K : KT} {Y : YT} {κ : Int → AH → Nat → Nat → Prop} {χ : QxT} (X : XY K "jdk/internal/util/ArraysSupport" "hashCode" cJ13_hashCode_2 (Option.some Jvm.ClassFile.FieldType.int) [] 6 0 0 Y) (E : YE K Y (QvI κ) χ) {k_31 : AH → Nat → Nat → Int → Prop} (H_31 : ∀ (h : AH) (n : Nat) (z : Nat) (x0 : Int), k_31 h n z x0 → G K Y h n z 31 [(0, vI x0)] []) : ∀ (f : Nat) (h : AH) (n : Nat) (z : Nat) (x0 : Int) (x1 : Option Nat) (x4 : Int) (x5 : Int), L_J13_hashCode_2_8 K k_31 κ χ f h n z x0 x1 x4 x5 → G K Y h n z 8 [(0, vI x0), (1, vR x1), (4, vI x4), (5, vI x5)] [] := by
  intro f
  induction f with
  | zero => intro h n z x0 x1 x4 x5 hk; exact hk.elim
  | succ f ih =>
    intro h n z x0 x1 x4 x5 hk
    refine r_iload X (pc := 8) dJ13_hashCode_2_8 (q := 3) rfl ?_
    refine r_iload X (pc := 10) dJ13_hashCode_2_10 (q := 2) rfl ?_
    obtain ⟨b5, b6, hk⟩ := hk
    refine r_icmp_ge X (pc := 12) (tgt := 31) dJ13_hashCode_2_12 (by decide) ⟨b5, b6⟩ (fun c7 => ?_) (fun c7 => ?_)
    · have hk := hk.2 c7
      refine G.sub [0] rfl ?_
      exact H_31 h n z x0 hk
    · have hk := hk.1 c7
      refine r_bipush X (pc := 15) dJ13_hashCode_2_15 (by decide) ?_
      refine r_iload_n X (pc := 17) dJ13_hashCode_2_17 rfl (q := 0) rfl ?_
      refine r_imul X (pc := 18) dJ13_hashCode_2_18 ?_
      refine r_aload_n X (pc := 19) dJ13_hashCode_2_19 rfl (q := 1) rfl ?_
      refine r_iload X (pc := 20) dJ13_hashCode_2_20 (q := 3) rfl ?_
      refine r_hAB X (pc := 22) dJ13_hashCode_2_22 hk (fun y8 hk => ?_)
      refine r_iadd X (pc := 23) dJ13_hashCode_2_23 ?_
      refine r_istore_n X (pc := 24) (lv1 := [(0, vI ((31 * x0) + y8)), (1, vR x1), (4, vI x4), (5, vI x5)]) dJ13_hashCode_2_24 rfl (by decide) rfl ?_
      refine r_iinc X (pc := 25) (q := 3) (lv1 := [(5, vI (x5 + 1)), (0, vI ((31 * x0) + y8)), (1, vR x1), (4, vI x4)]) dJ13_hashCode_2_25 rfl (by decide) rfl ?_
      refine r_goto X (pc := 28) (tgt := 8) dJ13_hashCode_2_28 (by decide) ?_
      refine G.sub [1, 2, 3, 0] rfl ?_
      exact ih h n z ((31 * x0) + y8) x1 x4 (x5 + 1) hk
set_option maxHeartbeats 4000000 in
theorem w_J13_hashCode_2_31 {K : KT} {Y : YT} {κ : Int → AH → Nat → Nat → Prop} {χ : QxT} (X : XY K "jdk/internal/util/ArraysSupport" "hashCode" cJ13_hashCode_2 (Option.some Jvm.ClassFile.FieldType.int) [] 6 0 0 Y) (E : YE K Y (QvI κ) χ) : ∀ (h : AH) (n : Nat) (z : Nat) (x0 : Int), P_J13_hashCode_2_31 K κ χ h n z x0 → G K Y h n z 31 [(0, vI x0)] [] := by
  intro h n z x0 hk
  refine r_iload_n X (pc := 31) dJ13_hashCode_2_31 rfl (q := 0) rfl ?_
  exact r_iret X E (pc := 32) dJ13_hashCode_2_32 rfl ⟨_, rfl, hk⟩
set_option maxHeartbeats 4000000 in
theorem w_J13_hashCode_2 {K : KT} {Y : YT} {κ : Int → AH → Nat → Nat → Prop} {χ : QxT} (X : XY K "jdk/internal/util/ArraysSupport" "hashCode" cJ13_hashCode_2 (Option.some Jvm.ClassFile.FieldType.int) [] 6 0 0 Y) (E : YE K Y (QvI κ) χ) {h : AH} {n : Nat} {z : Nat} {x0 : Int} {x1 : Option Nat} {x2 : Int} {x3 : Int} (hk : P_J13_hashCode_2 K κ χ h n z x0 x1 x2 x3) : G K Y h n z 0 (lv_argsA 0 [vI x0, vR x1, vI x2, vI x3]) [] := by
  show G K Y h n z 0 [(0, vI x0), (1, vR x1), (2, vI x2), (3, vI x3)] []
  refine r_iload_n X (pc := 0) dJ13_hashCode_2_0 rfl (q := 2) rfl ?_
  refine r_iload_n X (pc := 1) dJ13_hashCode_2_1 rfl (q := 3) rfl ?_
  refine r_iadd X (pc := 2) dJ13_hashCode_2_2 ?_
  refine r_istore X (pc := 3) (lv1 := [(4, vI (x2 + x3)), (0, vI x0), (1, vR x1), (2, vI x2), (3, vI x3)]) dJ13_hashCode_2_3 (by decide) rfl ?_
  refine r_iload_n X (pc := 5) dJ13_hashCode_2_5 rfl (q := 3) rfl ?_
  refine r_istore X (pc := 6) (lv1 := [(5, vI x2), (4, vI (x2 + x3)), (0, vI x0), (1, vR x1), (2, vI x2), (3, vI x3)]) dJ13_hashCode_2_6 (by decide) rfl ?_
  refine G.sub [2, 3, 1, 0] rfl ?_
  have HH9 : ∀ (h : AH) (n : Nat) (z : Nat) (x0 : Int), (P_J13_hashCode_2_31 K κ χ h n z x0) → G K Y h n z 31 [(0, vI x0)] [] := by
      intro h n z x0 hk
      exact w_J13_hashCode_2_31 X E h n z x0 hk
  obtain ⟨f9, hk⟩ := hk
  exact w_J13_hashCode_2_8 X E HH9 f9 h n z x0 x1 (x2 + x3) x2 hk
theorem s_J13_hashCode_2 {K : KT} {l : Launch} {κ : Int → AH → Nat → Nat → Prop} {χ : QxT} {h : AH} {n : Nat} {z : Nat} {x0 : Int} {x1 : Option Nat} {x2 : Int} {x3 : Int} (hk : P_J13_hashCode_2 K κ χ h n z x0 x1 x2 x3) : Ct K l yJ13_hashCode_2 (ws_ yJ13_hashCode_2 cJ13_hashCode_2 6 (Option.some Jvm.ClassFile.FieldType.int)) 0 0 ([vI x0, vR x1, vI x2, vI x3].map cV) h n z (QvI κ) χ :=
  ct_of (by decide +kernel) (Nat.le_of_ble_eq_true rfl) (fun Y X E => w_J13_hashCode_2 X E hk)
set_option maxHeartbeats 4000000 in
theorem w_J13_signedHashCode_8 {K : KT} {Y : YT} {κ : Int → AH → Nat → Nat → Prop} {χ : QxT} (X : XY K "jdk/internal/util/ArraysSupport" "signedHashCode" cJ13_signedHashCode (Option.some Jvm.ClassFile.FieldType.int) [] 6 0 0 Y) (E : YE K Y (QvI κ) χ) {k_35 : AH → Nat → Nat → Int → Prop} (H_35 : ∀ (h : AH) (n : Nat) (z : Nat) (x0 : Int), k_35 h n z x0 → G K Y h n z 35 [(0, vI x0)] []) : ∀ (f : Nat) (h : AH) (n : Nat) (z : Nat) (x0 : Int) (x1 : Option Nat) (x4 : Int) (x5 : Int), L_J13_signedHashCode_8 K k_35 κ χ f h n z x0 x1 x4 x5 → G K Y h n z 8 [(0, vI x0), (1, vR x1), (4, vI x4), (5, vI x5)] [] := by
  intro f
  induction f with
  | zero => intro h n z x0 x1 x4 x5 hk; exact hk.elim
  | succ f ih =>
    intro h n z x0 x1 x4 x5 hk
    refine r_iload X (pc := 8) dJ13_signedHashCode_8 (q := 3) rfl ?_
    refine r_iload X (pc := 10) dJ13_signedHashCode_10 (q := 2) rfl ?_
    obtain ⟨b5, b6, hk⟩ := hk
    refine r_icmp_ge X (pc := 12) (tgt := 35) dJ13_signedHashCode_12 (by decide) ⟨b5, b6⟩ (fun c7 => ?_) (fun c7 => ?_)
    · have hk := hk.2 c7
      refine G.sub [0] rfl ?_
      exact H_35 h n z x0 hk
    · have hk := hk.1 c7
      refine r_bipush X (pc := 15) dJ13_signedHashCode_15 (by decide) ?_
      refine r_iload_n X (pc := 17) dJ13_signedHashCode_17 rfl (q := 0) rfl ?_
      refine r_imul X (pc := 18) dJ13_signedHashCode_18 ?_
      refine r_aload_n X (pc := 19) dJ13_signedHashCode_19 rfl (q := 1) rfl ?_
      refine r_iload X (pc := 20) dJ13_signedHashCode_20 (q := 3) rfl ?_
      refine r_hAB X (pc := 22) dJ13_signedHashCode_22 hk (fun y8 hk => ?_)
      refine r_sipush X (pc := 23) dJ13_signedHashCode_23 (by decide) ?_
      refine r_iand X (pc := 26) dJ13_signedHashCode_26 ?_
      refine r_iadd X (pc := 27) dJ13_signedHashCode_27 ?_
      refine r_istore_n X (pc := 28) (lv1 := [(0, vI ((31 * x0) + (iand y8 255))), (1, vR x1), (4, vI x4), (5, vI x5)]) dJ13_signedHashCode_28 rfl (by decide) rfl ?_
      refine r_iinc X (pc := 29) (q := 3) (lv1 := [(5, vI (x5 + 1)), (0, vI ((31 * x0) + (iand y8 255))), (1, vR x1), (4, vI x4)]) dJ13_signedHashCode_29 rfl (by decide) rfl ?_
      refine r_goto X (pc := 32) (tgt := 8) dJ13_signedHashCode_32 (by decide) ?_
      refine G.sub [1, 2, 3, 0] rfl ?_
      exact ih h n z ((31 * x0) + (iand y8 255)) x1 x4 (x5 + 1) hk
set_option maxHeartbeats 4000000 in
theorem w_J13_signedHashCode_35 {K : KT} {Y : YT} {κ : Int → AH → Nat → Nat → Prop} {χ : QxT} (X : XY K "jdk/internal/util/ArraysSupport" "signedHashCode" cJ13_signedHashCode (Option.some Jvm.ClassFile.FieldType.int) [] 6 0 0 Y) (E : YE K Y (QvI κ) χ) : ∀ (h : AH) (n : Nat) (z : Nat) (x0 : Int), P_J13_signedHashCode_35 K κ χ h n z x0 → G K Y h n z 35 [(0, vI x0)] [] := by
  intro h n z x0 hk
  refine r_iload_n X (pc := 35) dJ13_signedHashCode_35 rfl (q := 0) rfl ?_
  exact r_iret X E (pc := 36) dJ13_signedHashCode_36 rfl ⟨_, rfl, hk⟩
set_option maxHeartbeats 4000000 in
theorem w_J13_signedHashCode {K : KT} {Y : YT} {κ : Int → AH → Nat → Nat → Prop} {χ : QxT} (X : XY K "jdk/internal/util/ArraysSupport" "signedHashCode" cJ13_signedHashCode (Option.some Jvm.ClassFile.FieldType.int) [] 6 0 0 Y) (E : YE K Y (QvI κ) χ) {h : AH} {n : Nat} {z : Nat} {x0 : Int} {x1 : Option Nat} {x2 : Int} {x3 : Int} (hk : P_J13_signedHashCode K κ χ h n z x0 x1 x2 x3) : G K Y h n z 0 (lv_argsA 0 [vI x0, vR x1, vI x2, vI x3]) [] := by
  show G K Y h n z 0 [(0, vI x0), (1, vR x1), (2, vI x2), (3, vI x3)] []
  refine r_iload_n X (pc := 0) dJ13_signedHashCode_0 rfl (q := 2) rfl ?_
  refine r_iload_n X (pc := 1) dJ13_signedHashCode_1 rfl (q := 3) rfl ?_
  refine r_iadd X (pc := 2) dJ13_signedHashCode_2 ?_
  refine r_istore X (pc := 3) (lv1 := [(4, vI (x2 + x3)), (0, vI x0), (1, vR x1), (2, vI x2), (3, vI x3)]) dJ13_signedHashCode_3 (by decide) rfl ?_
  refine r_iload_n X (pc := 5) dJ13_signedHashCode_5 rfl (q := 3) rfl ?_
  refine r_istore X (pc := 6) (lv1 := [(5, vI x2), (4, vI (x2 + x3)), (0, vI x0), (1, vR x1), (2, vI x2), (3, vI x3)]) dJ13_signedHashCode_6 (by decide) rfl ?_
  refine G.sub [2, 3, 1, 0] rfl ?_
  have HH9 : ∀ (h : AH) (n : Nat) (z : Nat) (x0 : Int), (P_J13_signedHashCode_35 K κ χ h n z x0) → G K Y h n z 35 [(0, vI x0)] [] := by
      intro h n z x0 hk
      exact w_J13_signedHashCode_35 X E h n z x0 hk
  obtain ⟨f9, hk⟩ := hk
  exact w_J13_signedHashCode_8 X E HH9 f9 h n z x0 x1 (x2 + x3) x2 hk
theorem s_J13_signedHashCode {K : KT} {l : Launch} {κ : Int → AH → Nat → Nat → Prop} {χ : QxT} {h : AH} {n : Nat} {z : Nat} {x0 : Int} {x1 : Option Nat} {x2 : Int} {x3 : Int} (hk : P_J13_signedHashCode K κ χ h n z x0 x1 x2 x3) : Ct K l yJ13_signedHashCode (ws_ yJ13_signedHashCode cJ13_signedHashCode 6 (Option.some Jvm.ClassFile.FieldType.int)) 0 0 ([vI x0, vR x1, vI x2, vI x3].map cV) h n z (QvI κ) χ :=
  ct_of (by decide +kernel) (Nat.le_of_ble_eq_true rfl) (fun Y X E => w_J13_signedHashCode X E hk)
set_option maxHeartbeats 4000000 in
theorem w_J13_vectorizedHashCode {K : KT} {Y : YT} {κ : Int → AH → Nat → Nat → Prop} {χ : QxT} (X : XY K "jdk/internal/util/ArraysSupport" "vectorizedHashCode" cJ13_vectorizedHashCode (Option.some Jvm.ClassFile.FieldType.int) [] 5 3 101 Y) (E : YE K Y (QvI κ) χ) {h : AH} {n : Nat} {z : Nat} {x0 : Option Nat} {x1 : Int} {x2 : Int} {x3 : Int} {x4 : Int} (hk : P_J13_vectorizedHashCode K κ χ h n z x0 x1 x2 x3 x4) : G K Y h n z 0 (lv_argsA 0 [vR x0, vI x1, vI x2, vI x3, vI x4]) [] := by
  show G K Y h n z 0 [(0, vR x0), (1, vI x1), (2, vI x2), (3, vI x3), (4, vI x4)] []
  refine r_iload X (pc := 0) dJ13_vectorizedHashCode_0 (q := 4) rfl ?_
  obtain ⟨b15, hk⟩ := hk
  by_cases c26 : x4 = 4
  · have hk := hk.1 c26
    refine r_tswIn X (pc := 2) (j := 0) (tgt := 44) dJ13_vectorizedHashCode_2 b15 (by omega) (by decide) rfl (by decide) ?_
    refine r_iload_n X (pc := 44) dJ13_vectorizedHashCode_44 rfl (q := 3) rfl ?_
    refine r_aload_n X (pc := 45) dJ13_vectorizedHashCode_45 rfl (q := 0) rfl ?_
    refine r_hCastA X (pc := 46) (t := 1) q875 rfl (fun _ _ h9 => h9) dJ13_vectorizedHashCode_46 hk (fun hk => ?_)
    refine r_iload_n X (pc := 49) dJ13_vectorizedHashCode_49 rfl (q := 1) rfl ?_
    refine r_iload_n X (pc := 50) dJ13_vectorizedHashCode_50 rfl (q := 2) rfl ?_
    refine r_callS X (pc := 51) (As := [vI x3, vR x0, vI x1, vI x2]) (st := []) m_J13_62 (fun _ => s_J13_signedHashCode hk) ⟨by decide, by decide⟩ (Nat.le_of_ble_eq_true rfl) dJ13_vectorizedHashCode_51 (fun v9 h28 n29 z30 hq => ?_) (fun ci31 q32 h33 n34 z35 hf => ?_)
    · obtain ⟨r27, rfl, hk⟩ := hq
      refine ⟨[vI r27], rfl, ?_⟩
      refine r_goto X (pc := 54) (tgt := 157) dJ13_vectorizedHashCode_54 (by decide) ?_
      exact r_iret X E (pc := 157) dJ13_vectorizedHashCode_157 rfl ⟨_, rfl, hk⟩
    · have hk := hf
      exact r_out X E (fun _ h9 => nomatch h9) hk
  · have hk := hk.2 c26
    by_cases c36 : x4 = 5
    · have hk := hk.1 c36
      refine r_tswIn X (pc := 2) (j := 1) (tgt := 57) dJ13_vectorizedHashCode_2 b15 (by omega) (by decide) rfl (by decide) ?_
      refine r_aload_n X (pc := 57) dJ13_vectorizedHashCode_57 rfl (q := 0) rfl ?_
      refine r_hInst X (pc := 58) q875 cos__B_ cns__B_ dJ13_vectorizedHashCode_58 hk (fun y37 hk => ?_)
      obtain ⟨b38, hk⟩ := hk
      refine r_if_eq X (pc := 61) (tgt := 77) dJ13_vectorizedHashCode_61 (by decide) b38 (fun c39 => ?_) (fun c39 => ?_)
      · have hk := hk.1 c39
        refine r_iload_n X (pc := 77) dJ13_vectorizedHashCode_77 rfl (q := 3) rfl ?_
        refine r_aload_n X (pc := 78) dJ13_vectorizedHashCode_78 rfl (q := 0) rfl ?_
        refine r_hCast X (pc := 79) q895 cos__C_ dJ13_vectorizedHashCode_79 hk (fun hk => ?_)
        refine r_iload_n X (pc := 82) dJ13_vectorizedHashCode_82 rfl (q := 1) rfl ?_
        refine r_iload_n X (pc := 83) dJ13_vectorizedHashCode_83 rfl (q := 2) rfl ?_
        exact hk.elim
      · have hk := hk.2 c39
        refine r_iload_n X (pc := 64) dJ13_vectorizedHashCode_64 rfl (q := 3) rfl ?_
        refine r_aload_n X (pc := 65) dJ13_vectorizedHashCode_65 rfl (q := 0) rfl ?_
        refine r_hCastA X (pc := 66) (t := 1) q875 rfl (fun _ _ h9 => h9) dJ13_vectorizedHashCode_66 hk (fun hk => ?_)
        refine r_iload_n X (pc := 69) dJ13_vectorizedHashCode_69 rfl (q := 1) rfl ?_
        refine r_iload_n X (pc := 70) dJ13_vectorizedHashCode_70 rfl (q := 2) rfl ?_
        exact hk.elim
    · have hk := hk.2 c36
      by_cases c42 : x4 = 6
      · have hk := hk.1 c42
        refine r_tswIn X (pc := 2) (j := 2) (tgt := 129) dJ13_vectorizedHashCode_2 b15 (by omega) (by decide) rfl (by decide) ?_
        refine r_hNew X (pc := 129) nw_J13_87 dJ13_vectorizedHashCode_129 hk (fun h43 hk => ?_)
        refine r_dup X (pc := 132) dJ13_vectorizedHashCode_132 rfl ?_
        refine r_hNew X (pc := 133) nw_J13_89 dJ13_vectorizedHashCode_133 hk (fun h44 hk => ?_)
        refine r_dup X (pc := 136) dJ13_vectorizedHashCode_136 rfl ?_
        refine r_callI X (pc := 137) (As := []) (st := [vR (some (n + 1)), vR (some n), vR (some n)]) m_J13_91 (fun _ => s_J12_init hk) ⟨by decide, by decide⟩ (Nat.le_of_ble_eq_true rfl) dJ13_vectorizedHashCode_137 (fun v9 h45 n46 z47 hq => ?_) (fun ci48 q49 h50 n51 z52 hf => ?_)
        · obtain ⟨rfl, hk⟩ := hq
          refine ⟨[], rfl, ?_⟩
          exact hk.elim
        · have hk := hf
          exact r_out X E (fun _ h9 => nomatch h9) hk
      · have hk := hk.2 c42
        by_cases c53 : x4 = 7
        · have hk := hk.1 c53
          refine r_tswIn X (pc := 2) (j := 3) (tgt := 129) dJ13_vectorizedHashCode_2 b15 (by omega) (by decide) rfl (by decide) ?_
          refine r_hNew X (pc := 129) nw_J13_87 dJ13_vectorizedHashCode_129 hk (fun h54 hk => ?_)
          refine r_dup X (pc := 132) dJ13_vectorizedHashCode_132 rfl ?_
          refine r_hNew X (pc := 133) nw_J13_89 dJ13_vectorizedHashCode_133 hk (fun h55 hk => ?_)
          refine r_dup X (pc := 136) dJ13_vectorizedHashCode_136 rfl ?_
          refine r_callI X (pc := 137) (As := []) (st := [vR (some (n + 1)), vR (some n), vR (some n)]) m_J13_91 (fun _ => s_J12_init hk) ⟨by decide, by decide⟩ (Nat.le_of_ble_eq_true rfl) dJ13_vectorizedHashCode_137 (fun v9 h56 n57 z58 hq => ?_) (fun ci59 q60 h61 n62 z63 hf => ?_)
          · obtain ⟨rfl, hk⟩ := hq
            refine ⟨[], rfl, ?_⟩
            exact hk.elim
          · have hk := hf
            exact r_out X E (fun _ h9 => nomatch h9) hk
        · have hk := hk.2 c53
          by_cases c64 : x4 = 8
          · have hk := hk.1 c64
            refine r_tswIn X (pc := 2) (j := 4) (tgt := 90) dJ13_vectorizedHashCode_2 b15 (by omega) (by decide) rfl (by decide) ?_
            refine r_iload_n X (pc := 90) dJ13_vectorizedHashCode_90 rfl (q := 3) rfl ?_
            refine r_aload_n X (pc := 91) dJ13_vectorizedHashCode_91 rfl (q := 0) rfl ?_
            refine r_hCastA X (pc := 92) (t := 1) q875 rfl (fun _ _ h9 => h9) dJ13_vectorizedHashCode_92 hk (fun hk => ?_)
            refine r_iload_n X (pc := 95) dJ13_vectorizedHashCode_95 rfl (q := 1) rfl ?_
            refine r_iload_n X (pc := 96) dJ13_vectorizedHashCode_96 rfl (q := 2) rfl ?_
            refine r_callS X (pc := 97) (As := [vI x3, vR x0, vI x1, vI x2]) (st := []) m_J13_75 (fun _ => s_J13_hashCode_2 hk) ⟨by decide, by decide⟩ (Nat.le_of_ble_eq_true rfl) dJ13_vectorizedHashCode_97 (fun v9 h66 n67 z68 hq => ?_) (fun ci69 q70 h71 n72 z73 hf => ?_)
            · obtain ⟨r65, rfl, hk⟩ := hq
              refine ⟨[vI r65], rfl, ?_⟩
              refine r_goto X (pc := 100) (tgt := 157) dJ13_vectorizedHashCode_100 (by decide) ?_
              exact r_iret X E (pc := 157) dJ13_vectorizedHashCode_157 rfl ⟨_, rfl, hk⟩
            · have hk := hf
              exact r_out X E (fun _ h9 => nomatch h9) hk
          · have hk := hk.2 c64
            by_cases c74 : x4 = 9
            · have hk := hk.1 c74
              refine r_tswIn X (pc := 2) (j := 5) (tgt := 103) dJ13_vectorizedHashCode_2 b15 (by omega) (by decide) rfl (by decide) ?_
              refine r_iload_n X (pc := 103) dJ13_vectorizedHashCode_103 rfl (q := 3) rfl ?_
              refine r_aload_n X (pc := 104) dJ13_vectorizedHashCode_104 rfl (q := 0) rfl ?_
              refine r_hCast X (pc := 105) q902 cos__S_ dJ13_vectorizedHashCode_105 hk (fun hk => ?_)
              refine r_iload_n X (pc := 108) dJ13_vectorizedHashCode_108 rfl (q := 1) rfl ?_
              refine r_iload_n X (pc := 109) dJ13_vectorizedHashCode_109 rfl (q := 2) rfl ?_
              exact hk.elim
            · have hk := hk.2 c74
              by_cases c76 : x4 = 10
              · have hk := hk.1 c76
                refine r_tswIn X (pc := 2) (j := 6) (tgt := 116) dJ13_vectorizedHashCode_2 b15 (by omega) (by decide) rfl (by decide) ?_
                refine r_iload_n X (pc := 116) dJ13_vectorizedHashCode_116 rfl (q := 3) rfl ?_
                refine r_aload_n X (pc := 117) dJ13_vectorizedHashCode_117 rfl (q := 0) rfl ?_
                refine r_hCast X (pc := 118) q906 cos__I_ dJ13_vectorizedHashCode_118 hk (fun hk => ?_)
                refine r_iload_n X (pc := 121) dJ13_vectorizedHashCode_121 rfl (q := 1) rfl ?_
                refine r_iload_n X (pc := 122) dJ13_vectorizedHashCode_122 rfl (q := 2) rfl ?_
                exact hk.elim
              · have hk := hk.2 c76
                refine r_tswOut X (pc := 2) (tgt := 129) dJ13_vectorizedHashCode_2 b15 (by omega) (by decide) ?_
                refine r_hNew X (pc := 129) nw_J13_87 dJ13_vectorizedHashCode_129 hk (fun h16 hk => ?_)
                refine r_dup X (pc := 132) dJ13_vectorizedHashCode_132 rfl ?_
                refine r_hNew X (pc := 133) nw_J13_89 dJ13_vectorizedHashCode_133 hk (fun h17 hk => ?_)
                refine r_dup X (pc := 136) dJ13_vectorizedHashCode_136 rfl ?_
                refine r_callI X (pc := 137) (As := []) (st := [vR (some (n + 1)), vR (some n), vR (some n)]) m_J13_91 (fun _ => s_J12_init hk) ⟨by decide, by decide⟩ (Nat.le_of_ble_eq_true rfl) dJ13_vectorizedHashCode_137 (fun v9 h18 n19 z20 hq => ?_) (fun ci21 q22 h23 n24 z25 hf => ?_)
                · obtain ⟨rfl, hk⟩ := hq
                  refine ⟨[], rfl, ?_⟩
                  exact hk.elim
                · have hk := hf
                  exact r_out X E (fun _ h9 => nomatch h9) hk
theorem s_J13_vectorizedHashCode {K : KT} {l : Launch} {κ : Int → AH → Nat → Nat → Prop} {χ : QxT} {h : AH} {n : Nat} {z : Nat} {x0 : Option Nat} {x1 : Int} {x2 : Int} {x3 : Int} {x4 : Int} (hk : P_J13_vectorizedHashCode K κ χ h n z x0 x1 x2 x3 x4) : Ct K l yJ13_vectorizedHashCode (ws_ yJ13_vectorizedHashCode cJ13_vectorizedHashCode 5 (Option.some Jvm.ClassFile.FieldType.int)) 3 101 ([vR x0, vI x1, vI x2, vI x3, vI x4].map cV) h n z (QvI κ) χ :=
  ct_of (by decide +kernel) (Nat.le_of_ble_eq_true rfl) (fun Y X E => w_J13_vectorizedHashCode X E hk)
set_option maxHeartbeats 4000000 in
theorem w_J5_hashCode {K : KT} {Y : YT} {κ : Int → AH → Nat → Nat → Prop} {χ : QxT} (X : XY K "java/lang/StringLatin1" "hashCode" cJ5_hashCode (Option.some Jvm.ClassFile.FieldType.int) [] 1 4 125 Y) (E : YE K Y (QvI κ) χ) {h : AH} {n : Nat} {z : Nat} {x0 : Option Nat} (hk : P_J5_hashCode K κ χ h n z x0) : G K Y h n z 0 (lv_argsA 0 [vR x0]) [] := by
  show G K Y h n z 0 [(0, vR x0)] []
  refine r_aload_n X (pc := 0) dJ5_hashCode_0 rfl (q := 0) rfl ?_
  refine r_hLen X (pc := 1) (t := 1) rfl dJ5_hashCode_1 hk (fun y5 hk => ?_)
  obtain ⟨b6, hk⟩ := hk
  by_cases c17 : y5 = 0
  · have hk := hk.1 c17
    refine r_lsw X (pc := 2) (tgt := 28) dJ5_hashCode_2 b6 (by decide) (off := 26) (by rw [c17]; first | done | rfl) (by decide) ?_
    refine r_iconst X (pc := 28) dJ5_hashCode_28 ?_
    refine r_goto X (pc := 29) (tgt := 51) dJ5_hashCode_29 (by decide) ?_
    exact r_iret X E (pc := 51) dJ5_hashCode_51 rfl ⟨_, rfl, hk⟩
  · have hk := hk.2 c17
    by_cases c18 : y5 = 1
    · have hk := hk.1 c18
      refine r_lsw X (pc := 2) (tgt := 32) dJ5_hashCode_2 b6 (by decide) (off := 30) (by rw [c18]; first | done | rfl) (by decide) ?_
      refine r_aload_n X (pc := 32) dJ5_hashCode_32 rfl (q := 0) rfl ?_
      refine r_iconst X (pc := 33) dJ5_hashCode_33 ?_
      refine r_hAB X (pc := 34) dJ5_hashCode_34 hk (fun y19 hk => ?_)
      refine r_sipush X (pc := 35) dJ5_hashCode_35 (by decide) ?_
      refine r_iand X (pc := 38) dJ5_hashCode_38 ?_
      refine r_goto X (pc := 39) (tgt := 51) dJ5_hashCode_39 (by decide) ?_
      exact r_iret X E (pc := 51) dJ5_hashCode_51 rfl ⟨_, rfl, hk⟩
    · have hk := hk.2 c18
      refine r_lsw X (pc := 2) (tgt := 42) dJ5_hashCode_2 b6 (by decide) (off := 40) (by simp only [Op.lookupswitch.offset, beq_iff_eq, c17, Ne.symm c17, c18, Ne.symm c18, if_false, ↓reduceIte]) (by decide) ?_
      refine r_aload_n X (pc := 42) dJ5_hashCode_42 rfl (q := 0) rfl ?_
      refine r_iconst X (pc := 43) dJ5_hashCode_43 ?_
      refine r_aload_n X (pc := 44) dJ5_hashCode_44 rfl (q := 0) rfl ?_
      refine r_hLen X (pc := 45) (t := 1) rfl dJ5_hashCode_45 hk (fun y7 hk => ?_)
      refine r_iconst X (pc := 46) dJ5_hashCode_46 ?_
      refine r_iconst X (pc := 47) dJ5_hashCode_47 ?_
      refine r_callS X (pc := 48) (As := [vR x0, vI 0, vI y7, vI 0, vI 4]) (st := []) m_J5_84 (fun _ => s_J13_vectorizedHashCode hk) ⟨by decide, by decide⟩ (Nat.le_of_ble_eq_true rfl) dJ5_hashCode_48 (fun v9 h9 n10 z11 hq => ?_) (fun ci12 q13 h14 n15 z16 hf => ?_)
      · obtain ⟨r8, rfl, hk⟩ := hq
        refine ⟨[vI r8], rfl, ?_⟩
        exact r_iret X E (pc := 51) dJ5_hashCode_51 rfl ⟨_, rfl, hk⟩
      · have hk := hf
        exact r_out X E (fun _ h9 => nomatch h9) hk
theorem s_J5_hashCode {K : KT} {l : Launch} {κ : Int → AH → Nat → Nat → Prop} {χ : QxT} {h : AH} {n : Nat} {z : Nat} {x0 : Option Nat} (hk : P_J5_hashCode K κ χ h n z x0) : Ct K l yJ5_hashCode (ws_ yJ5_hashCode cJ5_hashCode 1 (Option.some Jvm.ClassFile.FieldType.int)) 4 125 ([vR x0].map cV) h n z (QvI κ) χ :=
  ct_of (by decide +kernel) (Nat.le_of_ble_eq_true rfl) (fun Y X E => w_J5_hashCode X E hk)
set_option maxHeartbeats 4000000 in
theorem w_J4_hashCode_40 {K : KT} {Y : YT} {o : Nat} {κ : Int → AH → Nat → Nat → Prop} {χ : QxT} (X : XY K "java/lang/String" "hashCode" cJ4_hashCode (Option.some Jvm.ClassFile.FieldType.int) [] 2 5 145 Y) (E : YE K Y (QvI κ) χ) : ∀ (h : AH) (n : Nat) (z : Nat) (s0 : Int), P_J4_hashCode_40 K o κ χ h n z s0 → G K Y h n z 40 [(0, vR (some o))] [vI s0] := by
  intro h n z s0 hk
  refine r_istore_n X (pc := 40) (lv1 := [(1, vI s0), (0, vR (some o))]) dJ4_hashCode_40 rfl (by decide) rfl ?_
  refine r_iload_n X (pc := 41) dJ4_hashCode_41 rfl (q := 0) rfl ?_
  obtain ⟨b18, hk⟩ := hk
  refine r_if_ne X (pc := 42) (tgt := 53) dJ4_hashCode_42 (by decide) b18 (fun c19 => ?_) (fun c19 => ?_)
  · have hk := hk.2 c19
    refine r_aload_n X (pc := 53) dJ4_hashCode_53 rfl (q := 1) rfl ?_
    refine r_iload_n X (pc := 54) dJ4_hashCode_54 rfl (q := 0) rfl ?_
    refine r_hPut X (pc := 55) fp_J4_19 rfl rfl dJ4_hashCode_55 hk (fun h20 hk => ?_)
    refine r_iload_n X (pc := 58) dJ4_hashCode_58 rfl (q := 0) rfl ?_
    exact r_iret X E (pc := 59) dJ4_hashCode_59 rfl ⟨_, rfl, hk⟩
  · have hk := hk.1 c19
    refine r_aload_n X (pc := 45) dJ4_hashCode_45 rfl (q := 1) rfl ?_
    refine r_iconst X (pc := 46) dJ4_hashCode_46 ?_
    refine r_hPut X (pc := 47) fp_J4_23 (fit_bool (Or.inr rfl)).1 (fit_bool (Or.inr rfl)).2 dJ4_hashCode_47 hk (fun h21 hk => ?_)
    refine r_goto X (pc := 50) (tgt := 58) dJ4_hashCode_50 (by decide) ?_
    refine r_iload_n X (pc := 58) dJ4_hashCode_58 rfl (q := 0) rfl ?_
    exact r_iret X E (pc := 59) dJ4_hashCode_59 rfl ⟨_, rfl, hk⟩
set_option maxHeartbeats 4000000 in
theorem w_J4_hashCode {K : KT} {Y : YT} {o : Nat} {κ : Int → AH → Nat → Nat → Prop} {χ : QxT} (X : XY K "java/lang/String" "hashCode" cJ4_hashCode (Option.some Jvm.ClassFile.FieldType.int) [] 2 5 145 Y) (E : YE K Y (QvI κ) χ) {h : AH} {n : Nat} {z : Nat} (hk : P_J4_hashCode K o κ χ h n z) : G K Y h n z 0 (lv_argsA 0 [vR (some o)]) [] := by
  show G K Y h n z 0 [(0, vR (some o))] []
  refine r_aload_n X (pc := 0) dJ4_hashCode_0 rfl (q := 0) rfl ?_
  refine r_hGI X (pc := 1) fa_J4_19 dJ4_hashCode_1 hk (fun y22 hk => ?_)
  refine r_istore_n X (pc := 4) (lv1 := [(1, vI y22), (0, vR (some o))]) dJ4_hashCode_4 rfl (by decide) rfl ?_
  refine r_iload_n X (pc := 5) dJ4_hashCode_5 rfl (q := 0) rfl ?_
  obtain ⟨b23, hk⟩ := hk
  refine r_if_ne X (pc := 6) (tgt := 58) dJ4_hashCode_6 (by decide) b23 (fun c24 => ?_) (fun c24 => ?_)
  · have hk := hk.2 c24
    refine r_iload_n X (pc := 58) dJ4_hashCode_58 rfl (q := 0) rfl ?_
    exact r_iret X E (pc := 59) dJ4_hashCode_59 rfl ⟨_, rfl, hk⟩
  · have hk := hk.1 c24
    refine r_aload_n X (pc := 9) dJ4_hashCode_9 rfl (q := 1) rfl ?_
    refine r_hGI X (pc := 10) fa_J4_23 dJ4_hashCode_10 hk (fun y25 hk => ?_)
    obtain ⟨b26, hk⟩ := hk
    refine r_if_ne X (pc := 13) (tgt := 58) dJ4_hashCode_13 (by decide) b26 (fun c27 => ?_) (fun c27 => ?_)
    · have hk := hk.2 c27
      refine r_iload_n X (pc := 58) dJ4_hashCode_58 rfl (q := 0) rfl ?_
      exact r_iret X E (pc := 59) dJ4_hashCode_59 rfl ⟨_, rfl, hk⟩
    · have hk := hk.1 c27
      refine r_aload_n X (pc := 16) dJ4_hashCode_16 rfl (q := 1) rfl ?_
      obtain ⟨o51, fs52, e9, b53, hk⟩ := hk
      refine r_callV X (pc := 17) (As := []) (st := []) rfl rfl e9 b53 m_J4_492 (fun _ => s_J4_isLatin1 hk) ⟨by decide, by decide⟩ (Nat.le_of_ble_eq_true rfl) dJ4_hashCode_17 (fun v9 h29 n30 z31 hq => ?_) (fun ci46 q47 h48 n49 z50 hf => ?_)
      · obtain ⟨r28, rfl, hk⟩ := hq
        refine ⟨[vI r28], rfl, ?_⟩
        obtain ⟨b32, hk⟩ := hk
        refine r_if_eq X (pc := 20) (tgt := 33) dJ4_hashCode_20 (by decide) b32 (fun c33 => ?_) (fun c33 => ?_)
        · have hk := hk.1 c33
          refine r_aload_n X (pc := 33) dJ4_hashCode_33 rfl (q := 1) rfl ?_
          refine r_hGR X (pc := 34) fa_J4_9 dJ4_hashCode_34 hk (fun y34 hk => ?_)
          exact hk.elim
        · have hk := hk.2 c33
          refine r_aload_n X (pc := 23) dJ4_hashCode_23 rfl (q := 1) rfl ?_
          refine r_hGR X (pc := 24) fa_J4_9 dJ4_hashCode_24 hk (fun y36 hk => ?_)
          refine r_callS X (pc := 27) (As := [vR y36]) (st := []) m_J4_628 (fun _ => s_J5_hashCode hk) ⟨by decide, by decide⟩ (Nat.le_of_ble_eq_true rfl) dJ4_hashCode_27 (fun v9 h38 n39 z40 hq => ?_) (fun ci41 q42 h43 n44 z45 hf => ?_)
          · obtain ⟨r37, rfl, hk⟩ := hq
            refine ⟨[vI r37], rfl, ?_⟩
            refine r_goto X (pc := 30) (tgt := 40) dJ4_hashCode_30 (by decide) ?_
            refine G.sub [1] rfl ?_
            exact w_J4_hashCode_40 X E h38 n39 z40 r37 hk
          · have hk := hf
            exact r_out X E (fun _ h9 => nomatch h9) hk
      · have hk := hf
        exact r_out X E (fun _ h9 => nomatch h9) hk
theorem s_J4_hashCode {K : KT} {l : Launch} {o : Nat} {κ : Int → AH → Nat → Nat → Prop} {χ : QxT} {h : AH} {n : Nat} {z : Nat} (hk : P_J4_hashCode K o κ χ h n z) : Ct K l yJ4_hashCode (ws_ yJ4_hashCode cJ4_hashCode 2 (Option.some Jvm.ClassFile.FieldType.int)) 5 145 ([vR (some o)].map cV) h n z (QvI κ) χ :=
  ct_of (by decide +kernel) (Nat.le_of_ble_eq_true rfl) (fun Y X E => w_J4_hashCode X E hk)
