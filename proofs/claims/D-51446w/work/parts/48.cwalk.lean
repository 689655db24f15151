set_option maxRecDepth 100000
set_option maxHeartbeats 4000000 in
theorem w_J0_init {K : KT} {Y : YT} {o : Nat} {κ : AH → Nat → Nat → Prop} {χ : QxT} (X : XY K "java/util/AbstractCollection" "<init>" cJ0_init none [] 1 1 60 Y) (E : YE K Y (QvV κ) χ) {h : AH} {n : Nat} {z : Nat} (hk : P_J0_init K o κ χ h n z) : G K Y h n z 0 (lv_argsA 0 [vR (some o)]) [] := by
  show G K Y h n z 0 [(0, vR (some o))] []
  refine r_aload_n X (pc := 0) dJ0_init_0 rfl (q := 0) rfl ?_
  refine r_objinit X (pc := 1) q261 q203 q204 ⟨by decide, Nat.le_of_ble_eq_true rfl⟩ dJ0_init_1 ?_
  exact r_vret X E (pc := 4) dJ0_init_4 ⟨rfl, hk⟩
theorem s_J0_init {K : KT} {l : Launch} {o : Nat} {κ : AH → Nat → Nat → Prop} {χ : QxT} {h : AH} {n : Nat} {z : Nat} (hk : P_J0_init K o κ χ h n z) : Ct K l yJ0_init (ws_ yJ0_init cJ0_init 1 none) 1 60 ([vR (some o)].map cV) h n z (QvV κ) χ :=
  ct_of (by decide +kernel) (Nat.le_of_ble_eq_true rfl) (fun Y X E => w_J0_init X E hk)
set_option maxHeartbeats 4000000 in
theorem w_J1_init {K : KT} {Y : YT} {o : Nat} {κ : AH → Nat → Nat → Prop} {χ : QxT} (X : XY K "java/util/ArrayDeque" "<init>" cJ1_init none [] 1 2 80 Y) (E : YE K Y (QvV κ) χ) {h : AH} {n : Nat} {z : Nat} (hk : P_J1_init K o κ χ h n z) : G K Y h n z 0 (lv_argsA 0 [vR (some o)]) [] := by
  show G K Y h n z 0 [(0, vR (some o))] []
  refine r_aload_n X (pc := 0) dJ1_init_0 rfl (q := 0) rfl ?_
  refine r_callI X (pc := 1) (As := []) (st := []) m_J1_42 (fun _ => s_J0_init hk) ⟨by decide, by decide⟩ (Nat.le_of_ble_eq_true rfl) dJ1_init_1 (fun v9 h3 n4 z5 hq => ?_) (fun ci8 q9 h10 n11 z12 hf => ?_)
  · obtain ⟨rfl, hk⟩ := hq
    refine ⟨[], rfl, ?_⟩
    refine r_aload_n X (pc := 4) dJ1_init_4 rfl (q := 0) rfl ?_
    refine r_bipush X (pc := 5) dJ1_init_5 (by decide) ?_
    refine r_hAnew X (pc := 7) (t := 8) rfl q262 q263 dJ1_init_7 hk (fun h6 hk => ?_)
    refine r_hPut X (pc := 10) fp_J1_3 (fit_arr (some n4)).1 (fit_arr (some n4)).2 dJ1_init_10 hk (fun h7 hk => ?_)
    exact r_vret X E (pc := 13) dJ1_init_13 ⟨rfl, hk⟩
  · have hk := hf
    exact r_out X E (fun _ h9 => nomatch h9) hk
theorem s_J1_init {K : KT} {l : Launch} {o : Nat} {κ : AH → Nat → Nat → Prop} {χ : QxT} {h : AH} {n : Nat} {z : Nat} (hk : P_J1_init K o κ χ h n z) : Ct K l yJ1_init (ws_ yJ1_init cJ1_init 1 none) 2 80 ([vR (some o)].map cV) h n z (QvV κ) χ :=
  ct_of (by decide +kernel) (Nat.le_of_ble_eq_true rfl) (fun Y X E => w_J1_init X E hk)
set_option maxHeartbeats 4000000 in
theorem w_J1_sub {K : KT} {Y : YT} {Qx : QxT} {h : AH} {n z : Nat} {κ : Int → Prop} (X : XY K "java/util/ArrayDeque" "sub" cJ1_sub (Option.some Jvm.ClassFile.FieldType.int) [] 3 0 0 Y) (E : YE K Y (pQ h n z κ) Qx) {x0 : Int} {x1 : Int} {x2 : Int} (hk : P_J1_sub κ x0 x1 x2) : G K Y h n z 0 (lv_argsA 0 [vI x0, vI x1, vI x2]) [] := by
  show G K Y h n z 0 [(0, vI x0), (1, vI x1), (2, vI x2)] []
  refine r_iload_n X (pc := 0) dJ1_sub_0 rfl (q := 0) rfl ?_
  refine r_iload_n X (pc := 1) dJ1_sub_1 rfl (q := 1) rfl ?_
  refine r_isub X (pc := 2) dJ1_sub_2 ?_
  refine r_dup X (pc := 3) dJ1_sub_3 rfl ?_
  refine r_istore_n X (pc := 4) (lv1 := [(0, vI (x0 - x1)), (1, vI x1), (2, vI x2)]) dJ1_sub_4 rfl (by decide) rfl ?_
  obtain ⟨b3, hk⟩ := hk
  refine r_if_ge X (pc := 5) (tgt := 12) dJ1_sub_5 (by decide) b3 (fun c4 => ?_) (fun c4 => ?_)
  · have hk := hk.2 c4
    refine r_iload_n X (pc := 12) dJ1_sub_12 rfl (q := 0) rfl ?_
    exact r_iret X E (pc := 13) dJ1_sub_13 rfl ⟨_, rfl, rfl, rfl, rfl, hk⟩
  · have hk := hk.1 c4
    refine r_iload_n X (pc := 8) dJ1_sub_8 rfl (q := 0) rfl ?_
    refine r_iload_n X (pc := 9) dJ1_sub_9 rfl (q := 2) rfl ?_
    refine r_iadd X (pc := 10) dJ1_sub_10 ?_
    refine r_istore_n X (pc := 11) (lv1 := [(0, vI ((x0 - x1) + x2)), (1, vI x1), (2, vI x2)]) dJ1_sub_11 rfl (by decide) rfl ?_
    refine r_iload_n X (pc := 12) dJ1_sub_12 rfl (q := 0) rfl ?_
    exact r_iret X E (pc := 13) dJ1_sub_13 rfl ⟨_, rfl, rfl, rfl, rfl, hk⟩
theorem s_J1_sub {K : KT} {l : Launch} {n z : Nat} {h : AH} {κ : Int → Prop} {x0 : Int} {x1 : Int} {x2 : Int} (hk : P_J1_sub κ x0 x1 x2) : Ct K l yJ1_sub (ws_ yJ1_sub cJ1_sub 3 (Option.some Jvm.ClassFile.FieldType.int)) 0 0 ([vI x0, vI x1, vI x2].map cV) h n z (pQ h n z κ) noX :=
  ct_of (by decide +kernel) (Nat.le_of_ble_eq_true rfl) (fun Y X E => w_J1_sub X E hk)
set_option maxHeartbeats 4000000 in
theorem w_J1_size {K : KT} {Y : YT} {o : Nat} {κ : Int → AH → Nat → Nat → Prop} {χ : QxT} (X : XY K "java/util/ArrayDeque" "size" cJ1_size (Option.some Jvm.ClassFile.FieldType.int) [] 1 1 22 Y) (E : YE K Y (QvI κ) χ) {h : AH} {n : Nat} {z : Nat} (hk : P_J1_size K o κ χ h n z) : G K Y h n z 0 (lv_argsA 0 [vR (some o)]) [] := by
  show G K Y h n z 0 [(0, vR (some o))] []
  refine r_aload_n X (pc := 0) dJ1_size_0 rfl (q := 0) rfl ?_
  refine r_hGI X (pc := 1) fa_J1_20 dJ1_size_1 hk (fun y6 hk => ?_)
  refine r_aload_n X (pc := 4) dJ1_size_4 rfl (q := 0) rfl ?_
  refine r_hGI X (pc := 5) fa_J1_24 dJ1_size_5 hk (fun y7 hk => ?_)
  refine r_aload_n X (pc := 8) dJ1_size_8 rfl (q := 0) rfl ?_
  refine r_hGR X (pc := 9) fa_J1_3 dJ1_size_9 hk (fun y8 hk => ?_)
  refine r_hLen X (pc := 12) (t := 8) rfl dJ1_size_12 hk (fun y9 hk => ?_)
  refine r_callS X (pc := 13) (As := [vI y6, vI y7, vI y9]) (st := []) m_J1_127 (fun _ => s_J1_sub hk) ⟨by decide, by decide⟩ (Nat.le_of_ble_eq_true rfl) dJ1_size_13 (fun v9 h9 n9 z9 hq => ?_) (fun ci9 q9 h9 n9 z9 hf => ?_)
  · obtain ⟨r10, rfl, rfl, rfl, rfl, hk⟩ := hq
    refine ⟨[vI r10], rfl, ?_⟩
    exact r_iret X E (pc := 16) dJ1_size_16 rfl ⟨_, rfl, hk⟩
  · exact hf.elim
theorem s_J1_size {K : KT} {l : Launch} {o : Nat} {κ : Int → AH → Nat → Nat → Prop} {χ : QxT} {h : AH} {n : Nat} {z : Nat} (hk : P_J1_size K o κ χ h n z) : Ct K l yJ1_size (ws_ yJ1_size cJ1_size 1 (Option.some Jvm.ClassFile.FieldType.int)) 1 22 ([vR (some o)].map cV) h n z (QvI κ) χ :=
  ct_of (by decide +kernel) (Nat.le_of_ble_eq_true rfl) (fun Y X E => w_J1_size X E hk)
set_option maxHeartbeats 4000000 in
theorem w_J1_isEmpty {K : KT} {Y : YT} {o : Nat} {κ : Int → AH → Nat → Nat → Prop} {χ : QxT} (X : XY K "java/util/ArrayDeque" "isEmpty" cJ1_isEmpty (Option.some Jvm.ClassFile.FieldType.boolean) [] 1 0 0 Y) (E : YE K Y (QvI κ) χ) {h : AH} {n : Nat} {z : Nat} (hk : P_J1_isEmpty K o κ χ h n z) : G K Y h n z 0 (lv_argsA 0 [vR (some o)]) [] := by
  show G K Y h n z 0 [(0, vR (some o))] []
  refine r_aload_n X (pc := 0) dJ1_isEmpty_0 rfl (q := 0) rfl ?_
  refine r_hGI X (pc := 1) fa_J1_24 dJ1_isEmpty_1 hk (fun y6 hk => ?_)
  refine r_aload_n X (pc := 4) dJ1_isEmpty_4 rfl (q := 0) rfl ?_
  refine r_hGI X (pc := 5) fa_J1_20 dJ1_isEmpty_5 hk (fun y7 hk => ?_)
  obtain ⟨b8, b9, hk⟩ := hk
  refine r_icmp_ne X (pc := 8) (tgt := 15) dJ1_isEmpty_8 (by decide) ⟨b8, b9⟩ (fun c10 => ?_) (fun c10 => ?_)
  · have hk := hk.2 c10
    refine r_iconst X (pc := 15) dJ1_isEmpty_15 ?_
    exact r_iret X E (pc := 16) dJ1_isEmpty_16 rfl ⟨_, rfl, hk⟩
  · have hk := hk.1 c10
    refine r_iconst X (pc := 11) dJ1_isEmpty_11 ?_
    refine r_goto X (pc := 12) (tgt := 16) dJ1_isEmpty_12 (by decide) ?_
    exact r_iret X E (pc := 16) dJ1_isEmpty_16 rfl ⟨_, rfl, hk⟩
theorem s_J1_isEmpty {K : KT} {l : Launch} {o : Nat} {κ : Int → AH → Nat → Nat → Prop} {χ : QxT} {h : AH} {n : Nat} {z : Nat} (hk : P_J1_isEmpty K o κ χ h n z) : Ct K l yJ1_isEmpty (ws_ yJ1_isEmpty cJ1_isEmpty 1 (Option.some Jvm.ClassFile.FieldType.boolean)) 0 0 ([vR (some o)].map cV) h n z (QvI κ) χ :=
  ct_of (by decide +kernel) (Nat.le_of_ble_eq_true rfl) (fun Y X E => w_J1_isEmpty X E hk)
set_option maxHeartbeats 4000000 in
theorem w_J1_elementAt {K : KT} {Y : YT} {κ : Option Nat → AH → Nat → Nat → Prop} {χ : QxT} (X : XY K "java/util/ArrayDeque" "elementAt" cJ1_elementAt (Option.some (Jvm.ClassFile.FieldType.object "java/lang/Object")) [] 2 0 0 Y) (E : YE K Y (QvR κ) χ) {h : AH} {n : Nat} {z : Nat} {x0 : Option Nat} {x1 : Int} (hk : P_J1_elementAt K κ χ h n z x0 x1) : G K Y h n z 0 (lv_argsA 0 [vR x0, vI x1]) [] := by
  show G K Y h n z 0 [(0, vR x0), (1, vI x1)] []
  refine r_aload_n X (pc := 0) dJ1_elementAt_0 rfl (q := 0) rfl ?_
  refine r_iload_n X (pc := 1) dJ1_elementAt_1 rfl (q := 1) rfl ?_
  refine r_hAR X (pc := 2) (t := 8) rfl dJ1_elementAt_2 hk (fun y2 hk => ?_)
  exact r_aret X E (Or.inl ⟨_, rfl⟩) (pc := 3) dJ1_elementAt_3 ⟨_, rfl, hk⟩
theorem s_J1_elementAt {K : KT} {l : Launch} {κ : Option Nat → AH → Nat → Nat → Prop} {χ : QxT} {h : AH} {n : Nat} {z : Nat} {x0 : Option Nat} {x1 : Int} (hk : P_J1_elementAt K κ χ h n z x0 x1) : Ct K l yJ1_elementAt (ws_ yJ1_elementAt cJ1_elementAt 2 (Option.some (Jvm.ClassFile.FieldType.object "java/lang/Object"))) 0 0 ([vR x0, vI x1].map cV) h n z (QvR κ) χ :=
  ct_of (by decide +kernel) (Nat.le_of_ble_eq_true rfl) (fun Y X E => w_J1_elementAt X E hk)
set_option maxHeartbeats 4000000 in
theorem w_J1_inc {K : KT} {Y : YT} {Qx : QxT} {h : AH} {n z : Nat} {κ : Int → Prop} (X : XY K "java/util/ArrayDeque" "inc" cJ1_inc (Option.some Jvm.ClassFile.FieldType.int) [] 2 0 0 Y) (E : YE K Y (pQ h n z κ) Qx) {x0 : Int} {x1 : Int} (hk : P_J1_inc κ x0 x1) : G K Y h n z 0 (lv_argsA 0 [vI x0, vI x1]) [] := by
  show G K Y h n z 0 [(0, vI x0), (1, vI x1)] []
  refine r_iinc X (pc := 0) (q := 0) (lv1 := [(0, vI (x0 + 1)), (1, vI x1)]) dJ1_inc_0 rfl (by decide) rfl ?_
  refine r_iload_n X (pc := 3) dJ1_inc_3 rfl (q := 0) rfl ?_
  refine r_iload_n X (pc := 4) dJ1_inc_4 rfl (q := 1) rfl ?_
  obtain ⟨b4, b5, hk⟩ := hk
  refine r_icmp_lt X (pc := 5) (tgt := 10) dJ1_inc_5 (by decide) ⟨b4, b5⟩ (fun c6 => ?_) (fun c6 => ?_)
  · have hk := hk.1 c6
    refine r_iload_n X (pc := 10) dJ1_inc_10 rfl (q := 0) rfl ?_
    exact r_iret X E (pc := 11) dJ1_inc_11 rfl ⟨_, rfl, rfl, rfl, rfl, hk⟩
  · have hk := hk.2 c6
    refine r_iconst X (pc := 8) dJ1_inc_8 ?_
    refine r_istore_n X (pc := 9) (lv1 := [(0, vI 0), (1, vI x1)]) dJ1_inc_9 rfl (by decide) rfl ?_
    refine r_iload_n X (pc := 10) dJ1_inc_10 rfl (q := 0) rfl ?_
    exact r_iret X E (pc := 11) dJ1_inc_11 rfl ⟨_, rfl, rfl, rfl, rfl, hk⟩
theorem s_J1_inc {K : KT} {l : Launch} {n z : Nat} {h : AH} {κ : Int → Prop} {x0 : Int} {x1 : Int} (hk : P_J1_inc κ x0 x1) : Ct K l yJ1_inc (ws_ yJ1_inc cJ1_inc 2 (Option.some Jvm.ClassFile.FieldType.int)) 0 0 ([vI x0, vI x1].map cV) h n z (pQ h n z κ) noX :=
  ct_of (by decide +kernel) (Nat.le_of_ble_eq_true rfl) (fun Y X E => w_J1_inc X E hk)
set_option maxHeartbeats 4000000 in
theorem w_J1_pollFirst {K : KT} {Y : YT} {o : Nat} {κ : Option Nat → AH → Nat → Nat → Prop} {χ : QxT} (X : XY K "java/util/ArrayDeque" "pollFirst" cJ1_pollFirst (Option.some (Jvm.ClassFile.FieldType.object "java/lang/Object")) [] 4 1 21 Y) (E : YE K Y (QvR κ) χ) {h : AH} {n : Nat} {z : Nat} (hk : P_J1_pollFirst K o κ χ h n z) : G K Y h n z 0 (lv_argsA 0 [vR (some o)]) [] := by
  show G K Y h n z 0 [(0, vR (some o))] []
  refine r_aload_n X (pc := 0) dJ1_pollFirst_0 rfl (q := 0) rfl ?_
  refine r_hGR X (pc := 1) fa_J1_3 dJ1_pollFirst_1 hk (fun y9 hk => ?_)
  refine r_dup X (pc := 4) dJ1_pollFirst_4 rfl ?_
  refine r_astore_n X (pc := 5) (lv1 := [(1, vR y9), (0, vR (some o))]) dJ1_pollFirst_5 rfl (by decide) rfl ?_
  refine r_aload_n X (pc := 6) dJ1_pollFirst_6 rfl (q := 1) rfl ?_
  refine r_hGI X (pc := 7) fa_J1_24 dJ1_pollFirst_7 hk (fun y10 hk => ?_)
  refine r_dup X (pc := 10) dJ1_pollFirst_10 rfl ?_
  refine r_istore_n X (pc := 11) (lv1 := [(2, vI y10), (1, vR y9), (0, vR (some o))]) dJ1_pollFirst_11 rfl (by decide) rfl ?_
  refine r_callS X (pc := 12) (As := [vR y9, vI y10]) (st := []) m_J1_103 (fun _ => s_J1_elementAt hk) ⟨by decide, by decide⟩ (Nat.le_of_ble_eq_true rfl) dJ1_pollFirst_12 (fun v9 h12 n13 z14 hq => ?_) (fun ci20 q21 h22 n23 z24 hf => ?_)
  · obtain ⟨r11, rfl, hk⟩ := hq
    refine ⟨[vR r11], rfl, ?_⟩
    refine r_astore_n X (pc := 15) (lv1 := [(3, vR r11), (2, vI y10), (1, vR y9), (0, vR (some o))]) dJ1_pollFirst_15 rfl (by decide) rfl ?_
    refine r_aload_n X (pc := 16) dJ1_pollFirst_16 rfl (q := 0) rfl ?_
    refine r_ifnull X (pc := 17) (tgt := 34) dJ1_pollFirst_17 (by decide) (fun c15 => ?_) (fun c15 => ?_)
    · have hk := hk.1 c15
      refine r_aload_n X (pc := 34) dJ1_pollFirst_34 rfl (q := 0) rfl ?_
      exact r_aret X E (Or.inl ⟨_, rfl⟩) (pc := 35) dJ1_pollFirst_35 ⟨_, rfl, hk⟩
    · have hk := hk.2 c15
      refine r_aload_n X (pc := 20) dJ1_pollFirst_20 rfl (q := 2) rfl ?_
      refine r_iload_n X (pc := 21) dJ1_pollFirst_21 rfl (q := 1) rfl ?_
      refine r_null X (pc := 22) dJ1_pollFirst_22 ?_
      refine r_hSR X (pc := 23) (t := 8) rfl cos_java_lang_Object_1 dJ1_pollFirst_23 hk (fun h16 hk => ?_)
      refine r_aload_n X (pc := 24) dJ1_pollFirst_24 rfl (q := 3) rfl ?_
      refine r_iload_n X (pc := 25) dJ1_pollFirst_25 rfl (q := 1) rfl ?_
      refine r_aload_n X (pc := 26) dJ1_pollFirst_26 rfl (q := 2) rfl ?_
      refine r_hLen X (pc := 27) (t := 8) rfl dJ1_pollFirst_27 hk (fun y17 hk => ?_)
      refine r_callS X (pc := 28) (As := [vI y10, vI y17]) (st := [vR (some o)]) m_J1_74 (fun _ => s_J1_inc hk) ⟨by decide, by decide⟩ (Nat.le_of_ble_eq_true rfl) dJ1_pollFirst_28 (fun v9 h9 n9 z9 hq => ?_) (fun ci9 q9 h9 n9 z9 hf => ?_)
      · obtain ⟨r18, rfl, rfl, rfl, rfl, hk⟩ := hq
        refine ⟨[vI r18], rfl, ?_⟩
        refine r_hPut X (pc := 31) fp_J1_24 rfl rfl dJ1_pollFirst_31 hk (fun h19 hk => ?_)
        refine r_aload_n X (pc := 34) dJ1_pollFirst_34 rfl (q := 0) rfl ?_
        exact r_aret X E (Or.inl ⟨_, rfl⟩) (pc := 35) dJ1_pollFirst_35 ⟨_, rfl, hk⟩
      · exact hf.elim
  · have hk := hf
    exact r_out X E (fun _ h9 => nomatch h9) hk
theorem s_J1_pollFirst {K : KT} {l : Launch} {o : Nat} {κ : Option Nat → AH → Nat → Nat → Prop} {χ : QxT} {h : AH} {n : Nat} {z : Nat} (hk : P_J1_pollFirst K o κ χ h n z) : Ct K l yJ1_pollFirst (ws_ yJ1_pollFirst cJ1_pollFirst 4 (Option.some (Jvm.ClassFile.FieldType.object "java/lang/Object"))) 1 21 ([vR (some o)].map cV) h n z (QvR κ) χ :=
  ct_of (by decide +kernel) (Nat.le_of_ble_eq_true rfl) (fun Y X E => w_J1_pollFirst X E hk)
set_option maxHeartbeats 4000000 in
theorem w_J1_removeFirst {K : KT} {Y : YT} {o : Nat} {κ : Option Nat → AH → Nat → Nat → Prop} {χ : QxT} (X : XY K "java/util/ArrayDeque" "removeFirst" cJ1_removeFirst (Option.some (Jvm.ClassFile.FieldType.object "java/lang/Object")) [] 2 2 44 Y) (E : YE K Y (QvR κ) χ) {h : AH} {n : Nat} {z : Nat} (hk : P_J1_removeFirst K o κ χ h n z) : G K Y h n z 0 (lv_argsA 0 [vR (some o)]) [] := by
  show G K Y h n z 0 [(0, vR (some o))] []
  refine r_aload_n X (pc := 0) dJ1_removeFirst_0 rfl (q := 0) rfl ?_
  obtain ⟨o13, fs14, e9, b15, hk⟩ := hk
  refine r_callV X (pc := 1) (As := []) (st := []) rfl rfl e9 b15 m_J1_93 (fun _ => s_J1_pollFirst hk) ⟨by decide, by decide⟩ (Nat.le_of_ble_eq_true rfl) dJ1_removeFirst_1 (fun v9 h4 n5 z6 hq => ?_) (fun ci8 q9 h10 n11 z12 hf => ?_)
  · obtain ⟨r3, rfl, hk⟩ := hq
    refine ⟨[vR r3], rfl, ?_⟩
    refine r_astore_n X (pc := 4) (lv1 := [(1, vR r3), (0, vR (some o))]) dJ1_removeFirst_4 rfl (by decide) rfl ?_
    refine r_aload_n X (pc := 5) dJ1_removeFirst_5 rfl (q := 0) rfl ?_
    refine r_ifnonnull X (pc := 6) (tgt := 17) dJ1_removeFirst_6 (by decide) (fun c7 => ?_) (fun c7 => ?_)
    · have hk := hk.2 c7
      refine r_aload_n X (pc := 17) dJ1_removeFirst_17 rfl (q := 0) rfl ?_
      exact r_aret X E (Or.inl ⟨_, rfl⟩) (pc := 18) dJ1_removeFirst_18 ⟨_, rfl, hk⟩
    · have hk := hk.1 c7
      exact hk.elim
  · have hk := hf
    exact r_out X E (fun _ h9 => nomatch h9) hk
theorem s_J1_removeFirst {K : KT} {l : Launch} {o : Nat} {κ : Option Nat → AH → Nat → Nat → Prop} {χ : QxT} {h : AH} {n : Nat} {z : Nat} (hk : P_J1_removeFirst K o κ χ h n z) : Ct K l yJ1_removeFirst (ws_ yJ1_removeFirst cJ1_removeFirst 2 (Option.some (Jvm.ClassFile.FieldType.object "java/lang/Object"))) 2 44 ([vR (some o)].map cV) h n z (QvR κ) χ :=
  ct_of (by decide +kernel) (Nat.le_of_ble_eq_true rfl) (fun Y X E => w_J1_removeFirst X E hk)
set_option maxHeartbeats 4000000 in
theorem w_J1_addLast {K : KT} {Y : YT} {o : Nat} {κ : AH → Nat → Nat → Prop} {χ : QxT} (X : XY K "java/util/ArrayDeque" "addLast" cJ1_addLast (Option.none : Option Jvm.ClassFile.FieldType) [] 3 1 21 Y) (E : YE K Y (QvV κ) χ) {h : AH} {n : Nat} {z : Nat} {x1 : Option Nat} (hk : P_J1_addLast K o κ χ h n z x1) : G K Y h n z 0 (lv_argsA 0 [vR (some o), vR x1]) [] := by
  show G K Y h n z 0 [(0, vR (some o)), (1, vR x1)] []
  refine r_aload_n X (pc := 0) dJ1_addLast_0 rfl (q := 1) rfl ?_
  refine r_ifnonnull X (pc := 1) (tgt := 12) dJ1_addLast_1 (by decide) (fun c13 => ?_) (fun c13 => ?_)
  · have hk := hk.2 c13
    refine r_aload_n X (pc := 12) dJ1_addLast_12 rfl (q := 0) rfl ?_
    refine r_hGR X (pc := 13) fa_J1_3 dJ1_addLast_13 hk (fun y14 hk => ?_)
    refine r_astore_n X (pc := 16) (lv1 := [(2, vR y14), (0, vR (some o)), (1, vR x1)]) dJ1_addLast_16 rfl (by decide) rfl ?_
    refine r_aload_n X (pc := 17) dJ1_addLast_17 rfl (q := 0) rfl ?_
    refine r_aload_n X (pc := 18) dJ1_addLast_18 rfl (q := 1) rfl ?_
    refine r_hGI X (pc := 19) fa_J1_20 dJ1_addLast_19 hk (fun y15 hk => ?_)
    refine r_aload_n X (pc := 22) dJ1_addLast_22 rfl (q := 2) rfl ?_
    refine r_hSR X (pc := 23) (t := 8) rfl cos_java_lang_Object_1 dJ1_addLast_23 hk (fun h16 hk => ?_)
    refine r_aload_n X (pc := 24) dJ1_addLast_24 rfl (q := 1) rfl ?_
    refine r_hGI X (pc := 25) fa_J1_24 dJ1_addLast_25 hk (fun y17 hk => ?_)
    refine r_aload_n X (pc := 28) dJ1_addLast_28 rfl (q := 1) rfl ?_
    refine r_aload_n X (pc := 29) dJ1_addLast_29 rfl (q := 1) rfl ?_
    refine r_hGI X (pc := 30) fa_J1_20 dJ1_addLast_30 hk (fun y18 hk => ?_)
    refine r_aload_n X (pc := 33) dJ1_addLast_33 rfl (q := 0) rfl ?_
    refine r_hLen X (pc := 34) (t := 8) rfl dJ1_addLast_34 hk (fun y19 hk => ?_)
    refine r_callS X (pc := 35) (As := [vI y18, vI y19]) (st := [vR (some o), vI y17]) m_J1_74 (fun _ => s_J1_inc hk) ⟨by decide, by decide⟩ (Nat.le_of_ble_eq_true rfl) dJ1_addLast_35 (fun v9 h9 n9 z9 hq => ?_) (fun ci9 q9 h9 n9 z9 hf => ?_)
    · obtain ⟨r20, rfl, rfl, rfl, rfl, hk⟩ := hq
      refine ⟨[vI r20], rfl, ?_⟩
      refine r_dup_x1 X (pc := 38) dJ1_addLast_38 rfl rfl ?_
      refine r_hPut X (pc := 39) fp_J1_20 rfl rfl dJ1_addLast_39 hk (fun h21 hk => ?_)
      obtain ⟨b22, b23, hk⟩ := hk
      refine r_icmp_ne X (pc := 42) (tgt := 50) dJ1_addLast_42 (by decide) ⟨b22, b23⟩ (fun c24 => ?_) (fun c24 => ?_)
      · have hk := hk.2 c24
        exact r_vret X E (pc := 50) dJ1_addLast_50 ⟨rfl, hk⟩
      · have hk := hk.1 c24
        refine r_aload_n X (pc := 45) dJ1_addLast_45 rfl (q := 1) rfl ?_
        refine r_iconst X (pc := 46) dJ1_addLast_46 ?_
        exact hk.elim
    · exact hf.elim
  · have hk := hk.1 c13
    exact hk.elim
theorem s_J1_addLast {K : KT} {l : Launch} {o : Nat} {κ : AH → Nat → Nat → Prop} {χ : QxT} {h : AH} {n : Nat} {z : Nat} {x1 : Option Nat} (hk : P_J1_addLast K o κ χ h n z x1) : Ct K l yJ1_addLast (ws_ yJ1_addLast cJ1_addLast 3 (Option.none : Option Jvm.ClassFile.FieldType)) 1 21 ([vR (some o), vR x1].map cV) h n z (QvV κ) χ :=
  ct_of (by decide +kernel) (Nat.le_of_ble_eq_true rfl) (fun Y X E => w_J1_addLast X E hk)
set_option maxHeartbeats 4000000 in
theorem w_J1_dec {K : KT} {Y : YT} {Qx : QxT} {h : AH} {n z : Nat} {κ : Int → Prop} (X : XY K "java/util/ArrayDeque" "dec" cJ1_dec (Option.some Jvm.ClassFile.FieldType.int) [] 2 0 0 Y) (E : YE K Y (pQ h n z κ) Qx) {x0 : Int} {x1 : Int} (hk : P_J1_dec κ x0 x1) : G K Y h n z 0 (lv_argsA 0 [vI x0, vI x1]) [] := by
  show G K Y h n z 0 [(0, vI x0), (1, vI x1)] []
  refine r_iinc X (pc := 0) (q := 0) (lv1 := [(0, vI (x0 + (-1))), (1, vI x1)]) dJ1_dec_0 rfl (by decide) rfl ?_
  refine r_iload_n X (pc := 3) dJ1_dec_3 rfl (q := 0) rfl ?_
  obtain ⟨b3, hk⟩ := hk
  refine r_if_ge X (pc := 4) (tgt := 11) dJ1_dec_4 (by decide) b3 (fun c4 => ?_) (fun c4 => ?_)
  · have hk := hk.2 c4
    refine r_iload_n X (pc := 11) dJ1_dec_11 rfl (q := 0) rfl ?_
    exact r_iret X E (pc := 12) dJ1_dec_12 rfl ⟨_, rfl, rfl, rfl, rfl, hk⟩
  · have hk := hk.1 c4
    refine r_iload_n X (pc := 7) dJ1_dec_7 rfl (q := 1) rfl ?_
    refine r_iconst X (pc := 8) dJ1_dec_8 ?_
    refine r_isub X (pc := 9) dJ1_dec_9 ?_
    refine r_istore_n X (pc := 10) (lv1 := [(0, vI (x1 - 1)), (1, vI x1)]) dJ1_dec_10 rfl (by decide) rfl ?_
    refine r_iload_n X (pc := 11) dJ1_dec_11 rfl (q := 0) rfl ?_
    exact r_iret X E (pc := 12) dJ1_dec_12 rfl ⟨_, rfl, rfl, rfl, rfl, hk⟩
theorem s_J1_dec {K : KT} {l : Launch} {n z : Nat} {h : AH} {κ : Int → Prop} {x0 : Int} {x1 : Int} (hk : P_J1_dec κ x0 x1) : Ct K l yJ1_dec (ws_ yJ1_dec cJ1_dec 2 (Option.some Jvm.ClassFile.FieldType.int)) 0 0 ([vI x0, vI x1].map cV) h n z (pQ h n z κ) noX :=
  ct_of (by decide +kernel) (Nat.le_of_ble_eq_true rfl) (fun Y X E => w_J1_dec X E hk)
set_option maxHeartbeats 4000000 in
theorem w_J1_pollLast {K : KT} {Y : YT} {o : Nat} {κ : Option Nat → AH → Nat → Nat → Prop} {χ : QxT} (X : XY K "java/util/ArrayDeque" "pollLast" cJ1_pollLast (Option.some (Jvm.ClassFile.FieldType.object "java/lang/Object")) [] 4 1 21 Y) (E : YE K Y (QvR κ) χ) {h : AH} {n : Nat} {z : Nat} (hk : P_J1_pollLast K o κ χ h n z) : G K Y h n z 0 (lv_argsA 0 [vR (some o)]) [] := by
  show G K Y h n z 0 [(0, vR (some o))] []
  refine r_aload_n X (pc := 0) dJ1_pollLast_0 rfl (q := 0) rfl ?_
  refine r_hGR X (pc := 1) fa_J1_3 dJ1_pollLast_1 hk (fun y9 hk => ?_)
  refine r_dup X (pc := 4) dJ1_pollLast_4 rfl ?_
  refine r_astore_n X (pc := 5) (lv1 := [(1, vR y9), (0, vR (some o))]) dJ1_pollLast_5 rfl (by decide) rfl ?_
  refine r_aload_n X (pc := 6) dJ1_pollLast_6 rfl (q := 1) rfl ?_
  refine r_hGI X (pc := 7) fa_J1_20 dJ1_pollLast_7 hk (fun y10 hk => ?_)
  refine r_aload_n X (pc := 10) dJ1_pollLast_10 rfl (q := 0) rfl ?_
  refine r_hLen X (pc := 11) (t := 8) rfl dJ1_pollLast_11 hk (fun y11 hk => ?_)
  refine r_callS X (pc := 12) (As := [vI y10, vI y11]) (st := [vR y9]) m_J1_68 (fun _ => s_J1_dec hk) ⟨by decide, by decide⟩ (Nat.le_of_ble_eq_true rfl) dJ1_pollLast_12 (fun v9 h9 n9 z9 hq => ?_) (fun ci9 q9 h9 n9 z9 hf => ?_)
  · obtain ⟨r12, rfl, rfl, rfl, rfl, hk⟩ := hq
    refine ⟨[vI r12], rfl, ?_⟩
    refine r_dup X (pc := 15) dJ1_pollLast_15 rfl ?_
    refine r_istore_n X (pc := 16) (lv1 := [(2, vI r12), (1, vR y9), (0, vR (some o))]) dJ1_pollLast_16 rfl (by decide) rfl ?_
    refine r_callS X (pc := 17) (As := [vR y9, vI r12]) (st := []) m_J1_103 (fun _ => s_J1_elementAt hk) ⟨by decide, by decide⟩ (Nat.le_of_ble_eq_true rfl) dJ1_pollLast_17 (fun v9 h14 n15 z16 hq => ?_) (fun ci20 q21 h22 n23 z24 hf => ?_)
    · obtain ⟨r13, rfl, hk⟩ := hq
      refine ⟨[vR r13], rfl, ?_⟩
      refine r_astore_n X (pc := 20) (lv1 := [(3, vR r13), (2, vI r12), (1, vR y9), (0, vR (some o))]) dJ1_pollLast_20 rfl (by decide) rfl ?_
      refine r_aload_n X (pc := 21) dJ1_pollLast_21 rfl (q := 0) rfl ?_
      refine r_ifnull X (pc := 22) (tgt := 34) dJ1_pollLast_22 (by decide) (fun c17 => ?_) (fun c17 => ?_)
      · have hk := hk.1 c17
        refine r_aload_n X (pc := 34) dJ1_pollLast_34 rfl (q := 0) rfl ?_
        exact r_aret X E (Or.inl ⟨_, rfl⟩) (pc := 35) dJ1_pollLast_35 ⟨_, rfl, hk⟩
      · have hk := hk.2 c17
        refine r_aload_n X (pc := 25) dJ1_pollLast_25 rfl (q := 2) rfl ?_
        refine r_aload_n X (pc := 26) dJ1_pollLast_26 rfl (q := 3) rfl ?_
        refine r_iload_n X (pc := 27) dJ1_pollLast_27 rfl (q := 1) rfl ?_
        refine r_dup_x1 X (pc := 28) dJ1_pollLast_28 rfl rfl ?_
        refine r_hPut X (pc := 29) fp_J1_20 rfl rfl dJ1_pollLast_29 hk (fun h18 hk => ?_)
        refine r_null X (pc := 32) dJ1_pollLast_32 ?_
        refine r_hSR X (pc := 33) (t := 8) rfl cos_java_lang_Object_1 dJ1_pollLast_33 hk (fun h19 hk => ?_)
        refine r_aload_n X (pc := 34) dJ1_pollLast_34 rfl (q := 0) rfl ?_
        exact r_aret X E (Or.inl ⟨_, rfl⟩) (pc := 35) dJ1_pollLast_35 ⟨_, rfl, hk⟩
    · have hk := hf
      exact r_out X E (fun _ h9 => nomatch h9) hk
  · exact hf.elim
theorem s_J1_pollLast {K : KT} {l : Launch} {o : Nat} {κ : Option Nat → AH → Nat → Nat → Prop} {χ : QxT} {h : AH} {n : Nat} {z : Nat} (hk : P_J1_pollLast K o κ χ h n z) : Ct K l yJ1_pollLast (ws_ yJ1_pollLast cJ1_pollLast 4 (Option.some (Jvm.ClassFile.FieldType.object "java/lang/Object"))) 1 21 ([vR (some o)].map cV) h n z (QvR κ) χ :=
  ct_of (by decide +kernel) (Nat.le_of_ble_eq_true rfl) (fun Y X E => w_J1_pollLast X E hk)
set_option maxHeartbeats 4000000 in
theorem w_J1_removeLast {K : KT} {Y : YT} {o : Nat} {κ : Option Nat → AH → Nat → Nat → Prop} {χ : QxT} (X : XY K "java/util/ArrayDeque" "removeLast" cJ1_removeLast (Option.some (Jvm.ClassFile.FieldType.object "java/lang/Object")) [] 2 2 44 Y) (E : YE K Y (QvR κ) χ) {h : AH} {n : Nat} {z : Nat} (hk : P_J1_removeLast K o κ χ h n z) : G K Y h n z 0 (lv_argsA 0 [vR (some o)]) [] := by
  show G K Y h n z 0 [(0, vR (some o))] []
  refine r_aload_n X (pc := 0) dJ1_removeLast_0 rfl (q := 0) rfl ?_
  obtain ⟨o13, fs14, e9, b15, hk⟩ := hk
  refine r_callV X (pc := 1) (As := []) (st := []) rfl rfl e9 b15 m_J1_100 (fun _ => s_J1_pollLast hk) ⟨by decide, by decide⟩ (Nat.le_of_ble_eq_true rfl) dJ1_removeLast_1 (fun v9 h4 n5 z6 hq => ?_) (fun ci8 q9 h10 n11 z12 hf => ?_)
  · obtain ⟨r3, rfl, hk⟩ := hq
    refine ⟨[vR r3], rfl, ?_⟩
    refine r_astore_n X (pc := 4) (lv1 := [(1, vR r3), (0, vR (some o))]) dJ1_removeLast_4 rfl (by decide) rfl ?_
    refine r_aload_n X (pc := 5) dJ1_removeLast_5 rfl (q := 0) rfl ?_
    refine r_ifnonnull X (pc := 6) (tgt := 17) dJ1_removeLast_6 (by decide) (fun c7 => ?_) (fun c7 => ?_)
    · have hk := hk.2 c7
      refine r_aload_n X (pc := 17) dJ1_removeLast_17 rfl (q := 0) rfl ?_
      exact r_aret X E (Or.inl ⟨_, rfl⟩) (pc := 18) dJ1_removeLast_18 ⟨_, rfl, hk⟩
    · have hk := hk.1 c7
      exact hk.elim
  · have hk := hf
    exact r_out X E (fun _ h9 => nomatch h9) hk
theorem s_J1_removeLast {K : KT} {l : Launch} {o : Nat} {κ : Option Nat → AH → Nat → Nat → Prop} {χ : QxT} {h : AH} {n : Nat} {z : Nat} (hk : P_J1_removeLast K o κ χ h n z) : Ct K l yJ1_removeLast (ws_ yJ1_removeLast cJ1_removeLast 2 (Option.some (Jvm.ClassFile.FieldType.object "java/lang/Object"))) 2 44 ([vR (some o)].map cV) h n z (QvR κ) χ :=
  ct_of (by decide +kernel) (Nat.le_of_ble_eq_true rfl) (fun Y X E => w_J1_removeLast X E hk)
set_option maxHeartbeats 4000000 in
theorem w_J15_init {K : KT} {Y : YT} {o : Nat} {κ : AH → Nat → Nat → Prop} {χ : QxT} (X : XY K "java/lang/Number" "<init>" cJ15_init none [] 1 1 60 Y) (E : YE K Y (QvV κ) χ) {h : AH} {n : Nat} {z : Nat} (hk : P_J15_init K o κ χ h n z) : G K Y h n z 0 (lv_argsA 0 [vR (some o)]) [] := by
  show G K Y h n z 0 [(0, vR (some o))] []
  refine r_aload_n X (pc := 0) dJ15_init_0 rfl (q := 0) rfl ?_
  refine r_objinit X (pc := 1) q2980 q203 q204 ⟨by decide, Nat.le_of_ble_eq_true rfl⟩ dJ15_init_1 ?_
  exact r_vret X E (pc := 4) dJ15_init_4 ⟨rfl, hk⟩
theorem s_J15_init {K : KT} {l : Launch} {o : Nat} {κ : AH → Nat → Nat → Prop} {χ : QxT} {h : AH} {n : Nat} {z : Nat} (hk : P_J15_init K o κ χ h n z) : Ct K l yJ15_init (ws_ yJ15_init cJ15_init 1 none) 1 60 ([vR (some o)].map cV) h n z (QvV κ) χ :=
  ct_of (by decide +kernel) (Nat.le_of_ble_eq_true rfl) (fun Y X E => w_J15_init X E hk)
set_option maxHeartbeats 4000000 in
theorem w_J16_init {K : KT} {Y : YT} {o : Nat} {κ : AH → Nat → Nat → Prop} {χ : QxT} (X : XY K "java/lang/Integer" "<init>" cJ16_init none [] 2 2 80 Y) (E : YE K Y (QvV κ) χ) {h : AH} {n : Nat} {z : Nat} {x1 : Int} (hk : P_J16_init K o κ χ h n z x1) : G K Y h n z 0 (lv_argsA 0 [vR (some o), vI x1]) [] := by
  show G K Y h n z 0 [(0, vR (some o)), (1, vI x1)] []
  refine r_aload_n X (pc := 0) dJ16_init_0 rfl (q := 0) rfl ?_
  refine r_callI X (pc := 1) (As := []) (st := []) m_J16_202 (fun _ => s_J15_init hk) ⟨by decide, by decide⟩ (Nat.le_of_ble_eq_true rfl) dJ16_init_1 (fun v9 h2 n3 z4 hq => ?_) (fun ci6 q7 h8 n9 z10 hf => ?_)
  · obtain ⟨rfl, hk⟩ := hq
    refine ⟨[], rfl, ?_⟩
    refine r_aload_n X (pc := 4) dJ16_init_4 rfl (q := 0) rfl ?_
    refine r_iload_n X (pc := 5) dJ16_init_5 rfl (q := 1) rfl ?_
    refine r_hPutF X (pc := 6) fp_J16_205 rfl rfl rfl dJ16_init_6 hk (fun h5 hk => ?_)
    exact r_vret X E (pc := 9) dJ16_init_9 ⟨rfl, hk⟩
  · have hk := hf
    exact r_out X E (fun _ h9 => nomatch h9) hk
theorem s_J16_init {K : KT} {l : Launch} {o : Nat} {κ : AH → Nat → Nat → Prop} {χ : QxT} {h : AH} {n : Nat} {z : Nat} {x1 : Int} (hk : P_J16_init K o κ χ h n z x1) : Ct K l yJ16_init (ws_ yJ16_init cJ16_init 2 none) 2 80 ([vR (some o), vI x1].map cV) h n z (QvV κ) χ :=
  ct_of (by decide +kernel) (Nat.le_of_ble_eq_true rfl) (fun Y X E => w_J16_init X E hk)
set_option maxHeartbeats 4000000 in
theorem w_J16_valueOf_23 {K : KT} {Y : YT} {κ : Option Nat → AH → Nat → Nat → Prop} {χ : QxT} (X : XY K "java/lang/Integer" "valueOf" cJ16_valueOf (Option.some (Jvm.ClassFile.FieldType.object "java/lang/Integer")) [] 1 3 101 Y) (E : YE K Y (QvR κ) χ) : ∀ (h : AH) (n : Nat) (z : Nat) (x0 : Int), P_J16_valueOf_23 K κ χ h n z x0 → G K Y h n z 23 [(0, vI x0)] [] := by
  intro h n z x0 hk
  refine r_hNew X (pc := 23) nw_J16_1 dJ16_valueOf_23 hk (fun h7 hk => ?_)
  refine r_dup X (pc := 26) dJ16_valueOf_26 rfl ?_
  refine r_iload_n X (pc := 27) dJ16_valueOf_27 rfl (q := 0) rfl ?_
  refine r_callI X (pc := 28) (As := [vI x0]) (st := [vR (some n)]) m_J16_199 (fun _ => s_J16_init hk) ⟨by decide, by decide⟩ (Nat.le_of_ble_eq_true rfl) dJ16_valueOf_28 (fun v9 h8 n9 z10 hq => ?_) (fun ci11 q12 h13 n14 z15 hf => ?_)
  · obtain ⟨rfl, hk⟩ := hq
    refine ⟨[], rfl, ?_⟩
    exact r_aret X E (Or.inl ⟨_, rfl⟩) (pc := 31) dJ16_valueOf_31 ⟨_, rfl, hk⟩
  · have hk := hf
    exact r_out X E (fun _ h9 => nomatch h9) hk
set_option maxHeartbeats 4000000 in
theorem w_J16_valueOf {K : KT} {Y : YT} {κ : Option Nat → AH → Nat → Nat → Prop} {χ : QxT} (X : XY K "java/lang/Integer" "valueOf" cJ16_valueOf (Option.some (Jvm.ClassFile.FieldType.object "java/lang/Integer")) [] 1 3 101 Y) (E : YE K Y (QvR κ) χ) {h : AH} {n : Nat} {z : Nat} {x0 : Int} (hk : P_J16_valueOf K κ χ h n z x0) : G K Y h n z 0 (lv_argsA 0 [vI x0]) [] := by
  show G K Y h n z 0 [(0, vI x0)] []
  refine r_iload_n X (pc := 0) dJ16_valueOf_0 rfl (q := 0) rfl ?_
  refine r_bipush X (pc := 1) dJ16_valueOf_1 (by decide) ?_
  obtain ⟨b16, hk⟩ := hk
  refine r_icmp_lt X (pc := 3) (tgt := 23) dJ16_valueOf_3 (by decide) ⟨b16, (by decide)⟩ (fun c17 => ?_) (fun c17 => ?_)
  · have hk := hk.1 c17
    exact w_J16_valueOf_23 X E h n z x0 hk
  · have hk := hk.2 c17
    refine r_iload_n X (pc := 6) dJ16_valueOf_6 rfl (q := 0) rfl ?_
    refine r_gets X (pc := 7) (v := vI 127) (j := 1) rfl rfl q2969 dJ16_valueOf_7 ?_
    refine r_icmp_gt X (pc := 10) (tgt := 23) dJ16_valueOf_10 (by decide) ⟨b16, (by decide)⟩ (fun c18 => ?_) (fun c18 => ?_)
    · have hk := hk.1 c18
      exact w_J16_valueOf_23 X E h n z x0 hk
    · have hk := hk.2 c18
      refine r_gets X (pc := 13) (v := vR (some (kl K 210))) (j := 2) rfl rfl q2971 dJ16_valueOf_13 ?_
      refine r_iload_n X (pc := 16) dJ16_valueOf_16 rfl (q := 0) rfl ?_
      refine r_sipush X (pc := 17) dJ16_valueOf_17 (by decide) ?_
      refine r_iadd X (pc := 20) dJ16_valueOf_20 ?_
      refine r_hAR X (pc := 21) (t := 10) rfl dJ16_valueOf_21 hk (fun y19 hk => ?_)
      exact r_aret X E (Or.inl ⟨_, rfl⟩) (pc := 22) dJ16_valueOf_22 ⟨_, rfl, hk⟩
theorem s_J16_valueOf {K : KT} {l : Launch} {κ : Option Nat → AH → Nat → Nat → Prop} {χ : QxT} {h : AH} {n : Nat} {z : Nat} {x0 : Int} (hk : P_J16_valueOf K κ χ h n z x0) : Ct K l yJ16_valueOf (ws_ yJ16_valueOf cJ16_valueOf 1 (Option.some (Jvm.ClassFile.FieldType.object "java/lang/Integer"))) 3 101 ([vI x0].map cV) h n z (QvR κ) χ :=
  ct_of (by decide +kernel) (Nat.le_of_ble_eq_true rfl) (fun Y X E => w_J16_valueOf X E hk)
set_option maxHeartbeats 4000000 in
theorem w_J16_intValue {K : KT} {Y : YT} {o : Nat} {κ : Int → AH → Nat → Nat → Prop} {χ : QxT} (X : XY K "java/lang/Integer" "intValue" cJ16_intValue (Option.some Jvm.ClassFile.FieldType.int) [] 1 0 0 Y) (E : YE K Y (QvI κ) χ) {h : AH} {n : Nat} {z : Nat} (hk : P_J16_intValue K o κ χ h n z) : G K Y h n z 0 (lv_argsA 0 [vR (some o)]) [] := by
  show G K Y h n z 0 [(0, vR (some o))] []
  refine r_aload_n X (pc := 0) dJ16_intValue_0 rfl (q := 0) rfl ?_
  refine r_hGI X (pc := 1) fa_J16_205 dJ16_intValue_1 hk (fun y2 hk => ?_)
  exact r_iret X E (pc := 4) dJ16_intValue_4 rfl ⟨_, rfl, hk⟩
theorem s_J16_intValue {K : KT} {l : Launch} {o : Nat} {κ : Int → AH → Nat → Nat → Prop} {χ : QxT} {h : AH} {n : Nat} {z : Nat} (hk : P_J16_intValue K o κ χ h n z) : Ct K l yJ16_intValue (ws_ yJ16_intValue cJ16_intValue 1 (Option.some Jvm.ClassFile.FieldType.int)) 0 0 ([vR (some o)].map cV) h n z (QvI κ) χ :=
  ct_of (by decide +kernel) (Nat.le_of_ble_eq_true rfl) (fun Y X E => w_J16_intValue X E hk)
set_option maxHeartbeats 4000000 in
theorem w_J16_numberOfLeadingZeros_73 {K : KT} {Y : YT} {Qx : QxT} {h : AH} {n z : Nat} {κ : Int → Prop} (X : XY K "java/lang/Integer" "numberOfLeadingZeros" cJ16_numberOfLeadingZeros (Option.some Jvm.ClassFile.FieldType.int) [] 2 0 0 Y) (E : YE K Y (pQ h n z κ) Qx) : ∀ (x0 : Int) (x1 : Int), P_J16_numberOfLeadingZeros_73 κ x0 x1 → G K Y h n z 73 [(0, vI x0), (1, vI x1)] [] := by
  intro x0 x1 hk
  refine r_iload_n X (pc := 73) dJ16_numberOfLeadingZeros_73 rfl (q := 1) rfl ?_
  refine r_iload_n X (pc := 74) dJ16_numberOfLeadingZeros_74 rfl (q := 0) rfl ?_
  refine r_iconst X (pc := 75) dJ16_numberOfLeadingZeros_75 ?_
  refine r_iushr X (pc := 76) dJ16_numberOfLeadingZeros_76 ?_
  refine r_isub X (pc := 77) dJ16_numberOfLeadingZeros_77 ?_
  exact r_iret X E (pc := 78) dJ16_numberOfLeadingZeros_78 rfl ⟨_, rfl, rfl, rfl, rfl, hk⟩
set_option maxHeartbeats 4000000 in
theorem w_J16_numberOfLeadingZeros_61 {K : KT} {Y : YT} {Qx : QxT} {h : AH} {n z : Nat} {κ : Int → Prop} (X : XY K "java/lang/Integer" "numberOfLeadingZeros" cJ16_numberOfLeadingZeros (Option.some Jvm.ClassFile.FieldType.int) [] 2 0 0 Y) (E : YE K Y (pQ h n z κ) Qx) : ∀ (x0 : Int) (x1 : Int), P_J16_numberOfLeadingZeros_61 κ x0 x1 → G K Y h n z 61 [(0, vI x0), (1, vI x1)] [] := by
  intro x0 x1 hk
  refine r_iload_n X (pc := 61) dJ16_numberOfLeadingZeros_61 rfl (q := 0) rfl ?_
  refine r_iconst X (pc := 62) dJ16_numberOfLeadingZeros_62 ?_
  obtain ⟨b13, hk⟩ := hk
  refine r_icmp_lt X (pc := 63) (tgt := 73) dJ16_numberOfLeadingZeros_63 (by decide) ⟨b13, (by decide)⟩ (fun c14 => ?_) (fun c14 => ?_)
  · have hk := hk.1 c14
    exact w_J16_numberOfLeadingZeros_73 X E x0 x1 hk
  · have hk := hk.2 c14
    refine r_iinc X (pc := 66) (q := 1) (lv1 := [(1, vI (x1 + (-2))), (0, vI x0)]) dJ16_numberOfLeadingZeros_66 rfl (by decide) rfl ?_
    refine r_iload_n X (pc := 69) dJ16_numberOfLeadingZeros_69 rfl (q := 1) rfl ?_
    refine r_iconst X (pc := 70) dJ16_numberOfLeadingZeros_70 ?_
    refine r_iushr X (pc := 71) dJ16_numberOfLeadingZeros_71 ?_
    refine r_istore_n X (pc := 72) (lv1 := [(0, vI (iushr x0 2)), (1, vI (x1 + (-2)))]) dJ16_numberOfLeadingZeros_72 rfl (by decide) rfl ?_
    exact w_J16_numberOfLeadingZeros_73 X E (iushr x0 2) (x1 + (-2)) hk
set_option maxHeartbeats 4000000 in
theorem w_J16_numberOfLeadingZeros_48 {K : KT} {Y : YT} {Qx : QxT} {h : AH} {n z : Nat} {κ : Int → Prop} (X : XY K "java/lang/Integer" "numberOfLeadingZeros" cJ16_numberOfLeadingZeros (Option.some Jvm.ClassFile.FieldType.int) [] 2 0 0 Y) (E : YE K Y (pQ h n z κ) Qx) : ∀ (x0 : Int) (x1 : Int), P_J16_numberOfLeadingZeros_48 κ x0 x1 → G K Y h n z 48 [(0, vI x0), (1, vI x1)] [] := by
  intro x0 x1 hk
  refine r_iload_n X (pc := 48) dJ16_numberOfLeadingZeros_48 rfl (q := 0) rfl ?_
  refine r_bipush X (pc := 49) dJ16_numberOfLeadingZeros_49 (by decide) ?_
  obtain ⟨b15, hk⟩ := hk
  refine r_icmp_lt X (pc := 51) (tgt := 61) dJ16_numberOfLeadingZeros_51 (by decide) ⟨b15, (by decide)⟩ (fun c16 => ?_) (fun c16 => ?_)
  · have hk := hk.1 c16
    exact w_J16_numberOfLeadingZeros_61 X E x0 x1 hk
  · have hk := hk.2 c16
    refine r_iinc X (pc := 54) (q := 1) (lv1 := [(1, vI (x1 + (-4))), (0, vI x0)]) dJ16_numberOfLeadingZeros_54 rfl (by decide) rfl ?_
    refine r_iload_n X (pc := 57) dJ16_numberOfLeadingZeros_57 rfl (q := 1) rfl ?_
    refine r_iconst X (pc := 58) dJ16_numberOfLeadingZeros_58 ?_
    refine r_iushr X (pc := 59) dJ16_numberOfLeadingZeros_59 ?_
    refine r_istore_n X (pc := 60) (lv1 := [(0, vI (iushr x0 4)), (1, vI (x1 + (-4)))]) dJ16_numberOfLeadingZeros_60 rfl (by decide) rfl ?_
    exact w_J16_numberOfLeadingZeros_61 X E (iushr x0 4) (x1 + (-4)) hk
set_option maxHeartbeats 4000000 in
theorem w_J16_numberOfLeadingZeros_33 {K : KT} {Y : YT} {Qx : QxT} {h : AH} {n z : Nat} {κ : Int → Prop} (X : XY K "java/lang/Integer" "numberOfLeadingZeros" cJ16_numberOfLeadingZeros (Option.some Jvm.ClassFile.FieldType.int) [] 2 0 0 Y) (E : YE K Y (pQ h n z κ) Qx) : ∀ (x0 : Int) (x1 : Int), P_J16_numberOfLeadingZeros_33 κ x0 x1 → G K Y h n z 33 [(0, vI x0), (1, vI x1)] [] := by
  intro x0 x1 hk
  refine r_iload_n X (pc := 33) dJ16_numberOfLeadingZeros_33 rfl (q := 0) rfl ?_
  refine r_sipush X (pc := 34) dJ16_numberOfLeadingZeros_34 (by decide) ?_
  obtain ⟨b17, hk⟩ := hk
  refine r_icmp_lt X (pc := 37) (tgt := 48) dJ16_numberOfLeadingZeros_37 (by decide) ⟨b17, (by decide)⟩ (fun c18 => ?_) (fun c18 => ?_)
  · have hk := hk.1 c18
    exact w_J16_numberOfLeadingZeros_48 X E x0 x1 hk
  · have hk := hk.2 c18
    refine r_iinc X (pc := 40) (q := 1) (lv1 := [(1, vI (x1 + (-8))), (0, vI x0)]) dJ16_numberOfLeadingZeros_40 rfl (by decide) rfl ?_
    refine r_iload_n X (pc := 43) dJ16_numberOfLeadingZeros_43 rfl (q := 1) rfl ?_
    refine r_bipush X (pc := 44) dJ16_numberOfLeadingZeros_44 (by decide) ?_
    refine r_iushr X (pc := 46) dJ16_numberOfLeadingZeros_46 ?_
    refine r_istore_n X (pc := 47) (lv1 := [(0, vI (iushr x0 8)), (1, vI (x1 + (-8)))]) dJ16_numberOfLeadingZeros_47 rfl (by decide) rfl ?_
    exact w_J16_numberOfLeadingZeros_48 X E (iushr x0 8) (x1 + (-8)) hk
set_option maxHeartbeats 4000000 in
theorem w_J16_numberOfLeadingZeros {K : KT} {Y : YT} {Qx : QxT} {h : AH} {n z : Nat} {κ : Int → Prop} (X : XY K "java/lang/Integer" "numberOfLeadingZeros" cJ16_numberOfLeadingZeros (Option.some Jvm.ClassFile.FieldType.int) [] 2 0 0 Y) (E : YE K Y (pQ h n z κ) Qx) {x0 : Int} (hk : P_J16_numberOfLeadingZeros κ x0) : G K Y h n z 0 (lv_argsA 0 [vI x0]) [] := by
  show G K Y h n z 0 [(0, vI x0)] []
  refine r_iload_n X (pc := 0) dJ16_numberOfLeadingZeros_0 rfl (q := 0) rfl ?_
  obtain ⟨b19, hk⟩ := hk
  refine r_if_gt X (pc := 1) (tgt := 15) dJ16_numberOfLeadingZeros_1 (by decide) b19 (fun c20 => ?_) (fun c20 => ?_)
  · have hk := hk.1 c20
    refine r_bipush X (pc := 15) dJ16_numberOfLeadingZeros_15 (by decide) ?_
    refine r_istore_n X (pc := 17) (lv1 := [(1, vI 31), (0, vI x0)]) dJ16_numberOfLeadingZeros_17 rfl (by decide) rfl ?_
    refine r_iload_n X (pc := 18) dJ16_numberOfLeadingZeros_18 rfl (q := 1) rfl ?_
    refine r_ldcIw X (pc := 19) (v := 65536) dJ16_numberOfLeadingZeros_19 q1774 (by decide) ?_
    refine r_icmp_lt X (pc := 22) (tgt := 33) dJ16_numberOfLeadingZeros_22 (by decide) ⟨b19, (by decide)⟩ (fun c21 => ?_) (fun c21 => ?_)
    · have hk := hk.1 c21
      refine G.sub [1, 0] rfl ?_
      exact w_J16_numberOfLeadingZeros_33 X E x0 31 hk
    · have hk := hk.2 c21
      refine r_iinc X (pc := 25) (q := 0) (lv1 := [(1, vI (31 + (-16))), (0, vI x0)]) dJ16_numberOfLeadingZeros_25 rfl (by decide) rfl ?_
      refine r_iload_n X (pc := 28) dJ16_numberOfLeadingZeros_28 rfl (q := 1) rfl ?_
      refine r_bipush X (pc := 29) dJ16_numberOfLeadingZeros_29 (by decide) ?_
      refine r_iushr X (pc := 31) dJ16_numberOfLeadingZeros_31 ?_
      refine r_istore_n X (pc := 32) (lv1 := [(0, vI (iushr x0 16)), (1, vI (31 + (-16)))]) dJ16_numberOfLeadingZeros_32 rfl (by decide) rfl ?_
      exact w_J16_numberOfLeadingZeros_33 X E (iushr x0 16) (31 + (-16)) hk
  · have hk := hk.2 c20
    refine r_iload_n X (pc := 4) dJ16_numberOfLeadingZeros_4 rfl (q := 0) rfl ?_
    refine r_if_ne X (pc := 5) (tgt := 13) dJ16_numberOfLeadingZeros_5 (by decide) b19 (fun c22 => ?_) (fun c22 => ?_)
    · have hk := hk.2 c22
      refine r_iconst X (pc := 13) dJ16_numberOfLeadingZeros_13 ?_
      exact r_iret X E (pc := 14) dJ16_numberOfLeadingZeros_14 rfl ⟨_, rfl, rfl, rfl, rfl, hk⟩
    · have hk := hk.1 c22
      refine r_bipush X (pc := 8) dJ16_numberOfLeadingZeros_8 (by decide) ?_
      refine r_goto X (pc := 10) (tgt := 14) dJ16_numberOfLeadingZeros_10 (by decide) ?_
      exact r_iret X E (pc := 14) dJ16_numberOfLeadingZeros_14 rfl ⟨_, rfl, rfl, rfl, rfl, hk⟩
theorem s_J16_numberOfLeadingZeros {K : KT} {l : Launch} {n z : Nat} {h : AH} {κ : Int → Prop} {x0 : Int} (hk : P_J16_numberOfLeadingZeros κ x0) : Ct K l yJ16_numberOfLeadingZeros (ws_ yJ16_numberOfLeadingZeros cJ16_numberOfLeadingZeros 2 (Option.some Jvm.ClassFile.FieldType.int)) 0 0 ([vI x0].map cV) h n z (pQ h n z κ) noX :=
  ct_of (by decide +kernel) (Nat.le_of_ble_eq_true rfl) (fun Y X E => w_J16_numberOfLeadingZeros X E hk)
set_option maxHeartbeats 4000000 in
theorem w_J20_init {K : KT} {Y : YT} {o : Nat} {κ : AH → Nat → Nat → Prop} {χ : QxT} (X : XY K "java/util/AbstractSet" "<init>" cJ20_init none [] 1 2 80 Y) (E : YE K Y (QvV κ) χ) {h : AH} {n : Nat} {z : Nat} (hk : P_J20_init K o κ χ h n z) : G K Y h n z 0 (lv_argsA 0 [vR (some o)]) [] := by
  show G K Y h n z 0 [(0, vR (some o))] []
  refine r_aload_n X (pc := 0) dJ20_init_0 rfl (q := 0) rfl ?_
  refine r_callI X (pc := 1) (As := []) (st := []) m_J20_1 (fun _ => s_J0_init hk) ⟨by decide, by decide⟩ (Nat.le_of_ble_eq_true rfl) dJ20_init_1 (fun v9 h1 n2 z3 hq => ?_) (fun ci4 q5 h6 n7 z8 hf => ?_)
  · obtain ⟨rfl, hk⟩ := hq
    refine ⟨[], rfl, ?_⟩
    exact r_vret X E (pc := 4) dJ20_init_4 ⟨rfl, hk⟩
  · have hk := hf
    exact r_out X E (fun _ h9 => nomatch h9) hk
theorem s_J20_init {K : KT} {l : Launch} {o : Nat} {κ : AH → Nat → Nat → Prop} {χ : QxT} {h : AH} {n : Nat} {z : Nat} (hk : P_J20_init K o κ χ h n z) : Ct K l yJ20_init (ws_ yJ20_init cJ20_init 1 none) 2 80 ([vR (some o)].map cV) h n z (QvV κ) χ :=
  ct_of (by decide +kernel) (Nat.le_of_ble_eq_true rfl) (fun Y X E => w_J20_init X E hk)
set_option maxHeartbeats 4000000 in
theorem w_J23_init {K : KT} {Y : YT} {o : Nat} {κ : AH → Nat → Nat → Prop} {χ : QxT} (X : XY K "java/util/AbstractMap" "<init>" cJ23_init none [] 1 1 60 Y) (E : YE K Y (QvV κ) χ) {h : AH} {n : Nat} {z : Nat} (hk : P_J23_init K o κ χ h n z) : G K Y h n z 0 (lv_argsA 0 [vR (some o)]) [] := by
  show G K Y h n z 0 [(0, vR (some o))] []
  refine r_aload_n X (pc := 0) dJ23_init_0 rfl (q := 0) rfl ?_
  refine r_objinit X (pc := 1) q1713 q203 q204 ⟨by decide, Nat.le_of_ble_eq_true rfl⟩ dJ23_init_1 ?_
  exact r_vret X E (pc := 4) dJ23_init_4 ⟨rfl, hk⟩
theorem s_J23_init {K : KT} {l : Launch} {o : Nat} {κ : AH → Nat → Nat → Prop} {χ : QxT} {h : AH} {n : Nat} {z : Nat} (hk : P_J23_init K o κ χ h n z) : Ct K l yJ23_init (ws_ yJ23_init cJ23_init 1 none) 1 60 ([vR (some o)].map cV) h n z (QvV κ) χ :=
  ct_of (by decide +kernel) (Nat.le_of_ble_eq_true rfl) (fun Y X E => w_J23_init X E hk)
set_option maxHeartbeats 4000000 in
theorem w_J24_tableSizeFor {K : KT} {Y : YT} {Qx : QxT} {h : AH} {n z : Nat} {κ : Int → Prop} (X : XY K "java/util/HashMap" "tableSizeFor" cJ24_tableSizeFor (Option.some Jvm.ClassFile.FieldType.int) [] 2 1 21 Y) (E : YE K Y (pQ h n z κ) Qx) {x0 : Int} (hk : P_J24_tableSizeFor κ x0) : G K Y h n z 0 (lv_argsA 0 [vI x0]) [] := by
  show G K Y h n z 0 [(0, vI x0)] []
  refine r_iconst X (pc := 0) dJ24_tableSizeFor_0 ?_
  refine r_iload_n X (pc := 1) dJ24_tableSizeFor_1 rfl (q := 0) rfl ?_
  refine r_iconst X (pc := 2) dJ24_tableSizeFor_2 ?_
  refine r_isub X (pc := 3) dJ24_tableSizeFor_3 ?_
  refine r_callS X (pc := 4) (As := [vI (x0 - 1)]) (st := [vI (-1)]) m_J24_34 (fun _ => s_J16_numberOfLeadingZeros hk) ⟨by decide, by decide⟩ (Nat.le_of_ble_eq_true rfl) dJ24_tableSizeFor_4 (fun v9 h9 n9 z9 hq => ?_) (fun ci9 q9 h9 n9 z9 hf => ?_)
  · obtain ⟨r6, rfl, rfl, rfl, rfl, hk⟩ := hq
    refine ⟨[vI r6], rfl, ?_⟩
    refine r_iushr X (pc := 7) dJ24_tableSizeFor_7 ?_
    refine r_istore_n X (pc := 8) (lv1 := [(1, vI (iushr (-1) r6)), (0, vI x0)]) dJ24_tableSizeFor_8 rfl (by decide) rfl ?_
    refine r_iload_n X (pc := 9) dJ24_tableSizeFor_9 rfl (q := 0) rfl ?_
    obtain ⟨b7, hk⟩ := hk
    refine r_if_ge X (pc := 10) (tgt := 17) dJ24_tableSizeFor_10 (by decide) b7 (fun c8 => ?_) (fun c8 => ?_)
    · have hk := hk.2 c8
      refine r_iload_n X (pc := 17) dJ24_tableSizeFor_17 rfl (q := 0) rfl ?_
      refine r_ldcI X (pc := 18) (v := 1073741824) dJ24_tableSizeFor_18 q1722 (by decide) ?_
      refine r_icmp_lt X (pc := 20) (tgt := 28) dJ24_tableSizeFor_20 (by decide) ⟨b7, (by decide)⟩ (fun c9 => ?_) (fun c9 => ?_)
      · have hk := hk.1 c9
        refine r_iload_n X (pc := 28) dJ24_tableSizeFor_28 rfl (q := 0) rfl ?_
        refine r_iconst X (pc := 29) dJ24_tableSizeFor_29 ?_
        refine r_iadd X (pc := 30) dJ24_tableSizeFor_30 ?_
        exact r_iret X E (pc := 31) dJ24_tableSizeFor_31 rfl ⟨_, rfl, rfl, rfl, rfl, hk⟩
      · have hk := hk.2 c9
        refine r_ldcI X (pc := 23) (v := 1073741824) dJ24_tableSizeFor_23 q1722 (by decide) ?_
        refine r_goto X (pc := 25) (tgt := 31) dJ24_tableSizeFor_25 (by decide) ?_
        exact r_iret X E (pc := 31) dJ24_tableSizeFor_31 rfl ⟨_, rfl, rfl, rfl, rfl, hk⟩
    · have hk := hk.1 c8
      refine r_iconst X (pc := 13) dJ24_tableSizeFor_13 ?_
      refine r_goto X (pc := 14) (tgt := 31) dJ24_tableSizeFor_14 (by decide) ?_
      exact r_iret X E (pc := 31) dJ24_tableSizeFor_31 rfl ⟨_, rfl, rfl, rfl, rfl, hk⟩
  · exact hf.elim
theorem s_J24_tableSizeFor {K : KT} {l : Launch} {n z : Nat} {h : AH} {κ : Int → Prop} {x0 : Int} (hk : P_J24_tableSizeFor κ x0) : Ct K l yJ24_tableSizeFor (ws_ yJ24_tableSizeFor cJ24_tableSizeFor 2 (Option.some Jvm.ClassFile.FieldType.int)) 1 21 ([vI x0].map cV) h n z (pQ h n z κ) noX :=
  ct_of (by decide +kernel) (Nat.le_of_ble_eq_true rfl) (fun Y X E => w_J24_tableSizeFor X E hk)
set_option maxHeartbeats 4000000 in
theorem w_J26_isNaN {K : KT} {Y : YT} {Qx : QxT} {h : AH} {n z : Nat} {κ : Int → Prop} (X : XY K "java/lang/Float" "isNaN" cJ26_isNaN (Option.some Jvm.ClassFile.FieldType.boolean) [] 1 0 0 Y) (E : YE K Y (pQ h n z κ) Qx) {x0 : UInt32} (hk : P_J26_isNaN κ x0) : G K Y h n z 0 (lv_argsA 0 [vF x0]) [] := by
  show G K Y h n z 0 [(0, vF x0)] []
  refine r_fload_n X (pc := 0) dJ26_isNaN_0 rfl (q := 0) rfl ?_
  refine r_fload_n X (pc := 1) dJ26_isNaN_1 rfl (q := 0) rfl ?_
  refine r_fcmp X (pc := 2) dJ26_isNaN_2 ?_
  obtain ⟨b3, hk⟩ := hk
  refine r_if_eq X (pc := 3) (tgt := 10) dJ26_isNaN_3 (by decide) b3 (fun c4 => ?_) (fun c4 => ?_)
  · have hk := hk.1 c4
    refine r_iconst X (pc := 10) dJ26_isNaN_10 ?_
    exact r_iret X E (pc := 11) dJ26_isNaN_11 rfl ⟨_, rfl, rfl, rfl, rfl, hk⟩
  · have hk := hk.2 c4
    refine r_iconst X (pc := 6) dJ26_isNaN_6 ?_
    refine r_goto X (pc := 7) (tgt := 11) dJ26_isNaN_7 (by decide) ?_
    exact r_iret X E (pc := 11) dJ26_isNaN_11 rfl ⟨_, rfl, rfl, rfl, rfl, hk⟩
theorem s_J26_isNaN {K : KT} {l : Launch} {n z : Nat} {h : AH} {κ : Int → Prop} {x0 : UInt32} (hk : P_J26_isNaN κ x0) : Ct K l yJ26_isNaN (ws_ yJ26_isNaN cJ26_isNaN 1 (Option.some Jvm.ClassFile.FieldType.boolean)) 0 0 ([vF x0].map cV) h n z (pQ h n z κ) noX :=
  ct_of (by decide +kernel) (Nat.le_of_ble_eq_true rfl) (fun Y X E => w_J26_isNaN X E hk)
set_option maxHeartbeats 4000000 in
theorem w_J24_init_57 {K : KT} {Y : YT} {o : Nat} {κ : AH → Nat → Nat → Prop} {χ : QxT} (X : XY K "java/util/HashMap" "<init>" cJ24_init none [] 3 3 101 Y) (E : YE K Y (QvV κ) χ) : ∀ (h : AH) (n : Nat) (z : Nat) (x2 : UInt32), P_J24_init_57 K o κ χ h n z x2 → G K Y h n z 57 [(0, vR (some o)), (2, vF x2)] [] := by
  intro h n z x2 hk
  refine r_hNew X (pc := 57) nw_J24_49 dJ24_init_57 hk (fun h23 hk => ?_)
  refine r_dup X (pc := 60) dJ24_init_60 rfl ?_
  refine r_hNew X (pc := 61) nw_J24_51 dJ24_init_61 hk (fun h24 hk => ?_)
  refine r_dup X (pc := 64) dJ24_init_64 rfl ?_
  refine r_callI X (pc := 65) (As := []) (st := [vR (some (n + 1)), vR (some n), vR (some n)]) m_J24_53 (fun _ => s_J12_init hk) ⟨by decide, by decide⟩ (Nat.le_of_ble_eq_true rfl) dJ24_init_65 (fun v9 h25 n26 z27 hq => ?_) (fun ci28 q29 h30 n31 z32 hf => ?_)
  · obtain ⟨rfl, hk⟩ := hq
    refine ⟨[], rfl, ?_⟩
    exact hk.elim
  · have hk := hf
    exact r_out X E (fun _ h9 => nomatch h9) hk
set_option maxHeartbeats 4000000 in
theorem w_J24_init_44 {K : KT} {Y : YT} {o : Nat} {κ : AH → Nat → Nat → Prop} {χ : QxT} (X : XY K "java/util/HashMap" "<init>" cJ24_init none [] 3 3 101 Y) (E : YE K Y (QvV κ) χ) : ∀ (h : AH) (n : Nat) (z : Nat) (x1 : Int) (x2 : UInt32), P_J24_init_44 K o κ χ h n z x1 x2 → G K Y h n z 44 [(0, vR (some o)), (1, vI x1), (2, vF x2)] [] := by
  intro h n z x1 x2 hk
  refine r_fload_n X (pc := 44) dJ24_init_44 rfl (q := 2) rfl ?_
  refine r_fconst0 X (pc := 45) dJ24_init_45 ?_
  refine r_fcmp X (pc := 46) dJ24_init_46 ?_
  obtain ⟨b33, hk⟩ := hk
  refine r_if_le X (pc := 47) (tgt := 57) dJ24_init_47 (by decide) b33 (fun c34 => ?_) (fun c34 => ?_)
  · have hk := hk.2 c34
    refine G.sub [0, 2] rfl ?_
    exact w_J24_init_57 X E h n z x2 hk
  · have hk := hk.1 c34
    refine r_fload_n X (pc := 50) dJ24_init_50 rfl (q := 2) rfl ?_
    refine r_callS X (pc := 51) (As := [vF x2]) (st := []) m_J24_70 (fun _ => s_J26_isNaN hk) ⟨by decide, by decide⟩ (Nat.le_of_ble_eq_true rfl) dJ24_init_51 (fun v9 h9 n9 z9 hq => ?_) (fun ci9 q9 h9 n9 z9 hf => ?_)
    · obtain ⟨r35, rfl, rfl, rfl, rfl, hk⟩ := hq
      refine ⟨[vI r35], rfl, ?_⟩
      obtain ⟨b36, hk⟩ := hk
      refine r_if_eq X (pc := 54) (tgt := 84) dJ24_init_54 (by decide) b36 (fun c37 => ?_) (fun c37 => ?_)
      · have hk := hk.1 c37
        refine r_aload_n X (pc := 84) dJ24_init_84 rfl (q := 0) rfl ?_
        refine r_fload_n X (pc := 85) dJ24_init_85 rfl (q := 2) rfl ?_
        refine r_hPutF X (pc := 86) fp_J24_81_J25 rfl rfl rfl dJ24_init_86 hk (fun h38 hk => ?_)
        refine r_aload_n X (pc := 89) dJ24_init_89 rfl (q := 0) rfl ?_
        refine r_iload_n X (pc := 90) dJ24_init_90 rfl (q := 1) rfl ?_
        refine r_callS X (pc := 91) (As := [vI x1]) (st := [vR (some o)]) m_J24_85 (fun _ => s_J24_tableSizeFor hk) ⟨by decide, by decide⟩ (Nat.le_of_ble_eq_true rfl) dJ24_init_91 (fun v9 h9 n9 z9 hq => ?_) (fun ci9 q9 h9 n9 z9 hf => ?_)
        · obtain ⟨r39, rfl, rfl, rfl, rfl, hk⟩ := hq
          refine ⟨[vI r39], rfl, ?_⟩
          refine r_hPut X (pc := 94) fp_J24_88_J25 rfl rfl dJ24_init_94 hk (fun h40 hk => ?_)
          exact r_vret X E (pc := 97) dJ24_init_97 ⟨rfl, hk⟩
        · exact hf.elim
      · have hk := hk.2 c37
        refine G.sub [0, 2] rfl ?_
        exact w_J24_init_57 X E h n z x2 hk
    · exact hf.elim
set_option maxHeartbeats 4000000 in
theorem w_J24_init {K : KT} {Y : YT} {o : Nat} {κ : AH → Nat → Nat → Prop} {χ : QxT} (X : XY K "java/util/HashMap" "<init>" cJ24_init none [] 3 3 101 Y) (E : YE K Y (QvV κ) χ) {h : AH} {n : Nat} {z : Nat} {x1 : Int} {x2 : UInt32} (hk : P_J24_init K o κ χ h n z x1 x2) : G K Y h n z 0 (lv_argsA 0 [vR (some o), vI x1, vF x2]) [] := by
  show G K Y h n z 0 [(0, vR (some o)), (1, vI x1), (2, vF x2)] []
  refine r_aload_n X (pc := 0) dJ24_init_0 rfl (q := 0) rfl ?_
  refine r_callI X (pc := 1) (As := []) (st := []) m_J24_43 (fun _ => s_J23_init hk) ⟨by decide, by decide⟩ (Nat.le_of_ble_eq_true rfl) dJ24_init_1 (fun v9 h41 n42 z43 hq => ?_) (fun ci57 q58 h59 n60 z61 hf => ?_)
  · obtain ⟨rfl, hk⟩ := hq
    refine ⟨[], rfl, ?_⟩
    refine r_iload_n X (pc := 4) dJ24_init_4 rfl (q := 1) rfl ?_
    obtain ⟨b44, hk⟩ := hk
    refine r_if_ge X (pc := 5) (tgt := 35) dJ24_init_5 (by decide) b44 (fun c45 => ?_) (fun c45 => ?_)
    · have hk := hk.2 c45
      refine r_iload_n X (pc := 35) dJ24_init_35 rfl (q := 1) rfl ?_
      refine r_ldcI X (pc := 36) (v := 1073741824) dJ24_init_36 q1722 (by decide) ?_
      refine r_icmp_le X (pc := 38) (tgt := 44) dJ24_init_38 (by decide) ⟨b44, (by decide)⟩ (fun c46 => ?_) (fun c46 => ?_)
      · have hk := hk.2 c46
        exact w_J24_init_44 X E h41 n42 z43 x1 x2 hk
      · have hk := hk.1 c46
        refine r_ldcI X (pc := 41) (v := 1073741824) dJ24_init_41 q1722 (by decide) ?_
        refine r_istore_n X (pc := 43) (lv1 := [(1, vI 1073741824), (0, vR (some o)), (2, vF x2)]) dJ24_init_43 rfl (by decide) rfl ?_
        refine G.sub [1, 0, 2] rfl ?_
        exact w_J24_init_44 X E h41 n42 z43 1073741824 x2 hk
    · have hk := hk.1 c45
      refine r_hNew X (pc := 8) nw_J24_49 dJ24_init_8 hk (fun h47 hk => ?_)
      refine r_dup X (pc := 11) dJ24_init_11 rfl ?_
      refine r_hNew X (pc := 12) nw_J24_51 dJ24_init_12 hk (fun h48 hk => ?_)
      refine r_dup X (pc := 15) dJ24_init_15 rfl ?_
      refine r_callI X (pc := 16) (As := []) (st := [vR (some (n42 + 1)), vR (some n42), vR (some n42)]) m_J24_53 (fun _ => s_J12_init hk) ⟨by decide, by decide⟩ (Nat.le_of_ble_eq_true rfl) dJ24_init_16 (fun v9 h49 n50 z51 hq => ?_) (fun ci52 q53 h54 n55 z56 hf => ?_)
      · obtain ⟨rfl, hk⟩ := hq
        refine ⟨[], rfl, ?_⟩
        exact hk.elim
      · have hk := hf
        exact r_out X E (fun _ h9 => nomatch h9) hk
  · have hk := hf
    exact r_out X E (fun _ h9 => nomatch h9) hk
theorem s_J24_init {K : KT} {l : Launch} {o : Nat} {κ : AH → Nat → Nat → Prop} {χ : QxT} {h : AH} {n : Nat} {z : Nat} {x1 : Int} {x2 : UInt32} (hk : P_J24_init K o κ χ h n z x1 x2) : Ct K l yJ24_init (ws_ yJ24_init cJ24_init 3 none) 3 101 ([vR (some o), vI x1, vF x2].map cV) h n z (QvV κ) χ :=
  ct_of (by decide +kernel) (Nat.le_of_ble_eq_true rfl) (fun Y X E => w_J24_init X E hk)
set_option maxHeartbeats 4000000 in
theorem w_J25_init {K : KT} {Y : YT} {o : Nat} {κ : AH → Nat → Nat → Prop} {χ : QxT} (X : XY K "java/util/LinkedHashMap" "<init>" cJ25_init none [] 3 4 123 Y) (E : YE K Y (QvV κ) χ) {h : AH} {n : Nat} {z : Nat} {x1 : Int} {x2 : UInt32} (hk : P_J25_init K o κ χ h n z x1 x2) : G K Y h n z 0 (lv_argsA 0 [vR (some o), vI x1, vF x2]) [] := by
  show G K Y h n z 0 [(0, vR (some o)), (1, vI x1), (2, vF x2)] []
  refine r_aload_n X (pc := 0) dJ25_init_0 rfl (q := 0) rfl ?_
  refine r_iload_n X (pc := 1) dJ25_init_1 rfl (q := 1) rfl ?_
  refine r_fload_n X (pc := 2) dJ25_init_2 rfl (q := 2) rfl ?_
  refine r_callI X (pc := 3) (As := [vI x1, vF x2]) (st := []) m_J25_81 (fun _ => s_J24_init hk) ⟨by decide, by decide⟩ (Nat.le_of_ble_eq_true rfl) dJ25_init_3 (fun v9 h3 n4 z5 hq => ?_) (fun ci8 q9 h10 n11 z12 hf => ?_)
  · obtain ⟨rfl, hk⟩ := hq
    refine ⟨[], rfl, ?_⟩
    refine r_aload_n X (pc := 6) dJ25_init_6 rfl (q := 0) rfl ?_
    refine r_iconst X (pc := 7) dJ25_init_7 ?_
    refine r_hPut X (pc := 8) fp_J25_1 rfl rfl dJ25_init_8 hk (fun h6 hk => ?_)
    refine r_aload_n X (pc := 11) dJ25_init_11 rfl (q := 0) rfl ?_
    refine r_iconst X (pc := 12) dJ25_init_12 ?_
    refine r_hPutF X (pc := 13) fp_J25_64 rfl (fit_bool (Or.inl rfl)).1 (fit_bool (Or.inl rfl)).2 dJ25_init_13 hk (fun h7 hk => ?_)
    exact r_vret X E (pc := 16) dJ25_init_16 ⟨rfl, hk⟩
  · have hk := hf
    exact r_out X E (fun _ h9 => nomatch h9) hk
theorem s_J25_init {K : KT} {l : Launch} {o : Nat} {κ : AH → Nat → Nat → Prop} {χ : QxT} {h : AH} {n : Nat} {z : Nat} {x1 : Int} {x2 : UInt32} (hk : P_J25_init K o κ χ h n z x1 x2) : Ct K l yJ25_init (ws_ yJ25_init cJ25_init 3 none) 4 123 ([vR (some o), vI x1, vF x2].map cV) h n z (QvV κ) χ :=
  ct_of (by decide +kernel) (Nat.le_of_ble_eq_true rfl) (fun Y X E => w_J25_init X E hk)
set_option maxHeartbeats 4000000 in
theorem w_J21_init {K : KT} {Y : YT} {o : Nat} {κ : AH → Nat → Nat → Prop} {χ : QxT} (X : XY K "java/util/HashSet" "<init>" cJ21_init none [] 4 5 145 Y) (E : YE K Y (QvV κ) χ) {h : AH} {n : Nat} {z : Nat} {x1 : Int} {x2 : UInt32} {x3 : Int} (hk : P_J21_init K o κ χ h n z x1 x2 x3) : G K Y h n z 0 (lv_argsA 0 [vR (some o), vI x1, vF x2, vI x3]) [] := by
  show G K Y h n z 0 [(0, vR (some o)), (1, vI x1), (2, vF x2), (3, vI x3)] []
  refine r_aload_n X (pc := 0) dJ21_init_0 rfl (q := 0) rfl ?_
  refine r_callI X (pc := 1) (As := []) (st := []) m_J21_1 (fun _ => s_J20_init hk) ⟨by decide, by decide⟩ (Nat.le_of_ble_eq_true rfl) dJ21_init_1 (fun v9 h3 n4 z5 hq => ?_) (fun ci16 q17 h18 n19 z20 hf => ?_)
  · obtain ⟨rfl, hk⟩ := hq
    refine ⟨[], rfl, ?_⟩
    refine r_aload_n X (pc := 4) dJ21_init_4 rfl (q := 0) rfl ?_
    refine r_hNew X (pc := 5) nw_J21_42 dJ21_init_5 hk (fun h6 hk => ?_)
    refine r_dup X (pc := 8) dJ21_init_8 rfl ?_
    refine r_iload_n X (pc := 9) dJ21_init_9 rfl (q := 1) rfl ?_
    refine r_fload_n X (pc := 10) dJ21_init_10 rfl (q := 2) rfl ?_
    refine r_callI X (pc := 11) (As := [vI x1, vF x2]) (st := [vR (some n4), vR (some o)]) m_J21_44 (fun _ => s_J25_init hk) ⟨by decide, by decide⟩ (Nat.le_of_ble_eq_true rfl) dJ21_init_11 (fun v9 h7 n8 z9 hq => ?_) (fun ci11 q12 h13 n14 z15 hf => ?_)
    · obtain ⟨rfl, hk⟩ := hq
      refine ⟨[], rfl, ?_⟩
      refine r_hPut X (pc := 14) fp_J21_10_J22 (fit_ref (some n4)).1 (fit_ref (some n4)).2 dJ21_init_14 hk (fun h10 hk => ?_)
      exact r_vret X E (pc := 17) dJ21_init_17 ⟨rfl, hk⟩
    · have hk := hf
      exact r_out X E (fun _ h9 => nomatch h9) hk
  · have hk := hf
    exact r_out X E (fun _ h9 => nomatch h9) hk
theorem s_J21_init {K : KT} {l : Launch} {o : Nat} {κ : AH → Nat → Nat → Prop} {χ : QxT} {h : AH} {n : Nat} {z : Nat} {x1 : Int} {x2 : UInt32} {x3 : Int} (hk : P_J21_init K o κ χ h n z x1 x2 x3) : Ct K l yJ21_init (ws_ yJ21_init cJ21_init 4 none) 5 145 ([vR (some o), vI x1, vF x2, vI x3].map cV) h n z (QvV κ) χ :=
  ct_of (by decide +kernel) (Nat.le_of_ble_eq_true rfl) (fun Y X E => w_J21_init X E hk)
set_option maxHeartbeats 4000000 in
theorem w_X11_hashCode {K : KT} {Y : YT} {o : Nat} {κ : Int → AH → Nat → Nat → Prop} {χ : QxT} (X : XY K "TrailMarkers$Leg" "hashCode" cX11_hashCode (Option.some Jvm.ClassFile.FieldType.int) [] 1 0 0 Y) (E : YE K Y (QvI κ) χ) {h : AH} {n : Nat} {z : Nat} (hk : P_X11_hashCode K o κ χ h n z) : G K Y h n z 0 (lv_argsA 0 [vR (some o)]) [] := by
  show G K Y h n z 0 [(0, vR (some o))] []
  refine r_bipush X (pc := 0) dX11_hashCode_0 (by decide) ?_
  refine r_aload_n X (pc := 2) dX11_hashCode_2 rfl (q := 0) rfl ?_
  refine r_hGI X (pc := 3) fa_X11_7 dX11_hashCode_3 hk (fun y6 hk => ?_)
  refine r_imul X (pc := 6) dX11_hashCode_6 ?_
  refine r_iconst X (pc := 7) dX11_hashCode_7 ?_
  refine r_aload_n X (pc := 8) dX11_hashCode_8 rfl (q := 0) rfl ?_
  refine r_hGI X (pc := 9) fa_X11_13 dX11_hashCode_9 hk (fun y7 hk => ?_)
  refine r_imul X (pc := 12) dX11_hashCode_12 ?_
  refine r_iadd X (pc := 13) dX11_hashCode_13 ?_
  refine r_aload_n X (pc := 14) dX11_hashCode_14 rfl (q := 0) rfl ?_
  refine r_hGI X (pc := 15) fa_X11_16 dX11_hashCode_15 hk (fun y8 hk => ?_)
  obtain ⟨b9, hk⟩ := hk
  refine r_if_eq X (pc := 18) (tgt := 25) dX11_hashCode_18 (by decide) b9 (fun c10 => ?_) (fun c10 => ?_)
  · have hk := hk.1 c10
    refine r_iconst X (pc := 25) dX11_hashCode_25 ?_
    refine r_iadd X (pc := 26) dX11_hashCode_26 ?_
    exact r_iret X E (pc := 27) dX11_hashCode_27 rfl ⟨_, rfl, hk⟩
  · have hk := hk.2 c10
    refine r_iconst X (pc := 21) dX11_hashCode_21 ?_
    refine r_goto X (pc := 22) (tgt := 26) dX11_hashCode_22 (by decide) ?_
    refine r_iadd X (pc := 26) dX11_hashCode_26 ?_
    exact r_iret X E (pc := 27) dX11_hashCode_27 rfl ⟨_, rfl, hk⟩
theorem s_X11_hashCode {K : KT} {l : Launch} {o : Nat} {κ : Int → AH → Nat → Nat → Prop} {χ : QxT} {h : AH} {n : Nat} {z : Nat} (hk : P_X11_hashCode K o κ χ h n z) : Ct K l yX11_hashCode (ws_ yX11_hashCode cX11_hashCode 1 (Option.some Jvm.ClassFile.FieldType.int)) 0 0 ([vR (some o)].map cV) h n z (QvI κ) χ :=
  ct_of (by decide +kernel) (Nat.le_of_ble_eq_true rfl) (fun Y X E => w_X11_hashCode X E hk)
set_option maxHeartbeats 4000000 in
theorem w_X12_hashCode {K : KT} {Y : YT} {o : Nat} {κ : Int → AH → Nat → Nat → Prop} {χ : QxT} (X : XY K "TrailMarkers$Cell" "hashCode" cX12_hashCode (Option.some Jvm.ClassFile.FieldType.int) [] 1 0 0 Y) (E : YE K Y (QvI κ) χ) {h : AH} {n : Nat} {z : Nat} (hk : P_X12_hashCode K o κ χ h n z) : G K Y h n z 0 (lv_argsA 0 [vR (some o)]) [] := by
  show G K Y h n z 0 [(0, vR (some o))] []
  refine r_bipush X (pc := 0) dX12_hashCode_0 (by decide) ?_
  refine r_aload_n X (pc := 2) dX12_hashCode_2 rfl (q := 0) rfl ?_
  refine r_hGI X (pc := 3) fa_X12_7 dX12_hashCode_3 hk (fun y3 hk => ?_)
  refine r_imul X (pc := 6) dX12_hashCode_6 ?_
  refine r_aload_n X (pc := 7) dX12_hashCode_7 rfl (q := 0) rfl ?_
  refine r_hGI X (pc := 8) fa_X12_13 dX12_hashCode_8 hk (fun y4 hk => ?_)
  refine r_iadd X (pc := 11) dX12_hashCode_11 ?_
  exact r_iret X E (pc := 12) dX12_hashCode_12 rfl ⟨_, rfl, hk⟩
theorem s_X12_hashCode {K : KT} {l : Launch} {o : Nat} {κ : Int → AH → Nat → Nat → Prop} {χ : QxT} {h : AH} {n : Nat} {z : Nat} (hk : P_X12_hashCode K o κ χ h n z) : Ct K l yX12_hashCode (ws_ yX12_hashCode cX12_hashCode 1 (Option.some Jvm.ClassFile.FieldType.int)) 0 0 ([vR (some o)].map cV) h n z (QvI κ) χ :=
  ct_of (by decide +kernel) (Nat.le_of_ble_eq_true rfl) (fun Y X E => w_X12_hashCode X E hk)
set_option maxHeartbeats 4000000 in
theorem w_J24_hash {K : KT} {Y : YT} {κ : Int → AH → Nat → Nat → Prop} {χ : QxT} (X : XY K "java/util/HashMap" "hash" cJ24_hash (Option.some Jvm.ClassFile.FieldType.int) [] 2 6 166 Y) (E : YE K Y (QvI κ) χ) {h : AH} {n : Nat} {z : Nat} {x0 : Option Nat} (hk : P_J24_hash K κ χ h n z x0) : G K Y h n z 0 (lv_argsA 0 [vR x0]) [] := by
  show G K Y h n z 0 [(0, vR x0)] []
  refine r_aload_n X (pc := 0) dJ24_hash_0 rfl (q := 0) rfl ?_
  refine r_ifnonnull X (pc := 1) (tgt := 8) dJ24_hash_1 (by decide) (fun c3 => ?_) (fun c3 => ?_)
  · have hk := hk.2 c3
    refine r_aload_n X (pc := 8) dJ24_hash_8 rfl (q := 0) rfl ?_
    rcases hk with hk | hk | hk
    · obtain ⟨o13, fs14, e9, b15, hk⟩ := hk
      refine r_callU X (pc := 9) (As := []) (st := []) rfl rfl e9 b15 mu_J24_1_10 (fun _ => s_X11_hashCode hk) ⟨by decide, by decide⟩ (Nat.le_of_ble_eq_true rfl) dJ24_hash_9 (fun v9 h5 n6 z7 hq => ?_) (fun ci8 q9 h10 n11 z12 hf => ?_)
      · obtain ⟨r4, rfl, hk⟩ := hq
        refine ⟨[vI r4], rfl, ?_⟩
        refine r_dup X (pc := 12) dJ24_hash_12 rfl ?_
        refine r_istore_n X (pc := 13) (lv1 := [(1, vI r4), (0, vR x0)]) dJ24_hash_13 rfl (by decide) rfl ?_
        refine r_iload_n X (pc := 14) dJ24_hash_14 rfl (q := 0) rfl ?_
        refine r_bipush X (pc := 15) dJ24_hash_15 (by decide) ?_
        refine r_iushr X (pc := 17) dJ24_hash_17 ?_
        refine r_ixor X (pc := 18) dJ24_hash_18 ?_
        exact r_iret X E (pc := 19) dJ24_hash_19 rfl ⟨_, rfl, hk⟩
      · have hk := hf
        exact r_out X E (fun _ h9 => nomatch h9) hk
    · obtain ⟨o24, fs25, e9, b26, hk⟩ := hk
      refine r_callU X (pc := 9) (As := []) (st := []) rfl rfl e9 b26 mu_J24_1_11 (fun _ => s_X12_hashCode hk) ⟨by decide, by decide⟩ (Nat.le_of_ble_eq_true rfl) dJ24_hash_9 (fun v9 h16 n17 z18 hq => ?_) (fun ci19 q20 h21 n22 z23 hf => ?_)
      · obtain ⟨r4, rfl, hk⟩ := hq
        refine ⟨[vI r4], rfl, ?_⟩
        refine r_dup X (pc := 12) dJ24_hash_12 rfl ?_
        refine r_istore_n X (pc := 13) (lv1 := [(1, vI r4), (0, vR x0)]) dJ24_hash_13 rfl (by decide) rfl ?_
        refine r_iload_n X (pc := 14) dJ24_hash_14 rfl (q := 0) rfl ?_
        refine r_bipush X (pc := 15) dJ24_hash_15 (by decide) ?_
        refine r_iushr X (pc := 17) dJ24_hash_17 ?_
        refine r_ixor X (pc := 18) dJ24_hash_18 ?_
        exact r_iret X E (pc := 19) dJ24_hash_19 rfl ⟨_, rfl, hk⟩
      · have hk := hf
        exact r_out X E (fun _ h9 => nomatch h9) hk
    · obtain ⟨o35, fs36, e9, b37, hk⟩ := hk
      refine r_callU X (pc := 9) (As := []) (st := []) rfl rfl e9 b37 mu_J24_1_13 (fun _ => s_J4_hashCode hk) ⟨by decide, by decide⟩ (Nat.le_of_ble_eq_true rfl) dJ24_hash_9 (fun v9 h27 n28 z29 hq => ?_) (fun ci30 q31 h32 n33 z34 hf => ?_)
      · obtain ⟨r4, rfl, hk⟩ := hq
        refine ⟨[vI r4], rfl, ?_⟩
        refine r_dup X (pc := 12) dJ24_hash_12 rfl ?_
        refine r_istore_n X (pc := 13) (lv1 := [(1, vI r4), (0, vR x0)]) dJ24_hash_13 rfl (by decide) rfl ?_
        refine r_iload_n X (pc := 14) dJ24_hash_14 rfl (q := 0) rfl ?_
        refine r_bipush X (pc := 15) dJ24_hash_15 (by decide) ?_
        refine r_iushr X (pc := 17) dJ24_hash_17 ?_
        refine r_ixor X (pc := 18) dJ24_hash_18 ?_
        exact r_iret X E (pc := 19) dJ24_hash_19 rfl ⟨_, rfl, hk⟩
      · have hk := hf
        exact r_out X E (fun _ h9 => nomatch h9) hk
  · have hk := hk.1 c3
    refine r_iconst X (pc := 4) dJ24_hash_4 ?_
    refine r_goto X (pc := 5) (tgt := 19) dJ24_hash_5 (by decide) ?_
    exact r_iret X E (pc := 19) dJ24_hash_19 rfl ⟨_, rfl, hk⟩
theorem s_J24_hash {K : KT} {l : Launch} {κ : Int → AH → Nat → Nat → Prop} {χ : QxT} {h : AH} {n : Nat} {z : Nat} {x0 : Option Nat} (hk : P_J24_hash K κ χ h n z x0) : Ct K l yJ24_hash (ws_ yJ24_hash cJ24_hash 2 (Option.some Jvm.ClassFile.FieldType.int)) 6 166 ([vR x0].map cV) h n z (QvI κ) χ :=
  ct_of (by decide +kernel) (Nat.le_of_ble_eq_true rfl) (fun Y X E => w_J24_hash X E hk)
set_option maxHeartbeats 4000000 in
theorem w_J24_resize_353 {K : KT} {Y : YT} {o : Nat} {κ : Option Nat → AH → Nat → Nat → Prop} {χ : QxT} (X : XY K "java/util/HashMap" "resize" cJ24_resize (Option.some (Jvm.ClassFile.FieldType.array (Jvm.ClassFile.FieldType.object "java/util/HashMap$Node"))) [] 14 0 0 Y) (E : YE K Y (QvR κ) χ) : ∀ (h : AH) (n : Nat) (z : Nat) (x6 : Option Nat), P_J24_resize_353 K o κ χ h n z x6 → G K Y h n z 353 [(0, vR (some o)), (6, vR x6)] [] := by
  intro h n z x6 hk
  refine r_aload X (pc := 353) dJ24_resize_353 (q := 1) rfl ?_
  exact r_aret X E (Or.inr ⟨_, rfl⟩) (pc := 355) dJ24_resize_355 ⟨_, rfl, hk⟩
set_option maxHeartbeats 4000000 in
theorem w_J24_resize_301 {K : KT} {Y : YT} {o : Nat} {κ : Option Nat → AH → Nat → Nat → Prop} {χ : QxT} (X : XY K "java/util/HashMap" "resize" cJ24_resize (Option.some (Jvm.ClassFile.FieldType.array (Jvm.ClassFile.FieldType.object "java/util/HashMap$Node"))) [] 14 0 0 Y) (E : YE K Y (QvR κ) χ) {k_235 : AH → Nat → Nat → Option Nat → Int → Int → Option Nat → Int → Option Nat → Option Nat → Option Nat → Option Nat → Option Nat → Prop} {k_309 : AH → Nat → Nat → Option Nat → Int → Int → Option Nat → Int → Option Nat → Option Nat → Option Nat → Option Nat → Prop} (H_235 : ∀ (h : AH) (n : Nat) (z : Nat) (x1 : Option Nat) (x2 : Int) (x4 : Int) (x6 : Option Nat) (x7 : Int) (x8 : Option Nat) (x9 : Option Nat) (x10 : Option Nat) (x11 : Option Nat) (x12 : Option Nat), k_235 h n z x1 x2 x4 x6 x7 x8 x9 x10 x11 x12 → G K Y h n z 235 [(0, vR (some o)), (1, vR x1), (2, vI x2), (4, vI x4), (6, vR x6), (7, vI x7), (8, vR x8), (9, vR x9), (10, vR x10), (11, vR x11), (12, vR x12)] []) (H_309 : ∀ (h : AH) (n : Nat) (z : Nat) (x1 : Option Nat) (x2 : Int) (x4 : Int) (x6 : Option Nat) (x7 : Int) (x9 : Option Nat) (x10 : Option Nat) (x11 : Option Nat) (x12 : Option Nat), k_309 h n z x1 x2 x4 x6 x7 x9 x10 x11 x12 → G K Y h n z 309 [(0, vR (some o)), (1, vR x1), (2, vI x2), (4, vI x4), (6, vR x6), (7, vI x7), (9, vR x9), (10, vR x10), (11, vR x11), (12, vR x12)] []) : ∀ (h : AH) (n : Nat) (z : Nat) (x1 : Option Nat) (x2 : Int) (x4 : Int) (x6 : Option Nat) (x7 : Int) (x9 : Option Nat) (x10 : Option Nat) (x11 : Option Nat) (x12 : Option Nat) (x13 : Option Nat), P_J24_resize_301 K o k_235 k_309 κ χ h n z x1 x2 x4 x6 x7 x9 x10 x11 x12 x13 → G K Y h n z 301 [(0, vR (some o)), (1, vR x1), (2, vI x2), (4, vI x4), (6, vR x6), (7, vI x7), (9, vR x9), (10, vR x10), (11, vR x11), (12, vR x12), (13, vR x13)] [] := by
  intro h n z x1 x2 x4 x6 x7 x9 x10 x11 x12 x13 hk
  refine r_aload X (pc := 301) dJ24_resize_301 (q := 10) rfl ?_
  refine r_dup X (pc := 303) dJ24_resize_303 rfl ?_
  refine r_astore X (pc := 304) (lv1 := [(8, vR x13), (0, vR (some o)), (1, vR x1), (2, vI x2), (4, vI x4), (6, vR x6), (7, vI x7), (9, vR x9), (10, vR x10), (11, vR x11), (12, vR x12), (13, vR x13)]) dJ24_resize_304 (by decide) rfl ?_
  refine r_ifnonnull X (pc := 306) (tgt := 235) dJ24_resize_306 (by decide) (fun c56 => ?_) (fun c56 => ?_)
  · have hk := hk.2 c56
    refine G.sub [1, 2, 3, 4, 5, 6, 0, 7, 8, 9, 10] rfl ?_
    exact H_235 h n z x1 x2 x4 x6 x7 x13 x9 x10 x11 x12 hk
  · have hk := hk.1 c56
    refine G.sub [1, 2, 3, 4, 5, 6, 7, 8, 9, 10] rfl ?_
    exact H_309 h n z x1 x2 x4 x6 x7 x9 x10 x11 x12 hk
set_option maxHeartbeats 4000000 in
theorem w_J24_resize_235 {K : KT} {Y : YT} {o : Nat} {κ : Option Nat → AH → Nat → Nat → Prop} {χ : QxT} (X : XY K "java/util/HashMap" "resize" cJ24_resize (Option.some (Jvm.ClassFile.FieldType.array (Jvm.ClassFile.FieldType.object "java/util/HashMap$Node"))) [] 14 0 0 Y) (E : YE K Y (QvR κ) χ) {k_309 : AH → Nat → Nat → Option Nat → Int → Int → Option Nat → Int → Option Nat → Option Nat → Option Nat → Option Nat → Prop} (H_309 : ∀ (h : AH) (n : Nat) (z : Nat) (x1 : Option Nat) (x2 : Int) (x4 : Int) (x6 : Option Nat) (x7 : Int) (x9 : Option Nat) (x10 : Option Nat) (x11 : Option Nat) (x12 : Option Nat), k_309 h n z x1 x2 x4 x6 x7 x9 x10 x11 x12 → G K Y h n z 309 [(0, vR (some o)), (1, vR x1), (2, vI x2), (4, vI x4), (6, vR x6), (7, vI x7), (9, vR x9), (10, vR x10), (11, vR x11), (12, vR x12)] []) : ∀ (f : Nat) (h : AH) (n : Nat) (z : Nat) (x1 : Option Nat) (x2 : Int) (x4 : Int) (x6 : Option Nat) (x7 : Int) (x8 : Option Nat) (x9 : Option Nat) (x10 : Option Nat) (x11 : Option Nat) (x12 : Option Nat), L_J24_resize_235 K o k_309 κ χ f h n z x1 x2 x4 x6 x7 x8 x9 x10 x11 x12 → G K Y h n z 235 [(0, vR (some o)), (1, vR x1), (2, vI x2), (4, vI x4), (6, vR x6), (7, vI x7), (8, vR x8), (9, vR x9), (10, vR x10), (11, vR x11), (12, vR x12)] [] := by
  intro f
  induction f with
  | zero => intro h n z x1 x2 x4 x6 x7 x8 x9 x10 x11 x12 hk; exact hk.elim
  | succ f ih =>
    intro h n z x1 x2 x4 x6 x7 x8 x9 x10 x11 x12 hk
    refine r_aload X (pc := 235) dJ24_resize_235 (q := 6) rfl ?_
    refine r_hGR X (pc := 237) fa_J24_177_J33 dJ24_resize_237 hk (fun y57 hk => ?_)
    refine r_astore X (pc := 240) (lv1 := [(13, vR y57), (0, vR (some o)), (1, vR x1), (2, vI x2), (4, vI x4), (6, vR x6), (7, vI x7), (8, vR x8), (9, vR x9), (10, vR x10), (11, vR x11), (12, vR x12)]) dJ24_resize_240 (by decide) rfl ?_
    refine r_aload X (pc := 242) dJ24_resize_242 (q := 7) rfl ?_
    refine r_hGI X (pc := 244) fa_J24_168_J33 dJ24_resize_244 hk (fun y58 hk => ?_)
    refine r_iload_n X (pc := 247) dJ24_resize_247 rfl (q := 3) rfl ?_
    refine r_iand X (pc := 248) dJ24_resize_248 ?_
    obtain ⟨b59, hk⟩ := hk
    refine r_if_ne X (pc := 249) (tgt := 278) dJ24_resize_249 (by decide) b59 (fun c60 => ?_) (fun c60 => ?_)
    · have hk := hk.2 c60
      refine r_aload X (pc := 278) dJ24_resize_278 (q := 11) rfl ?_
      refine r_ifnonnull X (pc := 280) (tgt := 290) dJ24_resize_280 (by decide) (fun c61 => ?_) (fun c61 => ?_)
      · have hk := hk.2 c61
        refine r_aload X (pc := 290) dJ24_resize_290 (q := 11) rfl ?_
        refine r_aload X (pc := 292) dJ24_resize_292 (q := 7) rfl ?_
        refine r_hPut X (pc := 294) fp_J24_177_J33 (fit_ref x8).1 (fit_ref x8).2 dJ24_resize_294 hk (fun h62 hk => ?_)
        refine r_aload X (pc := 297) dJ24_resize_297 (q := 7) rfl ?_
        refine r_astore X (pc := 299) (lv1 := [(12, vR x8), (13, vR y57), (0, vR (some o)), (1, vR x1), (2, vI x2), (4, vI x4), (6, vR x6), (7, vI x7), (8, vR x8), (9, vR x9), (10, vR x10), (11, vR x11)]) dJ24_resize_299 (by decide) rfl ?_
        refine G.sub [2, 3, 4, 5, 6, 7, 9, 10, 11, 0, 1] rfl ?_
        have HH63 : ∀ (h : AH) (n : Nat) (z : Nat) (x1 : Option Nat) (x2 : Int) (x4 : Int) (x6 : Option Nat) (x7 : Int) (x8 : Option Nat) (x9 : Option Nat) (x10 : Option Nat) (x11 : Option Nat) (x12 : Option Nat), (L_J24_resize_235 K o k_309 κ χ f h n z x1 x2 x4 x6 x7 x8 x9 x10 x11 x12) → G K Y h n z 235 [(0, vR (some o)), (1, vR x1), (2, vI x2), (4, vI x4), (6, vR x6), (7, vI x7), (8, vR x8), (9, vR x9), (10, vR x10), (11, vR x11), (12, vR x12)] [] := by
            intro h n z x1 x2 x4 x6 x7 x8 x9 x10 x11 x12 hk
            exact ih h n z x1 x2 x4 x6 x7 x8 x9 x10 x11 x12 hk
        exact w_J24_resize_301 X E HH63 H_309 h62 n z x1 x2 x4 x6 x7 x9 x10 x11 x8 y57 hk
      · have hk := hk.1 c61
        refine r_aload X (pc := 283) dJ24_resize_283 (q := 7) rfl ?_
        refine r_astore X (pc := 285) (lv1 := [(11, vR x8), (13, vR y57), (0, vR (some o)), (1, vR x1), (2, vI x2), (4, vI x4), (6, vR x6), (7, vI x7), (8, vR x8), (9, vR x9), (10, vR x10), (12, vR x12)]) dJ24_resize_285 (by decide) rfl ?_
        refine r_goto X (pc := 287) (tgt := 297) dJ24_resize_287 (by decide) ?_
        refine r_aload X (pc := 297) dJ24_resize_297 (q := 8) rfl ?_
        refine r_astore X (pc := 299) (lv1 := [(12, vR x8), (11, vR x8), (13, vR y57), (0, vR (some o)), (1, vR x1), (2, vI x2), (4, vI x4), (6, vR x6), (7, vI x7), (8, vR x8), (9, vR x9), (10, vR x10)]) dJ24_resize_299 (by decide) rfl ?_
        refine G.sub [3, 4, 5, 6, 7, 8, 10, 11, 1, 0, 2] rfl ?_
        have HH64 : ∀ (h : AH) (n : Nat) (z : Nat) (x1 : Option Nat) (x2 : Int) (x4 : Int) (x6 : Option Nat) (x7 : Int) (x8 : Option Nat) (x9 : Option Nat) (x10 : Option Nat) (x11 : Option Nat) (x12 : Option Nat), (L_J24_resize_235 K o k_309 κ χ f h n z x1 x2 x4 x6 x7 x8 x9 x10 x11 x12) → G K Y h n z 235 [(0, vR (some o)), (1, vR x1), (2, vI x2), (4, vI x4), (6, vR x6), (7, vI x7), (8, vR x8), (9, vR x9), (10, vR x10), (11, vR x11), (12, vR x12)] [] := by
            intro h n z x1 x2 x4 x6 x7 x8 x9 x10 x11 x12 hk
            exact ih h n z x1 x2 x4 x6 x7 x8 x9 x10 x11 x12 hk
        exact w_J24_resize_301 X E HH64 H_309 h n z x1 x2 x4 x6 x7 x9 x10 x8 x8 y57 hk
    · have hk := hk.1 c60
      refine r_aload X (pc := 252) dJ24_resize_252 (q := 9) rfl ?_
      refine r_ifnonnull X (pc := 254) (tgt := 264) dJ24_resize_254 (by decide) (fun c65 => ?_) (fun c65 => ?_)
      · have hk := hk.2 c65
        refine r_aload X (pc := 264) dJ24_resize_264 (q := 9) rfl ?_
        refine r_aload X (pc := 266) dJ24_resize_266 (q := 7) rfl ?_
        refine r_hPut X (pc := 268) fp_J24_177_J33 (fit_ref x8).1 (fit_ref x8).2 dJ24_resize_268 hk (fun h66 hk => ?_)
        refine r_aload X (pc := 271) dJ24_resize_271 (q := 7) rfl ?_
        refine r_astore X (pc := 273) (lv1 := [(10, vR x8), (13, vR y57), (0, vR (some o)), (1, vR x1), (2, vI x2), (4, vI x4), (6, vR x6), (7, vI x7), (8, vR x8), (9, vR x9), (11, vR x11), (12, vR x12)]) dJ24_resize_273 (by decide) rfl ?_
        refine r_goto X (pc := 275) (tgt := 301) dJ24_resize_275 (by decide) ?_
        refine G.sub [2, 3, 4, 5, 6, 7, 9, 0, 10, 11, 1] rfl ?_
        have HH67 : ∀ (h : AH) (n : Nat) (z : Nat) (x1 : Option Nat) (x2 : Int) (x4 : Int) (x6 : Option Nat) (x7 : Int) (x8 : Option Nat) (x9 : Option Nat) (x10 : Option Nat) (x11 : Option Nat) (x12 : Option Nat), (L_J24_resize_235 K o k_309 κ χ f h n z x1 x2 x4 x6 x7 x8 x9 x10 x11 x12) → G K Y h n z 235 [(0, vR (some o)), (1, vR x1), (2, vI x2), (4, vI x4), (6, vR x6), (7, vI x7), (8, vR x8), (9, vR x9), (10, vR x10), (11, vR x11), (12, vR x12)] [] := by
            intro h n z x1 x2 x4 x6 x7 x8 x9 x10 x11 x12 hk
            exact ih h n z x1 x2 x4 x6 x7 x8 x9 x10 x11 x12 hk
        exact w_J24_resize_301 X E HH67 H_309 h66 n z x1 x2 x4 x6 x7 x9 x8 x11 x12 y57 hk
      · have hk := hk.1 c65
        refine r_aload X (pc := 257) dJ24_resize_257 (q := 7) rfl ?_
        refine r_astore X (pc := 259) (lv1 := [(9, vR x8), (13, vR y57), (0, vR (some o)), (1, vR x1), (2, vI x2), (4, vI x4), (6, vR x6), (7, vI x7), (8, vR x8), (10, vR x10), (11, vR x11), (12, vR x12)]) dJ24_resize_259 (by decide) rfl ?_
        refine r_goto X (pc := 261) (tgt := 271) dJ24_resize_261 (by decide) ?_
        refine r_aload X (pc := 271) dJ24_resize_271 (q := 8) rfl ?_
        refine r_astore X (pc := 273) (lv1 := [(10, vR x8), (9, vR x8), (13, vR y57), (0, vR (some o)), (1, vR x1), (2, vI x2), (4, vI x4), (6, vR x6), (7, vI x7), (8, vR x8), (11, vR x11), (12, vR x12)]) dJ24_resize_273 (by decide) rfl ?_
        refine r_goto X (pc := 275) (tgt := 301) dJ24_resize_275 (by decide) ?_
        refine G.sub [3, 4, 5, 6, 7, 8, 1, 0, 10, 11, 2] rfl ?_
        have HH68 : ∀ (h : AH) (n : Nat) (z : Nat) (x1 : Option Nat) (x2 : Int) (x4 : Int) (x6 : Option Nat) (x7 : Int) (x8 : Option Nat) (x9 : Option Nat) (x10 : Option Nat) (x11 : Option Nat) (x12 : Option Nat), (L_J24_resize_235 K o k_309 κ χ f h n z x1 x2 x4 x6 x7 x8 x9 x10 x11 x12) → G K Y h n z 235 [(0, vR (some o)), (1, vR x1), (2, vI x2), (4, vI x4), (6, vR x6), (7, vI x7), (8, vR x8), (9, vR x9), (10, vR x10), (11, vR x11), (12, vR x12)] [] := by
            intro h n z x1 x2 x4 x6 x7 x8 x9 x10 x11 x12 hk
            exact ih h n z x1 x2 x4 x6 x7 x8 x9 x10 x11 x12 hk
        exact w_J24_resize_301 X E HH68 H_309 h n z x1 x2 x4 x6 x7 x8 x8 x11 x12 y57 hk
set_option maxHeartbeats 4000000 in
theorem w_J24_resize_327 {K : KT} {Y : YT} {o : Nat} {κ : Option Nat → AH → Nat → Nat → Prop} {χ : QxT} (X : XY K "java/util/HashMap" "resize" cJ24_resize (Option.some (Jvm.ClassFile.FieldType.array (Jvm.ClassFile.FieldType.object "java/util/HashMap$Node"))) [] 14 0 0 Y) (E : YE K Y (QvR κ) χ) {k_151 : AH → Nat → Nat → Option Nat → Int → Int → Option Nat → Int → Prop} {k_353 : AH → Nat → Nat → Option Nat → Prop} (H_151 : ∀ (h : AH) (n : Nat) (z : Nat) (x1 : Option Nat) (x2 : Int) (x4 : Int) (x6 : Option Nat) (x7 : Int), k_151 h n z x1 x2 x4 x6 x7 → G K Y h n z 151 [(0, vR (some o)), (1, vR x1), (2, vI x2), (4, vI x4), (6, vR x6), (7, vI x7)] []) (H_353 : ∀ (h : AH) (n : Nat) (z : Nat) (x6 : Option Nat), k_353 h n z x6 → G K Y h n z 353 [(0, vR (some o)), (6, vR x6)] []) : ∀ (h : AH) (n : Nat) (z : Nat) (x1 : Option Nat) (x2 : Int) (x4 : Int) (x6 : Option Nat) (x7 : Int) (x11 : Option Nat) (x12 : Option Nat), P_J24_resize_327 K o k_151 k_353 κ χ h n z x1 x2 x4 x6 x7 x11 x12 → G K Y h n z 327 [(0, vR (some o)), (1, vR x1), (2, vI x2), (4, vI x4), (6, vR x6), (7, vI x7), (11, vR x11), (12, vR x12)] [] := by
  intro h n z x1 x2 x4 x6 x7 x11 x12 hk
  refine r_aload X (pc := 327) dJ24_resize_327 (q := 7) rfl ?_
  refine r_ifnull X (pc := 329) (tgt := 347) dJ24_resize_329 (by decide) (fun c69 => ?_) (fun c69 => ?_)
  · have hk := hk.1 c69
    refine r_iinc X (pc := 347) (q := 5) (lv1 := [(7, vI (x7 + 1)), (0, vR (some o)), (1, vR x1), (2, vI x2), (4, vI x4), (6, vR x6), (11, vR x11), (12, vR x12)]) dJ24_resize_347 rfl (by decide) rfl ?_
    refine r_goto X (pc := 350) (tgt := 151) dJ24_resize_350 (by decide) ?_
    refine G.sub [1, 2, 3, 4, 5, 0] rfl ?_
    exact H_151 h n z x1 x2 x4 x6 (x7 + 1) hk
  · have hk := hk.2 c69
    refine r_aload X (pc := 332) dJ24_resize_332 (q := 7) rfl ?_
    refine r_null X (pc := 334) dJ24_resize_334 ?_
    refine r_hPut X (pc := 335) fp_J24_177_J33 (fit_ref none).1 (fit_ref none).2 dJ24_resize_335 hk (fun h70 hk => ?_)
    refine r_aload X (pc := 338) dJ24_resize_338 (q := 4) rfl ?_
    refine r_iload X (pc := 340) dJ24_resize_340 (q := 5) rfl ?_
    refine r_iload_n X (pc := 342) dJ24_resize_342 rfl (q := 2) rfl ?_
    refine r_iadd X (pc := 343) dJ24_resize_343 ?_
    refine r_aload X (pc := 344) dJ24_resize_344 (q := 6) rfl ?_
    refine r_hSR X (pc := 346) (t := 9) rfl cos_java_util_HashMap_Node_18 dJ24_resize_346 hk (fun h71 hk => ?_)
    refine r_iinc X (pc := 347) (q := 5) (lv1 := [(7, vI (x7 + 1)), (0, vR (some o)), (1, vR x1), (2, vI x2), (4, vI x4), (6, vR x6), (11, vR x11), (12, vR x12)]) dJ24_resize_347 rfl (by decide) rfl ?_
    refine r_goto X (pc := 350) (tgt := 151) dJ24_resize_350 (by decide) ?_
    refine G.sub [1, 2, 3, 4, 5, 0] rfl ?_
    exact H_151 h71 n z x1 x2 x4 x6 (x7 + 1) hk
set_option maxHeartbeats 4000000 in
theorem w_J24_resize_309 {K : KT} {Y : YT} {o : Nat} {κ : Option Nat → AH → Nat → Nat → Prop} {χ : QxT} (X : XY K "java/util/HashMap" "resize" cJ24_resize (Option.some (Jvm.ClassFile.FieldType.array (Jvm.ClassFile.FieldType.object "java/util/HashMap$Node"))) [] 14 0 0 Y) (E : YE K Y (QvR κ) χ) {k_151 : AH → Nat → Nat → Option Nat → Int → Int → Option Nat → Int → Prop} {k_353 : AH → Nat → Nat → Option Nat → Prop} (H_151 : ∀ (h : AH) (n : Nat) (z : Nat) (x1 : Option Nat) (x2 : Int) (x4 : Int) (x6 : Option Nat) (x7 : Int), k_151 h n z x1 x2 x4 x6 x7 → G K Y h n z 151 [(0, vR (some o)), (1, vR x1), (2, vI x2), (4, vI x4), (6, vR x6), (7, vI x7)] []) (H_353 : ∀ (h : AH) (n : Nat) (z : Nat) (x6 : Option Nat), k_353 h n z x6 → G K Y h n z 353 [(0, vR (some o)), (6, vR x6)] []) : ∀ (h : AH) (n : Nat) (z : Nat) (x1 : Option Nat) (x2 : Int) (x4 : Int) (x6 : Option Nat) (x7 : Int) (x9 : Option Nat) (x10 : Option Nat) (x11 : Option Nat) (x12 : Option Nat), P_J24_resize_309 K o k_151 k_353 κ χ h n z x1 x2 x4 x6 x7 x9 x10 x11 x12 → G K Y h n z 309 [(0, vR (some o)), (1, vR x1), (2, vI x2), (4, vI x4), (6, vR x6), (7, vI x7), (9, vR x9), (10, vR x10), (11, vR x11), (12, vR x12)] [] := by
  intro h n z x1 x2 x4 x6 x7 x9 x10 x11 x12 hk
  refine r_aload X (pc := 309) dJ24_resize_309 (q := 7) rfl ?_
  refine r_ifnull X (pc := 311) (tgt := 327) dJ24_resize_311 (by decide) (fun c72 => ?_) (fun c72 => ?_)
  · have hk := hk.1 c72
    refine G.sub [0, 1, 2, 3, 4, 5, 8, 9] rfl ?_
    exact w_J24_resize_327 X E H_151 H_353 h n z x1 x2 x4 x6 x7 x11 x12 hk
  · have hk := hk.2 c72
    refine r_aload X (pc := 314) dJ24_resize_314 (q := 7) rfl ?_
    refine r_null X (pc := 316) dJ24_resize_316 ?_
    refine r_hPut X (pc := 317) fp_J24_177_J33 (fit_ref none).1 (fit_ref none).2 dJ24_resize_317 hk (fun h73 hk => ?_)
    refine r_aload X (pc := 320) dJ24_resize_320 (q := 4) rfl ?_
    refine r_iload X (pc := 322) dJ24_resize_322 (q := 5) rfl ?_
    refine r_aload X (pc := 324) dJ24_resize_324 (q := 6) rfl ?_
    refine r_hSR X (pc := 326) (t := 9) rfl cos_java_util_HashMap_Node_18 dJ24_resize_326 hk (fun h74 hk => ?_)
    refine G.sub [0, 1, 2, 3, 4, 5, 8, 9] rfl ?_
    exact w_J24_resize_327 X E H_151 H_353 h74 n z x1 x2 x4 x6 x7 x11 x12 hk
set_option maxHeartbeats 4000000 in
theorem w_J24_resize_151 {K : KT} {Y : YT} {o : Nat} {κ : Option Nat → AH → Nat → Nat → Prop} {χ : QxT} (X : XY K "java/util/HashMap" "resize" cJ24_resize (Option.some (Jvm.ClassFile.FieldType.array (Jvm.ClassFile.FieldType.object "java/util/HashMap$Node"))) [] 14 0 0 Y) (E : YE K Y (QvR κ) χ) {k_353 : AH → Nat → Nat → Option Nat → Prop} (H_353 : ∀ (h : AH) (n : Nat) (z : Nat) (x6 : Option Nat), k_353 h n z x6 → G K Y h n z 353 [(0, vR (some o)), (6, vR x6)] []) : ∀ (f : Nat) (h : AH) (n : Nat) (z : Nat) (x1 : Option Nat) (x2 : Int) (x4 : Int) (x6 : Option Nat) (x7 : Int), L_J24_resize_151 K o k_353 κ χ f h n z x1 x2 x4 x6 x7 → G K Y h n z 151 [(0, vR (some o)), (1, vR x1), (2, vI x2), (4, vI x4), (6, vR x6), (7, vI x7)] [] := by
  intro f
  induction f with
  | zero => intro h n z x1 x2 x4 x6 x7 hk; exact hk.elim
  | succ f ih =>
    intro h n z x1 x2 x4 x6 x7 hk
    refine r_iload X (pc := 151) dJ24_resize_151 (q := 5) rfl ?_
    refine r_iload_n X (pc := 153) dJ24_resize_153 rfl (q := 2) rfl ?_
    obtain ⟨b75, b76, hk⟩ := hk
    refine r_icmp_ge X (pc := 154) (tgt := 353) dJ24_resize_154 (by decide) ⟨b75, b76⟩ (fun c77 => ?_) (fun c77 => ?_)
    · have hk := hk.2 c77
      refine G.sub [0, 4] rfl ?_
      exact H_353 h n z x6 hk
    · have hk := hk.1 c77
      refine r_aload_n X (pc := 157) dJ24_resize_157 rfl (q := 1) rfl ?_
      refine r_iload X (pc := 158) dJ24_resize_158 (q := 5) rfl ?_
      refine r_hAR X (pc := 160) (t := 9) rfl dJ24_resize_160 hk (fun y78 hk => ?_)
      refine r_dup X (pc := 161) dJ24_resize_161 rfl ?_
      refine r_astore X (pc := 162) (lv1 := [(8, vR y78), (0, vR (some o)), (1, vR x1), (2, vI x2), (4, vI x4), (6, vR x6), (7, vI x7)]) dJ24_resize_162 (by decide) rfl ?_
      refine r_ifnull X (pc := 164) (tgt := 347) dJ24_resize_164 (by decide) (fun c79 => ?_) (fun c79 => ?_)
      · have hk := hk.1 c79
        refine r_iinc X (pc := 347) (q := 6) (lv1 := [(7, vI (x7 + 1)), (8, vR y78), (0, vR (some o)), (1, vR x1), (2, vI x2), (4, vI x4), (6, vR x6)]) dJ24_resize_347 rfl (by decide) rfl ?_
        refine r_goto X (pc := 350) (tgt := 151) dJ24_resize_350 (by decide) ?_
        refine G.sub [2, 3, 4, 5, 6, 0] rfl ?_
        exact ih h n z x1 x2 x4 x6 (x7 + 1) hk
      · have hk := hk.2 c79
        refine r_aload_n X (pc := 167) dJ24_resize_167 rfl (q := 2) rfl ?_
        refine r_iload X (pc := 168) dJ24_resize_168 (q := 6) rfl ?_
        refine r_null X (pc := 170) dJ24_resize_170 ?_
        refine r_hSR X (pc := 171) (t := 9) rfl cos_java_util_HashMap_Node_18 dJ24_resize_171 hk (fun h80 hk => ?_)
        refine r_aload X (pc := 172) dJ24_resize_172 (q := 0) rfl ?_
        refine r_hGR X (pc := 174) fa_J24_177_J33 dJ24_resize_174 hk (fun y81 hk => ?_)
        refine r_ifnonnull X (pc := 177) (tgt := 198) dJ24_resize_177 (by decide) (fun c82 => ?_) (fun c82 => ?_)
        · have hk := hk.2 c82
          refine r_aload X (pc := 198) dJ24_resize_198 (q := 0) rfl ?_
          refine r_hInst X (pc := 200) q2260 cos_java_util_HashMap_TreeNode_ cns_java_util_HashMap_TreeNode_18 dJ24_resize_200 hk (fun y83 hk => ?_)
          obtain ⟨b84, hk⟩ := hk
          refine r_if_eq X (pc := 203) (tgt := 223) dJ24_resize_203 (by decide) b84 (fun c85 => ?_) (fun c85 => ?_)
          · have hk := hk.1 c85
            refine r_null X (pc := 223) dJ24_resize_223 ?_
            refine r_astore X (pc := 224) (lv1 := [(9, vR none), (8, vR y78), (0, vR (some o)), (1, vR x1), (2, vI x2), (4, vI x4), (6, vR x6), (7, vI x7)]) dJ24_resize_224 (by decide) rfl ?_
            refine r_null X (pc := 226) dJ24_resize_226 ?_
            refine r_astore X (pc := 227) (lv1 := [(10, vR none), (9, vR none), (8, vR y78), (0, vR (some o)), (1, vR x1), (2, vI x2), (4, vI x4), (6, vR x6), (7, vI x7)]) dJ24_resize_227 (by decide) rfl ?_
            refine r_null X (pc := 229) dJ24_resize_229 ?_
            refine r_astore X (pc := 230) (lv1 := [(11, vR none), (10, vR none), (9, vR none), (8, vR y78), (0, vR (some o)), (1, vR x1), (2, vI x2), (4, vI x4), (6, vR x6), (7, vI x7)]) dJ24_resize_230 (by decide) rfl ?_
            refine r_null X (pc := 232) dJ24_resize_232 ?_
            refine r_astore X (pc := 233) (lv1 := [(12, vR none), (11, vR none), (10, vR none), (9, vR none), (8, vR y78), (0, vR (some o)), (1, vR x1), (2, vI x2), (4, vI x4), (6, vR x6), (7, vI x7)]) dJ24_resize_233 (by decide) rfl ?_
            refine G.sub [5, 6, 7, 8, 9, 10, 4, 3, 2, 1, 0] rfl ?_
            have HH88 : ∀ (h : AH) (n : Nat) (z : Nat) (x1 : Option Nat) (x2 : Int) (x4 : Int) (x6 : Option Nat) (x7 : Int) (x9 : Option Nat) (x10 : Option Nat) (x11 : Option Nat) (x12 : Option Nat), (P_J24_resize_309 K o (fun h n z x1 x2 x4 x6 x7 => L_J24_resize_151 K o k_353 κ χ f h n z x1 x2 x4 x6 x7) k_353 κ χ h n z x1 x2 x4 x6 x7 x9 x10 x11 x12) → G K Y h n z 309 [(0, vR (some o)), (1, vR x1), (2, vI x2), (4, vI x4), (6, vR x6), (7, vI x7), (9, vR x9), (10, vR x10), (11, vR x11), (12, vR x12)] [] := by
                intro h n z x1 x2 x4 x6 x7 x9 x10 x11 x12 hk
                have HH87 : ∀ (h : AH) (n : Nat) (z : Nat) (x1 : Option Nat) (x2 : Int) (x4 : Int) (x6 : Option Nat) (x7 : Int), (L_J24_resize_151 K o k_353 κ χ f h n z x1 x2 x4 x6 x7) → G K Y h n z 151 [(0, vR (some o)), (1, vR x1), (2, vI x2), (4, vI x4), (6, vR x6), (7, vI x7)] [] := by
                    intro h n z x1 x2 x4 x6 x7 hk
                    exact ih h n z x1 x2 x4 x6 x7 hk
                exact w_J24_resize_309 X E HH87 H_353 h n z x1 x2 x4 x6 x7 x9 x10 x11 x12 hk
            obtain ⟨f9, hk⟩ := hk
            exact w_J24_resize_235 X E HH88 f9 h80 n z x1 x2 x4 x6 x7 y78 none none none none hk
          · have hk := hk.2 c85
            refine r_aload X (pc := 206) dJ24_resize_206 (q := 0) rfl ?_
            refine r_hCast X (pc := 208) q2260 cos_java_util_HashMap_TreeNode_ dJ24_resize_208 hk (fun hk => ?_)
            refine r_aload_n X (pc := 211) dJ24_resize_211 rfl (q := 1) rfl ?_
            refine r_aload X (pc := 212) dJ24_resize_212 (q := 5) rfl ?_
            refine r_iload X (pc := 214) dJ24_resize_214 (q := 6) rfl ?_
            refine r_iload_n X (pc := 216) dJ24_resize_216 rfl (q := 3) rfl ?_
            exact hk.elim
        · have hk := hk.1 c82
          refine r_aload X (pc := 180) dJ24_resize_180 (q := 5) rfl ?_
          refine r_aload X (pc := 182) dJ24_resize_182 (q := 0) rfl ?_
          refine r_hGI X (pc := 184) fa_J24_168_J33 dJ24_resize_184 hk (fun y89 hk => ?_)
          refine r_iload X (pc := 187) dJ24_resize_187 (q := 4) rfl ?_
          refine r_iconst X (pc := 189) dJ24_resize_189 ?_
          refine r_isub X (pc := 190) dJ24_resize_190 ?_
          refine r_iand X (pc := 191) dJ24_resize_191 ?_
          refine r_aload X (pc := 192) dJ24_resize_192 (q := 0) rfl ?_
          refine r_hSR X (pc := 194) (t := 9) rfl cos_java_util_HashMap_Node_18 dJ24_resize_194 hk (fun h90 hk => ?_)
          refine r_goto X (pc := 195) (tgt := 347) dJ24_resize_195 (by decide) ?_
          refine r_iinc X (pc := 347) (q := 6) (lv1 := [(7, vI (x7 + 1)), (8, vR y78), (0, vR (some o)), (1, vR x1), (2, vI x2), (4, vI x4), (6, vR x6)]) dJ24_resize_347 rfl (by decide) rfl ?_
          refine r_goto X (pc := 350) (tgt := 151) dJ24_resize_350 (by decide) ?_
          refine G.sub [2, 3, 4, 5, 6, 0] rfl ?_
          exact ih h90 n z x1 x2 x4 x6 (x7 + 1) hk
set_option maxHeartbeats 4000000 in
theorem w_J24_resize_125 {K : KT} {Y : YT} {o : Nat} {κ : Option Nat → AH → Nat → Nat → Prop} {χ : QxT} (X : XY K "java/util/HashMap" "resize" cJ24_resize (Option.some (Jvm.ClassFile.FieldType.array (Jvm.ClassFile.FieldType.object "java/util/HashMap$Node"))) [] 14 0 0 Y) (E : YE K Y (QvR κ) χ) : ∀ (h : AH) (n : Nat) (z : Nat) (x1 : Option Nat) (x2 : Int) (x4 : Int) (x5 : Int), P_J24_resize_125 K o κ χ h n z x1 x2 x4 x5 → G K Y h n z 125 [(0, vR (some o)), (1, vR x1), (2, vI x2), (4, vI x4), (5, vI x5)] [] := by
  intro h n z x1 x2 x4 x5 hk
  refine r_aload_n X (pc := 125) dJ24_resize_125 rfl (q := 0) rfl ?_
  refine r_iload X (pc := 126) dJ24_resize_126 (q := 4) rfl ?_
  refine r_hPut X (pc := 128) fp_J24_88_J25 rfl rfl dJ24_resize_128 hk (fun h91 hk => ?_)
  refine r_iload X (pc := 131) dJ24_resize_131 (q := 3) rfl ?_
  refine r_hAnew X (pc := 133) (t := 9) rfl q2258 q2259 dJ24_resize_133 hk (fun h92 hk => ?_)
  refine r_astore X (pc := 136) (lv1 := [(6, vR (some n)), (0, vR (some o)), (1, vR x1), (2, vI x2), (4, vI x4), (5, vI x5)]) dJ24_resize_136 (by decide) rfl ?_
  refine r_aload_n X (pc := 138) dJ24_resize_138 rfl (q := 1) rfl ?_
  refine r_aload X (pc := 139) dJ24_resize_139 (q := 0) rfl ?_
  refine r_hPut X (pc := 141) fp_J24_105_J25 (fit_arr (some n)).1 (fit_arr (some n)).2 dJ24_resize_141 hk (fun h93 hk => ?_)
  refine r_aload_n X (pc := 144) dJ24_resize_144 rfl (q := 2) rfl ?_
  refine r_ifnull X (pc := 145) (tgt := 353) dJ24_resize_145 (by decide) (fun c94 => ?_) (fun c94 => ?_)
  · have hk := hk.1 c94
    refine G.sub [1, 0] rfl ?_
    exact w_J24_resize_353 X E h93 (n + 1) (z + Int.toNat x4) (some n) hk
  · have hk := hk.2 c94
    refine r_iconst X (pc := 148) dJ24_resize_148 ?_
    refine r_istore X (pc := 149) (lv1 := [(7, vI 0), (6, vR (some n)), (0, vR (some o)), (1, vR x1), (2, vI x2), (4, vI x4), (5, vI x5)]) dJ24_resize_149 (by decide) rfl ?_
    refine G.sub [2, 3, 4, 5, 1, 0] rfl ?_
    have HH95 : ∀ (h : AH) (n : Nat) (z : Nat) (x6 : Option Nat), (P_J24_resize_353 K o κ χ h n z x6) → G K Y h n z 353 [(0, vR (some o)), (6, vR x6)] [] := by
        intro h n z x6 hk
        exact w_J24_resize_353 X E h n z x6 hk
    obtain ⟨f9, hk⟩ := hk
    exact w_J24_resize_151 X E HH95 f9 h93 (n + 1) (z + Int.toNat x4) x1 x2 x4 (some n) 0 hk
set_option maxHeartbeats 4000000 in
theorem w_J24_resize_85 {K : KT} {Y : YT} {o : Nat} {κ : Option Nat → AH → Nat → Nat → Prop} {χ : QxT} (X : XY K "java/util/HashMap" "resize" cJ24_resize (Option.some (Jvm.ClassFile.FieldType.array (Jvm.ClassFile.FieldType.object "java/util/HashMap$Node"))) [] 14 0 0 Y) (E : YE K Y (QvR κ) χ) : ∀ (h : AH) (n : Nat) (z : Nat) (x1 : Option Nat) (x2 : Int) (x4 : Int) (x5 : Int), P_J24_resize_85 K o κ χ h n z x1 x2 x4 x5 → G K Y h n z 85 [(0, vR (some o)), (1, vR x1), (2, vI x2), (4, vI x4), (5, vI x5)] [] := by
  intro h n z x1 x2 x4 x5 hk
  refine r_iload X (pc := 85) dJ24_resize_85 (q := 4) rfl ?_
  obtain ⟨b96, hk⟩ := hk
  refine r_if_ne X (pc := 87) (tgt := 125) dJ24_resize_87 (by decide) b96 (fun c97 => ?_) (fun c97 => ?_)
  · have hk := hk.2 c97
    exact w_J24_resize_125 X E h n z x1 x2 x4 x5 hk
  · have hk := hk.1 c97
    refine r_iload X (pc := 90) dJ24_resize_90 (q := 3) rfl ?_
    refine r_i2f X (pc := 92) dJ24_resize_92 ?_
    refine r_aload_n X (pc := 93) dJ24_resize_93 rfl (q := 0) rfl ?_
    refine r_hGF X (pc := 94) fa_J24_81_J25 dJ24_resize_94 hk (fun y98 hk => ?_)
    obtain ⟨b99, hk⟩ := hk
    refine r_fmul X (pc := 97) dJ24_resize_97 b99 ?_
    refine r_fstore X (pc := 98) (lv1 := [(6, vF (FP.fmul (i2f x4) y98)), (0, vR (some o)), (1, vR x1), (2, vI x2), (4, vI x4), (5, vI x5)]) dJ24_resize_98 (by decide) rfl ?_
    refine r_iload X (pc := 100) dJ24_resize_100 (q := 4) rfl ?_
    refine r_ldcI X (pc := 102) (v := 1073741824) dJ24_resize_102 q1722 (by decide) ?_
    obtain ⟨b100, hk⟩ := hk
    refine r_icmp_ge X (pc := 104) (tgt := 121) dJ24_resize_104 (by decide) ⟨b100, (by decide)⟩ (fun c101 => ?_) (fun c101 => ?_)
    · have hk := hk.2 c101
      refine r_ldcI X (pc := 121) (v := 2147483647) dJ24_resize_121 q2256 (by decide) ?_
      refine r_istore X (pc := 123) (lv1 := [(5, vI 2147483647), (6, vF (FP.fmul (i2f x4) y98)), (0, vR (some o)), (1, vR x1), (2, vI x2), (4, vI x4)]) dJ24_resize_123 (by decide) rfl ?_
      refine G.sub [2, 3, 4, 5, 0] rfl ?_
      exact w_J24_resize_125 X E h n z x1 x2 x4 2147483647 hk
    · have hk := hk.1 c101
      refine r_fload X (pc := 107) dJ24_resize_107 (q := 0) rfl ?_
      refine r_ldcF X (pc := 109) (v := 1317011456) q2257 dJ24_resize_109 ?_
      refine r_fcmp X (pc := 111) dJ24_resize_111 ?_
      obtain ⟨b102, hk⟩ := hk
      refine r_if_ge X (pc := 112) (tgt := 121) dJ24_resize_112 (by decide) b102 (fun c103 => ?_) (fun c103 => ?_)
      · have hk := hk.2 c103
        refine r_ldcI X (pc := 121) (v := 2147483647) dJ24_resize_121 q2256 (by decide) ?_
        refine r_istore X (pc := 123) (lv1 := [(5, vI 2147483647), (6, vF (FP.fmul (i2f x4) y98)), (0, vR (some o)), (1, vR x1), (2, vI x2), (4, vI x4)]) dJ24_resize_123 (by decide) rfl ?_
        refine G.sub [2, 3, 4, 5, 0] rfl ?_
        exact w_J24_resize_125 X E h n z x1 x2 x4 2147483647 hk
      · have hk := hk.1 c103
        refine r_fload X (pc := 115) dJ24_resize_115 (q := 0) rfl ?_
        refine r_f2i X (pc := 117) dJ24_resize_117 ?_
        refine r_goto X (pc := 118) (tgt := 123) dJ24_resize_118 (by decide) ?_
        refine r_istore X (pc := 123) (lv1 := [(5, vI (ci32 (FP.f2i (FP.fmul (i2f x4) y98)))), (6, vF (FP.fmul (i2f x4) y98)), (0, vR (some o)), (1, vR x1), (2, vI x2), (4, vI x4)]) dJ24_resize_123 (by decide) rfl ?_
        refine G.sub [2, 3, 4, 5, 0] rfl ?_
        exact w_J24_resize_125 X E h n z x1 x2 x4 (ci32 (FP.f2i (FP.fmul (i2f x4) y98))) hk
set_option maxHeartbeats 4000000 in
theorem w_J24_resize_15 {K : KT} {Y : YT} {o : Nat} {κ : Option Nat → AH → Nat → Nat → Prop} {χ : QxT} (X : XY K "java/util/HashMap" "resize" cJ24_resize (Option.some (Jvm.ClassFile.FieldType.array (Jvm.ClassFile.FieldType.object "java/util/HashMap$Node"))) [] 14 0 0 Y) (E : YE K Y (QvR κ) χ) : ∀ (h : AH) (n : Nat) (z : Nat) (x1 : Option Nat) (s0 : Int), P_J24_resize_15 K o κ χ h n z x1 s0 → G K Y h n z 15 [(0, vR (some o)), (1, vR x1)] [vI s0] := by
  intro h n z x1 s0 hk
  refine r_istore_n X (pc := 15) (lv1 := [(2, vI s0), (0, vR (some o)), (1, vR x1)]) dJ24_resize_15 rfl (by decide) rfl ?_
  refine r_aload_n X (pc := 16) dJ24_resize_16 rfl (q := 1) rfl ?_
  refine r_hGI X (pc := 17) fa_J24_88_J25 dJ24_resize_17 hk (fun y104 hk => ?_)
  refine r_istore_n X (pc := 20) (lv1 := [(3, vI y104), (2, vI s0), (0, vR (some o)), (1, vR x1)]) dJ24_resize_20 rfl (by decide) rfl ?_
  refine r_iconst X (pc := 21) dJ24_resize_21 ?_
  refine r_istore X (pc := 22) (lv1 := [(5, vI 0), (3, vI y104), (2, vI s0), (0, vR (some o)), (1, vR x1)]) dJ24_resize_22 (by decide) rfl ?_
  refine r_iload_n X (pc := 24) dJ24_resize_24 rfl (q := 2) rfl ?_
  obtain ⟨b105, hk⟩ := hk
  refine r_if_le X (pc := 25) (tgt := 67) dJ24_resize_25 (by decide) b105 (fun c106 => ?_) (fun c106 => ?_)
  · have hk := hk.2 c106
    refine r_iload_n X (pc := 67) dJ24_resize_67 rfl (q := 1) rfl ?_
    obtain ⟨b107, hk⟩ := hk
    refine r_if_le X (pc := 68) (tgt := 77) dJ24_resize_68 (by decide) b107 (fun c108 => ?_) (fun c108 => ?_)
    · have hk := hk.2 c108
      refine r_bipush X (pc := 77) dJ24_resize_77 (by decide) ?_
      refine r_istore X (pc := 79) (lv1 := [(4, vI 16), (5, vI 0), (3, vI y104), (2, vI s0), (0, vR (some o)), (1, vR x1)]) dJ24_resize_79 (by decide) rfl ?_
      refine r_bipush X (pc := 81) dJ24_resize_81 (by decide) ?_
      refine r_istore X (pc := 83) (lv1 := [(5, vI 12), (4, vI 16), (3, vI y104), (2, vI s0), (0, vR (some o)), (1, vR x1)]) dJ24_resize_83 (by decide) rfl ?_
      refine G.sub [4, 5, 3, 1, 0] rfl ?_
      exact w_J24_resize_85 X E h n z x1 s0 16 12 hk
    · have hk := hk.1 c108
      refine r_iload_n X (pc := 71) dJ24_resize_71 rfl (q := 1) rfl ?_
      refine r_istore X (pc := 72) (lv1 := [(4, vI y104), (5, vI 0), (3, vI y104), (2, vI s0), (0, vR (some o)), (1, vR x1)]) dJ24_resize_72 (by decide) rfl ?_
      refine r_goto X (pc := 74) (tgt := 85) dJ24_resize_74 (by decide) ?_
      refine G.sub [4, 5, 3, 0, 1] rfl ?_
      exact w_J24_resize_85 X E h n z x1 s0 y104 0 hk
  · have hk := hk.1 c106
    refine r_iload_n X (pc := 28) dJ24_resize_28 rfl (q := 2) rfl ?_
    refine r_ldcI X (pc := 29) (v := 1073741824) dJ24_resize_29 q1722 (by decide) ?_
    refine r_icmp_lt X (pc := 31) (tgt := 42) dJ24_resize_31 (by decide) ⟨b105, (by decide)⟩ (fun c109 => ?_) (fun c109 => ?_)
    · have hk := hk.1 c109
      refine r_iload_n X (pc := 42) dJ24_resize_42 rfl (q := 2) rfl ?_
      refine r_iconst X (pc := 43) dJ24_resize_43 ?_
      refine r_ishl X (pc := 44) dJ24_resize_44 ?_
      refine r_dup X (pc := 45) dJ24_resize_45 rfl ?_
      refine r_istore X (pc := 46) (lv1 := [(4, vI (ishl s0 1)), (5, vI 0), (3, vI y104), (2, vI s0), (0, vR (some o)), (1, vR x1)]) dJ24_resize_46 (by decide) rfl ?_
      refine r_ldcI X (pc := 48) (v := 1073741824) dJ24_resize_48 q1722 (by decide) ?_
      obtain ⟨b110, hk⟩ := hk
      refine r_icmp_ge X (pc := 50) (tgt := 85) dJ24_resize_50 (by decide) ⟨b110, (by decide)⟩ (fun c111 => ?_) (fun c111 => ?_)
      · have hk := hk.2 c111
        refine G.sub [4, 5, 3, 0, 1] rfl ?_
        exact w_J24_resize_85 X E h n z x1 s0 (ishl s0 1) 0 hk
      · have hk := hk.1 c111
        refine r_iload_n X (pc := 53) dJ24_resize_53 rfl (q := 3) rfl ?_
        refine r_bipush X (pc := 54) dJ24_resize_54 (by decide) ?_
        refine r_icmp_lt X (pc := 56) (tgt := 85) dJ24_resize_56 (by decide) ⟨b105, (by decide)⟩ (fun c112 => ?_) (fun c112 => ?_)
        · have hk := hk.1 c112
          refine G.sub [4, 5, 3, 0, 1] rfl ?_
          exact w_J24_resize_85 X E h n z x1 s0 (ishl s0 1) 0 hk
        · have hk := hk.2 c112
          refine r_iload_n X (pc := 59) dJ24_resize_59 rfl (q := 2) rfl ?_
          refine r_iconst X (pc := 60) dJ24_resize_60 ?_
          refine r_ishl X (pc := 61) dJ24_resize_61 ?_
          refine r_istore X (pc := 62) (lv1 := [(5, vI (ishl y104 1)), (4, vI (ishl s0 1)), (3, vI y104), (2, vI s0), (0, vR (some o)), (1, vR x1)]) dJ24_resize_62 (by decide) rfl ?_
          refine r_goto X (pc := 64) (tgt := 85) dJ24_resize_64 (by decide) ?_
          refine G.sub [4, 5, 3, 1, 0] rfl ?_
          exact w_J24_resize_85 X E h n z x1 s0 (ishl s0 1) (ishl y104 1) hk
    · have hk := hk.2 c109
      refine r_aload_n X (pc := 34) dJ24_resize_34 rfl (q := 3) rfl ?_
      refine r_ldcI X (pc := 35) (v := 2147483647) dJ24_resize_35 q2256 (by decide) ?_
      refine r_hPut X (pc := 37) fp_J24_88_J25 rfl rfl dJ24_resize_37 hk (fun h113 hk => ?_)
      refine r_aload_n X (pc := 40) dJ24_resize_40 rfl (q := 4) rfl ?_
      exact r_aret X E (Or.inr ⟨_, rfl⟩) (pc := 41) dJ24_resize_41 ⟨_, rfl, hk⟩
set_option maxHeartbeats 4000000 in
theorem w_J24_resize {K : KT} {Y : YT} {o : Nat} {κ : Option Nat → AH → Nat → Nat → Prop} {χ : QxT} (X : XY K "java/util/HashMap" "resize" cJ24_resize (Option.some (Jvm.ClassFile.FieldType.array (Jvm.ClassFile.FieldType.object "java/util/HashMap$Node"))) [] 14 0 0 Y) (E : YE K Y (QvR κ) χ) {h : AH} {n : Nat} {z : Nat} (hk : P_J24_resize K o κ χ h n z) : G K Y h n z 0 (lv_argsA 0 [vR (some o)]) [] := by
  show G K Y h n z 0 [(0, vR (some o))] []
  refine r_aload_n X (pc := 0) dJ24_resize_0 rfl (q := 0) rfl ?_
  refine r_hGR X (pc := 1) fa_J24_105_J25 dJ24_resize_1 hk (fun y114 hk => ?_)
  refine r_astore_n X (pc := 4) (lv1 := [(1, vR y114), (0, vR (some o))]) dJ24_resize_4 rfl (by decide) rfl ?_
  refine r_aload_n X (pc := 5) dJ24_resize_5 rfl (q := 0) rfl ?_
  refine r_ifnonnull X (pc := 6) (tgt := 13) dJ24_resize_6 (by decide) (fun c115 => ?_) (fun c115 => ?_)
  · have hk := hk.2 c115
    refine r_aload_n X (pc := 13) dJ24_resize_13 rfl (q := 0) rfl ?_
    refine r_hLen X (pc := 14) (t := 9) rfl dJ24_resize_14 hk (fun y116 hk => ?_)
    refine G.sub [1, 0] rfl ?_
    exact w_J24_resize_15 X E h n z y114 y116 hk
  · have hk := hk.1 c115
    refine r_iconst X (pc := 9) dJ24_resize_9 ?_
    refine r_goto X (pc := 10) (tgt := 15) dJ24_resize_10 (by decide) ?_
    refine G.sub [1, 0] rfl ?_
    exact w_J24_resize_15 X E h n z y114 0 hk
theorem s_J24_resize {K : KT} {l : Launch} {o : Nat} {κ : Option Nat → AH → Nat → Nat → Prop} {χ : QxT} {h : AH} {n : Nat} {z : Nat} (hk : P_J24_resize K o κ χ h n z) : Ct K l yJ24_resize (ws_ yJ24_resize cJ24_resize 14 (Option.some (Jvm.ClassFile.FieldType.array (Jvm.ClassFile.FieldType.object "java/util/HashMap$Node")))) 0 0 ([vR (some o)].map cV) h n z (QvR κ) χ :=
  ct_of (by decide +kernel) (Nat.le_of_ble_eq_true rfl) (fun Y X E => w_J24_resize X E hk)
set_option maxHeartbeats 4000000 in
theorem w_J24_treeifyBin_13 {K : KT} {Y : YT} {o : Nat} {κ : AH → Nat → Nat → Prop} {χ : QxT} (X : XY K "java/util/HashMap" "treeifyBin" cJ24_treeifyBin (Option.none : Option Jvm.ClassFile.FieldType) [] 9 1 33 Y) (E : YE K Y (QvV κ) χ) : ∀ (h : AH) (n : Nat) (z : Nat), P_J24_treeifyBin_13 K o κ χ h n z → G K Y h n z 13 [(0, vR (some o))] [] := by
  intro h n z hk
  refine r_aload_n X (pc := 13) dJ24_treeifyBin_13 rfl (q := 0) rfl ?_
  obtain ⟨o24, fs25, e9, b26, hk⟩ := hk
  refine r_callU X (pc := 14) (As := []) (st := []) rfl rfl e9 b26 mu_J24_117_17 (fun _ => s_J24_resize hk) ⟨by decide, by decide⟩ (Nat.le_of_ble_eq_true rfl) dJ24_treeifyBin_14 (fun v9 h16 n17 z18 hq => ?_) (fun ci19 q20 h21 n22 z23 hf => ?_)
  · obtain ⟨r15, rfl, hk⟩ := hq
    refine ⟨[vR r15], rfl, ?_⟩
    refine r_pop X (pc := 17) dJ24_treeifyBin_17 rfl ?_
    refine r_goto X (pc := 18) (tgt := 109) dJ24_treeifyBin_18 (by decide) ?_
    exact r_vret X E (pc := 109) dJ24_treeifyBin_109 ⟨rfl, hk⟩
  · have hk := hf
    exact r_out X E (fun _ h9 => nomatch h9) hk
set_option maxHeartbeats 4000000 in
theorem w_J24_treeifyBin_78 {K : KT} {Y : YT} {o : Nat} {κ : AH → Nat → Nat → Prop} {χ : QxT} (X : XY K "java/util/HashMap" "treeifyBin" cJ24_treeifyBin (Option.none : Option Jvm.ClassFile.FieldType) [] 9 1 33 Y) (E : YE K Y (QvV κ) χ) {k_43 : AH → Nat → Nat → Option Nat → Int → Option Nat → Option Nat → Option Nat → Prop} {k_93 : AH → Nat → Nat → Option Nat → Int → Option Nat → Prop} (H_43 : ∀ (h : AH) (n : Nat) (z : Nat) (x1 : Option Nat) (x4 : Int) (x5 : Option Nat) (x6 : Option Nat) (x7 : Option Nat), k_43 h n z x1 x4 x5 x6 x7 → G K Y h n z 43 [(0, vR (some o)), (1, vR x1), (4, vI x4), (5, vR x5), (6, vR x6), (7, vR x7)] []) (H_93 : ∀ (h : AH) (n : Nat) (z : Nat) (x1 : Option Nat) (x4 : Int) (x6 : Option Nat), k_93 h n z x1 x4 x6 → G K Y h n z 93 [(0, vR (some o)), (1, vR x1), (4, vI x4), (6, vR x6)] []) : ∀ (h : AH) (n : Nat) (z : Nat) (x1 : Option Nat) (x4 : Int) (x5 : Option Nat) (x6 : Option Nat) (x8 : Option Nat), P_J24_treeifyBin_78 K o k_43 k_93 κ χ h n z x1 x4 x5 x6 x8 → G K Y h n z 78 [(0, vR (some o)), (1, vR x1), (4, vI x4), (5, vR x5), (6, vR x6), (8, vR x8)] [] := by
  intro h n z x1 x4 x5 x6 x8 hk
  refine r_aload X (pc := 78) dJ24_treeifyBin_78 (q := 5) rfl ?_
  refine r_astore X (pc := 80) (lv1 := [(7, vR x8), (0, vR (some o)), (1, vR x1), (4, vI x4), (5, vR x5), (6, vR x6), (8, vR x8)]) dJ24_treeifyBin_80 (by decide) rfl ?_
  refine r_aload X (pc := 82) dJ24_treeifyBin_82 (q := 4) rfl ?_
  refine r_hGR X (pc := 84) fa_J24_177_J33 dJ24_treeifyBin_84 hk (fun y27 hk => ?_)
  refine r_dup X (pc := 87) dJ24_treeifyBin_87 rfl ?_
  refine r_astore X (pc := 88) (lv1 := [(5, vR y27), (7, vR x8), (0, vR (some o)), (1, vR x1), (4, vI x4), (6, vR x6), (8, vR x8)]) dJ24_treeifyBin_88 (by decide) rfl ?_
  refine r_ifnonnull X (pc := 90) (tgt := 43) dJ24_treeifyBin_90 (by decide) (fun c28 => ?_) (fun c28 => ?_)
  · have hk := hk.2 c28
    refine G.sub [2, 3, 4, 0, 5, 1] rfl ?_
    exact H_43 h n z x1 x4 y27 x6 x8 hk
  · have hk := hk.1 c28
    refine G.sub [2, 3, 4, 5] rfl ?_
    exact H_93 h n z x1 x4 x6 hk
set_option maxHeartbeats 4000000 in
theorem w_J24_treeifyBin_43 {K : KT} {Y : YT} {o : Nat} {κ : AH → Nat → Nat → Prop} {χ : QxT} (X : XY K "java/util/HashMap" "treeifyBin" cJ24_treeifyBin (Option.none : Option Jvm.ClassFile.FieldType) [] 9 1 33 Y) (E : YE K Y (QvV κ) χ) {k_93 : AH → Nat → Nat → Option Nat → Int → Option Nat → Prop} (H_93 : ∀ (h : AH) (n : Nat) (z : Nat) (x1 : Option Nat) (x4 : Int) (x6 : Option Nat), k_93 h n z x1 x4 x6 → G K Y h n z 93 [(0, vR (some o)), (1, vR x1), (4, vI x4), (6, vR x6)] []) : ∀ (f : Nat) (h : AH) (n : Nat) (z : Nat) (x1 : Option Nat) (x4 : Int) (x5 : Option Nat) (x6 : Option Nat) (x7 : Option Nat), L_J24_treeifyBin_43 K o k_93 κ χ f h n z x1 x4 x5 x6 x7 → G K Y h n z 43 [(0, vR (some o)), (1, vR x1), (4, vI x4), (5, vR x5), (6, vR x6), (7, vR x7)] [] := by
  intro f
  induction f with
  | zero => intro h n z x1 x4 x5 x6 x7 hk; exact hk.elim
  | succ f ih =>
    intro h n z x1 x4 x5 x6 x7 hk
    refine r_aload_n X (pc := 43) dJ24_treeifyBin_43 rfl (q := 0) rfl ?_
    refine r_aload X (pc := 44) dJ24_treeifyBin_44 (q := 3) rfl ?_
    refine r_null X (pc := 46) dJ24_treeifyBin_46 ?_
    exact hk.elim
set_option maxHeartbeats 4000000 in
theorem w_J24_treeifyBin_93 {K : KT} {Y : YT} {o : Nat} {κ : AH → Nat → Nat → Prop} {χ : QxT} (X : XY K "java/util/HashMap" "treeifyBin" cJ24_treeifyBin (Option.none : Option Jvm.ClassFile.FieldType) [] 9 1 33 Y) (E : YE K Y (QvV κ) χ) : ∀ (h : AH) (n : Nat) (z : Nat) (x1 : Option Nat) (x4 : Int) (x6 : Option Nat), P_J24_treeifyBin_93 K o κ χ h n z x1 x4 x6 → G K Y h n z 93 [(0, vR (some o)), (1, vR x1), (4, vI x4), (6, vR x6)] [] := by
  intro h n z x1 x4 x6 hk
  refine r_aload_n X (pc := 93) dJ24_treeifyBin_93 rfl (q := 1) rfl ?_
  refine r_iload X (pc := 94) dJ24_treeifyBin_94 (q := 2) rfl ?_
  refine r_aload X (pc := 96) dJ24_treeifyBin_96 (q := 3) rfl ?_
  refine r_dup_x2 X (pc := 98) dJ24_treeifyBin_98 rfl rfl rfl ?_
  refine r_hSR X (pc := 99) (t := 9) rfl cos_java_util_HashMap_Node_18 dJ24_treeifyBin_99 hk (fun h30 hk => ?_)
  refine r_ifnull X (pc := 100) (tgt := 109) dJ24_treeifyBin_100 (by decide) (fun c31 => ?_) (fun c31 => ?_)
  · have hk := hk.1 c31
    exact r_vret X E (pc := 109) dJ24_treeifyBin_109 ⟨rfl, hk⟩
  · have hk := hk.2 c31
    refine r_aload X (pc := 103) dJ24_treeifyBin_103 (q := 3) rfl ?_
    refine r_aload_n X (pc := 105) dJ24_treeifyBin_105 rfl (q := 1) rfl ?_
    exact hk.elim
set_option maxHeartbeats 4000000 in
theorem w_J24_treeifyBin {K : KT} {Y : YT} {o : Nat} {κ : AH → Nat → Nat → Prop} {χ : QxT} (X : XY K "java/util/HashMap" "treeifyBin" cJ24_treeifyBin (Option.none : Option Jvm.ClassFile.FieldType) [] 9 1 33 Y) (E : YE K Y (QvV κ) χ) {h : AH} {n : Nat} {z : Nat} {x1 : Option Nat} {x2 : Int} (hk : P_J24_treeifyBin K o κ χ h n z x1 x2) : G K Y h n z 0 (lv_argsA 0 [vR (some o), vR x1, vI x2]) [] := by
  show G K Y h n z 0 [(0, vR (some o)), (1, vR x1), (2, vI x2)] []
  refine r_aload_n X (pc := 0) dJ24_treeifyBin_0 rfl (q := 1) rfl ?_
  refine r_ifnull X (pc := 1) (tgt := 13) dJ24_treeifyBin_1 (by decide) (fun c32 => ?_) (fun c32 => ?_)
  · have hk := hk.1 c32
    refine G.sub [0] rfl ?_
    exact w_J24_treeifyBin_13 X E h n z hk
  · have hk := hk.2 c32
    refine r_aload_n X (pc := 4) dJ24_treeifyBin_4 rfl (q := 1) rfl ?_
    refine r_hLen X (pc := 5) (t := 9) rfl dJ24_treeifyBin_5 hk (fun y33 hk => ?_)
    refine r_dup X (pc := 6) dJ24_treeifyBin_6 rfl ?_
    refine r_istore_n X (pc := 7) (lv1 := [(3, vI y33), (0, vR (some o)), (1, vR x1), (2, vI x2)]) dJ24_treeifyBin_7 rfl (by decide) rfl ?_
    refine r_bipush X (pc := 8) dJ24_treeifyBin_8 (by decide) ?_
    obtain ⟨b34, hk⟩ := hk
    refine r_icmp_ge X (pc := 10) (tgt := 21) dJ24_treeifyBin_10 (by decide) ⟨b34, (by decide)⟩ (fun c35 => ?_) (fun c35 => ?_)
    · have hk := hk.2 c35
      refine r_aload_n X (pc := 21) dJ24_treeifyBin_21 rfl (q := 2) rfl ?_
      refine r_iload_n X (pc := 22) dJ24_treeifyBin_22 rfl (q := 0) rfl ?_
      refine r_iconst X (pc := 23) dJ24_treeifyBin_23 ?_
      refine r_isub X (pc := 24) dJ24_treeifyBin_24 ?_
      refine r_iload_n X (pc := 25) dJ24_treeifyBin_25 rfl (q := 3) rfl ?_
      refine r_iand X (pc := 26) dJ24_treeifyBin_26 ?_
      refine r_dup X (pc := 27) dJ24_treeifyBin_27 rfl ?_
      refine r_istore X (pc := 28) (lv1 := [(4, vI (iand (y33 - 1) x2)), (3, vI y33), (0, vR (some o)), (1, vR x1), (2, vI x2)]) dJ24_treeifyBin_28 (by decide) rfl ?_
      refine r_hAR X (pc := 30) (t := 9) rfl dJ24_treeifyBin_30 hk (fun y36 hk => ?_)
      refine r_dup X (pc := 31) dJ24_treeifyBin_31 rfl ?_
      refine r_astore X (pc := 32) (lv1 := [(5, vR y36), (4, vI (iand (y33 - 1) x2)), (3, vI y33), (0, vR (some o)), (1, vR x1), (2, vI x2)]) dJ24_treeifyBin_32 (by decide) rfl ?_
      refine r_ifnull X (pc := 34) (tgt := 109) dJ24_treeifyBin_34 (by decide) (fun c37 => ?_) (fun c37 => ?_)
      · have hk := hk.1 c37
        exact r_vret X E (pc := 109) dJ24_treeifyBin_109 ⟨rfl, hk⟩
      · have hk := hk.2 c37
        refine r_null X (pc := 37) dJ24_treeifyBin_37 ?_
        refine r_astore X (pc := 38) (lv1 := [(6, vR none), (5, vR y36), (4, vI (iand (y33 - 1) x2)), (3, vI y33), (0, vR (some o)), (1, vR x1), (2, vI x2)]) dJ24_treeifyBin_38 (by decide) rfl ?_
        refine r_null X (pc := 40) dJ24_treeifyBin_40 ?_
        refine r_astore X (pc := 41) (lv1 := [(7, vR none), (6, vR none), (5, vR y36), (4, vI (iand (y33 - 1) x2)), (3, vI y33), (0, vR (some o)), (1, vR x1), (2, vI x2)]) dJ24_treeifyBin_41 (by decide) rfl ?_
        refine G.sub [5, 6, 3, 2, 1, 0] rfl ?_
        have HH38 : ∀ (h : AH) (n : Nat) (z : Nat) (x1 : Option Nat) (x4 : Int) (x6 : Option Nat), (P_J24_treeifyBin_93 K o κ χ h n z x1 x4 x6) → G K Y h n z 93 [(0, vR (some o)), (1, vR x1), (4, vI x4), (6, vR x6)] [] := by
            intro h n z x1 x4 x6 hk
            exact w_J24_treeifyBin_93 X E h n z x1 x4 x6 hk
        obtain ⟨f9, hk⟩ := hk
        exact w_J24_treeifyBin_43 X E HH38 f9 h n z x1 (iand (y33 - 1) x2) y36 none none hk
    · have hk := hk.1 c35
      refine G.sub [1] rfl ?_
      exact w_J24_treeifyBin_13 X E h n z hk
theorem s_J24_treeifyBin {K : KT} {l : Launch} {o : Nat} {κ : AH → Nat → Nat → Prop} {χ : QxT} {h : AH} {n : Nat} {z : Nat} {x1 : Option Nat} {x2 : Int} (hk : P_J24_treeifyBin K o κ χ h n z x1 x2) : Ct K l yJ24_treeifyBin (ws_ yJ24_treeifyBin cJ24_treeifyBin 9 (Option.none : Option Jvm.ClassFile.FieldType)) 1 33 ([vR (some o), vR x1, vI x2].map cV) h n z (QvV κ) χ :=
  ct_of (by decide +kernel) (Nat.le_of_ble_eq_true rfl) (fun Y X E => w_J24_treeifyBin X E hk)
set_option maxHeartbeats 4000000 in
theorem w_J25_afterNodeAccess_249 {K : KT} {Y : YT} {o : Nat} {κ : AH → Nat → Nat → Prop} {χ : QxT} (X : XY K "java/util/LinkedHashMap" "afterNodeAccess" cJ25_afterNodeAccess (Option.none : Option Jvm.ClassFile.FieldType) [] 7 0 0 Y) (E : YE K Y (QvV κ) χ) : ∀ (h : AH) (n : Nat) (z : Nat) (x4 : Option Nat), P_J25_afterNodeAccess_249 K o κ χ h n z x4 → G K Y h n z 249 [(0, vR (some o)), (4, vR x4)] [] := by
  intro h n z x4 hk
  refine r_aload_n X (pc := 249) dJ25_afterNodeAccess_249 rfl (q := 0) rfl ?_
  refine r_aload X (pc := 250) dJ25_afterNodeAccess_250 (q := 1) rfl ?_
  refine r_hPut X (pc := 252) fp_J25_7 (fit_ref x4).1 (fit_ref x4).2 dJ25_afterNodeAccess_252 hk (fun h47 hk => ?_)
  refine r_aload_n X (pc := 255) dJ25_afterNodeAccess_255 rfl (q := 0) rfl ?_
  refine r_dup X (pc := 256) dJ25_afterNodeAccess_256 rfl ?_
  refine r_hGI X (pc := 257) fa_J25_68 dJ25_afterNodeAccess_257 hk (fun y48 hk => ?_)
  refine r_iconst X (pc := 260) dJ25_afterNodeAccess_260 ?_
  refine r_iadd X (pc := 261) dJ25_afterNodeAccess_261 ?_
  refine r_hPut X (pc := 262) fp_J25_68 rfl rfl dJ25_afterNodeAccess_262 hk (fun h49 hk => ?_)
  exact r_vret X E (pc := 265) dJ25_afterNodeAccess_265 ⟨rfl, hk⟩
set_option maxHeartbeats 4000000 in
theorem w_J25_afterNodeAccess_224 {K : KT} {Y : YT} {o : Nat} {κ : AH → Nat → Nat → Prop} {χ : QxT} (X : XY K "java/util/LinkedHashMap" "afterNodeAccess" cJ25_afterNodeAccess (Option.none : Option Jvm.ClassFile.FieldType) [] 7 0 0 Y) (E : YE K Y (QvV κ) χ) : ∀ (h : AH) (n : Nat) (z : Nat) (x3 : Option Nat) (x4 : Option Nat), P_J25_afterNodeAccess_224 K o κ χ h n z x3 x4 → G K Y h n z 224 [(0, vR (some o)), (3, vR x3), (4, vR x4)] [] := by
  intro h n z x3 x4 hk
  refine r_aload_n X (pc := 224) dJ25_afterNodeAccess_224 rfl (q := 1) rfl ?_
  refine r_ifnonnull X (pc := 225) (tgt := 237) dJ25_afterNodeAccess_225 (by decide) (fun c50 => ?_) (fun c50 => ?_)
  · have hk := hk.2 c50
    refine r_aload X (pc := 237) dJ25_afterNodeAccess_237 (q := 2) rfl ?_
    refine r_aload_n X (pc := 239) dJ25_afterNodeAccess_239 rfl (q := 1) rfl ?_
    refine r_hPut X (pc := 240) fp_J25_14_J33 (fit_ref x3).1 (fit_ref x3).2 dJ25_afterNodeAccess_240 hk (fun h51 hk => ?_)
    refine r_aload_n X (pc := 243) dJ25_afterNodeAccess_243 rfl (q := 1) rfl ?_
    refine r_aload X (pc := 244) dJ25_afterNodeAccess_244 (q := 2) rfl ?_
    refine r_hPut X (pc := 246) fp_J25_19_J33 (fit_ref x4).1 (fit_ref x4).2 dJ25_afterNodeAccess_246 hk (fun h52 hk => ?_)
    refine G.sub [0, 2] rfl ?_
    exact w_J25_afterNodeAccess_249 X E h52 n z x4 hk
  · have hk := hk.1 c50
    refine r_aload_n X (pc := 228) dJ25_afterNodeAccess_228 rfl (q := 0) rfl ?_
    refine r_aload X (pc := 229) dJ25_afterNodeAccess_229 (q := 2) rfl ?_
    refine r_hPut X (pc := 231) fp_J25_11 (fit_ref x4).1 (fit_ref x4).2 dJ25_afterNodeAccess_231 hk (fun h53 hk => ?_)
    refine r_goto X (pc := 234) (tgt := 249) dJ25_afterNodeAccess_234 (by decide) ?_
    refine G.sub [0, 2] rfl ?_
    exact w_J25_afterNodeAccess_249 X E h53 n z x4 hk
set_option maxHeartbeats 4000000 in
theorem w_J25_afterNodeAccess_206 {K : KT} {Y : YT} {o : Nat} {κ : AH → Nat → Nat → Prop} {χ : QxT} (X : XY K "java/util/LinkedHashMap" "afterNodeAccess" cJ25_afterNodeAccess (Option.none : Option Jvm.ClassFile.FieldType) [] 7 0 0 Y) (E : YE K Y (QvV κ) χ) : ∀ (h : AH) (n : Nat) (z : Nat) (x3 : Option Nat) (x4 : Option Nat) (x5 : Option Nat) (x6 : Option Nat), P_J25_afterNodeAccess_206 K o κ χ h n z x3 x4 x5 x6 → G K Y h n z 206 [(0, vR (some o)), (3, vR x3), (4, vR x4), (5, vR x5), (6, vR x6)] [] := by
  intro h n z x3 x4 x5 x6 hk
  refine r_aload X (pc := 206) dJ25_afterNodeAccess_206 (q := 3) rfl ?_
  refine r_ifnull X (pc := 208) (tgt := 221) dJ25_afterNodeAccess_208 (by decide) (fun c54 => ?_) (fun c54 => ?_)
  · have hk := hk.1 c54
    refine r_aload X (pc := 221) dJ25_afterNodeAccess_221 (q := 4) rfl ?_
    refine r_astore_n X (pc := 223) (lv1 := [(3, vR x6), (0, vR (some o)), (4, vR x4), (5, vR x5), (6, vR x6)]) dJ25_afterNodeAccess_223 rfl (by decide) rfl ?_
    refine G.sub [1, 0, 2] rfl ?_
    exact w_J25_afterNodeAccess_224 X E h n z x6 x4 hk
  · have hk := hk.2 c54
    refine r_aload X (pc := 211) dJ25_afterNodeAccess_211 (q := 3) rfl ?_
    refine r_aload X (pc := 213) dJ25_afterNodeAccess_213 (q := 4) rfl ?_
    refine r_hPut X (pc := 215) fp_J25_14_J33 (fit_ref x6).1 (fit_ref x6).2 dJ25_afterNodeAccess_215 hk (fun h55 hk => ?_)
    refine r_goto X (pc := 218) (tgt := 224) dJ25_afterNodeAccess_218 (by decide) ?_
    refine G.sub [0, 1, 2] rfl ?_
    exact w_J25_afterNodeAccess_224 X E h55 n z x3 x4 hk
set_option maxHeartbeats 4000000 in
theorem w_J25_afterNodeAccess_141 {K : KT} {Y : YT} {o : Nat} {κ : AH → Nat → Nat → Prop} {χ : QxT} (X : XY K "java/util/LinkedHashMap" "afterNodeAccess" cJ25_afterNodeAccess (Option.none : Option Jvm.ClassFile.FieldType) [] 7 0 0 Y) (E : YE K Y (QvV κ) χ) : ∀ (h : AH) (n : Nat) (z : Nat) (x1 : Option Nat), P_J25_afterNodeAccess_141 K o κ χ h n z x1 → G K Y h n z 141 [(0, vR (some o)), (1, vR x1)] [] := by
  intro h n z x1 hk
  refine r_aload_n X (pc := 141) dJ25_afterNodeAccess_141 rfl (q := 0) rfl ?_
  refine r_hGI X (pc := 142) fa_J25_1 dJ25_afterNodeAccess_142 hk (fun y56 hk => ?_)
  refine r_iconst X (pc := 145) dJ25_afterNodeAccess_145 ?_
  obtain ⟨b57, hk⟩ := hk
  refine r_icmp_ne X (pc := 146) (tgt := 265) dJ25_afterNodeAccess_146 (by decide) ⟨b57, (by decide)⟩ (fun c58 => ?_) (fun c58 => ?_)
  · have hk := hk.2 c58
    exact r_vret X E (pc := 265) dJ25_afterNodeAccess_265 ⟨rfl, hk⟩
  · have hk := hk.1 c58
    refine r_aload_n X (pc := 149) dJ25_afterNodeAccess_149 rfl (q := 0) rfl ?_
    refine r_hGR X (pc := 150) fa_J25_7 dJ25_afterNodeAccess_150 hk (fun y59 hk => ?_)
    refine r_dup X (pc := 153) dJ25_afterNodeAccess_153 rfl ?_
    refine r_astore_n X (pc := 154) (lv1 := [(3, vR y59), (0, vR (some o)), (1, vR x1)]) dJ25_afterNodeAccess_154 rfl (by decide) rfl ?_
    refine r_aload_n X (pc := 155) dJ25_afterNodeAccess_155 rfl (q := 2) rfl ?_
    refine r_acmp_eq X (pc := 156) (tgt := 265) dJ25_afterNodeAccess_156 (by decide) (fun c60 => ?_) (fun c60 => ?_)
    · have hk := hk.1 c60
      exact r_vret X E (pc := 265) dJ25_afterNodeAccess_265 ⟨rfl, hk⟩
    · have hk := hk.2 c60
      refine r_aload_n X (pc := 159) dJ25_afterNodeAccess_159 rfl (q := 2) rfl ?_
      refine r_hCast X (pc := 160) q2276 cos_java_util_LinkedHashMap_Entry_18 dJ25_afterNodeAccess_160 hk (fun hk => ?_)
      refine r_astore X (pc := 163) (lv1 := [(4, vR x1), (3, vR y59), (0, vR (some o)), (1, vR x1)]) dJ25_afterNodeAccess_163 (by decide) rfl ?_
      refine r_aload X (pc := 165) dJ25_afterNodeAccess_165 (q := 0) rfl ?_
      refine r_hGR X (pc := 167) fa_J25_19_J33 dJ25_afterNodeAccess_167 hk (fun y61 hk => ?_)
      refine r_astore X (pc := 170) (lv1 := [(5, vR y61), (4, vR x1), (3, vR y59), (0, vR (some o)), (1, vR x1)]) dJ25_afterNodeAccess_170 (by decide) rfl ?_
      refine r_aload X (pc := 172) dJ25_afterNodeAccess_172 (q := 1) rfl ?_
      refine r_hGR X (pc := 174) fa_J25_14_J33 dJ25_afterNodeAccess_174 hk (fun y62 hk => ?_)
      refine r_astore X (pc := 177) (lv1 := [(6, vR y62), (5, vR y61), (4, vR x1), (3, vR y59), (0, vR (some o)), (1, vR x1)]) dJ25_afterNodeAccess_177 (by decide) rfl ?_
      refine r_aload X (pc := 179) dJ25_afterNodeAccess_179 (q := 2) rfl ?_
      refine r_null X (pc := 181) dJ25_afterNodeAccess_181 ?_
      refine r_hPut X (pc := 182) fp_J25_19_J33 (fit_ref none).1 (fit_ref none).2 dJ25_afterNodeAccess_182 hk (fun h63 hk => ?_)
      refine r_aload X (pc := 185) dJ25_afterNodeAccess_185 (q := 0) rfl ?_
      refine r_ifnonnull X (pc := 187) (tgt := 199) dJ25_afterNodeAccess_187 (by decide) (fun c64 => ?_) (fun c64 => ?_)
      · have hk := hk.2 c64
        refine r_aload X (pc := 199) dJ25_afterNodeAccess_199 (q := 0) rfl ?_
        refine r_aload X (pc := 201) dJ25_afterNodeAccess_201 (q := 1) rfl ?_
        refine r_hPut X (pc := 203) fp_J25_19_J33 (fit_ref y61).1 (fit_ref y61).2 dJ25_afterNodeAccess_203 hk (fun h65 hk => ?_)
        refine G.sub [4, 3, 2, 1, 0] rfl ?_
        exact w_J25_afterNodeAccess_206 X E h65 n z y59 x1 y61 y62 hk
      · have hk := hk.1 c64
        refine r_aload_n X (pc := 190) dJ25_afterNodeAccess_190 rfl (q := 4) rfl ?_
        refine r_aload X (pc := 191) dJ25_afterNodeAccess_191 (q := 1) rfl ?_
        refine r_hPut X (pc := 193) fp_J25_11 (fit_ref y61).1 (fit_ref y61).2 dJ25_afterNodeAccess_193 hk (fun h66 hk => ?_)
        refine r_goto X (pc := 196) (tgt := 206) dJ25_afterNodeAccess_196 (by decide) ?_
        refine G.sub [4, 3, 2, 1, 0] rfl ?_
        exact w_J25_afterNodeAccess_206 X E h66 n z y59 x1 y61 y62 hk
set_option maxHeartbeats 4000000 in
theorem w_J25_afterNodeAccess_122 {K : KT} {Y : YT} {o : Nat} {κ : AH → Nat → Nat → Prop} {χ : QxT} (X : XY K "java/util/LinkedHashMap" "afterNodeAccess" cJ25_afterNodeAccess (Option.none : Option Jvm.ClassFile.FieldType) [] 7 0 0 Y) (E : YE K Y (QvV κ) χ) : ∀ (h : AH) (n : Nat) (z : Nat) (x4 : Option Nat), P_J25_afterNodeAccess_122 K o κ χ h n z x4 → G K Y h n z 122 [(0, vR (some o)), (4, vR x4)] [] := by
  intro h n z x4 hk
  refine r_aload_n X (pc := 122) dJ25_afterNodeAccess_122 rfl (q := 0) rfl ?_
  refine r_aload X (pc := 123) dJ25_afterNodeAccess_123 (q := 1) rfl ?_
  refine r_hPut X (pc := 125) fp_J25_11 (fit_ref x4).1 (fit_ref x4).2 dJ25_afterNodeAccess_125 hk (fun h67 hk => ?_)
  refine r_aload_n X (pc := 128) dJ25_afterNodeAccess_128 rfl (q := 0) rfl ?_
  refine r_dup X (pc := 129) dJ25_afterNodeAccess_129 rfl ?_
  refine r_hGI X (pc := 130) fa_J25_68 dJ25_afterNodeAccess_130 hk (fun y68 hk => ?_)
  refine r_iconst X (pc := 133) dJ25_afterNodeAccess_133 ?_
  refine r_iadd X (pc := 134) dJ25_afterNodeAccess_134 ?_
  refine r_hPut X (pc := 135) fp_J25_68 rfl rfl dJ25_afterNodeAccess_135 hk (fun h69 hk => ?_)
  refine r_goto X (pc := 138) (tgt := 265) dJ25_afterNodeAccess_138 (by decide) ?_
  exact r_vret X E (pc := 265) dJ25_afterNodeAccess_265 ⟨rfl, hk⟩
set_option maxHeartbeats 4000000 in
theorem w_J25_afterNodeAccess_97 {K : KT} {Y : YT} {o : Nat} {κ : AH → Nat → Nat → Prop} {χ : QxT} (X : XY K "java/util/LinkedHashMap" "afterNodeAccess" cJ25_afterNodeAccess (Option.none : Option Jvm.ClassFile.FieldType) [] 7 0 0 Y) (E : YE K Y (QvV κ) χ) : ∀ (h : AH) (n : Nat) (z : Nat) (x2 : Option Nat) (x4 : Option Nat), P_J25_afterNodeAccess_97 K o κ χ h n z x2 x4 → G K Y h n z 97 [(0, vR (some o)), (2, vR x2), (4, vR x4)] [] := by
  intro h n z x2 x4 hk
  refine r_aload_n X (pc := 97) dJ25_afterNodeAccess_97 rfl (q := 1) rfl ?_
  refine r_ifnonnull X (pc := 98) (tgt := 110) dJ25_afterNodeAccess_98 (by decide) (fun c70 => ?_) (fun c70 => ?_)
  · have hk := hk.2 c70
    refine r_aload X (pc := 110) dJ25_afterNodeAccess_110 (q := 2) rfl ?_
    refine r_aload_n X (pc := 112) dJ25_afterNodeAccess_112 rfl (q := 1) rfl ?_
    refine r_hPut X (pc := 113) fp_J25_19_J33 (fit_ref x2).1 (fit_ref x2).2 dJ25_afterNodeAccess_113 hk (fun h71 hk => ?_)
    refine r_aload_n X (pc := 116) dJ25_afterNodeAccess_116 rfl (q := 1) rfl ?_
    refine r_aload X (pc := 117) dJ25_afterNodeAccess_117 (q := 2) rfl ?_
    refine r_hPut X (pc := 119) fp_J25_14_J33 (fit_ref x4).1 (fit_ref x4).2 dJ25_afterNodeAccess_119 hk (fun h72 hk => ?_)
    refine G.sub [0, 2] rfl ?_
    exact w_J25_afterNodeAccess_122 X E h72 n z x4 hk
  · have hk := hk.1 c70
    refine r_aload_n X (pc := 101) dJ25_afterNodeAccess_101 rfl (q := 0) rfl ?_
    refine r_aload X (pc := 102) dJ25_afterNodeAccess_102 (q := 2) rfl ?_
    refine r_hPut X (pc := 104) fp_J25_7 (fit_ref x4).1 (fit_ref x4).2 dJ25_afterNodeAccess_104 hk (fun h73 hk => ?_)
    refine r_goto X (pc := 107) (tgt := 122) dJ25_afterNodeAccess_107 (by decide) ?_
    refine G.sub [0, 2] rfl ?_
    exact w_J25_afterNodeAccess_122 X E h73 n z x4 hk
set_option maxHeartbeats 4000000 in
theorem w_J25_afterNodeAccess_79 {K : KT} {Y : YT} {o : Nat} {κ : AH → Nat → Nat → Prop} {χ : QxT} (X : XY K "java/util/LinkedHashMap" "afterNodeAccess" cJ25_afterNodeAccess (Option.none : Option Jvm.ClassFile.FieldType) [] 7 0 0 Y) (E : YE K Y (QvV κ) χ) : ∀ (h : AH) (n : Nat) (z : Nat) (x2 : Option Nat) (x4 : Option Nat) (x5 : Option Nat) (x6 : Option Nat), P_J25_afterNodeAccess_79 K o κ χ h n z x2 x4 x5 x6 → G K Y h n z 79 [(0, vR (some o)), (2, vR x2), (4, vR x4), (5, vR x5), (6, vR x6)] [] := by
  intro h n z x2 x4 x5 x6 hk
  refine r_aload X (pc := 79) dJ25_afterNodeAccess_79 (q := 4) rfl ?_
  refine r_ifnull X (pc := 81) (tgt := 94) dJ25_afterNodeAccess_81 (by decide) (fun c74 => ?_) (fun c74 => ?_)
  · have hk := hk.1 c74
    refine r_aload X (pc := 94) dJ25_afterNodeAccess_94 (q := 3) rfl ?_
    refine r_astore_n X (pc := 96) (lv1 := [(2, vR x5), (0, vR (some o)), (4, vR x4), (5, vR x5), (6, vR x6)]) dJ25_afterNodeAccess_96 rfl (by decide) rfl ?_
    refine G.sub [1, 0, 2] rfl ?_
    exact w_J25_afterNodeAccess_97 X E h n z x5 x4 hk
  · have hk := hk.2 c74
    refine r_aload X (pc := 84) dJ25_afterNodeAccess_84 (q := 4) rfl ?_
    refine r_aload X (pc := 86) dJ25_afterNodeAccess_86 (q := 3) rfl ?_
    refine r_hPut X (pc := 88) fp_J25_19_J33 (fit_ref x5).1 (fit_ref x5).2 dJ25_afterNodeAccess_88 hk (fun h75 hk => ?_)
    refine r_goto X (pc := 91) (tgt := 97) dJ25_afterNodeAccess_91 (by decide) ?_
    refine G.sub [0, 1, 2] rfl ?_
    exact w_J25_afterNodeAccess_97 X E h75 n z x2 x4 hk
set_option maxHeartbeats 4000000 in
theorem w_J25_afterNodeAccess_22 {K : KT} {Y : YT} {o : Nat} {κ : AH → Nat → Nat → Prop} {χ : QxT} (X : XY K "java/util/LinkedHashMap" "afterNodeAccess" cJ25_afterNodeAccess (Option.none : Option Jvm.ClassFile.FieldType) [] 7 0 0 Y) (E : YE K Y (QvV κ) χ) : ∀ (h : AH) (n : Nat) (z : Nat) (x1 : Option Nat), P_J25_afterNodeAccess_22 K o κ χ h n z x1 → G K Y h n z 22 [(0, vR (some o)), (1, vR x1)] [] := by
  intro h n z x1 hk
  refine r_aload_n X (pc := 22) dJ25_afterNodeAccess_22 rfl (q := 0) rfl ?_
  refine r_hGR X (pc := 23) fa_J25_11 dJ25_afterNodeAccess_23 hk (fun y76 hk => ?_)
  refine r_dup X (pc := 26) dJ25_afterNodeAccess_26 rfl ?_
  refine r_astore_n X (pc := 27) (lv1 := [(2, vR y76), (0, vR (some o)), (1, vR x1)]) dJ25_afterNodeAccess_27 rfl (by decide) rfl ?_
  refine r_aload_n X (pc := 28) dJ25_afterNodeAccess_28 rfl (q := 2) rfl ?_
  refine r_acmp_eq X (pc := 29) (tgt := 141) dJ25_afterNodeAccess_29 (by decide) (fun c77 => ?_) (fun c77 => ?_)
  · have hk := hk.1 c77
    refine G.sub [1, 2] rfl ?_
    exact w_J25_afterNodeAccess_141 X E h n z x1 hk
  · have hk := hk.2 c77
    refine r_aload_n X (pc := 32) dJ25_afterNodeAccess_32 rfl (q := 2) rfl ?_
    refine r_hCast X (pc := 33) q2276 cos_java_util_LinkedHashMap_Entry_18 dJ25_afterNodeAccess_33 hk (fun hk => ?_)
    refine r_astore X (pc := 36) (lv1 := [(4, vR x1), (2, vR y76), (0, vR (some o)), (1, vR x1)]) dJ25_afterNodeAccess_36 (by decide) rfl ?_
    refine r_aload X (pc := 38) dJ25_afterNodeAccess_38 (q := 0) rfl ?_
    refine r_hGR X (pc := 40) fa_J25_19_J33 dJ25_afterNodeAccess_40 hk (fun y78 hk => ?_)
    refine r_astore X (pc := 43) (lv1 := [(5, vR y78), (4, vR x1), (2, vR y76), (0, vR (some o)), (1, vR x1)]) dJ25_afterNodeAccess_43 (by decide) rfl ?_
    refine r_aload X (pc := 45) dJ25_afterNodeAccess_45 (q := 1) rfl ?_
    refine r_hGR X (pc := 47) fa_J25_14_J33 dJ25_afterNodeAccess_47 hk (fun y79 hk => ?_)
    refine r_astore X (pc := 50) (lv1 := [(6, vR y79), (5, vR y78), (4, vR x1), (2, vR y76), (0, vR (some o)), (1, vR x1)]) dJ25_afterNodeAccess_50 (by decide) rfl ?_
    refine r_aload X (pc := 52) dJ25_afterNodeAccess_52 (q := 2) rfl ?_
    refine r_null X (pc := 54) dJ25_afterNodeAccess_54 ?_
    refine r_hPut X (pc := 55) fp_J25_14_J33 (fit_ref none).1 (fit_ref none).2 dJ25_afterNodeAccess_55 hk (fun h80 hk => ?_)
    refine r_aload X (pc := 58) dJ25_afterNodeAccess_58 (q := 1) rfl ?_
    refine r_ifnonnull X (pc := 60) (tgt := 72) dJ25_afterNodeAccess_60 (by decide) (fun c81 => ?_) (fun c81 => ?_)
    · have hk := hk.2 c81
      refine r_aload X (pc := 72) dJ25_afterNodeAccess_72 (q := 1) rfl ?_
      refine r_aload X (pc := 74) dJ25_afterNodeAccess_74 (q := 0) rfl ?_
      refine r_hPut X (pc := 76) fp_J25_14_J33 (fit_ref y79).1 (fit_ref y79).2 dJ25_afterNodeAccess_76 hk (fun h82 hk => ?_)
      refine G.sub [4, 3, 2, 1, 0] rfl ?_
      exact w_J25_afterNodeAccess_79 X E h82 n z y76 x1 y78 y79 hk
    · have hk := hk.1 c81
      refine r_aload_n X (pc := 63) dJ25_afterNodeAccess_63 rfl (q := 4) rfl ?_
      refine r_aload X (pc := 64) dJ25_afterNodeAccess_64 (q := 0) rfl ?_
      refine r_hPut X (pc := 66) fp_J25_7 (fit_ref y79).1 (fit_ref y79).2 dJ25_afterNodeAccess_66 hk (fun h83 hk => ?_)
      refine r_goto X (pc := 69) (tgt := 79) dJ25_afterNodeAccess_69 (by decide) ?_
      refine G.sub [4, 3, 2, 1, 0] rfl ?_
      exact w_J25_afterNodeAccess_79 X E h83 n z y76 x1 y78 y79 hk
set_option maxHeartbeats 4000000 in
theorem w_J25_afterNodeAccess {K : KT} {Y : YT} {o : Nat} {κ : AH → Nat → Nat → Prop} {χ : QxT} (X : XY K "java/util/LinkedHashMap" "afterNodeAccess" cJ25_afterNodeAccess (Option.none : Option Jvm.ClassFile.FieldType) [] 7 0 0 Y) (E : YE K Y (QvV κ) χ) {h : AH} {n : Nat} {z : Nat} {x1 : Option Nat} (hk : P_J25_afterNodeAccess K o κ χ h n z x1) : G K Y h n z 0 (lv_argsA 0 [vR (some o), vR x1]) [] := by
  show G K Y h n z 0 [(0, vR (some o)), (1, vR x1)] []
  refine r_aload_n X (pc := 0) dJ25_afterNodeAccess_0 rfl (q := 0) rfl ?_
  refine r_hGI X (pc := 1) fa_J25_1 dJ25_afterNodeAccess_1 hk (fun y84 hk => ?_)
  refine r_iconst X (pc := 4) dJ25_afterNodeAccess_4 ?_
  obtain ⟨b85, hk⟩ := hk
  refine r_icmp_eq X (pc := 5) (tgt := 22) dJ25_afterNodeAccess_5 (by decide) ⟨b85, (by decide)⟩ (fun c86 => ?_) (fun c86 => ?_)
  · have hk := hk.1 c86
    exact w_J25_afterNodeAccess_22 X E h n z x1 hk
  · have hk := hk.2 c86
    refine r_aload_n X (pc := 8) dJ25_afterNodeAccess_8 rfl (q := 0) rfl ?_
    refine r_hGI X (pc := 9) fa_J25_1 dJ25_afterNodeAccess_9 hk (fun y87 hk => ?_)
    obtain ⟨b88, hk⟩ := hk
    refine r_if_ne X (pc := 12) (tgt := 141) dJ25_afterNodeAccess_12 (by decide) b88 (fun c89 => ?_) (fun c89 => ?_)
    · have hk := hk.2 c89
      exact w_J25_afterNodeAccess_141 X E h n z x1 hk
    · have hk := hk.1 c89
      refine r_aload_n X (pc := 15) dJ25_afterNodeAccess_15 rfl (q := 0) rfl ?_
      refine r_hGI X (pc := 16) fa_J25_64 dJ25_afterNodeAccess_16 hk (fun y90 hk => ?_)
      obtain ⟨b91, hk⟩ := hk
      refine r_if_eq X (pc := 19) (tgt := 141) dJ25_afterNodeAccess_19 (by decide) b91 (fun c92 => ?_) (fun c92 => ?_)
      · have hk := hk.1 c92
        exact w_J25_afterNodeAccess_141 X E h n z x1 hk
      · have hk := hk.2 c92
        exact w_J25_afterNodeAccess_22 X E h n z x1 hk
theorem s_J25_afterNodeAccess {K : KT} {l : Launch} {o : Nat} {κ : AH → Nat → Nat → Prop} {χ : QxT} {h : AH} {n : Nat} {z : Nat} {x1 : Option Nat} (hk : P_J25_afterNodeAccess K o κ χ h n z x1) : Ct K l yJ25_afterNodeAccess (ws_ yJ25_afterNodeAccess cJ25_afterNodeAccess 7 (Option.none : Option Jvm.ClassFile.FieldType)) 0 0 ([vR (some o), vR x1].map cV) h n z (QvV κ) χ :=
  ct_of (by decide +kernel) (Nat.le_of_ble_eq_true rfl) (fun Y X E => w_J25_afterNodeAccess X E hk)
set_option maxHeartbeats 4000000 in
theorem w_J25_removeEldestEntry {K : KT} {Y : YT} {o : Nat} {κ : Int → AH → Nat → Nat → Prop} {χ : QxT} (X : XY K "java/util/LinkedHashMap" "removeEldestEntry" cJ25_removeEldestEntry (Option.some Jvm.ClassFile.FieldType.boolean) [] 2 0 0 Y) (E : YE K Y (QvI κ) χ) {h : AH} {n : Nat} {z : Nat} {x1 : Option Nat} (hk : P_J25_removeEldestEntry K o κ χ h n z x1) : G K Y h n z 0 (lv_argsA 0 [vR (some o), vR x1]) [] := by
  show G K Y h n z 0 [(0, vR (some o)), (1, vR x1)] []
  refine r_iconst X (pc := 0) dJ25_removeEldestEntry_0 ?_
  exact r_iret X E (pc := 1) dJ25_removeEldestEntry_1 rfl ⟨_, rfl, hk⟩
theorem s_J25_removeEldestEntry {K : KT} {l : Launch} {o : Nat} {κ : Int → AH → Nat → Nat → Prop} {χ : QxT} {h : AH} {n : Nat} {z : Nat} {x1 : Option Nat} (hk : P_J25_removeEldestEntry K o κ χ h n z x1) : Ct K l yJ25_removeEldestEntry (ws_ yJ25_removeEldestEntry cJ25_removeEldestEntry 2 (Option.some Jvm.ClassFile.FieldType.boolean)) 0 0 ([vR (some o), vR x1].map cV) h n z (QvI κ) χ :=
  ct_of (by decide +kernel) (Nat.le_of_ble_eq_true rfl) (fun Y X E => w_J25_removeEldestEntry X E hk)
set_option maxHeartbeats 4000000 in
theorem w_J25_afterNodeInsertion {K : KT} {Y : YT} {o : Nat} {κ : AH → Nat → Nat → Prop} {χ : QxT} (X : XY K "java/util/LinkedHashMap" "afterNodeInsertion" cJ25_afterNodeInsertion (Option.none : Option Jvm.ClassFile.FieldType) [] 4 1 21 Y) (E : YE K Y (QvV κ) χ) {h : AH} {n : Nat} {z : Nat} {x1 : Int} (hk : P_J25_afterNodeInsertion K o κ χ h n z x1) : G K Y h n z 0 (lv_argsA 0 [vR (some o), vI x1]) [] := by
  show G K Y h n z 0 [(0, vR (some o)), (1, vI x1)] []
  refine r_iload_n X (pc := 0) dJ25_afterNodeInsertion_0 rfl (q := 1) rfl ?_
  obtain ⟨b9, hk⟩ := hk
  refine r_if_eq X (pc := 1) (tgt := 39) dJ25_afterNodeInsertion_1 (by decide) b9 (fun c10 => ?_) (fun c10 => ?_)
  · have hk := hk.1 c10
    exact r_vret X E (pc := 39) dJ25_afterNodeInsertion_39 ⟨rfl, hk⟩
  · have hk := hk.2 c10
    refine r_aload_n X (pc := 4) dJ25_afterNodeInsertion_4 rfl (q := 0) rfl ?_
    refine r_hGR X (pc := 5) fa_J25_7 dJ25_afterNodeInsertion_5 hk (fun y11 hk => ?_)
    refine r_dup X (pc := 8) dJ25_afterNodeInsertion_8 rfl ?_
    refine r_astore_n X (pc := 9) (lv1 := [(2, vR y11), (0, vR (some o)), (1, vI x1)]) dJ25_afterNodeInsertion_9 rfl (by decide) rfl ?_
    refine r_ifnull X (pc := 10) (tgt := 39) dJ25_afterNodeInsertion_10 (by decide) (fun c12 => ?_) (fun c12 => ?_)
    · have hk := hk.1 c12
      exact r_vret X E (pc := 39) dJ25_afterNodeInsertion_39 ⟨rfl, hk⟩
    · have hk := hk.2 c12
      refine r_aload_n X (pc := 13) dJ25_afterNodeInsertion_13 rfl (q := 1) rfl ?_
      refine r_aload_n X (pc := 14) dJ25_afterNodeInsertion_14 rfl (q := 0) rfl ?_
      obtain ⟨o25, fs26, e9, b27, hk⟩ := hk
      refine r_callV X (pc := 15) (As := [vR y11]) (st := []) rfl rfl e9 b27 m_J25_53 (fun _ => s_J25_removeEldestEntry hk) ⟨by decide, by decide⟩ (Nat.le_of_ble_eq_true rfl) dJ25_afterNodeInsertion_15 (fun v9 h14 n15 z16 hq => ?_) (fun ci20 q21 h22 n23 z24 hf => ?_)
      · obtain ⟨r13, rfl, hk⟩ := hq
        refine ⟨[vI r13], rfl, ?_⟩
        obtain ⟨b17, hk⟩ := hk
        refine r_if_eq X (pc := 18) (tgt := 39) dJ25_afterNodeInsertion_18 (by decide) b17 (fun c18 => ?_) (fun c18 => ?_)
        · have hk := hk.1 c18
          exact r_vret X E (pc := 39) dJ25_afterNodeInsertion_39 ⟨rfl, hk⟩
        · have hk := hk.2 c18
          refine r_aload_n X (pc := 21) dJ25_afterNodeInsertion_21 rfl (q := 0) rfl ?_
          refine r_hGR X (pc := 22) fa_J25_39_J33 dJ25_afterNodeInsertion_22 hk (fun y19 hk => ?_)
          refine r_astore_n X (pc := 25) (lv1 := [(3, vR y19), (2, vR y11), (0, vR (some o)), (1, vI x1)]) dJ25_afterNodeInsertion_25 rfl (by decide) rfl ?_
          refine r_aload_n X (pc := 26) dJ25_afterNodeInsertion_26 rfl (q := 2) rfl ?_
          refine r_aload_n X (pc := 27) dJ25_afterNodeInsertion_27 rfl (q := 0) rfl ?_
          exact hk.elim
      · have hk := hf
        exact r_out X E (fun _ h9 => nomatch h9) hk
theorem s_J25_afterNodeInsertion {K : KT} {l : Launch} {o : Nat} {κ : AH → Nat → Nat → Prop} {χ : QxT} {h : AH} {n : Nat} {z : Nat} {x1 : Int} (hk : P_J25_afterNodeInsertion K o κ χ h n z x1) : Ct K l yJ25_afterNodeInsertion (ws_ yJ25_afterNodeInsertion cJ25_afterNodeInsertion 4 (Option.none : Option Jvm.ClassFile.FieldType)) 1 21 ([vR (some o), vI x1].map cV) h n z (QvV κ) χ :=
  ct_of (by decide +kernel) (Nat.le_of_ble_eq_true rfl) (fun Y X E => w_J25_afterNodeInsertion X E hk)
set_option maxHeartbeats 4000000 in
theorem w_J25_linkNodeAtEnd {K : KT} {Y : YT} {o : Nat} {κ : AH → Nat → Nat → Prop} {χ : QxT} (X : XY K "java/util/LinkedHashMap" "linkNodeAtEnd" cJ25_linkNodeAtEnd (Option.none : Option Jvm.ClassFile.FieldType) [] 3 0 0 Y) (E : YE K Y (QvV κ) χ) {h : AH} {n : Nat} {z : Nat} {x1 : Option Nat} (hk : P_J25_linkNodeAtEnd K o κ χ h n z x1) : G K Y h n z 0 (lv_argsA 0 [vR (some o), vR x1]) [] := by
  show G K Y h n z 0 [(0, vR (some o)), (1, vR x1)] []
  refine r_aload_n X (pc := 0) dJ25_linkNodeAtEnd_0 rfl (q := 0) rfl ?_
  refine r_hGI X (pc := 1) fa_J25_1 dJ25_linkNodeAtEnd_1 hk (fun y16 hk => ?_)
  refine r_iconst X (pc := 4) dJ25_linkNodeAtEnd_4 ?_
  obtain ⟨b17, hk⟩ := hk
  refine r_icmp_ne X (pc := 5) (tgt := 43) dJ25_linkNodeAtEnd_5 (by decide) ⟨b17, (by decide)⟩ (fun c18 => ?_) (fun c18 => ?_)
  · have hk := hk.2 c18
    refine r_aload_n X (pc := 43) dJ25_linkNodeAtEnd_43 rfl (q := 0) rfl ?_
    refine r_hGR X (pc := 44) fa_J25_11 dJ25_linkNodeAtEnd_44 hk (fun y19 hk => ?_)
    refine r_astore_n X (pc := 47) (lv1 := [(2, vR y19), (0, vR (some o)), (1, vR x1)]) dJ25_linkNodeAtEnd_47 rfl (by decide) rfl ?_
    refine r_aload_n X (pc := 48) dJ25_linkNodeAtEnd_48 rfl (q := 1) rfl ?_
    refine r_aload_n X (pc := 49) dJ25_linkNodeAtEnd_49 rfl (q := 2) rfl ?_
    refine r_hPut X (pc := 50) fp_J25_11 (fit_ref x1).1 (fit_ref x1).2 dJ25_linkNodeAtEnd_50 hk (fun h20 hk => ?_)
    refine r_aload_n X (pc := 53) dJ25_linkNodeAtEnd_53 rfl (q := 0) rfl ?_
    refine r_ifnonnull X (pc := 54) (tgt := 65) dJ25_linkNodeAtEnd_54 (by decide) (fun c21 => ?_) (fun c21 => ?_)
    · have hk := hk.2 c21
      refine r_aload_n X (pc := 65) dJ25_linkNodeAtEnd_65 rfl (q := 2) rfl ?_
      refine r_aload_n X (pc := 66) dJ25_linkNodeAtEnd_66 rfl (q := 0) rfl ?_
      refine r_hPut X (pc := 67) fp_J25_19_J33 (fit_ref y19).1 (fit_ref y19).2 dJ25_linkNodeAtEnd_67 hk (fun h22 hk => ?_)
      refine r_aload_n X (pc := 70) dJ25_linkNodeAtEnd_70 rfl (q := 0) rfl ?_
      refine r_aload_n X (pc := 71) dJ25_linkNodeAtEnd_71 rfl (q := 2) rfl ?_
      refine r_hPut X (pc := 72) fp_J25_14_J33 (fit_ref x1).1 (fit_ref x1).2 dJ25_linkNodeAtEnd_72 hk (fun h23 hk => ?_)
      exact r_vret X E (pc := 75) dJ25_linkNodeAtEnd_75 ⟨rfl, hk⟩
    · have hk := hk.1 c21
      refine r_aload_n X (pc := 57) dJ25_linkNodeAtEnd_57 rfl (q := 1) rfl ?_
      refine r_aload_n X (pc := 58) dJ25_linkNodeAtEnd_58 rfl (q := 2) rfl ?_
      refine r_hPut X (pc := 59) fp_J25_7 (fit_ref x1).1 (fit_ref x1).2 dJ25_linkNodeAtEnd_59 hk (fun h24 hk => ?_)
      refine r_goto X (pc := 62) (tgt := 75) dJ25_linkNodeAtEnd_62 (by decide) ?_
      exact r_vret X E (pc := 75) dJ25_linkNodeAtEnd_75 ⟨rfl, hk⟩
  · have hk := hk.1 c18
    refine r_aload_n X (pc := 8) dJ25_linkNodeAtEnd_8 rfl (q := 0) rfl ?_
    refine r_hGR X (pc := 9) fa_J25_7 dJ25_linkNodeAtEnd_9 hk (fun y25 hk => ?_)
    refine r_astore_n X (pc := 12) (lv1 := [(2, vR y25), (0, vR (some o)), (1, vR x1)]) dJ25_linkNodeAtEnd_12 rfl (by decide) rfl ?_
    refine r_aload_n X (pc := 13) dJ25_linkNodeAtEnd_13 rfl (q := 1) rfl ?_
    refine r_aload_n X (pc := 14) dJ25_linkNodeAtEnd_14 rfl (q := 2) rfl ?_
    refine r_hPut X (pc := 15) fp_J25_7 (fit_ref x1).1 (fit_ref x1).2 dJ25_linkNodeAtEnd_15 hk (fun h26 hk => ?_)
    refine r_aload_n X (pc := 18) dJ25_linkNodeAtEnd_18 rfl (q := 0) rfl ?_
    refine r_ifnonnull X (pc := 19) (tgt := 30) dJ25_linkNodeAtEnd_19 (by decide) (fun c27 => ?_) (fun c27 => ?_)
    · have hk := hk.2 c27
      refine r_aload_n X (pc := 30) dJ25_linkNodeAtEnd_30 rfl (q := 2) rfl ?_
      refine r_aload_n X (pc := 31) dJ25_linkNodeAtEnd_31 rfl (q := 0) rfl ?_
      refine r_hPut X (pc := 32) fp_J25_14_J33 (fit_ref y25).1 (fit_ref y25).2 dJ25_linkNodeAtEnd_32 hk (fun h28 hk => ?_)
      refine r_aload_n X (pc := 35) dJ25_linkNodeAtEnd_35 rfl (q := 0) rfl ?_
      refine r_aload_n X (pc := 36) dJ25_linkNodeAtEnd_36 rfl (q := 2) rfl ?_
      refine r_hPut X (pc := 37) fp_J25_19_J33 (fit_ref x1).1 (fit_ref x1).2 dJ25_linkNodeAtEnd_37 hk (fun h29 hk => ?_)
      refine r_goto X (pc := 40) (tgt := 75) dJ25_linkNodeAtEnd_40 (by decide) ?_
      exact r_vret X E (pc := 75) dJ25_linkNodeAtEnd_75 ⟨rfl, hk⟩
    · have hk := hk.1 c27
      refine r_aload_n X (pc := 22) dJ25_linkNodeAtEnd_22 rfl (q := 1) rfl ?_
      refine r_aload_n X (pc := 23) dJ25_linkNodeAtEnd_23 rfl (q := 2) rfl ?_
      refine r_hPut X (pc := 24) fp_J25_11 (fit_ref x1).1 (fit_ref x1).2 dJ25_linkNodeAtEnd_24 hk (fun h30 hk => ?_)
      refine r_goto X (pc := 27) (tgt := 40) dJ25_linkNodeAtEnd_27 (by decide) ?_
      refine r_goto X (pc := 40) (tgt := 75) dJ25_linkNodeAtEnd_40 (by decide) ?_
      exact r_vret X E (pc := 75) dJ25_linkNodeAtEnd_75 ⟨rfl, hk⟩
theorem s_J25_linkNodeAtEnd {K : KT} {l : Launch} {o : Nat} {κ : AH → Nat → Nat → Prop} {χ : QxT} {h : AH} {n : Nat} {z : Nat} {x1 : Option Nat} (hk : P_J25_linkNodeAtEnd K o κ χ h n z x1) : Ct K l yJ25_linkNodeAtEnd (ws_ yJ25_linkNodeAtEnd cJ25_linkNodeAtEnd 3 (Option.none : Option Jvm.ClassFile.FieldType)) 0 0 ([vR (some o), vR x1].map cV) h n z (QvV κ) χ :=
  ct_of (by decide +kernel) (Nat.le_of_ble_eq_true rfl) (fun Y X E => w_J25_linkNodeAtEnd X E hk)
set_option maxHeartbeats 4000000 in
theorem w_J32_init {K : KT} {Y : YT} {o : Nat} {κ : AH → Nat → Nat → Prop} {χ : QxT} (X : XY K "java/util/HashMap$Node" "<init>" cJ32_init none [] 5 1 60 Y) (E : YE K Y (QvV κ) χ) {h : AH} {n : Nat} {z : Nat} {x1 : Int} {x2 : Option Nat} {x3 : Option Nat} {x4 : Option Nat} (hk : P_J32_init K o κ χ h n z x1 x2 x3 x4) : G K Y h n z 0 (lv_argsA 0 [vR (some o), vI x1, vR x2, vR x3, vR x4]) [] := by
  show G K Y h n z 0 [(0, vR (some o)), (1, vI x1), (2, vR x2), (3, vR x3), (4, vR x4)] []
  refine r_aload_n X (pc := 0) dJ32_init_0 rfl (q := 0) rfl ?_
  refine r_objinit X (pc := 1) q2284 q203 q204 ⟨by decide, Nat.le_of_ble_eq_true rfl⟩ dJ32_init_1 ?_
  refine r_aload_n X (pc := 4) dJ32_init_4 rfl (q := 0) rfl ?_
  refine r_iload_n X (pc := 5) dJ32_init_5 rfl (q := 1) rfl ?_
  refine r_hPutF X (pc := 6) fp_J32_7_J33 rfl rfl rfl dJ32_init_6 hk (fun h5 hk => ?_)
  refine r_aload_n X (pc := 9) dJ32_init_9 rfl (q := 0) rfl ?_
  refine r_aload_n X (pc := 10) dJ32_init_10 rfl (q := 2) rfl ?_
  refine r_hPutF X (pc := 11) fp_J32_13_J33 rfl (fit_ref x2).1 (fit_ref x2).2 dJ32_init_11 hk (fun h6 hk => ?_)
  refine r_aload_n X (pc := 14) dJ32_init_14 rfl (q := 0) rfl ?_
  refine r_aload_n X (pc := 15) dJ32_init_15 rfl (q := 3) rfl ?_
  refine r_hPut X (pc := 16) fp_J32_17_J33 (fit_ref x3).1 (fit_ref x3).2 dJ32_init_16 hk (fun h7 hk => ?_)
  refine r_aload_n X (pc := 19) dJ32_init_19 rfl (q := 0) rfl ?_
  refine r_aload X (pc := 20) dJ32_init_20 (q := 4) rfl ?_
  refine r_hPut X (pc := 22) fp_J32_20_J33 (fit_ref x4).1 (fit_ref x4).2 dJ32_init_22 hk (fun h8 hk => ?_)
  exact r_vret X E (pc := 25) dJ32_init_25 ⟨rfl, hk⟩
theorem s_J32_init {K : KT} {l : Launch} {o : Nat} {κ : AH → Nat → Nat → Prop} {χ : QxT} {h : AH} {n : Nat} {z : Nat} {x1 : Int} {x2 : Option Nat} {x3 : Option Nat} {x4 : Option Nat} (hk : P_J32_init K o κ χ h n z x1 x2 x3 x4) : Ct K l yJ32_init (ws_ yJ32_init cJ32_init 5 none) 1 60 ([vR (some o), vI x1, vR x2, vR x3, vR x4].map cV) h n z (QvV κ) χ :=
  ct_of (by decide +kernel) (Nat.le_of_ble_eq_true rfl) (fun Y X E => w_J32_init X E hk)
set_option maxHeartbeats 4000000 in
theorem w_J33_init {K : KT} {Y : YT} {o : Nat} {κ : AH → Nat → Nat → Prop} {χ : QxT} (X : XY K "java/util/LinkedHashMap$Entry" "<init>" cJ33_init none [] 5 2 84 Y) (E : YE K Y (QvV κ) χ) {h : AH} {n : Nat} {z : Nat} {x1 : Int} {x2 : Option Nat} {x3 : Option Nat} {x4 : Option Nat} (hk : P_J33_init K o κ χ h n z x1 x2 x3 x4) : G K Y h n z 0 (lv_argsA 0 [vR (some o), vI x1, vR x2, vR x3, vR x4]) [] := by
  show G K Y h n z 0 [(0, vR (some o)), (1, vI x1), (2, vR x2), (3, vR x3), (4, vR x4)] []
  refine r_aload_n X (pc := 0) dJ33_init_0 rfl (q := 0) rfl ?_
  refine r_iload_n X (pc := 1) dJ33_init_1 rfl (q := 1) rfl ?_
  refine r_aload_n X (pc := 2) dJ33_init_2 rfl (q := 2) rfl ?_
  refine r_aload_n X (pc := 3) dJ33_init_3 rfl (q := 3) rfl ?_
  refine r_aload X (pc := 4) dJ33_init_4 (q := 4) rfl ?_
  refine r_callI X (pc := 6) (As := [vI x1, vR x2, vR x3, vR x4]) (st := []) m_J33_1 (fun _ => s_J32_init hk) ⟨by decide, by decide⟩ (Nat.le_of_ble_eq_true rfl) dJ33_init_6 (fun v9 h1 n2 z3 hq => ?_) (fun ci4 q5 h6 n7 z8 hf => ?_)
  · obtain ⟨rfl, hk⟩ := hq
    refine ⟨[], rfl, ?_⟩
    exact r_vret X E (pc := 9) dJ33_init_9 ⟨rfl, hk⟩
  · have hk := hf
    exact r_out X E (fun _ h9 => nomatch h9) hk
theorem s_J33_init {K : KT} {l : Launch} {o : Nat} {κ : AH → Nat → Nat → Prop} {χ : QxT} {h : AH} {n : Nat} {z : Nat} {x1 : Int} {x2 : Option Nat} {x3 : Option Nat} {x4 : Option Nat} (hk : P_J33_init K o κ χ h n z x1 x2 x3 x4) : Ct K l yJ33_init (ws_ yJ33_init cJ33_init 5 none) 2 84 ([vR (some o), vI x1, vR x2, vR x3, vR x4].map cV) h n z (QvV κ) χ :=
  ct_of (by decide +kernel) (Nat.le_of_ble_eq_true rfl) (fun Y X E => w_J33_init X E hk)
set_option maxHeartbeats 4000000 in
theorem w_J25_newNode {K : KT} {Y : YT} {o : Nat} {κ : Option Nat → AH → Nat → Nat → Prop} {χ : QxT} (X : XY K "java/util/LinkedHashMap" "newNode" cJ25_newNode (Option.some (Jvm.ClassFile.FieldType.object "java/util/HashMap$Node")) [] 6 3 108 Y) (E : YE K Y (QvR κ) χ) {h : AH} {n : Nat} {z : Nat} {x1 : Int} {x2 : Option Nat} {x3 : Option Nat} {x4 : Option Nat} (hk : P_J25_newNode K o κ χ h n z x1 x2 x3 x4) : G K Y h n z 0 (lv_argsA 0 [vR (some o), vI x1, vR x2, vR x3, vR x4]) [] := by
  show G K Y h n z 0 [(0, vR (some o)), (1, vI x1), (2, vR x2), (3, vR x3), (4, vR x4)] []
  refine r_hNew X (pc := 0) nw_J25_15 dJ25_newNode_0 hk (fun h2 hk => ?_)
  refine r_dup X (pc := 3) dJ25_newNode_3 rfl ?_
  refine r_iload_n X (pc := 4) dJ25_newNode_4 rfl (q := 1) rfl ?_
  refine r_aload_n X (pc := 5) dJ25_newNode_5 rfl (q := 2) rfl ?_
  refine r_aload_n X (pc := 6) dJ25_newNode_6 rfl (q := 3) rfl ?_
  refine r_aload X (pc := 7) dJ25_newNode_7 (q := 4) rfl ?_
  refine r_callI X (pc := 9) (As := [vI x1, vR x2, vR x3, vR x4]) (st := [vR (some n)]) m_J25_28 (fun _ => s_J33_init hk) ⟨by decide, by decide⟩ (Nat.le_of_ble_eq_true rfl) dJ25_newNode_9 (fun v9 h3 n4 z5 hq => ?_) (fun ci17 q18 h19 n20 z21 hf => ?_)
  · obtain ⟨rfl, hk⟩ := hq
    refine ⟨[], rfl, ?_⟩
    refine r_astore X (pc := 12) (lv1 := [(5, vR (some n)), (0, vR (some o)), (1, vI x1), (2, vR x2), (3, vR x3), (4, vR x4)]) dJ25_newNode_12 (by decide) rfl ?_
    refine r_aload_n X (pc := 14) dJ25_newNode_14 rfl (q := 1) rfl ?_
    refine r_aload X (pc := 15) dJ25_newNode_15 (q := 0) rfl ?_
    obtain ⟨o14, fs15, e9, b16, hk⟩ := hk
    refine r_callV X (pc := 17) (As := [vR (some n)]) (st := []) rfl rfl e9 b16 m_J25_32 (fun _ => s_J25_linkNodeAtEnd hk) ⟨by decide, by decide⟩ (Nat.le_of_ble_eq_true rfl) dJ25_newNode_17 (fun v9 h6 n7 z8 hq => ?_) (fun ci9 q10 h11 n12 z13 hf => ?_)
    · obtain ⟨rfl, hk⟩ := hq
      refine ⟨[], rfl, ?_⟩
      refine r_aload X (pc := 20) dJ25_newNode_20 (q := 0) rfl ?_
      exact r_aret X E (Or.inl ⟨_, rfl⟩) (pc := 22) dJ25_newNode_22 ⟨_, rfl, hk⟩
    · have hk := hf
      exact r_out X E (fun _ h9 => nomatch h9) hk
  · have hk := hf
    exact r_out X E (fun _ h9 => nomatch h9) hk
theorem s_J25_newNode {K : KT} {l : Launch} {o : Nat} {κ : Option Nat → AH → Nat → Nat → Prop} {χ : QxT} {h : AH} {n : Nat} {z : Nat} {x1 : Int} {x2 : Option Nat} {x3 : Option Nat} {x4 : Option Nat} (hk : P_J25_newNode K o κ χ h n z x1 x2 x3 x4) : Ct K l yJ25_newNode (ws_ yJ25_newNode cJ25_newNode 6 (Option.some (Jvm.ClassFile.FieldType.object "java/util/HashMap$Node"))) 3 108 ([vR (some o), vI x1, vR x2, vR x3, vR x4].map cV) h n z (QvR κ) χ :=
  ct_of (by decide +kernel) (Nat.le_of_ble_eq_true rfl) (fun Y X E => w_J25_newNode X E hk)
set_option maxHeartbeats 4000000 in
theorem w_X11_equals {K : KT} {Y : YT} {o : Nat} {κ : Int → AH → Nat → Nat → Prop} {χ : QxT} (X : XY K "TrailMarkers$Leg" "equals" cX11_equals (Option.some Jvm.ClassFile.FieldType.boolean) [] 3 0 0 Y) (E : YE K Y (QvI κ) χ) {h : AH} {n : Nat} {z : Nat} {x1 : Option Nat} (hk : P_X11_equals K o κ χ h n z x1) : G K Y h n z 0 (lv_argsA 0 [vR (some o), vR x1]) [] := by
  show G K Y h n z 0 [(0, vR (some o)), (1, vR x1)] []
  refine r_aload_n X (pc := 0) dX11_equals_0 rfl (q := 1) rfl ?_
  refine r_hInst X (pc := 1) q2575 cos_TrailMarkers_Leg_10 cns_TrailMarkers_Leg_ dX11_equals_1 hk (fun y19 hk => ?_)
  obtain ⟨b20, hk⟩ := hk
  refine r_if_eq X (pc := 4) (tgt := 49) dX11_equals_4 (by decide) b20 (fun c21 => ?_) (fun c21 => ?_)
  · have hk := hk.1 c21
    refine r_iconst X (pc := 49) dX11_equals_49 ?_
    exact r_iret X E (pc := 50) dX11_equals_50 rfl ⟨_, rfl, hk⟩
  · have hk := hk.2 c21
    refine r_aload_n X (pc := 7) dX11_equals_7 rfl (q := 1) rfl ?_
    refine r_hCast X (pc := 8) q2575 cos_TrailMarkers_Leg_10 dX11_equals_8 hk (fun hk => ?_)
    refine r_astore_n X (pc := 11) (lv1 := [(2, vR x1), (0, vR (some o)), (1, vR x1)]) dX11_equals_11 rfl (by decide) rfl ?_
    refine r_aload_n X (pc := 12) dX11_equals_12 rfl (q := 0) rfl ?_
    refine r_hGI X (pc := 13) fa_X11_7 dX11_equals_13 hk (fun y22 hk => ?_)
    refine r_aload_n X (pc := 16) dX11_equals_16 rfl (q := 1) rfl ?_
    refine r_hGI X (pc := 17) fa_X11_7 dX11_equals_17 hk (fun y23 hk => ?_)
    obtain ⟨b24, b25, hk⟩ := hk
    refine r_icmp_ne X (pc := 20) (tgt := 49) dX11_equals_20 (by decide) ⟨b24, b25⟩ (fun c26 => ?_) (fun c26 => ?_)
    · have hk := hk.2 c26
      refine r_iconst X (pc := 49) dX11_equals_49 ?_
      exact r_iret X E (pc := 50) dX11_equals_50 rfl ⟨_, rfl, hk⟩
    · have hk := hk.1 c26
      refine r_aload_n X (pc := 23) dX11_equals_23 rfl (q := 0) rfl ?_
      refine r_hGI X (pc := 24) fa_X11_13 dX11_equals_24 hk (fun y27 hk => ?_)
      refine r_aload_n X (pc := 27) dX11_equals_27 rfl (q := 1) rfl ?_
      refine r_hGI X (pc := 28) fa_X11_13 dX11_equals_28 hk (fun y28 hk => ?_)
      obtain ⟨b29, b30, hk⟩ := hk
      refine r_icmp_ne X (pc := 31) (tgt := 49) dX11_equals_31 (by decide) ⟨b29, b30⟩ (fun c31 => ?_) (fun c31 => ?_)
      · have hk := hk.2 c31
        refine r_iconst X (pc := 49) dX11_equals_49 ?_
        exact r_iret X E (pc := 50) dX11_equals_50 rfl ⟨_, rfl, hk⟩
      · have hk := hk.1 c31
        refine r_aload_n X (pc := 34) dX11_equals_34 rfl (q := 0) rfl ?_
        refine r_hGI X (pc := 35) fa_X11_16 dX11_equals_35 hk (fun y32 hk => ?_)
        refine r_aload_n X (pc := 38) dX11_equals_38 rfl (q := 1) rfl ?_
        refine r_hGI X (pc := 39) fa_X11_16 dX11_equals_39 hk (fun y33 hk => ?_)
        obtain ⟨b34, b35, hk⟩ := hk
        refine r_icmp_ne X (pc := 42) (tgt := 49) dX11_equals_42 (by decide) ⟨b34, b35⟩ (fun c36 => ?_) (fun c36 => ?_)
        · have hk := hk.2 c36
          refine r_iconst X (pc := 49) dX11_equals_49 ?_
          exact r_iret X E (pc := 50) dX11_equals_50 rfl ⟨_, rfl, hk⟩
        · have hk := hk.1 c36
          refine r_iconst X (pc := 45) dX11_equals_45 ?_
          refine r_goto X (pc := 46) (tgt := 50) dX11_equals_46 (by decide) ?_
          exact r_iret X E (pc := 50) dX11_equals_50 rfl ⟨_, rfl, hk⟩
theorem s_X11_equals {K : KT} {l : Launch} {o : Nat} {κ : Int → AH → Nat → Nat → Prop} {χ : QxT} {h : AH} {n : Nat} {z : Nat} {x1 : Option Nat} (hk : P_X11_equals K o κ χ h n z x1) : Ct K l yX11_equals (ws_ yX11_equals cX11_equals 3 (Option.some Jvm.ClassFile.FieldType.boolean)) 0 0 ([vR (some o), vR x1].map cV) h n z (QvI κ) χ :=
  ct_of (by decide +kernel) (Nat.le_of_ble_eq_true rfl) (fun Y X E => w_X11_equals X E hk)
set_option maxHeartbeats 4000000 in
theorem w_X12_equals {K : KT} {Y : YT} {o : Nat} {κ : Int → AH → Nat → Nat → Prop} {χ : QxT} (X : XY K "TrailMarkers$Cell" "equals" cX12_equals (Option.some Jvm.ClassFile.FieldType.boolean) [] 3 0 0 Y) (E : YE K Y (QvI κ) χ) {h : AH} {n : Nat} {z : Nat} {x1 : Option Nat} (hk : P_X12_equals K o κ χ h n z x1) : G K Y h n z 0 (lv_argsA 0 [vR (some o), vR x1]) [] := by
  show G K Y h n z 0 [(0, vR (some o)), (1, vR x1)] []
  refine r_aload_n X (pc := 0) dX12_equals_0 rfl (q := 1) rfl ?_
  refine r_hInst X (pc := 1) q2180 cos_TrailMarkers_Cell_11 cns_TrailMarkers_Cell_ dX12_equals_1 hk (fun y14 hk => ?_)
  obtain ⟨b15, hk⟩ := hk
  refine r_if_eq X (pc := 4) (tgt := 38) dX12_equals_4 (by decide) b15 (fun c16 => ?_) (fun c16 => ?_)
  · have hk := hk.1 c16
    refine r_iconst X (pc := 38) dX12_equals_38 ?_
    exact r_iret X E (pc := 39) dX12_equals_39 rfl ⟨_, rfl, hk⟩
  · have hk := hk.2 c16
    refine r_aload_n X (pc := 7) dX12_equals_7 rfl (q := 1) rfl ?_
    refine r_hCast X (pc := 8) q2180 cos_TrailMarkers_Cell_11 dX12_equals_8 hk (fun hk => ?_)
    refine r_astore_n X (pc := 11) (lv1 := [(2, vR x1), (0, vR (some o)), (1, vR x1)]) dX12_equals_11 rfl (by decide) rfl ?_
    refine r_aload_n X (pc := 12) dX12_equals_12 rfl (q := 0) rfl ?_
    refine r_hGI X (pc := 13) fa_X12_7 dX12_equals_13 hk (fun y17 hk => ?_)
    refine r_aload_n X (pc := 16) dX12_equals_16 rfl (q := 1) rfl ?_
    refine r_hGI X (pc := 17) fa_X12_7 dX12_equals_17 hk (fun y18 hk => ?_)
    obtain ⟨b19, b20, hk⟩ := hk
    refine r_icmp_ne X (pc := 20) (tgt := 38) dX12_equals_20 (by decide) ⟨b19, b20⟩ (fun c21 => ?_) (fun c21 => ?_)
    · have hk := hk.2 c21
      refine r_iconst X (pc := 38) dX12_equals_38 ?_
      exact r_iret X E (pc := 39) dX12_equals_39 rfl ⟨_, rfl, hk⟩
    · have hk := hk.1 c21
      refine r_aload_n X (pc := 23) dX12_equals_23 rfl (q := 0) rfl ?_
      refine r_hGI X (pc := 24) fa_X12_13 dX12_equals_24 hk (fun y22 hk => ?_)
      refine r_aload_n X (pc := 27) dX12_equals_27 rfl (q := 1) rfl ?_
      refine r_hGI X (pc := 28) fa_X12_13 dX12_equals_28 hk (fun y23 hk => ?_)
      obtain ⟨b24, b25, hk⟩ := hk
      refine r_icmp_ne X (pc := 31) (tgt := 38) dX12_equals_31 (by decide) ⟨b24, b25⟩ (fun c26 => ?_) (fun c26 => ?_)
      · have hk := hk.2 c26
        refine r_iconst X (pc := 38) dX12_equals_38 ?_
        exact r_iret X E (pc := 39) dX12_equals_39 rfl ⟨_, rfl, hk⟩
      · have hk := hk.1 c26
        refine r_iconst X (pc := 34) dX12_equals_34 ?_
        refine r_goto X (pc := 35) (tgt := 39) dX12_equals_35 (by decide) ?_
        exact r_iret X E (pc := 39) dX12_equals_39 rfl ⟨_, rfl, hk⟩
theorem s_X12_equals {K : KT} {l : Launch} {o : Nat} {κ : Int → AH → Nat → Nat → Prop} {χ : QxT} {h : AH} {n : Nat} {z : Nat} {x1 : Option Nat} (hk : P_X12_equals K o κ χ h n z x1) : Ct K l yX12_equals (ws_ yX12_equals cX12_equals 3 (Option.some Jvm.ClassFile.FieldType.boolean)) 0 0 ([vR (some o), vR x1].map cV) h n z (QvI κ) χ :=
  ct_of (by decide +kernel) (Nat.le_of_ble_eq_true rfl) (fun Y X E => w_X12_equals X E hk)
set_option maxHeartbeats 4000000 in
theorem w_J24_putVal_292 {K : KT} {Y : YT} {o : Nat} {κ : Option Nat → AH → Nat → Nat → Prop} {χ : QxT} (X : XY K "java/util/HashMap" "putVal" cJ24_putVal (Option.some (Jvm.ClassFile.FieldType.object "java/lang/Object")) [] 13 4 133 Y) (E : YE K Y (QvR κ) χ) : ∀ (h : AH) (n : Nat) (z : Nat) (x5 : Int), P_J24_putVal_292 K o κ χ h n z x5 → G K Y h n z 292 [(0, vR (some o)), (5, vI x5)] [] := by
  intro h n z x5 hk
  refine r_aload_n X (pc := 292) dJ24_putVal_292 rfl (q := 0) rfl ?_
  refine r_iload X (pc := 293) dJ24_putVal_293 (q := 1) rfl ?_
  obtain ⟨o65, fs66, e9, b67, hk⟩ := hk
  refine r_callU X (pc := 295) (As := [vI x5]) (st := []) rfl rfl e9 b67 mu_J24_205_17 (fun _ => s_J25_afterNodeInsertion hk) ⟨by decide, by decide⟩ (Nat.le_of_ble_eq_true rfl) dJ24_putVal_295 (fun v9 h57 n58 z59 hq => ?_) (fun ci60 q61 h62 n63 z64 hf => ?_)
  · obtain ⟨rfl, hk⟩ := hq
    refine ⟨[], rfl, ?_⟩
    refine r_null X (pc := 298) dJ24_putVal_298 ?_
    exact r_aret X E (Or.inl ⟨_, rfl⟩) (pc := 299) dJ24_putVal_299 ⟨_, rfl, hk⟩
  · have hk := hf
    exact r_out X E (fun _ h9 => nomatch h9) hk
set_option maxHeartbeats 4000000 in
theorem w_J24_putVal_259 {K : KT} {Y : YT} {o : Nat} {κ : Option Nat → AH → Nat → Nat → Prop} {χ : QxT} (X : XY K "java/util/HashMap" "putVal" cJ24_putVal (Option.some (Jvm.ClassFile.FieldType.object "java/lang/Object")) [] 13 4 133 Y) (E : YE K Y (QvR κ) χ) : ∀ (h : AH) (n : Nat) (z : Nat) (x5 : Int), P_J24_putVal_259 K o κ χ h n z x5 → G K Y h n z 259 [(0, vR (some o)), (5, vI x5)] [] := by
  intro h n z x5 hk
  refine r_aload_n X (pc := 259) dJ24_putVal_259 rfl (q := 0) rfl ?_
  refine r_dup X (pc := 260) dJ24_putVal_260 rfl ?_
  refine r_hGI X (pc := 261) fa_J24_202_J25 dJ24_putVal_261 hk (fun y68 hk => ?_)
  refine r_iconst X (pc := 264) dJ24_putVal_264 ?_
  refine r_iadd X (pc := 265) dJ24_putVal_265 ?_
  refine r_hPut X (pc := 266) fp_J24_202_J25 rfl rfl dJ24_putVal_266 hk (fun h69 hk => ?_)
  refine r_aload_n X (pc := 269) dJ24_putVal_269 rfl (q := 0) rfl ?_
  refine r_dup X (pc := 270) dJ24_putVal_270 rfl ?_
  refine r_hGI X (pc := 271) fa_J24_156_J25 dJ24_putVal_271 hk (fun y70 hk => ?_)
  refine r_iconst X (pc := 274) dJ24_putVal_274 ?_
  refine r_iadd X (pc := 275) dJ24_putVal_275 ?_
  refine r_dup_x1 X (pc := 276) dJ24_putVal_276 rfl rfl ?_
  refine r_hPut X (pc := 277) fp_J24_156_J25 rfl rfl dJ24_putVal_277 hk (fun h71 hk => ?_)
  refine r_aload_n X (pc := 280) dJ24_putVal_280 rfl (q := 0) rfl ?_
  refine r_hGI X (pc := 281) fa_J24_88_J25 dJ24_putVal_281 hk (fun y72 hk => ?_)
  obtain ⟨b73, b74, hk⟩ := hk
  refine r_icmp_le X (pc := 284) (tgt := 292) dJ24_putVal_284 (by decide) ⟨b73, b74⟩ (fun c75 => ?_) (fun c75 => ?_)
  · have hk := hk.2 c75
    exact w_J24_putVal_292 X E h71 n z x5 hk
  · have hk := hk.1 c75
    refine r_aload_n X (pc := 287) dJ24_putVal_287 rfl (q := 0) rfl ?_
    obtain ⟨o85, fs86, e9, b87, hk⟩ := hk
    refine r_callU X (pc := 288) (As := []) (st := []) rfl rfl e9 b87 mu_J24_117_17 (fun _ => s_J24_resize hk) ⟨by decide, by decide⟩ (Nat.le_of_ble_eq_true rfl) dJ24_putVal_288 (fun v9 h77 n78 z79 hq => ?_) (fun ci80 q81 h82 n83 z84 hf => ?_)
    · obtain ⟨r76, rfl, hk⟩ := hq
      refine ⟨[vR r76], rfl, ?_⟩
      refine r_pop X (pc := 291) dJ24_putVal_291 rfl ?_
      exact w_J24_putVal_292 X E h77 n78 z79 x5 hk
    · have hk := hf
      exact r_out X E (fun _ h9 => nomatch h9) hk
set_option maxHeartbeats 4000000 in
theorem w_J24_putVal_250 {K : KT} {Y : YT} {o : Nat} {κ : Option Nat → AH → Nat → Nat → Prop} {χ : QxT} (X : XY K "java/util/HashMap" "putVal" cJ24_putVal (Option.some (Jvm.ClassFile.FieldType.object "java/lang/Object")) [] 13 4 133 Y) (E : YE K Y (QvR κ) χ) : ∀ (h : AH) (n : Nat) (z : Nat) (x10 : Option Nat) (x12 : Option Nat), P_J24_putVal_250 K o κ χ h n z x10 x12 → G K Y h n z 250 [(0, vR (some o)), (10, vR x10), (12, vR x12)] [] := by
  intro h n z x10 x12 hk
  refine r_aload_n X (pc := 250) dJ24_putVal_250 rfl (q := 0) rfl ?_
  refine r_aload X (pc := 251) dJ24_putVal_251 (q := 1) rfl ?_
  obtain ⟨o96, fs97, e9, b98, hk⟩ := hk
  refine r_callU X (pc := 253) (As := [vR x10]) (st := []) rfl rfl e9 b98 mu_J24_198_17 (fun _ => s_J25_afterNodeAccess hk) ⟨by decide, by decide⟩ (Nat.le_of_ble_eq_true rfl) dJ24_putVal_253 (fun v9 h88 n89 z90 hq => ?_) (fun ci91 q92 h93 n94 z95 hf => ?_)
  · obtain ⟨rfl, hk⟩ := hq
    refine ⟨[], rfl, ?_⟩
    refine r_aload X (pc := 256) dJ24_putVal_256 (q := 2) rfl ?_
    exact r_aret X E (Or.inl ⟨_, rfl⟩) (pc := 258) dJ24_putVal_258 ⟨_, rfl, hk⟩
  · have hk := hf
    exact r_out X E (fun _ h9 => nomatch h9) hk
set_option maxHeartbeats 4000000 in
theorem w_J24_putVal_222 {K : KT} {Y : YT} {o : Nat} {κ : Option Nat → AH → Nat → Nat → Prop} {χ : QxT} (X : XY K "java/util/HashMap" "putVal" cJ24_putVal (Option.some (Jvm.ClassFile.FieldType.object "java/lang/Object")) [] 13 4 133 Y) (E : YE K Y (QvR κ) χ) : ∀ (h : AH) (n : Nat) (z : Nat) (x3 : Option Nat) (x4 : Int) (x5 : Int) (x10 : Option Nat), P_J24_putVal_222 K o κ χ h n z x3 x4 x5 x10 → G K Y h n z 222 [(0, vR (some o)), (3, vR x3), (4, vI x4), (5, vI x5), (10, vR x10)] [] := by
  intro h n z x3 x4 x5 x10 hk
  refine r_aload X (pc := 222) dJ24_putVal_222 (q := 4) rfl ?_
  refine r_ifnull X (pc := 224) (tgt := 259) dJ24_putVal_224 (by decide) (fun c99 => ?_) (fun c99 => ?_)
  · have hk := hk.1 c99
    refine G.sub [0, 3] rfl ?_
    exact w_J24_putVal_259 X E h n z x5 hk
  · have hk := hk.2 c99
    refine r_aload X (pc := 227) dJ24_putVal_227 (q := 4) rfl ?_
    refine r_hGR X (pc := 229) fa_J24_162_J33 dJ24_putVal_229 hk (fun y100 hk => ?_)
    refine r_astore X (pc := 232) (lv1 := [(12, vR y100), (0, vR (some o)), (3, vR x3), (4, vI x4), (5, vI x5), (10, vR x10)]) dJ24_putVal_232 (by decide) rfl ?_
    refine r_iload X (pc := 234) dJ24_putVal_234 (q := 3) rfl ?_
    obtain ⟨b101, hk⟩ := hk
    refine r_if_eq X (pc := 236) (tgt := 244) dJ24_putVal_236 (by decide) b101 (fun c102 => ?_) (fun c102 => ?_)
    · have hk := hk.1 c102
      refine r_aload X (pc := 244) dJ24_putVal_244 (q := 5) rfl ?_
      refine r_aload_n X (pc := 246) dJ24_putVal_246 rfl (q := 2) rfl ?_
      refine r_hPut X (pc := 247) fp_J24_162_J33 (fit_ref x3).1 (fit_ref x3).2 dJ24_putVal_247 hk (fun h103 hk => ?_)
      refine G.sub [1, 5, 0] rfl ?_
      exact w_J24_putVal_250 X E h103 n z x10 y100 hk
    · have hk := hk.2 c102
      refine r_aload X (pc := 239) dJ24_putVal_239 (q := 0) rfl ?_
      refine r_ifnonnull X (pc := 241) (tgt := 250) dJ24_putVal_241 (by decide) (fun c104 => ?_) (fun c104 => ?_)
      · have hk := hk.2 c104
        refine G.sub [1, 5, 0] rfl ?_
        exact w_J24_putVal_250 X E h n z x10 y100 hk
      · have hk := hk.1 c104
        refine r_aload X (pc := 244) dJ24_putVal_244 (q := 5) rfl ?_
        refine r_aload_n X (pc := 246) dJ24_putVal_246 rfl (q := 2) rfl ?_
        refine r_hPut X (pc := 247) fp_J24_162_J33 (fit_ref x3).1 (fit_ref x3).2 dJ24_putVal_247 hk (fun h105 hk => ?_)
        refine G.sub [1, 5, 0] rfl ?_
        exact w_J24_putVal_250 X E h105 n z x10 y100 hk
set_option maxHeartbeats 4000000 in
theorem w_J24_putVal_212 {K : KT} {Y : YT} {o : Nat} {κ : Option Nat → AH → Nat → Nat → Prop} {χ : QxT} (X : XY K "java/util/HashMap" "putVal" cJ24_putVal (Option.some (Jvm.ClassFile.FieldType.object "java/lang/Object")) [] 13 4 133 Y) (E : YE K Y (QvR κ) χ) {k_134 : AH → Nat → Nat → Int → Option Nat → Option Nat → Int → Int → Option Nat → Option Nat → Int → Prop} {k_145 : AH → Nat → Nat → Int → Option Nat → Option Nat → Int → Int → Option Nat → Option Nat → Option Nat → Int → Prop} {k_209 : AH → Nat → Nat → Option Nat → Int → Int → Option Nat → Prop} {k_222 : AH → Nat → Nat → Option Nat → Int → Int → Option Nat → Prop} (H_134 : ∀ (h : AH) (n : Nat) (z : Nat) (x1 : Int) (x2 : Option Nat) (x3 : Option Nat) (x4 : Int) (x5 : Int) (x6 : Option Nat) (x7 : Option Nat) (x12 : Int), k_134 h n z x1 x2 x3 x4 x5 x6 x7 x12 → G K Y h n z 134 [(0, vR (some o)), (1, vI x1), (2, vR x2), (3, vR x3), (4, vI x4), (5, vI x5), (6, vR x6), (7, vR x7), (12, vI x12)] []) (H_145 : ∀ (h : AH) (n : Nat) (z : Nat) (x1 : Int) (x2 : Option Nat) (x3 : Option Nat) (x4 : Int) (x5 : Int) (x6 : Option Nat) (x7 : Option Nat) (x10 : Option Nat) (x12 : Int), k_145 h n z x1 x2 x3 x4 x5 x6 x7 x10 x12 → G K Y h n z 145 [(0, vR (some o)), (1, vI x1), (2, vR x2), (3, vR x3), (4, vI x4), (5, vI x5), (6, vR x6), (7, vR x7), (10, vR x10), (12, vI x12)] []) (H_209 : ∀ (h : AH) (n : Nat) (z : Nat) (x3 : Option Nat) (x4 : Int) (x5 : Int) (x10 : Option Nat), k_209 h n z x3 x4 x5 x10 → G K Y h n z 209 [(0, vR (some o)), (3, vR x3), (4, vI x4), (5, vI x5), (10, vR x10)] []) (H_222 : ∀ (h : AH) (n : Nat) (z : Nat) (x3 : Option Nat) (x4 : Int) (x5 : Int) (x10 : Option Nat), k_222 h n z x3 x4 x5 x10 → G K Y h n z 222 [(0, vR (some o)), (3, vR x3), (4, vI x4), (5, vI x5), (10, vR x10)] []) : ∀ (h : AH) (n : Nat) (z : Nat) (x1 : Int) (x2 : Option Nat) (x3 : Option Nat) (x4 : Int) (x5 : Int) (x6 : Option Nat) (x10 : Option Nat) (x12 : Int), P_J24_putVal_212 K o k_134 k_145 k_209 k_222 κ χ h n z x1 x2 x3 x4 x5 x6 x10 x12 → G K Y h n z 212 [(0, vR (some o)), (1, vI x1), (2, vR x2), (3, vR x3), (4, vI x4), (5, vI x5), (6, vR x6), (10, vR x10), (12, vI x12)] [] := by
  intro h n z x1 x2 x3 x4 x5 x6 x10 x12 hk
  refine r_aload X (pc := 212) dJ24_putVal_212 (q := 7) rfl ?_
  refine r_astore X (pc := 214) (lv1 := [(7, vR x10), (0, vR (some o)), (1, vI x1), (2, vR x2), (3, vR x3), (4, vI x4), (5, vI x5), (6, vR x6), (10, vR x10), (12, vI x12)]) dJ24_putVal_214 (by decide) rfl ?_
  refine r_iinc X (pc := 216) (q := 9) (lv1 := [(12, vI (x12 + 1)), (7, vR x10), (0, vR (some o)), (1, vI x1), (2, vR x2), (3, vR x3), (4, vI x4), (5, vI x5), (6, vR x6), (10, vR x10)]) dJ24_putVal_216 rfl (by decide) rfl ?_
  refine r_goto X (pc := 219) (tgt := 134) dJ24_putVal_219 (by decide) ?_
  refine G.sub [2, 3, 4, 5, 6, 7, 8, 1, 0] rfl ?_
  exact H_134 h n z x1 x2 x3 x4 x5 x6 x10 (x12 + 1) hk
set_option maxHeartbeats 4000000 in
theorem w_J24_putVal_134 {K : KT} {Y : YT} {o : Nat} {κ : Option Nat → AH → Nat → Nat → Prop} {χ : QxT} (X : XY K "java/util/HashMap" "putVal" cJ24_putVal (Option.some (Jvm.ClassFile.FieldType.object "java/lang/Object")) [] 13 4 133 Y) (E : YE K Y (QvR κ) χ) {k_145 : AH → Nat → Nat → Int → Option Nat → Option Nat → Int → Int → Option Nat → Option Nat → Option Nat → Int → Prop} {k_209 : AH → Nat → Nat → Option Nat → Int → Int → Option Nat → Prop} {k_222 : AH → Nat → Nat → Option Nat → Int → Int → Option Nat → Prop} (H_145 : ∀ (h : AH) (n : Nat) (z : Nat) (x1 : Int) (x2 : Option Nat) (x3 : Option Nat) (x4 : Int) (x5 : Int) (x6 : Option Nat) (x7 : Option Nat) (x10 : Option Nat) (x12 : Int), k_145 h n z x1 x2 x3 x4 x5 x6 x7 x10 x12 → G K Y h n z 145 [(0, vR (some o)), (1, vI x1), (2, vR x2), (3, vR x3), (4, vI x4), (5, vI x5), (6, vR x6), (7, vR x7), (10, vR x10), (12, vI x12)] []) (H_209 : ∀ (h : AH) (n : Nat) (z : Nat) (x3 : Option Nat) (x4 : Int) (x5 : Int) (x10 : Option Nat), k_209 h n z x3 x4 x5 x10 → G K Y h n z 209 [(0, vR (some o)), (3, vR x3), (4, vI x4), (5, vI x5), (10, vR x10)] []) (H_222 : ∀ (h : AH) (n : Nat) (z : Nat) (x3 : Option Nat) (x4 : Int) (x5 : Int) (x10 : Option Nat), k_222 h n z x3 x4 x5 x10 → G K Y h n z 222 [(0, vR (some o)), (3, vR x3), (4, vI x4), (5, vI x5), (10, vR x10)] []) : ∀ (f : Nat) (h : AH) (n : Nat) (z : Nat) (x1 : Int) (x2 : Option Nat) (x3 : Option Nat) (x4 : Int) (x5 : Int) (x6 : Option Nat) (x7 : Option Nat) (x12 : Int), L_J24_putVal_134 K o k_145 k_209 k_222 κ χ f h n z x1 x2 x3 x4 x5 x6 x7 x12 → G K Y h n z 134 [(0, vR (some o)), (1, vI x1), (2, vR x2), (3, vR x3), (4, vI x4), (5, vI x5), (6, vR x6), (7, vR x7), (12, vI x12)] [] := by
  intro f
  induction f with
  | zero => intro h n z x1 x2 x3 x4 x5 x6 x7 x12 hk; exact hk.elim
  | succ f ih =>
    intro h n z x1 x2 x3 x4 x5 x6 x7 x12 hk
    refine r_aload X (pc := 134) dJ24_putVal_134 (q := 7) rfl ?_
    refine r_hGR X (pc := 136) fa_J24_177_J33 dJ24_putVal_136 hk (fun y106 hk => ?_)
    refine r_dup X (pc := 139) dJ24_putVal_139 rfl ?_
    refine r_astore X (pc := 140) (lv1 := [(10, vR y106), (0, vR (some o)), (1, vI x1), (2, vR x2), (3, vR x3), (4, vI x4), (5, vI x5), (6, vR x6), (7, vR x7), (12, vI x12)]) dJ24_putVal_140 (by decide) rfl ?_
    refine r_ifnonnull X (pc := 142) (tgt := 175) dJ24_putVal_142 (by decide) (fun c107 => ?_) (fun c107 => ?_)
    · have hk := hk.2 c107
      refine r_aload X (pc := 175) dJ24_putVal_175 (q := 0) rfl ?_
      refine r_hGI X (pc := 177) fa_J24_168_J33 dJ24_putVal_177 hk (fun y108 hk => ?_)
      refine r_iload_n X (pc := 180) dJ24_putVal_180 rfl (q := 2) rfl ?_
      obtain ⟨b109, b110, hk⟩ := hk
      refine r_icmp_ne X (pc := 181) (tgt := 212) dJ24_putVal_181 (by decide) ⟨b109, b110⟩ (fun c111 => ?_) (fun c111 => ?_)
      · have hk := hk.2 c111
        refine G.sub [1, 2, 3, 4, 5, 6, 7, 0, 9] rfl ?_
        have HH112 : ∀ (h : AH) (n : Nat) (z : Nat) (x1 : Int) (x2 : Option Nat) (x3 : Option Nat) (x4 : Int) (x5 : Int) (x6 : Option Nat) (x7 : Option Nat) (x12 : Int), (L_J24_putVal_134 K o k_145 k_209 k_222 κ χ f h n z x1 x2 x3 x4 x5 x6 x7 x12) → G K Y h n z 134 [(0, vR (some o)), (1, vI x1), (2, vR x2), (3, vR x3), (4, vI x4), (5, vI x5), (6, vR x6), (7, vR x7), (12, vI x12)] [] := by
            intro h n z x1 x2 x3 x4 x5 x6 x7 x12 hk
            exact ih h n z x1 x2 x3 x4 x5 x6 x7 x12 hk
        exact w_J24_putVal_212 X E HH112 H_145 H_209 H_222 h n z x1 x2 x3 x4 x5 x6 y106 x12 hk
      · have hk := hk.1 c111
        refine r_aload X (pc := 184) dJ24_putVal_184 (q := 0) rfl ?_
        refine r_hGR X (pc := 186) fa_J24_170_J33 dJ24_putVal_186 hk (fun y113 hk => ?_)
        refine r_dup X (pc := 189) dJ24_putVal_189 rfl ?_
        refine r_astore X (pc := 190) (lv1 := [(11, vR y113), (10, vR y106), (0, vR (some o)), (1, vI x1), (2, vR x2), (3, vR x3), (4, vI x4), (5, vI x5), (6, vR x6), (7, vR x7), (12, vI x12)]) dJ24_putVal_190 (by decide) rfl ?_
        refine r_aload_n X (pc := 192) dJ24_putVal_192 rfl (q := 4) rfl ?_
        refine r_acmp_eq X (pc := 193) (tgt := 222) dJ24_putVal_193 (by decide) (fun c114 => ?_) (fun c114 => ?_)
        · have hk := hk.1 c114
          refine G.sub [2, 5, 6, 7, 1] rfl ?_
          exact H_222 h n z x3 x4 x5 y106 hk
        · have hk := hk.2 c114
          refine r_aload_n X (pc := 196) dJ24_putVal_196 rfl (q := 4) rfl ?_
          refine r_ifnull X (pc := 197) (tgt := 212) dJ24_putVal_197 (by decide) (fun c115 => ?_) (fun c115 => ?_)
          · have hk := hk.1 c115
            refine G.sub [2, 3, 4, 5, 6, 7, 8, 1, 10] rfl ?_
            have HH116 : ∀ (h : AH) (n : Nat) (z : Nat) (x1 : Int) (x2 : Option Nat) (x3 : Option Nat) (x4 : Int) (x5 : Int) (x6 : Option Nat) (x7 : Option Nat) (x12 : Int), (L_J24_putVal_134 K o k_145 k_209 k_222 κ χ f h n z x1 x2 x3 x4 x5 x6 x7 x12) → G K Y h n z 134 [(0, vR (some o)), (1, vI x1), (2, vR x2), (3, vR x3), (4, vI x4), (5, vI x5), (6, vR x6), (7, vR x7), (12, vI x12)] [] := by
                intro h n z x1 x2 x3 x4 x5 x6 x7 x12 hk
                exact ih h n z x1 x2 x3 x4 x5 x6 x7 x12 hk
            exact w_J24_putVal_212 X E HH116 H_145 H_209 H_222 h n z x1 x2 x3 x4 x5 x6 y106 x12 hk
          · have hk := hk.2 c115
            refine r_aload_n X (pc := 200) dJ24_putVal_200 rfl (q := 4) rfl ?_
            refine r_aload X (pc := 201) dJ24_putVal_201 (q := 0) rfl ?_
            rcases hk with hk | hk | hk
            · obtain ⟨o129, fs130, e9, b131, hk⟩ := hk
              refine r_callU X (pc := 203) (As := [vR y113]) (st := []) rfl rfl e9 b131 mu_J24_173_10 (fun _ => s_X11_equals hk) ⟨by decide, by decide⟩ (Nat.le_of_ble_eq_true rfl) dJ24_putVal_203 (fun v9 h118 n119 z120 hq => ?_) (fun ci124 q125 h126 n127 z128 hf => ?_)
              · obtain ⟨r117, rfl, hk⟩ := hq
                refine ⟨[vI r117], rfl, ?_⟩
                obtain ⟨b121, hk⟩ := hk
                refine r_if_eq X (pc := 206) (tgt := 212) dJ24_putVal_206 (by decide) b121 (fun c122 => ?_) (fun c122 => ?_)
                · have hk := hk.1 c122
                  refine G.sub [2, 3, 4, 5, 6, 7, 8, 1, 10] rfl ?_
                  have HH123 : ∀ (h : AH) (n : Nat) (z : Nat) (x1 : Int) (x2 : Option Nat) (x3 : Option Nat) (x4 : Int) (x5 : Int) (x6 : Option Nat) (x7 : Option Nat) (x12 : Int), (L_J24_putVal_134 K o k_145 k_209 k_222 κ χ f h n z x1 x2 x3 x4 x5 x6 x7 x12) → G K Y h n z 134 [(0, vR (some o)), (1, vI x1), (2, vR x2), (3, vR x3), (4, vI x4), (5, vI x5), (6, vR x6), (7, vR x7), (12, vI x12)] [] := by
                      intro h n z x1 x2 x3 x4 x5 x6 x7 x12 hk
                      exact ih h n z x1 x2 x3 x4 x5 x6 x7 x12 hk
                  exact w_J24_putVal_212 X E HH123 H_145 H_209 H_222 h118 n119 z120 x1 x2 x3 x4 x5 x6 y106 x12 hk
                · have hk := hk.2 c122
                  refine G.sub [2, 5, 6, 7, 1] rfl ?_
                  exact H_209 h118 n119 z120 x3 x4 x5 y106 hk
              · have hk := hf
                exact r_out X E (fun _ h9 => nomatch h9) hk
            · obtain ⟨o143, fs144, e9, b145, hk⟩ := hk
              refine r_callU X (pc := 203) (As := [vR y113]) (st := []) rfl rfl e9 b145 mu_J24_173_11 (fun _ => s_X12_equals hk) ⟨by decide, by decide⟩ (Nat.le_of_ble_eq_true rfl) dJ24_putVal_203 (fun v9 h132 n133 z134 hq => ?_) (fun ci138 q139 h140 n141 z142 hf => ?_)
              · obtain ⟨r117, rfl, hk⟩ := hq
                refine ⟨[vI r117], rfl, ?_⟩
                obtain ⟨b135, hk⟩ := hk
                refine r_if_eq X (pc := 206) (tgt := 212) dJ24_putVal_206 (by decide) b135 (fun c136 => ?_) (fun c136 => ?_)
                · have hk := hk.1 c136
                  refine G.sub [2, 3, 4, 5, 6, 7, 8, 1, 10] rfl ?_
                  have HH137 : ∀ (h : AH) (n : Nat) (z : Nat) (x1 : Int) (x2 : Option Nat) (x3 : Option Nat) (x4 : Int) (x5 : Int) (x6 : Option Nat) (x7 : Option Nat) (x12 : Int), (L_J24_putVal_134 K o k_145 k_209 k_222 κ χ f h n z x1 x2 x3 x4 x5 x6 x7 x12) → G K Y h n z 134 [(0, vR (some o)), (1, vI x1), (2, vR x2), (3, vR x3), (4, vI x4), (5, vI x5), (6, vR x6), (7, vR x7), (12, vI x12)] [] := by
                      intro h n z x1 x2 x3 x4 x5 x6 x7 x12 hk
                      exact ih h n z x1 x2 x3 x4 x5 x6 x7 x12 hk
                  exact w_J24_putVal_212 X E HH137 H_145 H_209 H_222 h132 n133 z134 x1 x2 x3 x4 x5 x6 y106 x12 hk
                · have hk := hk.2 c136
                  refine G.sub [2, 5, 6, 7, 1] rfl ?_
                  exact H_209 h132 n133 z134 x3 x4 x5 y106 hk
              · have hk := hf
                exact r_out X E (fun _ h9 => nomatch h9) hk
            · obtain ⟨o157, fs158, e9, b159, hk⟩ := hk
              refine r_callU X (pc := 203) (As := [vR y113]) (st := []) rfl rfl e9 b159 mu_J24_173_13 (fun _ => s_J4_equals hk) ⟨by decide, by decide⟩ (Nat.le_of_ble_eq_true rfl) dJ24_putVal_203 (fun v9 h146 n147 z148 hq => ?_) (fun ci152 q153 h154 n155 z156 hf => ?_)
              · obtain ⟨r117, rfl, hk⟩ := hq
                refine ⟨[vI r117], rfl, ?_⟩
                obtain ⟨b149, hk⟩ := hk
                refine r_if_eq X (pc := 206) (tgt := 212) dJ24_putVal_206 (by decide) b149 (fun c150 => ?_) (fun c150 => ?_)
                · have hk := hk.1 c150
                  refine G.sub [2, 3, 4, 5, 6, 7, 8, 1, 10] rfl ?_
                  have HH151 : ∀ (h : AH) (n : Nat) (z : Nat) (x1 : Int) (x2 : Option Nat) (x3 : Option Nat) (x4 : Int) (x5 : Int) (x6 : Option Nat) (x7 : Option Nat) (x12 : Int), (L_J24_putVal_134 K o k_145 k_209 k_222 κ χ f h n z x1 x2 x3 x4 x5 x6 x7 x12) → G K Y h n z 134 [(0, vR (some o)), (1, vI x1), (2, vR x2), (3, vR x3), (4, vI x4), (5, vI x5), (6, vR x6), (7, vR x7), (12, vI x12)] [] := by
                      intro h n z x1 x2 x3 x4 x5 x6 x7 x12 hk
                      exact ih h n z x1 x2 x3 x4 x5 x6 x7 x12 hk
                  exact w_J24_putVal_212 X E HH151 H_145 H_209 H_222 h146 n147 z148 x1 x2 x3 x4 x5 x6 y106 x12 hk
                · have hk := hk.2 c150
                  refine G.sub [2, 5, 6, 7, 1] rfl ?_
                  exact H_209 h146 n147 z148 x3 x4 x5 y106 hk
              · have hk := hf
                exact r_out X E (fun _ h9 => nomatch h9) hk
    · have hk := hk.1 c107
      refine G.sub [1, 2, 3, 4, 5, 6, 7, 8, 0, 9] rfl ?_
      exact H_145 h n z x1 x2 x3 x4 x5 x6 x7 y106 x12 hk
set_option maxHeartbeats 4000000 in
theorem w_J24_putVal_145 {K : KT} {Y : YT} {o : Nat} {κ : Option Nat → AH → Nat → Nat → Prop} {χ : QxT} (X : XY K "java/util/HashMap" "putVal" cJ24_putVal (Option.some (Jvm.ClassFile.FieldType.object "java/lang/Object")) [] 13 4 133 Y) (E : YE K Y (QvR κ) χ) : ∀ (h : AH) (n : Nat) (z : Nat) (x1 : Int) (x2 : Option Nat) (x3 : Option Nat) (x4 : Int) (x5 : Int) (x6 : Option Nat) (x7 : Option Nat) (x10 : Option Nat) (x12 : Int), P_J24_putVal_145 K o κ χ h n z x1 x2 x3 x4 x5 x6 x7 x10 x12 → G K Y h n z 145 [(0, vR (some o)), (1, vI x1), (2, vR x2), (3, vR x3), (4, vI x4), (5, vI x5), (6, vR x6), (7, vR x7), (10, vR x10), (12, vI x12)] [] := by
  intro h n z x1 x2 x3 x4 x5 x6 x7 x10 x12 hk
  refine r_aload X (pc := 145) dJ24_putVal_145 (q := 7) rfl ?_
  refine r_aload_n X (pc := 147) dJ24_putVal_147 rfl (q := 0) rfl ?_
  refine r_iload_n X (pc := 148) dJ24_putVal_148 rfl (q := 1) rfl ?_
  refine r_aload_n X (pc := 149) dJ24_putVal_149 rfl (q := 2) rfl ?_
  refine r_aload_n X (pc := 150) dJ24_putVal_150 rfl (q := 3) rfl ?_
  refine r_null X (pc := 151) dJ24_putVal_151 ?_
  obtain ⟨o183, fs184, e9, b185, hk⟩ := hk
  refine r_callU X (pc := 152) (As := [vI x1, vR x2, vR x3, vR none]) (st := [vR x7]) rfl rfl e9 b185 mu_J24_186_17 (fun _ => s_J25_newNode hk) ⟨by decide, by decide⟩ (Nat.le_of_ble_eq_true rfl) dJ24_putVal_152 (fun v9 h161 n162 z163 hq => ?_) (fun ci178 q179 h180 n181 z182 hf => ?_)
  · obtain ⟨r160, rfl, hk⟩ := hq
    refine ⟨[vR r160], rfl, ?_⟩
    refine r_hPut X (pc := 155) fp_J24_177_J33 (fit_ref r160).1 (fit_ref r160).2 dJ24_putVal_155 hk (fun h164 hk => ?_)
    refine r_iload X (pc := 158) dJ24_putVal_158 (q := 9) rfl ?_
    refine r_bipush X (pc := 160) dJ24_putVal_160 (by decide) ?_
    obtain ⟨b165, hk⟩ := hk
    refine r_icmp_lt X (pc := 162) (tgt := 222) dJ24_putVal_162 (by decide) ⟨b165, (by decide)⟩ (fun c166 => ?_) (fun c166 => ?_)
    · have hk := hk.1 c166
      refine G.sub [0, 3, 4, 5, 8] rfl ?_
      exact w_J24_putVal_222 X E h164 n162 z163 x3 x4 x5 x10 hk
    · have hk := hk.2 c166
      refine r_aload_n X (pc := 165) dJ24_putVal_165 rfl (q := 0) rfl ?_
      refine r_aload X (pc := 166) dJ24_putVal_166 (q := 6) rfl ?_
      refine r_iload_n X (pc := 168) dJ24_putVal_168 rfl (q := 1) rfl ?_
      obtain ⟨o175, fs176, e9, b177, hk⟩ := hk
      refine r_callU X (pc := 169) (As := [vR x6, vI x1]) (st := []) rfl rfl e9 b177 mu_J24_194_17 (fun _ => s_J24_treeifyBin hk) ⟨by decide, by decide⟩ (Nat.le_of_ble_eq_true rfl) dJ24_putVal_169 (fun v9 h167 n168 z169 hq => ?_) (fun ci170 q171 h172 n173 z174 hf => ?_)
      · obtain ⟨rfl, hk⟩ := hq
        refine ⟨[], rfl, ?_⟩
        refine r_goto X (pc := 172) (tgt := 222) dJ24_putVal_172 (by decide) ?_
        refine G.sub [0, 3, 4, 5, 8] rfl ?_
        exact w_J24_putVal_222 X E h167 n168 z169 x3 x4 x5 x10 hk
      · have hk := hf
        exact r_out X E (fun _ h9 => nomatch h9) hk
  · have hk := hf
    exact r_out X E (fun _ h9 => nomatch h9) hk
set_option maxHeartbeats 4000000 in
theorem w_J24_putVal_209 {K : KT} {Y : YT} {o : Nat} {κ : Option Nat → AH → Nat → Nat → Prop} {χ : QxT} (X : XY K "java/util/HashMap" "putVal" cJ24_putVal (Option.some (Jvm.ClassFile.FieldType.object "java/lang/Object")) [] 13 4 133 Y) (E : YE K Y (QvR κ) χ) : ∀ (h : AH) (n : Nat) (z : Nat) (x3 : Option Nat) (x4 : Int) (x5 : Int) (x10 : Option Nat), P_J24_putVal_209 K o κ χ h n z x3 x4 x5 x10 → G K Y h n z 209 [(0, vR (some o)), (3, vR x3), (4, vI x4), (5, vI x5), (10, vR x10)] [] := by
  intro h n z x3 x4 x5 x10 hk
  refine r_goto X (pc := 209) (tgt := 222) dJ24_putVal_209 (by decide) ?_
  exact w_J24_putVal_222 X E h n z x3 x4 x5 x10 hk
set_option maxHeartbeats 4000000 in
theorem w_J24_putVal_104 {K : KT} {Y : YT} {o : Nat} {κ : Option Nat → AH → Nat → Nat → Prop} {χ : QxT} (X : XY K "java/util/HashMap" "putVal" cJ24_putVal (Option.some (Jvm.ClassFile.FieldType.object "java/lang/Object")) [] 13 4 133 Y) (E : YE K Y (QvR κ) χ) : ∀ (h : AH) (n : Nat) (z : Nat) (x1 : Int) (x2 : Option Nat) (x3 : Option Nat) (x4 : Int) (x5 : Int) (x6 : Option Nat) (x7 : Option Nat), P_J24_putVal_104 K o κ χ h n z x1 x2 x3 x4 x5 x6 x7 → G K Y h n z 104 [(0, vR (some o)), (1, vI x1), (2, vR x2), (3, vR x3), (4, vI x4), (5, vI x5), (6, vR x6), (7, vR x7)] [] := by
  intro h n z x1 x2 x3 x4 x5 x6 x7 hk
  refine r_aload X (pc := 104) dJ24_putVal_104 (q := 7) rfl ?_
  refine r_hInst X (pc := 106) q2260 cos_java_util_HashMap_TreeNode_ cns_java_util_HashMap_TreeNode_18 dJ24_putVal_106 hk (fun y186 hk => ?_)
  obtain ⟨b187, hk⟩ := hk
  refine r_if_eq X (pc := 109) (tgt := 131) dJ24_putVal_109 (by decide) b187 (fun c188 => ?_) (fun c188 => ?_)
  · have hk := hk.1 c188
    refine r_iconst X (pc := 131) dJ24_putVal_131 ?_
    refine r_istore X (pc := 132) (lv1 := [(12, vI 0), (0, vR (some o)), (1, vI x1), (2, vR x2), (3, vR x3), (4, vI x4), (5, vI x5), (6, vR x6), (7, vR x7)]) dJ24_putVal_132 (by decide) rfl ?_
    refine G.sub [1, 2, 3, 4, 5, 6, 7, 8, 0] rfl ?_
    have HH189 : ∀ (h : AH) (n : Nat) (z : Nat) (x1 : Int) (x2 : Option Nat) (x3 : Option Nat) (x4 : Int) (x5 : Int) (x6 : Option Nat) (x7 : Option Nat) (x10 : Option Nat) (x12 : Int), (P_J24_putVal_145 K o κ χ h n z x1 x2 x3 x4 x5 x6 x7 x10 x12) → G K Y h n z 145 [(0, vR (some o)), (1, vI x1), (2, vR x2), (3, vR x3), (4, vI x4), (5, vI x5), (6, vR x6), (7, vR x7), (10, vR x10), (12, vI x12)] [] := by
        intro h n z x1 x2 x3 x4 x5 x6 x7 x10 x12 hk
        exact w_J24_putVal_145 X E h n z x1 x2 x3 x4 x5 x6 x7 x10 x12 hk
    have HH190 : ∀ (h : AH) (n : Nat) (z : Nat) (x3 : Option Nat) (x4 : Int) (x5 : Int) (x10 : Option Nat), (P_J24_putVal_209 K o κ χ h n z x3 x4 x5 x10) → G K Y h n z 209 [(0, vR (some o)), (3, vR x3), (4, vI x4), (5, vI x5), (10, vR x10)] [] := by
        intro h n z x3 x4 x5 x10 hk
        exact w_J24_putVal_209 X E h n z x3 x4 x5 x10 hk
    have HH191 : ∀ (h : AH) (n : Nat) (z : Nat) (x3 : Option Nat) (x4 : Int) (x5 : Int) (x10 : Option Nat), (P_J24_putVal_222 K o κ χ h n z x3 x4 x5 x10) → G K Y h n z 222 [(0, vR (some o)), (3, vR x3), (4, vI x4), (5, vI x5), (10, vR x10)] [] := by
        intro h n z x3 x4 x5 x10 hk
        exact w_J24_putVal_222 X E h n z x3 x4 x5 x10 hk
    obtain ⟨f9, hk⟩ := hk
    exact w_J24_putVal_134 X E HH189 HH190 HH191 f9 h n z x1 x2 x3 x4 x5 x6 x7 0 hk
  · have hk := hk.2 c188
    refine r_aload X (pc := 112) dJ24_putVal_112 (q := 7) rfl ?_
    refine r_hCast X (pc := 114) q2260 cos_java_util_HashMap_TreeNode_ dJ24_putVal_114 hk (fun hk => ?_)
    refine r_aload_n X (pc := 117) dJ24_putVal_117 rfl (q := 0) rfl ?_
    refine r_aload X (pc := 118) dJ24_putVal_118 (q := 6) rfl ?_
    refine r_iload_n X (pc := 120) dJ24_putVal_120 rfl (q := 1) rfl ?_
    refine r_aload_n X (pc := 121) dJ24_putVal_121 rfl (q := 2) rfl ?_
    refine r_aload_n X (pc := 122) dJ24_putVal_122 rfl (q := 3) rfl ?_
    exact hk.elim
set_option maxHeartbeats 4000000 in
theorem w_J24_putVal_29 {K : KT} {Y : YT} {o : Nat} {κ : Option Nat → AH → Nat → Nat → Prop} {χ : QxT} (X : XY K "java/util/HashMap" "putVal" cJ24_putVal (Option.some (Jvm.ClassFile.FieldType.object "java/lang/Object")) [] 13 4 133 Y) (E : YE K Y (QvR κ) χ) : ∀ (h : AH) (n : Nat) (z : Nat) (x1 : Int) (x2 : Option Nat) (x3 : Option Nat) (x4 : Int) (x5 : Int) (x6 : Option Nat) (x8 : Int), P_J24_putVal_29 K o κ χ h n z x1 x2 x3 x4 x5 x6 x8 → G K Y h n z 29 [(0, vR (some o)), (1, vI x1), (2, vR x2), (3, vR x3), (4, vI x4), (5, vI x5), (6, vR x6), (8, vI x8)] [] := by
  intro h n z x1 x2 x3 x4 x5 x6 x8 hk
  refine r_aload X (pc := 29) dJ24_putVal_29 (q := 6) rfl ?_
  refine r_iload X (pc := 31) dJ24_putVal_31 (q := 7) rfl ?_
  refine r_iconst X (pc := 33) dJ24_putVal_33 ?_
  refine r_isub X (pc := 34) dJ24_putVal_34 ?_
  refine r_iload_n X (pc := 35) dJ24_putVal_35 rfl (q := 1) rfl ?_
  refine r_iand X (pc := 36) dJ24_putVal_36 ?_
  refine r_dup X (pc := 37) dJ24_putVal_37 rfl ?_
  refine r_istore X (pc := 38) (lv1 := [(9, vI (iand (x8 - 1) x1)), (0, vR (some o)), (1, vI x1), (2, vR x2), (3, vR x3), (4, vI x4), (5, vI x5), (6, vR x6), (8, vI x8)]) dJ24_putVal_38 (by decide) rfl ?_
  refine r_hAR X (pc := 40) (t := 9) rfl dJ24_putVal_40 hk (fun y193 hk => ?_)
  refine r_dup X (pc := 41) dJ24_putVal_41 rfl ?_
  refine r_astore X (pc := 42) (lv1 := [(7, vR y193), (9, vI (iand (x8 - 1) x1)), (0, vR (some o)), (1, vI x1), (2, vR x2), (3, vR x3), (4, vI x4), (5, vI x5), (6, vR x6), (8, vI x8)]) dJ24_putVal_42 (by decide) rfl ?_
  refine r_ifnonnull X (pc := 44) (tgt := 63) dJ24_putVal_44 (by decide) (fun c194 => ?_) (fun c194 => ?_)
  · have hk := hk.2 c194
    refine r_aload X (pc := 63) dJ24_putVal_63 (q := 0) rfl ?_
    refine r_hGI X (pc := 65) fa_J24_168_J33 dJ24_putVal_65 hk (fun y195 hk => ?_)
    refine r_iload_n X (pc := 68) dJ24_putVal_68 rfl (q := 3) rfl ?_
    obtain ⟨b196, b197, hk⟩ := hk
    refine r_icmp_ne X (pc := 69) (tgt := 104) dJ24_putVal_69 (by decide) ⟨b196, b197⟩ (fun c198 => ?_) (fun c198 => ?_)
    · have hk := hk.2 c198
      refine G.sub [2, 3, 4, 5, 6, 7, 8, 0] rfl ?_
      exact w_J24_putVal_104 X E h n z x1 x2 x3 x4 x5 x6 y193 hk
    · have hk := hk.1 c198
      refine r_aload X (pc := 72) dJ24_putVal_72 (q := 0) rfl ?_
      refine r_hGR X (pc := 74) fa_J24_170_J33 dJ24_putVal_74 hk (fun y199 hk => ?_)
      refine r_dup X (pc := 77) dJ24_putVal_77 rfl ?_
      refine r_astore X (pc := 78) (lv1 := [(11, vR y199), (7, vR y193), (9, vI (iand (x8 - 1) x1)), (0, vR (some o)), (1, vI x1), (2, vR x2), (3, vR x3), (4, vI x4), (5, vI x5), (6, vR x6), (8, vI x8)]) dJ24_putVal_78 (by decide) rfl ?_
      refine r_aload_n X (pc := 80) dJ24_putVal_80 rfl (q := 5) rfl ?_
      refine r_acmp_eq X (pc := 81) (tgt := 97) dJ24_putVal_81 (by decide) (fun c200 => ?_) (fun c200 => ?_)
      · have hk := hk.1 c200
        refine r_aload X (pc := 97) dJ24_putVal_97 (q := 1) rfl ?_
        refine r_astore X (pc := 99) (lv1 := [(10, vR y193), (11, vR y199), (7, vR y193), (9, vI (iand (x8 - 1) x1)), (0, vR (some o)), (1, vI x1), (2, vR x2), (3, vR x3), (4, vI x4), (5, vI x5), (6, vR x6), (8, vI x8)]) dJ24_putVal_99 (by decide) rfl ?_
        refine r_goto X (pc := 101) (tgt := 222) dJ24_putVal_101 (by decide) ?_
        refine G.sub [4, 7, 8, 9, 0] rfl ?_
        exact w_J24_putVal_222 X E h n z x3 x4 x5 y193 hk
      · have hk := hk.2 c200
        refine r_aload_n X (pc := 84) dJ24_putVal_84 rfl (q := 5) rfl ?_
        refine r_ifnull X (pc := 85) (tgt := 104) dJ24_putVal_85 (by decide) (fun c201 => ?_) (fun c201 => ?_)
        · have hk := hk.1 c201
          refine G.sub [3, 4, 5, 6, 7, 8, 9, 1] rfl ?_
          exact w_J24_putVal_104 X E h n z x1 x2 x3 x4 x5 x6 y193 hk
        · have hk := hk.2 c201
          refine r_aload_n X (pc := 88) dJ24_putVal_88 rfl (q := 5) rfl ?_
          refine r_aload X (pc := 89) dJ24_putVal_89 (q := 0) rfl ?_
          rcases hk with hk | hk | hk
          · obtain ⟨o213, fs214, e9, b215, hk⟩ := hk
            refine r_callU X (pc := 91) (As := [vR y199]) (st := []) rfl rfl e9 b215 mu_J24_173_10 (fun _ => s_X11_equals hk) ⟨by decide, by decide⟩ (Nat.le_of_ble_eq_true rfl) dJ24_putVal_91 (fun v9 h203 n204 z205 hq => ?_) (fun ci208 q209 h210 n211 z212 hf => ?_)
            · obtain ⟨r202, rfl, hk⟩ := hq
              refine ⟨[vI r202], rfl, ?_⟩
              obtain ⟨b206, hk⟩ := hk
              refine r_if_eq X (pc := 94) (tgt := 104) dJ24_putVal_94 (by decide) b206 (fun c207 => ?_) (fun c207 => ?_)
              · have hk := hk.1 c207
                refine G.sub [3, 4, 5, 6, 7, 8, 9, 1] rfl ?_
                exact w_J24_putVal_104 X E h203 n204 z205 x1 x2 x3 x4 x5 x6 y193 hk
              · have hk := hk.2 c207
                refine r_aload X (pc := 97) dJ24_putVal_97 (q := 1) rfl ?_
                refine r_astore X (pc := 99) (lv1 := [(10, vR y193), (11, vR y199), (7, vR y193), (9, vI (iand (x8 - 1) x1)), (0, vR (some o)), (1, vI x1), (2, vR x2), (3, vR x3), (4, vI x4), (5, vI x5), (6, vR x6), (8, vI x8)]) dJ24_putVal_99 (by decide) rfl ?_
                refine r_goto X (pc := 101) (tgt := 222) dJ24_putVal_101 (by decide) ?_
                refine G.sub [4, 7, 8, 9, 0] rfl ?_
                exact w_J24_putVal_222 X E h203 n204 z205 x3 x4 x5 y193 hk
            · have hk := hf
              exact r_out X E (fun _ h9 => nomatch h9) hk
          · obtain ⟨o226, fs227, e9, b228, hk⟩ := hk
            refine r_callU X (pc := 91) (As := [vR y199]) (st := []) rfl rfl e9 b228 mu_J24_173_11 (fun _ => s_X12_equals hk) ⟨by decide, by decide⟩ (Nat.le_of_ble_eq_true rfl) dJ24_putVal_91 (fun v9 h216 n217 z218 hq => ?_) (fun ci221 q222 h223 n224 z225 hf => ?_)
            · obtain ⟨r202, rfl, hk⟩ := hq
              refine ⟨[vI r202], rfl, ?_⟩
              obtain ⟨b219, hk⟩ := hk
              refine r_if_eq X (pc := 94) (tgt := 104) dJ24_putVal_94 (by decide) b219 (fun c220 => ?_) (fun c220 => ?_)
              · have hk := hk.1 c220
                refine G.sub [3, 4, 5, 6, 7, 8, 9, 1] rfl ?_
                exact w_J24_putVal_104 X E h216 n217 z218 x1 x2 x3 x4 x5 x6 y193 hk
              · have hk := hk.2 c220
                refine r_aload X (pc := 97) dJ24_putVal_97 (q := 1) rfl ?_
                refine r_astore X (pc := 99) (lv1 := [(10, vR y193), (11, vR y199), (7, vR y193), (9, vI (iand (x8 - 1) x1)), (0, vR (some o)), (1, vI x1), (2, vR x2), (3, vR x3), (4, vI x4), (5, vI x5), (6, vR x6), (8, vI x8)]) dJ24_putVal_99 (by decide) rfl ?_
                refine r_goto X (pc := 101) (tgt := 222) dJ24_putVal_101 (by decide) ?_
                refine G.sub [4, 7, 8, 9, 0] rfl ?_
                exact w_J24_putVal_222 X E h216 n217 z218 x3 x4 x5 y193 hk
            · have hk := hf
              exact r_out X E (fun _ h9 => nomatch h9) hk
          · obtain ⟨o239, fs240, e9, b241, hk⟩ := hk
            refine r_callU X (pc := 91) (As := [vR y199]) (st := []) rfl rfl e9 b241 mu_J24_173_13 (fun _ => s_J4_equals hk) ⟨by decide, by decide⟩ (Nat.le_of_ble_eq_true rfl) dJ24_putVal_91 (fun v9 h229 n230 z231 hq => ?_) (fun ci234 q235 h236 n237 z238 hf => ?_)
            · obtain ⟨r202, rfl, hk⟩ := hq
              refine ⟨[vI r202], rfl, ?_⟩
              obtain ⟨b232, hk⟩ := hk
              refine r_if_eq X (pc := 94) (tgt := 104) dJ24_putVal_94 (by decide) b232 (fun c233 => ?_) (fun c233 => ?_)
              · have hk := hk.1 c233
                refine G.sub [3, 4, 5, 6, 7, 8, 9, 1] rfl ?_
                exact w_J24_putVal_104 X E h229 n230 z231 x1 x2 x3 x4 x5 x6 y193 hk
              · have hk := hk.2 c233
                refine r_aload X (pc := 97) dJ24_putVal_97 (q := 1) rfl ?_
                refine r_astore X (pc := 99) (lv1 := [(10, vR y193), (11, vR y199), (7, vR y193), (9, vI (iand (x8 - 1) x1)), (0, vR (some o)), (1, vI x1), (2, vR x2), (3, vR x3), (4, vI x4), (5, vI x5), (6, vR x6), (8, vI x8)]) dJ24_putVal_99 (by decide) rfl ?_
                refine r_goto X (pc := 101) (tgt := 222) dJ24_putVal_101 (by decide) ?_
                refine G.sub [4, 7, 8, 9, 0] rfl ?_
                exact w_J24_putVal_222 X E h229 n230 z231 x3 x4 x5 y193 hk
            · have hk := hf
              exact r_out X E (fun _ h9 => nomatch h9) hk
  · have hk := hk.1 c194
    refine r_aload X (pc := 47) dJ24_putVal_47 (q := 8) rfl ?_
    refine r_iload X (pc := 49) dJ24_putVal_49 (q := 1) rfl ?_
    refine r_aload_n X (pc := 51) dJ24_putVal_51 rfl (q := 2) rfl ?_
    refine r_iload_n X (pc := 52) dJ24_putVal_52 rfl (q := 3) rfl ?_
    refine r_aload_n X (pc := 53) dJ24_putVal_53 rfl (q := 4) rfl ?_
    refine r_aload_n X (pc := 54) dJ24_putVal_54 rfl (q := 5) rfl ?_
    refine r_null X (pc := 55) dJ24_putVal_55 ?_
    obtain ⟨o252, fs253, e9, b254, hk⟩ := hk
    refine r_callU X (pc := 56) (As := [vI x1, vR x2, vR x3, vR none]) (st := [vI (iand (x8 - 1) x1), vR x6]) rfl rfl e9 b254 mu_J24_186_17 (fun _ => s_J25_newNode hk) ⟨by decide, by decide⟩ (Nat.le_of_ble_eq_true rfl) dJ24_putVal_56 (fun v9 h243 n244 z245 hq => ?_) (fun ci247 q248 h249 n250 z251 hf => ?_)
    · obtain ⟨r242, rfl, hk⟩ := hq
      refine ⟨[vR r242], rfl, ?_⟩
      refine r_hSR X (pc := 59) (t := 9) rfl cos_java_util_HashMap_Node_18 dJ24_putVal_59 hk (fun h246 hk => ?_)
      refine r_goto X (pc := 60) (tgt := 259) dJ24_putVal_60 (by decide) ?_
      refine G.sub [2, 7] rfl ?_
      exact w_J24_putVal_259 X E h246 n244 z245 x5 hk
    · have hk := hf
      exact r_out X E (fun _ h9 => nomatch h9) hk
set_option maxHeartbeats 4000000 in
theorem w_J24_putVal_19 {K : KT} {Y : YT} {o : Nat} {κ : Option Nat → AH → Nat → Nat → Prop} {χ : QxT} (X : XY K "java/util/HashMap" "putVal" cJ24_putVal (Option.some (Jvm.ClassFile.FieldType.object "java/lang/Object")) [] 13 4 133 Y) (E : YE K Y (QvR κ) χ) : ∀ (h : AH) (n : Nat) (z : Nat) (x1 : Int) (x2 : Option Nat) (x3 : Option Nat) (x4 : Int) (x5 : Int), P_J24_putVal_19 K o κ χ h n z x1 x2 x3 x4 x5 → G K Y h n z 19 [(0, vR (some o)), (1, vI x1), (2, vR x2), (3, vR x3), (4, vI x4), (5, vI x5)] [] := by
  intro h n z x1 x2 x3 x4 x5 hk
  refine r_aload_n X (pc := 19) dJ24_putVal_19 rfl (q := 0) rfl ?_
  obtain ⟨o265, fs266, e9, b267, hk⟩ := hk
  refine r_callU X (pc := 20) (As := []) (st := []) rfl rfl e9 b267 mu_J24_117_17 (fun _ => s_J24_resize hk) ⟨by decide, by decide⟩ (Nat.le_of_ble_eq_true rfl) dJ24_putVal_20 (fun v9 h256 n257 z258 hq => ?_) (fun ci260 q261 h262 n263 z264 hf => ?_)
  · obtain ⟨r255, rfl, hk⟩ := hq
    refine ⟨[vR r255], rfl, ?_⟩
    refine r_dup X (pc := 23) dJ24_putVal_23 rfl ?_
    refine r_astore X (pc := 24) (lv1 := [(6, vR r255), (0, vR (some o)), (1, vI x1), (2, vR x2), (3, vR x3), (4, vI x4), (5, vI x5)]) dJ24_putVal_24 (by decide) rfl ?_
    refine r_hLen X (pc := 26) (t := 9) rfl dJ24_putVal_26 hk (fun y259 hk => ?_)
    refine r_istore X (pc := 27) (lv1 := [(8, vI y259), (6, vR r255), (0, vR (some o)), (1, vI x1), (2, vR x2), (3, vR x3), (4, vI x4), (5, vI x5)]) dJ24_putVal_27 (by decide) rfl ?_
    refine G.sub [2, 3, 4, 5, 6, 7, 1, 0] rfl ?_
    exact w_J24_putVal_29 X E h256 n257 z258 x1 x2 x3 x4 x5 r255 y259 hk
  · have hk := hf
    exact r_out X E (fun _ h9 => nomatch h9) hk
set_option maxHeartbeats 4000000 in
theorem w_J24_putVal {K : KT} {Y : YT} {o : Nat} {κ : Option Nat → AH → Nat → Nat → Prop} {χ : QxT} (X : XY K "java/util/HashMap" "putVal" cJ24_putVal (Option.some (Jvm.ClassFile.FieldType.object "java/lang/Object")) [] 13 4 133 Y) (E : YE K Y (QvR κ) χ) {h : AH} {n : Nat} {z : Nat} {x1 : Int} {x2 : Option Nat} {x3 : Option Nat} {x4 : Int} {x5 : Int} (hk : P_J24_putVal K o κ χ h n z x1 x2 x3 x4 x5) : G K Y h n z 0 (lv_argsA 0 [vR (some o), vI x1, vR x2, vR x3, vI x4, vI x5]) [] := by
  show G K Y h n z 0 [(0, vR (some o)), (1, vI x1), (2, vR x2), (3, vR x3), (4, vI x4), (5, vI x5)] []
  refine r_aload_n X (pc := 0) dJ24_putVal_0 rfl (q := 0) rfl ?_
  refine r_hGR X (pc := 1) fa_J24_105_J25 dJ24_putVal_1 hk (fun y268 hk => ?_)
  refine r_dup X (pc := 4) dJ24_putVal_4 rfl ?_
  refine r_astore X (pc := 5) (lv1 := [(6, vR y268), (0, vR (some o)), (1, vI x1), (2, vR x2), (3, vR x3), (4, vI x4), (5, vI x5)]) dJ24_putVal_5 (by decide) rfl ?_
  refine r_ifnull X (pc := 7) (tgt := 19) dJ24_putVal_7 (by decide) (fun c269 => ?_) (fun c269 => ?_)
  · have hk := hk.1 c269
    refine G.sub [1, 2, 3, 4, 5, 6] rfl ?_
    exact w_J24_putVal_19 X E h n z x1 x2 x3 x4 x5 hk
  · have hk := hk.2 c269
    refine r_aload X (pc := 10) dJ24_putVal_10 (q := 0) rfl ?_
    refine r_hLen X (pc := 12) (t := 9) rfl dJ24_putVal_12 hk (fun y270 hk => ?_)
    refine r_dup X (pc := 13) dJ24_putVal_13 rfl ?_
    refine r_istore X (pc := 14) (lv1 := [(8, vI y270), (6, vR y268), (0, vR (some o)), (1, vI x1), (2, vR x2), (3, vR x3), (4, vI x4), (5, vI x5)]) dJ24_putVal_14 (by decide) rfl ?_
    obtain ⟨b271, hk⟩ := hk
    refine r_if_ne X (pc := 16) (tgt := 29) dJ24_putVal_16 (by decide) b271 (fun c272 => ?_) (fun c272 => ?_)
    · have hk := hk.2 c272
      refine G.sub [2, 3, 4, 5, 6, 7, 1, 0] rfl ?_
      exact w_J24_putVal_29 X E h n z x1 x2 x3 x4 x5 y268 y270 hk
    · have hk := hk.1 c272
      refine G.sub [2, 3, 4, 5, 6, 7] rfl ?_
      exact w_J24_putVal_19 X E h n z x1 x2 x3 x4 x5 hk
theorem s_J24_putVal {K : KT} {l : Launch} {o : Nat} {κ : Option Nat → AH → Nat → Nat → Prop} {χ : QxT} {h : AH} {n : Nat} {z : Nat} {x1 : Int} {x2 : Option Nat} {x3 : Option Nat} {x4 : Int} {x5 : Int} (hk : P_J24_putVal K o κ χ h n z x1 x2 x3 x4 x5) : Ct K l yJ24_putVal (ws_ yJ24_putVal cJ24_putVal 13 (Option.some (Jvm.ClassFile.FieldType.object "java/lang/Object"))) 4 133 ([vR (some o), vI x1, vR x2, vR x3, vI x4, vI x5].map cV) h n z (QvR κ) χ :=
  ct_of (by decide +kernel) (Nat.le_of_ble_eq_true rfl) (fun Y X E => w_J24_putVal X E hk)
set_option maxHeartbeats 4000000 in
theorem w_J24_put {K : KT} {Y : YT} {o : Nat} {κ : Option Nat → AH → Nat → Nat → Prop} {χ : QxT} (X : XY K "java/util/HashMap" "put" cJ24_put (Option.some (Jvm.ClassFile.FieldType.object "java/lang/Object")) [] 3 7 187 Y) (E : YE K Y (QvR κ) χ) {h : AH} {n : Nat} {z : Nat} {x1 : Option Nat} {x2 : Option Nat} (hk : P_J24_put K o κ χ h n z x1 x2) : G K Y h n z 0 (lv_argsA 0 [vR (some o), vR x1, vR x2]) [] := by
  show G K Y h n z 0 [(0, vR (some o)), (1, vR x1), (2, vR x2)] []
  refine r_aload_n X (pc := 0) dJ24_put_0 rfl (q := 0) rfl ?_
  refine r_aload_n X (pc := 1) dJ24_put_1 rfl (q := 1) rfl ?_
  refine r_callS X (pc := 2) (As := [vR x1]) (st := [vR (some o)]) m_J24_149 (fun _ => s_J24_hash hk) ⟨by decide, by decide⟩ (Nat.le_of_ble_eq_true rfl) dJ24_put_2 (fun v9 h4 n5 z6 hq => ?_) (fun ci19 q20 h21 n22 z23 hf => ?_)
  · obtain ⟨r3, rfl, hk⟩ := hq
    refine ⟨[vI r3], rfl, ?_⟩
    refine r_aload_n X (pc := 5) dJ24_put_5 rfl (q := 1) rfl ?_
    refine r_aload_n X (pc := 6) dJ24_put_6 rfl (q := 2) rfl ?_
    refine r_iconst X (pc := 7) dJ24_put_7 ?_
    refine r_iconst X (pc := 8) dJ24_put_8 ?_
    obtain ⟨o16, fs17, e9, b18, hk⟩ := hk
    refine r_callU X (pc := 9) (As := [vI r3, vR x1, vR x2, vI 0, vI 1]) (st := []) rfl rfl e9 b18 mu_J24_152_17 (fun _ => s_J24_putVal hk) ⟨by decide, by decide⟩ (Nat.le_of_ble_eq_true rfl) dJ24_put_9 (fun v9 h8 n9 z10 hq => ?_) (fun ci11 q12 h13 n14 z15 hf => ?_)
    · obtain ⟨r7, rfl, hk⟩ := hq
      refine ⟨[vR r7], rfl, ?_⟩
      exact r_aret X E (Or.inl ⟨_, rfl⟩) (pc := 12) dJ24_put_12 ⟨_, rfl, hk⟩
    · have hk := hf
      exact r_out X E (fun _ h9 => nomatch h9) hk
  · have hk := hf
    exact r_out X E (fun _ h9 => nomatch h9) hk
theorem s_J24_put {K : KT} {l : Launch} {o : Nat} {κ : Option Nat → AH → Nat → Nat → Prop} {χ : QxT} {h : AH} {n : Nat} {z : Nat} {x1 : Option Nat} {x2 : Option Nat} (hk : P_J24_put K o κ χ h n z x1 x2) : Ct K l yJ24_put (ws_ yJ24_put cJ24_put 3 (Option.some (Jvm.ClassFile.FieldType.object "java/lang/Object"))) 7 187 ([vR (some o), vR x1, vR x2].map cV) h n z (QvR κ) χ :=
  ct_of (by decide +kernel) (Nat.le_of_ble_eq_true rfl) (fun Y X E => w_J24_put X E hk)
set_option maxHeartbeats 4000000 in
theorem w_J21_add {K : KT} {Y : YT} {o : Nat} {κ : Int → AH → Nat → Nat → Prop} {χ : QxT} (X : XY K "java/util/HashSet" "add" cJ21_add (Option.some Jvm.ClassFile.FieldType.boolean) [] 2 8 209 Y) (E : YE K Y (QvI κ) χ) {h : AH} {n : Nat} {z : Nat} {x1 : Option Nat} (hk : P_J21_add K o κ χ h n z x1) : G K Y h n z 0 (lv_argsA 0 [vR (some o), vR x1]) [] := by
  show G K Y h n z 0 [(0, vR (some o)), (1, vR x1)] []
  refine r_aload_n X (pc := 0) dJ21_add_0 rfl (q := 0) rfl ?_
  refine r_hGR X (pc := 1) fa_J21_10_J22 dJ21_add_1 hk (fun y4 hk => ?_)
  refine r_aload_n X (pc := 4) dJ21_add_4 rfl (q := 1) rfl ?_
  refine r_gets X (pc := 5) (v := vR (some (kl K 220))) (j := 9) rfl rfl q2199 dJ21_add_5 ?_
  obtain ⟨o15, fs16, e9, b17, hk⟩ := hk
  refine r_callU X (pc := 8) (As := [vR x1, vR (some (kl K 220))]) (st := []) rfl rfl e9 b17 mu_J21_68_17 (fun _ => s_J24_put hk) ⟨by decide, by decide⟩ (Nat.le_of_ble_eq_true rfl) dJ21_add_8 (fun v9 h6 n7 z8 hq => ?_) (fun ci10 q11 h12 n13 z14 hf => ?_)
  · obtain ⟨r5, rfl, hk⟩ := hq
    refine ⟨[vR r5], rfl, ?_⟩
    refine r_ifnonnull X (pc := 11) (tgt := 18) dJ21_add_11 (by decide) (fun c9 => ?_) (fun c9 => ?_)
    · have hk := hk.2 c9
      refine r_iconst X (pc := 18) dJ21_add_18 ?_
      exact r_iret X E (pc := 19) dJ21_add_19 rfl ⟨_, rfl, hk⟩
    · have hk := hk.1 c9
      refine r_iconst X (pc := 14) dJ21_add_14 ?_
      refine r_goto X (pc := 15) (tgt := 19) dJ21_add_15 (by decide) ?_
      exact r_iret X E (pc := 19) dJ21_add_19 rfl ⟨_, rfl, hk⟩
  · have hk := hf
    exact r_out X E (fun _ h9 => nomatch h9) hk
theorem s_J21_add {K : KT} {l : Launch} {o : Nat} {κ : Int → AH → Nat → Nat → Prop} {χ : QxT} {h : AH} {n : Nat} {z : Nat} {x1 : Option Nat} (hk : P_J21_add K o κ χ h n z x1) : Ct K l yJ21_add (ws_ yJ21_add cJ21_add 2 (Option.some Jvm.ClassFile.FieldType.boolean)) 8 209 ([vR (some o), vR x1].map cV) h n z (QvI κ) χ :=
  ct_of (by decide +kernel) (Nat.le_of_ble_eq_true rfl) (fun Y X E => w_J21_add X E hk)
set_option maxHeartbeats 4000000 in
theorem w_J24_getNode_148 {K : KT} {Y : YT} {o : Nat} {κ : Option Nat → AH → Nat → Nat → Prop} {χ : QxT} (X : XY K "java/util/HashMap" "getNode" cJ24_getNode (Option.some (Jvm.ClassFile.FieldType.object "java/util/HashMap$Node")) [] 8 7 187 Y) (E : YE K Y (QvR κ) χ) : ∀ (h : AH) (n : Nat) (z : Nat), P_J24_getNode_148 K o κ χ h n z → G K Y h n z 148 [(0, vR (some o))] [] := by
  intro h n z hk
  refine r_null X (pc := 148) dJ24_getNode_148 ?_
  exact r_aret X E (Or.inl ⟨_, rfl⟩) (pc := 149) dJ24_getNode_149 ⟨_, rfl, hk⟩
set_option maxHeartbeats 4000000 in
theorem w_J24_getNode_137 {K : KT} {Y : YT} {o : Nat} {κ : Option Nat → AH → Nat → Nat → Prop} {χ : QxT} (X : XY K "java/util/HashMap" "getNode" cJ24_getNode (Option.some (Jvm.ClassFile.FieldType.object "java/util/HashMap$Node")) [] 8 7 187 Y) (E : YE K Y (QvR κ) χ) {k_99 : AH → Nat → Nat → Option Nat → Option Nat → Int → Prop} {k_134 : AH → Nat → Nat → Option Nat → Prop} {k_148 : AH → Nat → Nat → Prop} (H_99 : ∀ (h : AH) (n : Nat) (z : Nat) (x1 : Option Nat) (x4 : Option Nat) (x6 : Int), k_99 h n z x1 x4 x6 → G K Y h n z 99 [(0, vR (some o)), (1, vR x1), (4, vR x4), (6, vI x6)] []) (H_134 : ∀ (h : AH) (n : Nat) (z : Nat) (x4 : Option Nat), k_134 h n z x4 → G K Y h n z 134 [(0, vR (some o)), (4, vR x4)] []) (H_148 : ∀ (h : AH) (n : Nat) (z : Nat), k_148 h n z → G K Y h n z 148 [(0, vR (some o))] []) : ∀ (h : AH) (n : Nat) (z : Nat) (x1 : Option Nat) (x4 : Option Nat) (x6 : Int), P_J24_getNode_137 K o k_99 k_134 k_148 κ χ h n z x1 x4 x6 → G K Y h n z 137 [(0, vR (some o)), (1, vR x1), (4, vR x4), (6, vI x6)] [] := by
  intro h n z x1 x4 x6 hk
  refine r_aload X (pc := 137) dJ24_getNode_137 (q := 2) rfl ?_
  refine r_hGR X (pc := 139) fa_J24_177_J33 dJ24_getNode_139 hk (fun y37 hk => ?_)
  refine r_dup X (pc := 142) dJ24_getNode_142 rfl ?_
  refine r_astore X (pc := 143) (lv1 := [(4, vR y37), (0, vR (some o)), (1, vR x1), (6, vI x6)]) dJ24_getNode_143 (by decide) rfl ?_
  refine r_ifnonnull X (pc := 145) (tgt := 99) dJ24_getNode_145 (by decide) (fun c38 => ?_) (fun c38 => ?_)
  · have hk := hk.2 c38
    refine G.sub [1, 2, 0, 3] rfl ?_
    exact H_99 h n z x1 y37 x6 hk
  · have hk := hk.1 c38
    refine G.sub [1] rfl ?_
    exact H_148 h n z hk
set_option maxHeartbeats 4000000 in
theorem w_J24_getNode_99 {K : KT} {Y : YT} {o : Nat} {κ : Option Nat → AH → Nat → Nat → Prop} {χ : QxT} (X : XY K "java/util/HashMap" "getNode" cJ24_getNode (Option.some (Jvm.ClassFile.FieldType.object "java/util/HashMap$Node")) [] 8 7 187 Y) (E : YE K Y (QvR κ) χ) {k_134 : AH → Nat → Nat → Option Nat → Prop} {k_148 : AH → Nat → Nat → Prop} (H_134 : ∀ (h : AH) (n : Nat) (z : Nat) (x4 : Option Nat), k_134 h n z x4 → G K Y h n z 134 [(0, vR (some o)), (4, vR x4)] []) (H_148 : ∀ (h : AH) (n : Nat) (z : Nat), k_148 h n z → G K Y h n z 148 [(0, vR (some o))] []) : ∀ (f : Nat) (h : AH) (n : Nat) (z : Nat) (x1 : Option Nat) (x4 : Option Nat) (x6 : Int), L_J24_getNode_99 K o k_134 k_148 κ χ f h n z x1 x4 x6 → G K Y h n z 99 [(0, vR (some o)), (1, vR x1), (4, vR x4), (6, vI x6)] [] := by
  intro f
  induction f with
  | zero => intro h n z x1 x4 x6 hk; exact hk.elim
  | succ f ih =>
    intro h n z x1 x4 x6 hk
    refine r_aload X (pc := 99) dJ24_getNode_99 (q := 2) rfl ?_
    refine r_hGI X (pc := 101) fa_J24_168_J33 dJ24_getNode_101 hk (fun y39 hk => ?_)
    refine r_iload X (pc := 104) dJ24_getNode_104 (q := 3) rfl ?_
    obtain ⟨b40, b41, hk⟩ := hk
    refine r_icmp_ne X (pc := 106) (tgt := 137) dJ24_getNode_106 (by decide) ⟨b40, b41⟩ (fun c42 => ?_) (fun c42 => ?_)
    · have hk := hk.2 c42
      have HH43 : ∀ (h : AH) (n : Nat) (z : Nat) (x1 : Option Nat) (x4 : Option Nat) (x6 : Int), (L_J24_getNode_99 K o k_134 k_148 κ χ f h n z x1 x4 x6) → G K Y h n z 99 [(0, vR (some o)), (1, vR x1), (4, vR x4), (6, vI x6)] [] := by
          intro h n z x1 x4 x6 hk
          exact ih h n z x1 x4 x6 hk
      exact w_J24_getNode_137 X E HH43 H_134 H_148 h n z x1 x4 x6 hk
    · have hk := hk.1 c42
      refine r_aload X (pc := 109) dJ24_getNode_109 (q := 2) rfl ?_
      refine r_hGR X (pc := 111) fa_J24_170_J33 dJ24_getNode_111 hk (fun y44 hk => ?_)
      refine r_dup X (pc := 114) dJ24_getNode_114 rfl ?_
      refine r_astore X (pc := 115) (lv1 := [(7, vR y44), (0, vR (some o)), (1, vR x1), (4, vR x4), (6, vI x6)]) dJ24_getNode_115 (by decide) rfl ?_
      refine r_aload_n X (pc := 117) dJ24_getNode_117 rfl (q := 2) rfl ?_
      refine r_acmp_eq X (pc := 118) (tgt := 134) dJ24_getNode_118 (by decide) (fun c45 => ?_) (fun c45 => ?_)
      · have hk := hk.1 c45
        refine G.sub [1, 3] rfl ?_
        exact H_134 h n z x4 hk
      · have hk := hk.2 c45
        refine r_aload_n X (pc := 121) dJ24_getNode_121 rfl (q := 2) rfl ?_
        refine r_ifnull X (pc := 122) (tgt := 137) dJ24_getNode_122 (by decide) (fun c46 => ?_) (fun c46 => ?_)
        · have hk := hk.1 c46
          refine G.sub [1, 2, 3, 4] rfl ?_
          have HH47 : ∀ (h : AH) (n : Nat) (z : Nat) (x1 : Option Nat) (x4 : Option Nat) (x6 : Int), (L_J24_getNode_99 K o k_134 k_148 κ χ f h n z x1 x4 x6) → G K Y h n z 99 [(0, vR (some o)), (1, vR x1), (4, vR x4), (6, vI x6)] [] := by
              intro h n z x1 x4 x6 hk
              exact ih h n z x1 x4 x6 hk
          exact w_J24_getNode_137 X E HH47 H_134 H_148 h n z x1 x4 x6 hk
        · have hk := hk.2 c46
          refine r_aload_n X (pc := 125) dJ24_getNode_125 rfl (q := 2) rfl ?_
          refine r_aload X (pc := 126) dJ24_getNode_126 (q := 0) rfl ?_
          rcases hk with hk | hk | hk
          · obtain ⟨o60, fs61, e9, b62, hk⟩ := hk
            refine r_callU X (pc := 128) (As := [vR y44]) (st := []) rfl rfl e9 b62 mu_J24_173_10 (fun _ => s_X11_equals hk) ⟨by decide, by decide⟩ (Nat.le_of_ble_eq_true rfl) dJ24_getNode_128 (fun v9 h49 n50 z51 hq => ?_) (fun ci55 q56 h57 n58 z59 hf => ?_)
            · obtain ⟨r48, rfl, hk⟩ := hq
              refine ⟨[vI r48], rfl, ?_⟩
              obtain ⟨b52, hk⟩ := hk
              refine r_if_eq X (pc := 131) (tgt := 137) dJ24_getNode_131 (by decide) b52 (fun c53 => ?_) (fun c53 => ?_)
              · have hk := hk.1 c53
                refine G.sub [1, 2, 3, 4] rfl ?_
                have HH54 : ∀ (h : AH) (n : Nat) (z : Nat) (x1 : Option Nat) (x4 : Option Nat) (x6 : Int), (L_J24_getNode_99 K o k_134 k_148 κ χ f h n z x1 x4 x6) → G K Y h n z 99 [(0, vR (some o)), (1, vR x1), (4, vR x4), (6, vI x6)] [] := by
                    intro h n z x1 x4 x6 hk
                    exact ih h n z x1 x4 x6 hk
                exact w_J24_getNode_137 X E HH54 H_134 H_148 h49 n50 z51 x1 x4 x6 hk
              · have hk := hk.2 c53
                refine G.sub [1, 3] rfl ?_
                exact H_134 h49 n50 z51 x4 hk
            · have hk := hf
              exact r_out X E (fun _ h9 => nomatch h9) hk
          · obtain ⟨o74, fs75, e9, b76, hk⟩ := hk
            refine r_callU X (pc := 128) (As := [vR y44]) (st := []) rfl rfl e9 b76 mu_J24_173_11 (fun _ => s_X12_equals hk) ⟨by decide, by decide⟩ (Nat.le_of_ble_eq_true rfl) dJ24_getNode_128 (fun v9 h63 n64 z65 hq => ?_) (fun ci69 q70 h71 n72 z73 hf => ?_)
            · obtain ⟨r48, rfl, hk⟩ := hq
              refine ⟨[vI r48], rfl, ?_⟩
              obtain ⟨b66, hk⟩ := hk
              refine r_if_eq X (pc := 131) (tgt := 137) dJ24_getNode_131 (by decide) b66 (fun c67 => ?_) (fun c67 => ?_)
              · have hk := hk.1 c67
                refine G.sub [1, 2, 3, 4] rfl ?_
                have HH68 : ∀ (h : AH) (n : Nat) (z : Nat) (x1 : Option Nat) (x4 : Option Nat) (x6 : Int), (L_J24_getNode_99 K o k_134 k_148 κ χ f h n z x1 x4 x6) → G K Y h n z 99 [(0, vR (some o)), (1, vR x1), (4, vR x4), (6, vI x6)] [] := by
                    intro h n z x1 x4 x6 hk
                    exact ih h n z x1 x4 x6 hk
                exact w_J24_getNode_137 X E HH68 H_134 H_148 h63 n64 z65 x1 x4 x6 hk
              · have hk := hk.2 c67
                refine G.sub [1, 3] rfl ?_
                exact H_134 h63 n64 z65 x4 hk
            · have hk := hf
              exact r_out X E (fun _ h9 => nomatch h9) hk
          · obtain ⟨o88, fs89, e9, b90, hk⟩ := hk
            refine r_callU X (pc := 128) (As := [vR y44]) (st := []) rfl rfl e9 b90 mu_J24_173_13 (fun _ => s_J4_equals hk) ⟨by decide, by decide⟩ (Nat.le_of_ble_eq_true rfl) dJ24_getNode_128 (fun v9 h77 n78 z79 hq => ?_) (fun ci83 q84 h85 n86 z87 hf => ?_)
            · obtain ⟨r48, rfl, hk⟩ := hq
              refine ⟨[vI r48], rfl, ?_⟩
              obtain ⟨b80, hk⟩ := hk
              refine r_if_eq X (pc := 131) (tgt := 137) dJ24_getNode_131 (by decide) b80 (fun c81 => ?_) (fun c81 => ?_)
              · have hk := hk.1 c81
                refine G.sub [1, 2, 3, 4] rfl ?_
                have HH82 : ∀ (h : AH) (n : Nat) (z : Nat) (x1 : Option Nat) (x4 : Option Nat) (x6 : Int), (L_J24_getNode_99 K o k_134 k_148 κ χ f h n z x1 x4 x6) → G K Y h n z 99 [(0, vR (some o)), (1, vR x1), (4, vR x4), (6, vI x6)] [] := by
                    intro h n z x1 x4 x6 hk
                    exact ih h n z x1 x4 x6 hk
                exact w_J24_getNode_137 X E HH82 H_134 H_148 h77 n78 z79 x1 x4 x6 hk
              · have hk := hk.2 c81
                refine G.sub [1, 3] rfl ?_
                exact H_134 h77 n78 z79 x4 hk
            · have hk := hf
              exact r_out X E (fun _ h9 => nomatch h9) hk
set_option maxHeartbeats 4000000 in
theorem w_J24_getNode_134 {K : KT} {Y : YT} {o : Nat} {κ : Option Nat → AH → Nat → Nat → Prop} {χ : QxT} (X : XY K "java/util/HashMap" "getNode" cJ24_getNode (Option.some (Jvm.ClassFile.FieldType.object "java/util/HashMap$Node")) [] 8 7 187 Y) (E : YE K Y (QvR κ) χ) : ∀ (h : AH) (n : Nat) (z : Nat) (x4 : Option Nat), P_J24_getNode_134 K o κ χ h n z x4 → G K Y h n z 134 [(0, vR (some o)), (4, vR x4)] [] := by
  intro h n z x4 hk
  refine r_aload X (pc := 134) dJ24_getNode_134 (q := 1) rfl ?_
  exact r_aret X E (Or.inl ⟨_, rfl⟩) (pc := 136) dJ24_getNode_136 ⟨_, rfl, hk⟩
set_option maxHeartbeats 4000000 in
theorem w_J24_getNode_71 {K : KT} {Y : YT} {o : Nat} {κ : Option Nat → AH → Nat → Nat → Prop} {χ : QxT} (X : XY K "java/util/HashMap" "getNode" cJ24_getNode (Option.some (Jvm.ClassFile.FieldType.object "java/util/HashMap$Node")) [] 8 7 187 Y) (E : YE K Y (QvR κ) χ) : ∀ (h : AH) (n : Nat) (z : Nat) (x1 : Option Nat) (x3 : Option Nat) (x6 : Int), P_J24_getNode_71 K o κ χ h n z x1 x3 x6 → G K Y h n z 71 [(0, vR (some o)), (1, vR x1), (3, vR x3), (6, vI x6)] [] := by
  intro h n z x1 x3 x6 hk
  refine r_aload_n X (pc := 71) dJ24_getNode_71 rfl (q := 2) rfl ?_
  refine r_hGR X (pc := 72) fa_J24_177_J33 dJ24_getNode_72 hk (fun y91 hk => ?_)
  refine r_dup X (pc := 75) dJ24_getNode_75 rfl ?_
  refine r_astore X (pc := 76) (lv1 := [(4, vR y91), (0, vR (some o)), (1, vR x1), (3, vR x3), (6, vI x6)]) dJ24_getNode_76 (by decide) rfl ?_
  refine r_ifnull X (pc := 78) (tgt := 148) dJ24_getNode_78 (by decide) (fun c92 => ?_) (fun c92 => ?_)
  · have hk := hk.1 c92
    refine G.sub [1] rfl ?_
    exact w_J24_getNode_148 X E h n z hk
  · have hk := hk.2 c92
    refine r_aload_n X (pc := 81) dJ24_getNode_81 rfl (q := 3) rfl ?_
    refine r_hInst X (pc := 82) q2260 cos_java_util_HashMap_TreeNode_ cns_java_util_HashMap_TreeNode_18 dJ24_getNode_82 hk (fun y93 hk => ?_)
    obtain ⟨b94, hk⟩ := hk
    refine r_if_eq X (pc := 85) (tgt := 99) dJ24_getNode_85 (by decide) b94 (fun c95 => ?_) (fun c95 => ?_)
    · have hk := hk.1 c95
      refine G.sub [1, 2, 0, 4] rfl ?_
      have HH96 : ∀ (h : AH) (n : Nat) (z : Nat) (x4 : Option Nat), (P_J24_getNode_134 K o κ χ h n z x4) → G K Y h n z 134 [(0, vR (some o)), (4, vR x4)] [] := by
          intro h n z x4 hk
          exact w_J24_getNode_134 X E h n z x4 hk
      have HH97 : ∀ (h : AH) (n : Nat) (z : Nat), (P_J24_getNode_148 K o κ χ h n z) → G K Y h n z 148 [(0, vR (some o))] [] := by
          intro h n z hk
          exact w_J24_getNode_148 X E h n z hk
      obtain ⟨f9, hk⟩ := hk
      exact w_J24_getNode_99 X E HH96 HH97 f9 h n z x1 y91 x6 hk
    · have hk := hk.2 c95
      refine r_aload_n X (pc := 88) dJ24_getNode_88 rfl (q := 3) rfl ?_
      refine r_hCast X (pc := 89) q2260 cos_java_util_HashMap_TreeNode_ dJ24_getNode_89 hk (fun hk => ?_)
      refine r_iload X (pc := 92) dJ24_getNode_92 (q := 4) rfl ?_
      refine r_aload_n X (pc := 94) dJ24_getNode_94 rfl (q := 2) rfl ?_
      exact hk.elim
set_option maxHeartbeats 4000000 in
theorem w_J24_getNode {K : KT} {Y : YT} {o : Nat} {κ : Option Nat → AH → Nat → Nat → Prop} {χ : QxT} (X : XY K "java/util/HashMap" "getNode" cJ24_getNode (Option.some (Jvm.ClassFile.FieldType.object "java/util/HashMap$Node")) [] 8 7 187 Y) (E : YE K Y (QvR κ) χ) {h : AH} {n : Nat} {z : Nat} {x1 : Option Nat} (hk : P_J24_getNode K o κ χ h n z x1) : G K Y h n z 0 (lv_argsA 0 [vR (some o), vR x1]) [] := by
  show G K Y h n z 0 [(0, vR (some o)), (1, vR x1)] []
  refine r_aload_n X (pc := 0) dJ24_getNode_0 rfl (q := 0) rfl ?_
  refine r_hGR X (pc := 1) fa_J24_105_J25 dJ24_getNode_1 hk (fun y99 hk => ?_)
  refine r_dup X (pc := 4) dJ24_getNode_4 rfl ?_
  refine r_astore_n X (pc := 5) (lv1 := [(2, vR y99), (0, vR (some o)), (1, vR x1)]) dJ24_getNode_5 rfl (by decide) rfl ?_
  refine r_ifnull X (pc := 6) (tgt := 148) dJ24_getNode_6 (by decide) (fun c100 => ?_) (fun c100 => ?_)
  · have hk := hk.1 c100
    refine G.sub [1] rfl ?_
    exact w_J24_getNode_148 X E h n z hk
  · have hk := hk.2 c100
    refine r_aload_n X (pc := 9) dJ24_getNode_9 rfl (q := 0) rfl ?_
    refine r_hLen X (pc := 10) (t := 9) rfl dJ24_getNode_10 hk (fun y101 hk => ?_)
    refine r_dup X (pc := 11) dJ24_getNode_11 rfl ?_
    refine r_istore X (pc := 12) (lv1 := [(5, vI y101), (2, vR y99), (0, vR (some o)), (1, vR x1)]) dJ24_getNode_12 (by decide) rfl ?_
    obtain ⟨b102, hk⟩ := hk
    refine r_if_le X (pc := 14) (tgt := 148) dJ24_getNode_14 (by decide) b102 (fun c103 => ?_) (fun c103 => ?_)
    · have hk := hk.2 c103
      refine G.sub [2] rfl ?_
      exact w_J24_getNode_148 X E h n z hk
    · have hk := hk.1 c103
      refine r_aload_n X (pc := 17) dJ24_getNode_17 rfl (q := 1) rfl ?_
      refine r_iload X (pc := 18) dJ24_getNode_18 (q := 0) rfl ?_
      refine r_iconst X (pc := 20) dJ24_getNode_20 ?_
      refine r_isub X (pc := 21) dJ24_getNode_21 ?_
      refine r_aload_n X (pc := 22) dJ24_getNode_22 rfl (q := 3) rfl ?_
      refine r_callS X (pc := 23) (As := [vR x1]) (st := [vI (y101 - 1), vR y99]) m_J24_149 (fun _ => s_J24_hash hk) ⟨by decide, by decide⟩ (Nat.le_of_ble_eq_true rfl) dJ24_getNode_23 (fun v9 h105 n106 z107 hq => ?_) (fun ci157 q158 h159 n160 z161 hf => ?_)
      · obtain ⟨r104, rfl, hk⟩ := hq
        refine ⟨[vI r104], rfl, ?_⟩
        refine r_dup X (pc := 26) dJ24_getNode_26 rfl ?_
        refine r_istore X (pc := 27) (lv1 := [(6, vI r104), (5, vI y101), (2, vR y99), (0, vR (some o)), (1, vR x1)]) dJ24_getNode_27 (by decide) rfl ?_
        refine r_iand X (pc := 29) dJ24_getNode_29 ?_
        refine r_hAR X (pc := 30) (t := 9) rfl dJ24_getNode_30 hk (fun y108 hk => ?_)
        refine r_dup X (pc := 31) dJ24_getNode_31 rfl ?_
        refine r_astore_n X (pc := 32) (lv1 := [(3, vR y108), (6, vI r104), (5, vI y101), (2, vR y99), (0, vR (some o)), (1, vR x1)]) dJ24_getNode_32 rfl (by decide) rfl ?_
        refine r_ifnull X (pc := 33) (tgt := 148) dJ24_getNode_33 (by decide) (fun c109 => ?_) (fun c109 => ?_)
        · have hk := hk.1 c109
          refine G.sub [4] rfl ?_
          exact w_J24_getNode_148 X E h105 n106 z107 hk
        · have hk := hk.2 c109
          refine r_aload_n X (pc := 36) dJ24_getNode_36 rfl (q := 0) rfl ?_
          refine r_hGI X (pc := 37) fa_J24_168_J33 dJ24_getNode_37 hk (fun y110 hk => ?_)
          refine r_iload X (pc := 40) dJ24_getNode_40 (q := 1) rfl ?_
          obtain ⟨b111, b112, hk⟩ := hk
          refine r_icmp_ne X (pc := 42) (tgt := 71) dJ24_getNode_42 (by decide) ⟨b111, b112⟩ (fun c113 => ?_) (fun c113 => ?_)
          · have hk := hk.2 c113
            refine G.sub [4, 5, 0, 1] rfl ?_
            exact w_J24_getNode_71 X E h105 n106 z107 x1 y108 r104 hk
          · have hk := hk.1 c113
            refine r_aload_n X (pc := 45) dJ24_getNode_45 rfl (q := 0) rfl ?_
            refine r_hGR X (pc := 46) fa_J24_170_J33 dJ24_getNode_46 hk (fun y114 hk => ?_)
            refine r_dup X (pc := 49) dJ24_getNode_49 rfl ?_
            refine r_astore X (pc := 50) (lv1 := [(7, vR y114), (3, vR y108), (6, vI r104), (5, vI y101), (2, vR y99), (0, vR (some o)), (1, vR x1)]) dJ24_getNode_50 (by decide) rfl ?_
            refine r_aload_n X (pc := 52) dJ24_getNode_52 rfl (q := 6) rfl ?_
            refine r_acmp_eq X (pc := 53) (tgt := 69) dJ24_getNode_53 (by decide) (fun c115 => ?_) (fun c115 => ?_)
            · have hk := hk.1 c115
              refine r_aload_n X (pc := 69) dJ24_getNode_69 rfl (q := 1) rfl ?_
              exact r_aret X E (Or.inl ⟨_, rfl⟩) (pc := 70) dJ24_getNode_70 ⟨_, rfl, hk⟩
            · have hk := hk.2 c115
              refine r_aload_n X (pc := 56) dJ24_getNode_56 rfl (q := 6) rfl ?_
              refine r_ifnull X (pc := 57) (tgt := 71) dJ24_getNode_57 (by decide) (fun c116 => ?_) (fun c116 => ?_)
              · have hk := hk.1 c116
                refine G.sub [5, 6, 1, 2] rfl ?_
                exact w_J24_getNode_71 X E h105 n106 z107 x1 y108 r104 hk
              · have hk := hk.2 c116
                refine r_aload_n X (pc := 60) dJ24_getNode_60 rfl (q := 6) rfl ?_
                refine r_aload X (pc := 61) dJ24_getNode_61 (q := 0) rfl ?_
                rcases hk with hk | hk | hk
                · obtain ⟨o128, fs129, e9, b130, hk⟩ := hk
                  refine r_callU X (pc := 63) (As := [vR y114]) (st := []) rfl rfl e9 b130 mu_J24_173_10 (fun _ => s_X11_equals hk) ⟨by decide, by decide⟩ (Nat.le_of_ble_eq_true rfl) dJ24_getNode_63 (fun v9 h118 n119 z120 hq => ?_) (fun ci123 q124 h125 n126 z127 hf => ?_)
                  · obtain ⟨r117, rfl, hk⟩ := hq
                    refine ⟨[vI r117], rfl, ?_⟩
                    obtain ⟨b121, hk⟩ := hk
                    refine r_if_eq X (pc := 66) (tgt := 71) dJ24_getNode_66 (by decide) b121 (fun c122 => ?_) (fun c122 => ?_)
                    · have hk := hk.1 c122
                      refine G.sub [5, 6, 1, 2] rfl ?_
                      exact w_J24_getNode_71 X E h118 n119 z120 x1 y108 r104 hk
                    · have hk := hk.2 c122
                      refine r_aload_n X (pc := 69) dJ24_getNode_69 rfl (q := 1) rfl ?_
                      exact r_aret X E (Or.inl ⟨_, rfl⟩) (pc := 70) dJ24_getNode_70 ⟨_, rfl, hk⟩
                  · have hk := hf
                    exact r_out X E (fun _ h9 => nomatch h9) hk
                · obtain ⟨o141, fs142, e9, b143, hk⟩ := hk
                  refine r_callU X (pc := 63) (As := [vR y114]) (st := []) rfl rfl e9 b143 mu_J24_173_11 (fun _ => s_X12_equals hk) ⟨by decide, by decide⟩ (Nat.le_of_ble_eq_true rfl) dJ24_getNode_63 (fun v9 h131 n132 z133 hq => ?_) (fun ci136 q137 h138 n139 z140 hf => ?_)
                  · obtain ⟨r117, rfl, hk⟩ := hq
                    refine ⟨[vI r117], rfl, ?_⟩
                    obtain ⟨b134, hk⟩ := hk
                    refine r_if_eq X (pc := 66) (tgt := 71) dJ24_getNode_66 (by decide) b134 (fun c135 => ?_) (fun c135 => ?_)
                    · have hk := hk.1 c135
                      refine G.sub [5, 6, 1, 2] rfl ?_
                      exact w_J24_getNode_71 X E h131 n132 z133 x1 y108 r104 hk
                    · have hk := hk.2 c135
                      refine r_aload_n X (pc := 69) dJ24_getNode_69 rfl (q := 1) rfl ?_
                      exact r_aret X E (Or.inl ⟨_, rfl⟩) (pc := 70) dJ24_getNode_70 ⟨_, rfl, hk⟩
                  · have hk := hf
                    exact r_out X E (fun _ h9 => nomatch h9) hk
                · obtain ⟨o154, fs155, e9, b156, hk⟩ := hk
                  refine r_callU X (pc := 63) (As := [vR y114]) (st := []) rfl rfl e9 b156 mu_J24_173_13 (fun _ => s_J4_equals hk) ⟨by decide, by decide⟩ (Nat.le_of_ble_eq_true rfl) dJ24_getNode_63 (fun v9 h144 n145 z146 hq => ?_) (fun ci149 q150 h151 n152 z153 hf => ?_)
                  · obtain ⟨r117, rfl, hk⟩ := hq
                    refine ⟨[vI r117], rfl, ?_⟩
                    obtain ⟨b147, hk⟩ := hk
                    refine r_if_eq X (pc := 66) (tgt := 71) dJ24_getNode_66 (by decide) b147 (fun c148 => ?_) (fun c148 => ?_)
                    · have hk := hk.1 c148
                      refine G.sub [5, 6, 1, 2] rfl ?_
                      exact w_J24_getNode_71 X E h144 n145 z146 x1 y108 r104 hk
                    · have hk := hk.2 c148
                      refine r_aload_n X (pc := 69) dJ24_getNode_69 rfl (q := 1) rfl ?_
                      exact r_aret X E (Or.inl ⟨_, rfl⟩) (pc := 70) dJ24_getNode_70 ⟨_, rfl, hk⟩
                  · have hk := hf
                    exact r_out X E (fun _ h9 => nomatch h9) hk
      · have hk := hf
        exact r_out X E (fun _ h9 => nomatch h9) hk
theorem s_J24_getNode {K : KT} {l : Launch} {o : Nat} {κ : Option Nat → AH → Nat → Nat → Prop} {χ : QxT} {h : AH} {n : Nat} {z : Nat} {x1 : Option Nat} (hk : P_J24_getNode K o κ χ h n z x1) : Ct K l yJ24_getNode (ws_ yJ24_getNode cJ24_getNode 8 (Option.some (Jvm.ClassFile.FieldType.object "java/util/HashMap$Node"))) 7 187 ([vR (some o), vR x1].map cV) h n z (QvR κ) χ :=
  ct_of (by decide +kernel) (Nat.le_of_ble_eq_true rfl) (fun Y X E => w_J24_getNode X E hk)
set_option maxHeartbeats 4000000 in
theorem w_J24_containsKey {K : KT} {Y : YT} {o : Nat} {κ : Int → AH → Nat → Nat → Prop} {χ : QxT} (X : XY K "java/util/HashMap" "containsKey" cJ24_containsKey (Option.some Jvm.ClassFile.FieldType.boolean) [] 2 8 214 Y) (E : YE K Y (QvI κ) χ) {h : AH} {n : Nat} {z : Nat} {x1 : Option Nat} (hk : P_J24_containsKey K o κ χ h n z x1) : G K Y h n z 0 (lv_argsA 0 [vR (some o), vR x1]) [] := by
  show G K Y h n z 0 [(0, vR (some o)), (1, vR x1)] []
  refine r_aload_n X (pc := 0) dJ24_containsKey_0 rfl (q := 0) rfl ?_
  refine r_aload_n X (pc := 1) dJ24_containsKey_1 rfl (q := 1) rfl ?_
  obtain ⟨o13, fs14, e9, b15, hk⟩ := hk
  refine r_callU X (pc := 2) (As := [vR x1]) (st := []) rfl rfl e9 b15 mu_J24_158_17 (fun _ => s_J24_getNode hk) ⟨by decide, by decide⟩ (Nat.le_of_ble_eq_true rfl) dJ24_containsKey_2 (fun v9 h4 n5 z6 hq => ?_) (fun ci8 q9 h10 n11 z12 hf => ?_)
  · obtain ⟨r3, rfl, hk⟩ := hq
    refine ⟨[vR r3], rfl, ?_⟩
    refine r_ifnull X (pc := 5) (tgt := 12) dJ24_containsKey_5 (by decide) (fun c7 => ?_) (fun c7 => ?_)
    · have hk := hk.1 c7
      refine r_iconst X (pc := 12) dJ24_containsKey_12 ?_
      exact r_iret X E (pc := 13) dJ24_containsKey_13 rfl ⟨_, rfl, hk⟩
    · have hk := hk.2 c7
      refine r_iconst X (pc := 8) dJ24_containsKey_8 ?_
      refine r_goto X (pc := 9) (tgt := 13) dJ24_containsKey_9 (by decide) ?_
      exact r_iret X E (pc := 13) dJ24_containsKey_13 rfl ⟨_, rfl, hk⟩
  · have hk := hf
    exact r_out X E (fun _ h9 => nomatch h9) hk
theorem s_J24_containsKey {K : KT} {l : Launch} {o : Nat} {κ : Int → AH → Nat → Nat → Prop} {χ : QxT} {h : AH} {n : Nat} {z : Nat} {x1 : Option Nat} (hk : P_J24_containsKey K o κ χ h n z x1) : Ct K l yJ24_containsKey (ws_ yJ24_containsKey cJ24_containsKey 2 (Option.some Jvm.ClassFile.FieldType.boolean)) 8 214 ([vR (some o), vR x1].map cV) h n z (QvI κ) χ :=
  ct_of (by decide +kernel) (Nat.le_of_ble_eq_true rfl) (fun Y X E => w_J24_containsKey X E hk)
set_option maxHeartbeats 4000000 in
theorem w_J21_contains {K : KT} {Y : YT} {o : Nat} {κ : Int → AH → Nat → Nat → Prop} {χ : QxT} (X : XY K "java/util/HashSet" "contains" cJ21_contains (Option.some Jvm.ClassFile.FieldType.boolean) [] 2 9 235 Y) (E : YE K Y (QvI κ) χ) {h : AH} {n : Nat} {z : Nat} {x1 : Option Nat} (hk : P_J21_contains K o κ χ h n z x1) : G K Y h n z 0 (lv_argsA 0 [vR (some o), vR x1]) [] := by
  show G K Y h n z 0 [(0, vR (some o)), (1, vR x1)] []
  refine r_aload_n X (pc := 0) dJ21_contains_0 rfl (q := 0) rfl ?_
  refine r_hGR X (pc := 1) fa_J21_10_J22 dJ21_contains_1 hk (fun y3 hk => ?_)
  refine r_aload_n X (pc := 4) dJ21_contains_4 rfl (q := 1) rfl ?_
  obtain ⟨o14, fs15, e9, b16, hk⟩ := hk
  refine r_callU X (pc := 5) (As := [vR x1]) (st := []) rfl rfl e9 b16 mu_J21_60_17 (fun _ => s_J24_containsKey hk) ⟨by decide, by decide⟩ (Nat.le_of_ble_eq_true rfl) dJ21_contains_5 (fun v9 h5 n6 z7 hq => ?_) (fun ci9 q10 h11 n12 z13 hf => ?_)
  · obtain ⟨r4, rfl, hk⟩ := hq
    refine ⟨[vI r4], rfl, ?_⟩
    obtain ⟨b8, hk⟩ := hk
    exact r_iret X E (pc := 8) dJ21_contains_8 (by rcases b8 with h9 | h9 <;> rw [h9] <;> rfl) ⟨_, rfl, hk⟩
  · have hk := hf
    exact r_out X E (fun _ h9 => nomatch h9) hk
theorem s_J21_contains {K : KT} {l : Launch} {o : Nat} {κ : Int → AH → Nat → Nat → Prop} {χ : QxT} {h : AH} {n : Nat} {z : Nat} {x1 : Option Nat} (hk : P_J21_contains K o κ χ h n z x1) : Ct K l yJ21_contains (ws_ yJ21_contains cJ21_contains 2 (Option.some Jvm.ClassFile.FieldType.boolean)) 9 235 ([vR (some o), vR x1].map cV) h n z (QvI κ) χ :=
  ct_of (by decide +kernel) (Nat.le_of_ble_eq_true rfl) (fun Y X E => w_J21_contains X E hk)
set_option maxHeartbeats 4000000 in
theorem w_J38_init {K : KT} {Y : YT} {o : Nat} {κ : AH → Nat → Nat → Prop} {χ : QxT} (X : XY K "java/util/LinkedHashMap$LinkedKeySet" "<init>" cJ38_init none [] 3 3 100 Y) (E : YE K Y (QvV κ) χ) {h : AH} {n : Nat} {z : Nat} {x1 : Option Nat} {x2 : Int} (hk : P_J38_init K o κ χ h n z x1 x2) : G K Y h n z 0 (lv_argsA 0 [vR (some o), vR x1, vI x2]) [] := by
  show G K Y h n z 0 [(0, vR (some o)), (1, vR x1), (2, vI x2)] []
  refine r_aload_n X (pc := 0) dJ38_init_0 rfl (q := 0) rfl ?_
  refine r_aload_n X (pc := 1) dJ38_init_1 rfl (q := 1) rfl ?_
  refine r_hPutF X (pc := 2) fp_J38_1 rfl (fit_ref x1).1 (fit_ref x1).2 dJ38_init_2 hk (fun h4 hk => ?_)
  refine r_aload_n X (pc := 5) dJ38_init_5 rfl (q := 0) rfl ?_
  refine r_callI X (pc := 6) (As := []) (st := []) m_J38_7 (fun _ => s_J20_init hk) ⟨by decide, by decide⟩ (Nat.le_of_ble_eq_true rfl) dJ38_init_6 (fun v9 h5 n6 z7 hq => ?_) (fun ci10 q11 h12 n13 z14 hf => ?_)
  · obtain ⟨rfl, hk⟩ := hq
    refine ⟨[], rfl, ?_⟩
    refine r_aload_n X (pc := 9) dJ38_init_9 rfl (q := 0) rfl ?_
    refine r_iload_n X (pc := 10) dJ38_init_10 rfl (q := 2) rfl ?_
    obtain ⟨b9, hk⟩ := hk
    refine r_hPutF X (pc := 11) fp_J38_13 rfl (fit_bool b9).1 (fit_bool b9).2 dJ38_init_11 hk (fun h8 hk => ?_)
    exact r_vret X E (pc := 14) dJ38_init_14 ⟨rfl, hk⟩
  · have hk := hf
    exact r_out X E (fun _ h9 => nomatch h9) hk
theorem s_J38_init {K : KT} {l : Launch} {o : Nat} {κ : AH → Nat → Nat → Prop} {χ : QxT} {h : AH} {n : Nat} {z : Nat} {x1 : Option Nat} {x2 : Int} (hk : P_J38_init K o κ χ h n z x1 x2) : Ct K l yJ38_init (ws_ yJ38_init cJ38_init 3 none) 3 100 ([vR (some o), vR x1, vI x2].map cV) h n z (QvV κ) χ :=
  ct_of (by decide +kernel) (Nat.le_of_ble_eq_true rfl) (fun Y X E => w_J38_init X E hk)
set_option maxHeartbeats 4000000 in
theorem w_J25_sequencedKeySet {K : KT} {Y : YT} {o : Nat} {κ : Option Nat → AH → Nat → Nat → Prop} {χ : QxT} (X : XY K "java/util/LinkedHashMap" "sequencedKeySet" cJ25_sequencedKeySet (Option.some (Jvm.ClassFile.FieldType.object "java/util/SequencedSet")) [] 3 4 122 Y) (E : YE K Y (QvR κ) χ) {h : AH} {n : Nat} {z : Nat} (hk : P_J25_sequencedKeySet K o κ χ h n z) : G K Y h n z 0 (lv_argsA 0 [vR (some o)]) [] := by
  show G K Y h n z 0 [(0, vR (some o))] []
  refine r_aload_n X (pc := 0) dJ25_sequencedKeySet_0 rfl (q := 0) rfl ?_
  refine r_hGR X (pc := 1) fa_J25_117 dJ25_sequencedKeySet_1 hk (fun y5 hk => ?_)
  refine r_astore_n X (pc := 4) (lv1 := [(1, vR y5), (0, vR (some o))]) dJ25_sequencedKeySet_4 rfl (by decide) rfl ?_
  refine r_aload_n X (pc := 5) dJ25_sequencedKeySet_5 rfl (q := 0) rfl ?_
  refine r_ifnonnull X (pc := 6) (tgt := 26) dJ25_sequencedKeySet_6 (by decide) (fun c6 => ?_) (fun c6 => ?_)
  · have hk := hk.2 c6
    refine r_aload_n X (pc := 26) dJ25_sequencedKeySet_26 rfl (q := 0) rfl ?_
    refine r_hCast X (pc := 27) q2711 cos_java_util_SequencedSet_16_19 dJ25_sequencedKeySet_27 hk (fun hk => ?_)
    exact r_aret X E (Or.inl ⟨_, rfl⟩) (pc := 30) dJ25_sequencedKeySet_30 ⟨_, rfl, hk⟩
  · have hk := hk.1 c6
    refine r_hNew X (pc := 9) nw_J25_121 dJ25_sequencedKeySet_9 hk (fun h7 hk => ?_)
    refine r_dup X (pc := 12) dJ25_sequencedKeySet_12 rfl ?_
    refine r_aload_n X (pc := 13) dJ25_sequencedKeySet_13 rfl (q := 1) rfl ?_
    refine r_iconst X (pc := 14) dJ25_sequencedKeySet_14 ?_
    refine r_callI X (pc := 15) (As := [vR (some o), vI 0]) (st := [vR (some n)]) m_J25_123 (fun _ => s_J38_init hk) ⟨by decide, by decide⟩ (Nat.le_of_ble_eq_true rfl) dJ25_sequencedKeySet_15 (fun v9 h8 n9 z10 hq => ?_) (fun ci12 q13 h14 n15 z16 hf => ?_)
    · obtain ⟨rfl, hk⟩ := hq
      refine ⟨[], rfl, ?_⟩
      refine r_astore_n X (pc := 18) (lv1 := [(2, vR (some n)), (1, vR y5), (0, vR (some o))]) dJ25_sequencedKeySet_18 rfl (by decide) rfl ?_
      refine r_aload_n X (pc := 19) dJ25_sequencedKeySet_19 rfl (q := 2) rfl ?_
      refine r_aload_n X (pc := 20) dJ25_sequencedKeySet_20 rfl (q := 0) rfl ?_
      refine r_hPut X (pc := 21) fp_J25_117 (fit_ref (some n)).1 (fit_ref (some n)).2 dJ25_sequencedKeySet_21 hk (fun h11 hk => ?_)
      refine r_aload_n X (pc := 24) dJ25_sequencedKeySet_24 rfl (q := 0) rfl ?_
      exact r_aret X E (Or.inl ⟨_, rfl⟩) (pc := 25) dJ25_sequencedKeySet_25 ⟨_, rfl, hk⟩
    · have hk := hf
      exact r_out X E (fun _ h9 => nomatch h9) hk
theorem s_J25_sequencedKeySet {K : KT} {l : Launch} {o : Nat} {κ : Option Nat → AH → Nat → Nat → Prop} {χ : QxT} {h : AH} {n : Nat} {z : Nat} (hk : P_J25_sequencedKeySet K o κ χ h n z) : Ct K l yJ25_sequencedKeySet (ws_ yJ25_sequencedKeySet cJ25_sequencedKeySet 3 (Option.some (Jvm.ClassFile.FieldType.object "java/util/SequencedSet"))) 4 122 ([vR (some o)].map cV) h n z (QvR κ) χ :=
  ct_of (by decide +kernel) (Nat.le_of_ble_eq_true rfl) (fun Y X E => w_J25_sequencedKeySet X E hk)
set_option maxHeartbeats 4000000 in
theorem w_J25_keySet {K : KT} {Y : YT} {o : Nat} {κ : Option Nat → AH → Nat → Nat → Prop} {χ : QxT} (X : XY K "java/util/LinkedHashMap" "keySet" cJ25_keySet (Option.some (Jvm.ClassFile.FieldType.object "java/util/Set")) [] 1 5 144 Y) (E : YE K Y (QvR κ) χ) {h : AH} {n : Nat} {z : Nat} (hk : P_J25_keySet K o κ χ h n z) : G K Y h n z 0 (lv_argsA 0 [vR (some o)]) [] := by
  show G K Y h n z 0 [(0, vR (some o))] []
  refine r_aload_n X (pc := 0) dJ25_keySet_0 rfl (q := 0) rfl ?_
  obtain ⟨o11, fs12, e9, b13, hk⟩ := hk
  refine r_callV X (pc := 1) (As := []) (st := []) rfl rfl e9 b13 m_J25_113 (fun _ => s_J25_sequencedKeySet hk) ⟨by decide, by decide⟩ (Nat.le_of_ble_eq_true rfl) dJ25_keySet_1 (fun v9 h3 n4 z5 hq => ?_) (fun ci6 q7 h8 n9 z10 hf => ?_)
  · obtain ⟨r2, rfl, hk⟩ := hq
    refine ⟨[vR r2], rfl, ?_⟩
    exact r_aret X E (Or.inl ⟨_, rfl⟩) (pc := 4) dJ25_keySet_4 ⟨_, rfl, hk⟩
  · have hk := hf
    exact r_out X E (fun _ h9 => nomatch h9) hk
theorem s_J25_keySet {K : KT} {l : Launch} {o : Nat} {κ : Option Nat → AH → Nat → Nat → Prop} {χ : QxT} {h : AH} {n : Nat} {z : Nat} (hk : P_J25_keySet K o κ χ h n z) : Ct K l yJ25_keySet (ws_ yJ25_keySet cJ25_keySet 1 (Option.some (Jvm.ClassFile.FieldType.object "java/util/Set"))) 5 144 ([vR (some o)].map cV) h n z (QvR κ) χ :=
  ct_of (by decide +kernel) (Nat.le_of_ble_eq_true rfl) (fun Y X E => w_J25_keySet X E hk)
set_option maxHeartbeats 4000000 in
theorem w_J41_init_30 {K : KT} {Y : YT} {o : Nat} {κ : AH → Nat → Nat → Prop} {χ : QxT} (X : XY K "java/util/LinkedHashMap$LinkedHashIterator" "<init>" cJ41_init none [] 3 1 60 Y) (E : YE K Y (QvV κ) χ) : ∀ (h : AH) (n : Nat) (z : Nat) (x1 : Option Nat) (s0 : Option Nat), P_J41_init_30 K o κ χ h n z x1 s0 → G K Y h n z 30 [(0, vR (some o)), (1, vR x1)] [vR s0, vR (some o)] := by
  intro h n z x1 s0 hk
  refine r_hPut X (pc := 30) fp_J41_26_J42 (fit_ref s0).1 (fit_ref s0).2 dJ41_init_30 hk (fun h12 hk => ?_)
  refine r_aload_n X (pc := 33) dJ41_init_33 rfl (q := 0) rfl ?_
  refine r_aload_n X (pc := 34) dJ41_init_34 rfl (q := 1) rfl ?_
  refine r_hGI X (pc := 35) fa_J41_29_J25 dJ41_init_35 hk (fun y13 hk => ?_)
  refine r_hPut X (pc := 38) fp_J41_33_J42 rfl rfl dJ41_init_38 hk (fun h14 hk => ?_)
  refine r_aload_n X (pc := 41) dJ41_init_41 rfl (q := 0) rfl ?_
  refine r_null X (pc := 42) dJ41_init_42 ?_
  refine r_hPut X (pc := 43) fp_J41_36_J42 (fit_ref none).1 (fit_ref none).2 dJ41_init_43 hk (fun h15 hk => ?_)
  exact r_vret X E (pc := 46) dJ41_init_46 ⟨rfl, hk⟩
set_option maxHeartbeats 4000000 in
theorem w_J41_init {K : KT} {Y : YT} {o : Nat} {κ : AH → Nat → Nat → Prop} {χ : QxT} (X : XY K "java/util/LinkedHashMap$LinkedHashIterator" "<init>" cJ41_init none [] 3 1 60 Y) (E : YE K Y (QvV κ) χ) {h : AH} {n : Nat} {z : Nat} {x1 : Option Nat} {x2 : Int} (hk : P_J41_init K o κ χ h n z x1 x2) : G K Y h n z 0 (lv_argsA 0 [vR (some o), vR x1, vI x2]) [] := by
  show G K Y h n z 0 [(0, vR (some o)), (1, vR x1), (2, vI x2)] []
  refine r_aload_n X (pc := 0) dJ41_init_0 rfl (q := 0) rfl ?_
  refine r_aload_n X (pc := 1) dJ41_init_1 rfl (q := 1) rfl ?_
  refine r_hPutF X (pc := 2) fp_J41_1_J42 rfl (fit_ref x1).1 (fit_ref x1).2 dJ41_init_2 hk (fun h16 hk => ?_)
  refine r_aload_n X (pc := 5) dJ41_init_5 rfl (q := 0) rfl ?_
  refine r_objinit X (pc := 6) q2762 q203 q204 ⟨by decide, Nat.le_of_ble_eq_true rfl⟩ dJ41_init_6 ?_
  refine r_aload_n X (pc := 9) dJ41_init_9 rfl (q := 0) rfl ?_
  refine r_iload_n X (pc := 10) dJ41_init_10 rfl (q := 2) rfl ?_
  obtain ⟨b18, hk⟩ := hk
  refine r_hPut X (pc := 11) fp_J41_13_J42 (fit_bool b18).1 (fit_bool b18).2 dJ41_init_11 hk (fun h17 hk => ?_)
  refine r_aload_n X (pc := 14) dJ41_init_14 rfl (q := 0) rfl ?_
  refine r_iload_n X (pc := 15) dJ41_init_15 rfl (q := 2) rfl ?_
  obtain ⟨b19, hk⟩ := hk
  refine r_if_eq X (pc := 16) (tgt := 26) dJ41_init_16 (by decide) b19 (fun c20 => ?_) (fun c20 => ?_)
  · have hk := hk.1 c20
    refine r_aload_n X (pc := 26) dJ41_init_26 rfl (q := 1) rfl ?_
    refine r_hGR X (pc := 27) fa_J41_23_J25 dJ41_init_27 hk (fun y21 hk => ?_)
    refine G.sub [0, 1] rfl ?_
    exact w_J41_init_30 X E h17 n z x1 y21 hk
  · have hk := hk.2 c20
    refine r_aload_n X (pc := 19) dJ41_init_19 rfl (q := 1) rfl ?_
    refine r_hGR X (pc := 20) fa_J41_17_J25 dJ41_init_20 hk (fun y22 hk => ?_)
    refine r_goto X (pc := 23) (tgt := 30) dJ41_init_23 (by decide) ?_
    refine G.sub [0, 1] rfl ?_
    exact w_J41_init_30 X E h17 n z x1 y22 hk
theorem s_J41_init {K : KT} {l : Launch} {o : Nat} {κ : AH → Nat → Nat → Prop} {χ : QxT} {h : AH} {n : Nat} {z : Nat} {x1 : Option Nat} {x2 : Int} (hk : P_J41_init K o κ χ h n z x1 x2) : Ct K l yJ41_init (ws_ yJ41_init cJ41_init 3 none) 1 60 ([vR (some o), vR x1, vI x2].map cV) h n z (QvV κ) χ :=
  ct_of (by decide +kernel) (Nat.le_of_ble_eq_true rfl) (fun Y X E => w_J41_init X E hk)
set_option maxHeartbeats 4000000 in
theorem w_J42_init {K : KT} {Y : YT} {o : Nat} {κ : AH → Nat → Nat → Prop} {χ : QxT} (X : XY K "java/util/LinkedHashMap$LinkedKeyIterator" "<init>" cJ42_init none [] 3 2 82 Y) (E : YE K Y (QvV κ) χ) {h : AH} {n : Nat} {z : Nat} {x1 : Option Nat} {x2 : Int} (hk : P_J42_init K o κ χ h n z x1 x2) : G K Y h n z 0 (lv_argsA 0 [vR (some o), vR x1, vI x2]) [] := by
  show G K Y h n z 0 [(0, vR (some o)), (1, vR x1), (2, vI x2)] []
  refine r_aload_n X (pc := 0) dJ42_init_0 rfl (q := 0) rfl ?_
  refine r_aload_n X (pc := 1) dJ42_init_1 rfl (q := 1) rfl ?_
  refine r_iload_n X (pc := 2) dJ42_init_2 rfl (q := 2) rfl ?_
  refine r_callI X (pc := 3) (As := [vR x1, vI x2]) (st := []) m_J42_1 (fun _ => s_J41_init hk) ⟨by decide, by decide⟩ (Nat.le_of_ble_eq_true rfl) dJ42_init_3 (fun v9 h1 n2 z3 hq => ?_) (fun ci4 q5 h6 n7 z8 hf => ?_)
  · obtain ⟨rfl, hk⟩ := hq
    refine ⟨[], rfl, ?_⟩
    exact r_vret X E (pc := 6) dJ42_init_6 ⟨rfl, hk⟩
  · have hk := hf
    exact r_out X E (fun _ h9 => nomatch h9) hk
theorem s_J42_init {K : KT} {l : Launch} {o : Nat} {κ : AH → Nat → Nat → Prop} {χ : QxT} {h : AH} {n : Nat} {z : Nat} {x1 : Option Nat} {x2 : Int} (hk : P_J42_init K o κ χ h n z x1 x2) : Ct K l yJ42_init (ws_ yJ42_init cJ42_init 3 none) 2 82 ([vR (some o), vR x1, vI x2].map cV) h n z (QvV κ) χ :=
  ct_of (by decide +kernel) (Nat.le_of_ble_eq_true rfl) (fun Y X E => w_J42_init X E hk)
set_option maxHeartbeats 4000000 in
theorem w_J38_iterator {K : KT} {Y : YT} {o : Nat} {κ : Option Nat → AH → Nat → Nat → Prop} {χ : QxT} (X : XY K "java/util/LinkedHashMap$LinkedKeySet" "iterator" cJ38_iterator (Option.some (Jvm.ClassFile.FieldType.object "java/util/Iterator")) [] 1 3 104 Y) (E : YE K Y (QvR κ) χ) {h : AH} {n : Nat} {z : Nat} (hk : P_J38_iterator K o κ χ h n z) : G K Y h n z 0 (lv_argsA 0 [vR (some o)]) [] := by
  show G K Y h n z 0 [(0, vR (some o))] []
  refine r_hNew X (pc := 0) nw_J38_26 dJ38_iterator_0 hk (fun h4 hk => ?_)
  refine r_dup X (pc := 3) dJ38_iterator_3 rfl ?_
  refine r_aload_n X (pc := 4) dJ38_iterator_4 rfl (q := 0) rfl ?_
  refine r_hGR X (pc := 5) fa_J38_1 dJ38_iterator_5 hk (fun y5 hk => ?_)
  refine r_aload_n X (pc := 8) dJ38_iterator_8 rfl (q := 0) rfl ?_
  refine r_hGI X (pc := 9) fa_J38_13 dJ38_iterator_9 hk (fun y6 hk => ?_)
  refine r_callI X (pc := 12) (As := [vR y5, vI y6]) (st := [vR (some n)]) m_J38_28 (fun _ => s_J42_init hk) ⟨by decide, by decide⟩ (Nat.le_of_ble_eq_true rfl) dJ38_iterator_12 (fun v9 h7 n8 z9 hq => ?_) (fun ci10 q11 h12 n13 z14 hf => ?_)
  · obtain ⟨rfl, hk⟩ := hq
    refine ⟨[], rfl, ?_⟩
    exact r_aret X E (Or.inl ⟨_, rfl⟩) (pc := 15) dJ38_iterator_15 ⟨_, rfl, hk⟩
  · have hk := hf
    exact r_out X E (fun _ h9 => nomatch h9) hk
theorem s_J38_iterator {K : KT} {l : Launch} {o : Nat} {κ : Option Nat → AH → Nat → Nat → Prop} {χ : QxT} {h : AH} {n : Nat} {z : Nat} (hk : P_J38_iterator K o κ χ h n z) : Ct K l yJ38_iterator (ws_ yJ38_iterator cJ38_iterator 1 (Option.some (Jvm.ClassFile.FieldType.object "java/util/Iterator"))) 3 104 ([vR (some o)].map cV) h n z (QvR κ) χ :=
  ct_of (by decide +kernel) (Nat.le_of_ble_eq_true rfl) (fun Y X E => w_J38_iterator X E hk)
set_option maxHeartbeats 4000000 in
theorem w_J21_iterator {K : KT} {Y : YT} {o : Nat} {κ : Option Nat → AH → Nat → Nat → Prop} {χ : QxT} (X : XY K "java/util/HashSet" "iterator" cJ21_iterator (Option.some (Jvm.ClassFile.FieldType.object "java/util/Iterator")) [] 1 6 164 Y) (E : YE K Y (QvR κ) χ) {h : AH} {n : Nat} {z : Nat} (hk : P_J21_iterator K o κ χ h n z) : G K Y h n z 0 (lv_argsA 0 [vR (some o)]) [] := by
  show G K Y h n z 0 [(0, vR (some o))] []
  refine r_aload_n X (pc := 0) dJ21_iterator_0 rfl (q := 0) rfl ?_
  refine r_hGR X (pc := 1) fa_J21_10_J22 dJ21_iterator_1 hk (fun y4 hk => ?_)
  obtain ⟨o26, fs27, e9, b28, hk⟩ := hk
  refine r_callU X (pc := 4) (As := []) (st := []) rfl rfl e9 b28 mu_J21_45_17 (fun _ => s_J25_keySet hk) ⟨by decide, by decide⟩ (Nat.le_of_ble_eq_true rfl) dJ21_iterator_4 (fun v9 h6 n7 z8 hq => ?_) (fun ci21 q22 h23 n24 z25 hf => ?_)
  · obtain ⟨r5, rfl, hk⟩ := hq
    refine ⟨[vR r5], rfl, ?_⟩
    obtain ⟨o18, fs19, e9, b20, hk⟩ := hk
    refine r_callF X (pc := 7) (As := []) (st := []) rfl rfl e9 b20 mf_J21_49_19 (fun _ => s_J38_iterator hk) ⟨by decide, by decide⟩ (Nat.le_of_ble_eq_true rfl) dJ21_iterator_7 (fun v9 h10 n11 z12 hq => ?_) (fun ci13 q14 h15 n16 z17 hf => ?_)
    · obtain ⟨r9, rfl, hk⟩ := hq
      refine ⟨[vR r9], rfl, ?_⟩
      exact r_aret X E (Or.inl ⟨_, rfl⟩) (pc := 12) dJ21_iterator_12 ⟨_, rfl, hk⟩
    · have hk := hf
      exact r_out X E (fun _ h9 => nomatch h9) hk
  · have hk := hf
    exact r_out X E (fun _ h9 => nomatch h9) hk
theorem s_J21_iterator {K : KT} {l : Launch} {o : Nat} {κ : Option Nat → AH → Nat → Nat → Prop} {χ : QxT} {h : AH} {n : Nat} {z : Nat} (hk : P_J21_iterator K o κ χ h n z) : Ct K l yJ21_iterator (ws_ yJ21_iterator cJ21_iterator 1 (Option.some (Jvm.ClassFile.FieldType.object "java/util/Iterator"))) 6 164 ([vR (some o)].map cV) h n z (QvR κ) χ :=
  ct_of (by decide +kernel) (Nat.le_of_ble_eq_true rfl) (fun Y X E => w_J21_iterator X E hk)
set_option maxHeartbeats 4000000 in
theorem w_J22_init {K : KT} {Y : YT} {o : Nat} {κ : AH → Nat → Nat → Prop} {χ : QxT} (X : XY K "java/util/LinkedHashSet" "<init>" cJ22_init none [] 1 6 168 Y) (E : YE K Y (QvV κ) χ) {h : AH} {n : Nat} {z : Nat} (hk : P_J22_init K o κ χ h n z) : G K Y h n z 0 (lv_argsA 0 [vR (some o)]) [] := by
  show G K Y h n z 0 [(0, vR (some o))] []
  refine r_aload_n X (pc := 0) dJ22_init_0 rfl (q := 0) rfl ?_
  refine r_bipush X (pc := 1) dJ22_init_1 (by decide) ?_
  refine r_ldcF X (pc := 3) (v := 1061158912) q1694 dJ22_init_3 ?_
  refine r_iconst X (pc := 5) dJ22_init_5 ?_
  refine r_callI X (pc := 6) (As := [vI 16, vF 1061158912, vI 1]) (st := []) m_J22_1 (fun _ => s_J21_init hk) ⟨by decide, by decide⟩ (Nat.le_of_ble_eq_true rfl) dJ22_init_6 (fun v9 h1 n2 z3 hq => ?_) (fun ci4 q5 h6 n7 z8 hf => ?_)
  · obtain ⟨rfl, hk⟩ := hq
    refine ⟨[], rfl, ?_⟩
    exact r_vret X E (pc := 9) dJ22_init_9 ⟨rfl, hk⟩
  · have hk := hf
    exact r_out X E (fun _ h9 => nomatch h9) hk
theorem s_J22_init {K : KT} {l : Launch} {o : Nat} {κ : AH → Nat → Nat → Prop} {χ : QxT} {h : AH} {n : Nat} {z : Nat} (hk : P_J22_init K o κ χ h n z) : Ct K l yJ22_init (ws_ yJ22_init cJ22_init 1 none) 6 168 ([vR (some o)].map cV) h n z (QvV κ) χ :=
  ct_of (by decide +kernel) (Nat.le_of_ble_eq_true rfl) (fun Y X E => w_J22_init X E hk)
set_option maxHeartbeats 4000000 in
theorem w_J24_init_2 {K : KT} {Y : YT} {o : Nat} {κ : AH → Nat → Nat → Prop} {χ : QxT} (X : XY K "java/util/HashMap" "<init>" cJ24_init_2 none [] 1 2 80 Y) (E : YE K Y (QvV κ) χ) {h : AH} {n : Nat} {z : Nat} (hk : P_J24_init_2 K o κ χ h n z) : G K Y h n z 0 (lv_argsA 0 [vR (some o)]) [] := by
  show G K Y h n z 0 [(0, vR (some o))] []
  refine r_aload_n X (pc := 0) dJ24_init_2_0 rfl (q := 0) rfl ?_
  refine r_callI X (pc := 1) (As := []) (st := []) m_J24_43 (fun _ => s_J23_init hk) ⟨by decide, by decide⟩ (Nat.le_of_ble_eq_true rfl) dJ24_init_2_1 (fun v9 h2 n3 z4 hq => ?_) (fun ci6 q7 h8 n9 z10 hf => ?_)
  · obtain ⟨rfl, hk⟩ := hq
    refine ⟨[], rfl, ?_⟩
    refine r_aload_n X (pc := 4) dJ24_init_2_4 rfl (q := 0) rfl ?_
    refine r_ldcF X (pc := 5) (v := 1061158912) q2949 dJ24_init_2_5 ?_
    refine r_hPutF X (pc := 7) fp_J24_81_J25 rfl rfl rfl dJ24_init_2_7 hk (fun h5 hk => ?_)
    exact r_vret X E (pc := 10) dJ24_init_2_10 ⟨rfl, hk⟩
  · have hk := hf
    exact r_out X E (fun _ h9 => nomatch h9) hk
theorem s_J24_init_2 {K : KT} {l : Launch} {o : Nat} {κ : AH → Nat → Nat → Prop} {χ : QxT} {h : AH} {n : Nat} {z : Nat} (hk : P_J24_init_2 K o κ χ h n z) : Ct K l yJ24_init_2 (ws_ yJ24_init_2 cJ24_init_2 1 none) 2 80 ([vR (some o)].map cV) h n z (QvV κ) χ :=
  ct_of (by decide +kernel) (Nat.le_of_ble_eq_true rfl) (fun Y X E => w_J24_init_2 X E hk)
set_option maxHeartbeats 4000000 in
theorem w_J24_size {K : KT} {Y : YT} {o : Nat} {κ : Int → AH → Nat → Nat → Prop} {χ : QxT} (X : XY K "java/util/HashMap" "size" cJ24_size (Option.some Jvm.ClassFile.FieldType.int) [] 1 0 0 Y) (E : YE K Y (QvI κ) χ) {h : AH} {n : Nat} {z : Nat} (hk : P_J24_size K o κ χ h n z) : G K Y h n z 0 (lv_argsA 0 [vR (some o)]) [] := by
  show G K Y h n z 0 [(0, vR (some o))] []
  refine r_aload_n X (pc := 0) dJ24_size_0 rfl (q := 0) rfl ?_
  refine r_hGI X (pc := 1) fa_J24_156_J25 dJ24_size_1 hk (fun y2 hk => ?_)
  exact r_iret X E (pc := 4) dJ24_size_4 rfl ⟨_, rfl, hk⟩
theorem s_J24_size {K : KT} {l : Launch} {o : Nat} {κ : Int → AH → Nat → Nat → Prop} {χ : QxT} {h : AH} {n : Nat} {z : Nat} (hk : P_J24_size K o κ χ h n z) : Ct K l yJ24_size (ws_ yJ24_size cJ24_size 1 (Option.some Jvm.ClassFile.FieldType.int)) 0 0 ([vR (some o)].map cV) h n z (QvI κ) χ :=
  ct_of (by decide +kernel) (Nat.le_of_ble_eq_true rfl) (fun Y X E => w_J24_size X E hk)
set_option maxHeartbeats 4000000 in
theorem w_J25_init_2 {K : KT} {Y : YT} {o : Nat} {κ : AH → Nat → Nat → Prop} {χ : QxT} (X : XY K "java/util/LinkedHashMap" "<init>" cJ25_init_2 none [] 1 3 100 Y) (E : YE K Y (QvV κ) χ) {h : AH} {n : Nat} {z : Nat} (hk : P_J25_init_2 K o κ χ h n z) : G K Y h n z 0 (lv_argsA 0 [vR (some o)]) [] := by
  show G K Y h n z 0 [(0, vR (some o))] []
  refine r_aload_n X (pc := 0) dJ25_init_2_0 rfl (q := 0) rfl ?_
  refine r_callI X (pc := 1) (As := []) (st := []) m_J25_87 (fun _ => s_J24_init_2 hk) ⟨by decide, by decide⟩ (Nat.le_of_ble_eq_true rfl) dJ25_init_2_1 (fun v9 h3 n4 z5 hq => ?_) (fun ci8 q9 h10 n11 z12 hf => ?_)
  · obtain ⟨rfl, hk⟩ := hq
    refine ⟨[], rfl, ?_⟩
    refine r_aload_n X (pc := 4) dJ25_init_2_4 rfl (q := 0) rfl ?_
    refine r_iconst X (pc := 5) dJ25_init_2_5 ?_
    refine r_hPut X (pc := 6) fp_J25_1 rfl rfl dJ25_init_2_6 hk (fun h6 hk => ?_)
    refine r_aload_n X (pc := 9) dJ25_init_2_9 rfl (q := 0) rfl ?_
    refine r_iconst X (pc := 10) dJ25_init_2_10 ?_
    refine r_hPutF X (pc := 11) fp_J25_64 rfl (fit_bool (Or.inl rfl)).1 (fit_bool (Or.inl rfl)).2 dJ25_init_2_11 hk (fun h7 hk => ?_)
    exact r_vret X E (pc := 14) dJ25_init_2_14 ⟨rfl, hk⟩
  · have hk := hf
    exact r_out X E (fun _ h9 => nomatch h9) hk
theorem s_J25_init_2 {K : KT} {l : Launch} {o : Nat} {κ : AH → Nat → Nat → Prop} {χ : QxT} {h : AH} {n : Nat} {z : Nat} (hk : P_J25_init_2 K o κ χ h n z) : Ct K l yJ25_init_2 (ws_ yJ25_init_2 cJ25_init_2 1 none) 3 100 ([vR (some o)].map cV) h n z (QvV κ) χ :=
  ct_of (by decide +kernel) (Nat.le_of_ble_eq_true rfl) (fun Y X E => w_J25_init_2 X E hk)
set_option maxHeartbeats 4000000 in
theorem w_J25_get {K : KT} {Y : YT} {o : Nat} {κ : Option Nat → AH → Nat → Nat → Prop} {χ : QxT} (X : XY K "java/util/LinkedHashMap" "get" cJ25_get (Option.some (Jvm.ClassFile.FieldType.object "java/lang/Object")) [] 3 8 214 Y) (E : YE K Y (QvR κ) χ) {h : AH} {n : Nat} {z : Nat} {x1 : Option Nat} (hk : P_J25_get K o κ χ h n z x1) : G K Y h n z 0 (lv_argsA 0 [vR (some o), vR x1]) [] := by
  show G K Y h n z 0 [(0, vR (some o)), (1, vR x1)] []
  refine r_aload_n X (pc := 0) dJ25_get_0 rfl (q := 0) rfl ?_
  refine r_aload_n X (pc := 1) dJ25_get_1 rfl (q := 1) rfl ?_
  obtain ⟨o33, fs34, e9, b35, hk⟩ := hk
  refine r_callU X (pc := 2) (As := [vR x1]) (st := []) rfl rfl e9 b35 mu_J25_99_17 (fun _ => s_J24_getNode hk) ⟨by decide, by decide⟩ (Nat.le_of_ble_eq_true rfl) dJ25_get_2 (fun v9 h8 n9 z10 hq => ?_) (fun ci28 q29 h30 n31 z32 hf => ?_)
  · obtain ⟨r7, rfl, hk⟩ := hq
    refine ⟨[vR r7], rfl, ?_⟩
    refine r_dup X (pc := 5) dJ25_get_5 rfl ?_
    refine r_astore_n X (pc := 6) (lv1 := [(2, vR r7), (0, vR (some o)), (1, vR x1)]) dJ25_get_6 rfl (by decide) rfl ?_
    refine r_ifnonnull X (pc := 7) (tgt := 12) dJ25_get_7 (by decide) (fun c11 => ?_) (fun c11 => ?_)
    · have hk := hk.2 c11
      refine r_aload_n X (pc := 12) dJ25_get_12 rfl (q := 1) rfl ?_
      refine r_hGI X (pc := 13) fa_J25_64 dJ25_get_13 hk (fun y12 hk => ?_)
      obtain ⟨b13, hk⟩ := hk
      refine r_if_eq X (pc := 16) (tgt := 24) dJ25_get_16 (by decide) b13 (fun c14 => ?_) (fun c14 => ?_)
      · have hk := hk.1 c14
        refine r_aload_n X (pc := 24) dJ25_get_24 rfl (q := 0) rfl ?_
        refine r_hGR X (pc := 25) fa_J25_107_J33 dJ25_get_25 hk (fun y15 hk => ?_)
        exact r_aret X E (Or.inl ⟨_, rfl⟩) (pc := 28) dJ25_get_28 ⟨_, rfl, hk⟩
      · have hk := hk.2 c14
        refine r_aload_n X (pc := 19) dJ25_get_19 rfl (q := 1) rfl ?_
        refine r_aload_n X (pc := 20) dJ25_get_20 rfl (q := 0) rfl ?_
        obtain ⟨o25, fs26, e9, b27, hk⟩ := hk
        refine r_callV X (pc := 21) (As := [vR r7]) (st := []) rfl rfl e9 b27 m_J25_103 (fun _ => s_J25_afterNodeAccess hk) ⟨by decide, by decide⟩ (Nat.le_of_ble_eq_true rfl) dJ25_get_21 (fun v9 h16 n17 z18 hq => ?_) (fun ci20 q21 h22 n23 z24 hf => ?_)
        · obtain ⟨rfl, hk⟩ := hq
          refine ⟨[], rfl, ?_⟩
          refine r_aload_n X (pc := 24) dJ25_get_24 rfl (q := 0) rfl ?_
          refine r_hGR X (pc := 25) fa_J25_107_J33 dJ25_get_25 hk (fun y19 hk => ?_)
          exact r_aret X E (Or.inl ⟨_, rfl⟩) (pc := 28) dJ25_get_28 ⟨_, rfl, hk⟩
        · have hk := hf
          exact r_out X E (fun _ h9 => nomatch h9) hk
    · have hk := hk.1 c11
      refine r_null X (pc := 10) dJ25_get_10 ?_
      exact r_aret X E (Or.inl ⟨_, rfl⟩) (pc := 11) dJ25_get_11 ⟨_, rfl, hk⟩
  · have hk := hf
    exact r_out X E (fun _ h9 => nomatch h9) hk
theorem s_J25_get {K : KT} {l : Launch} {o : Nat} {κ : Option Nat → AH → Nat → Nat → Prop} {χ : QxT} {h : AH} {n : Nat} {z : Nat} {x1 : Option Nat} (hk : P_J25_get K o κ χ h n z x1) : Ct K l yJ25_get (ws_ yJ25_get cJ25_get 3 (Option.some (Jvm.ClassFile.FieldType.object "java/lang/Object"))) 8 214 ([vR (some o), vR x1].map cV) h n z (QvR κ) χ :=
  ct_of (by decide +kernel) (Nat.le_of_ble_eq_true rfl) (fun Y X E => w_J25_get X E hk)
set_option maxHeartbeats 4000000 in
theorem w_J26_floatToIntBits {K : KT} {Y : YT} {Qx : QxT} {h : AH} {n z : Nat} {κ : Int → Prop} (X : XY K "java/lang/Float" "floatToIntBits" cJ26_floatToIntBits (Option.some Jvm.ClassFile.FieldType.int) [] 1 1 60 Y) (E : YE K Y (pQ h n z κ) Qx) {x0 : UInt32} (hk : P_J26_floatToIntBits κ x0) : G K Y h n z 0 (lv_argsA 0 [vF x0]) [] := by
  show G K Y h n z 0 [(0, vF x0)] []
  refine r_fload_n X (pc := 0) dJ26_floatToIntBits_0 rfl (q := 0) rfl ?_
  refine r_callS X (pc := 1) (As := [vF x0]) (st := []) m_J26_59 (fun _ => s_J26_isNaN hk) ⟨by decide, by decide⟩ (Nat.le_of_ble_eq_true rfl) dJ26_floatToIntBits_1 (fun v9 h9 n9 z9 hq => ?_) (fun ci9 q9 h9 n9 z9 hf => ?_)
  · obtain ⟨r4, rfl, rfl, rfl, rfl, hk⟩ := hq
    refine ⟨[vI r4], rfl, ?_⟩
    obtain ⟨b5, hk⟩ := hk
    refine r_if_ne X (pc := 4) (tgt := 12) dJ26_floatToIntBits_4 (by decide) b5 (fun c6 => ?_) (fun c6 => ?_)
    · have hk := hk.2 c6
      refine r_ldcI X (pc := 12) (v := 2143289344) dJ26_floatToIntBits_12 q2927 (by decide) ?_
      exact r_iret X E (pc := 14) dJ26_floatToIntBits_14 rfl ⟨_, rfl, rfl, rfl, rfl, hk⟩
    · have hk := hk.1 c6
      refine r_fload_n X (pc := 7) dJ26_floatToIntBits_7 rfl (q := 0) rfl ?_
      refine r_f2r X (pc := 8) q2926 q1760 q1759 q176 ⟨by decide, Nat.le_of_ble_eq_true rfl⟩ dJ26_floatToIntBits_8 ?_
      exact r_iret X E (pc := 11) dJ26_floatToIntBits_11 rfl ⟨_, rfl, rfl, rfl, rfl, hk⟩
  · exact hf.elim
theorem s_J26_floatToIntBits {K : KT} {l : Launch} {n z : Nat} {h : AH} {κ : Int → Prop} {x0 : UInt32} (hk : P_J26_floatToIntBits κ x0) : Ct K l yJ26_floatToIntBits (ws_ yJ26_floatToIntBits cJ26_floatToIntBits 1 (Option.some Jvm.ClassFile.FieldType.int)) 1 60 ([vF x0].map cV) h n z (pQ h n z κ) noX :=
  ct_of (by decide +kernel) (Nat.le_of_ble_eq_true rfl) (fun Y X E => w_J26_floatToIntBits X E hk)
set_option maxHeartbeats 4000000 in
theorem w_J32_getKey {K : KT} {Y : YT} {o : Nat} {κ : Option Nat → AH → Nat → Nat → Prop} {χ : QxT} (X : XY K "java/util/HashMap$Node" "getKey" cJ32_getKey (Option.some (Jvm.ClassFile.FieldType.object "java/lang/Object")) [] 1 0 0 Y) (E : YE K Y (QvR κ) χ) {h : AH} {n : Nat} {z : Nat} (hk : P_J32_getKey K o κ χ h n z) : G K Y h n z 0 (lv_argsA 0 [vR (some o)]) [] := by
  show G K Y h n z 0 [(0, vR (some o))] []
  refine r_aload_n X (pc := 0) dJ32_getKey_0 rfl (q := 0) rfl ?_
  refine r_hGR X (pc := 1) fa_J32_13_J33 dJ32_getKey_1 hk (fun y2 hk => ?_)
  exact r_aret X E (Or.inl ⟨_, rfl⟩) (pc := 4) dJ32_getKey_4 ⟨_, rfl, hk⟩
theorem s_J32_getKey {K : KT} {l : Launch} {o : Nat} {κ : Option Nat → AH → Nat → Nat → Prop} {χ : QxT} {h : AH} {n : Nat} {z : Nat} (hk : P_J32_getKey K o κ χ h n z) : Ct K l yJ32_getKey (ws_ yJ32_getKey cJ32_getKey 1 (Option.some (Jvm.ClassFile.FieldType.object "java/lang/Object"))) 0 0 ([vR (some o)].map cV) h n z (QvR κ) χ :=
  ct_of (by decide +kernel) (Nat.le_of_ble_eq_true rfl) (fun Y X E => w_J32_getKey X E hk)
set_option maxHeartbeats 4000000 in
theorem w_J41_hasNext {K : KT} {Y : YT} {o : Nat} {κ : Int → AH → Nat → Nat → Prop} {χ : QxT} (X : XY K "java/util/LinkedHashMap$LinkedHashIterator" "hasNext" cJ41_hasNext (Option.some Jvm.ClassFile.FieldType.boolean) [] 1 0 0 Y) (E : YE K Y (QvI κ) χ) {h : AH} {n : Nat} {z : Nat} (hk : P_J41_hasNext K o κ χ h n z) : G K Y h n z 0 (lv_argsA 0 [vR (some o)]) [] := by
  show G K Y h n z 0 [(0, vR (some o))] []
  refine r_aload_n X (pc := 0) dJ41_hasNext_0 rfl (q := 0) rfl ?_
  refine r_hGR X (pc := 1) fa_J41_26_J42 dJ41_hasNext_1 hk (fun y3 hk => ?_)
  refine r_ifnull X (pc := 4) (tgt := 11) dJ41_hasNext_4 (by decide) (fun c4 => ?_) (fun c4 => ?_)
  · have hk := hk.1 c4
    refine r_iconst X (pc := 11) dJ41_hasNext_11 ?_
    exact r_iret X E (pc := 12) dJ41_hasNext_12 rfl ⟨_, rfl, hk⟩
  · have hk := hk.2 c4
    refine r_iconst X (pc := 7) dJ41_hasNext_7 ?_
    refine r_goto X (pc := 8) (tgt := 12) dJ41_hasNext_8 (by decide) ?_
    exact r_iret X E (pc := 12) dJ41_hasNext_12 rfl ⟨_, rfl, hk⟩
theorem s_J41_hasNext {K : KT} {l : Launch} {o : Nat} {κ : Int → AH → Nat → Nat → Prop} {χ : QxT} {h : AH} {n : Nat} {z : Nat} (hk : P_J41_hasNext K o κ χ h n z) : Ct K l yJ41_hasNext (ws_ yJ41_hasNext cJ41_hasNext 1 (Option.some Jvm.ClassFile.FieldType.boolean)) 0 0 ([vR (some o)].map cV) h n z (QvI κ) χ :=
  ct_of (by decide +kernel) (Nat.le_of_ble_eq_true rfl) (fun Y X E => w_J41_hasNext X E hk)
set_option maxHeartbeats 4000000 in
theorem w_J41_nextNode {K : KT} {Y : YT} {o : Nat} {κ : Option Nat → AH → Nat → Nat → Prop} {χ : QxT} (X : XY K "java/util/LinkedHashMap$LinkedHashIterator" "nextNode" cJ41_nextNode (Option.some (Jvm.ClassFile.FieldType.object "java/util/LinkedHashMap$Entry")) [] 2 0 0 Y) (E : YE K Y (QvR κ) χ) {h : AH} {n : Nat} {z : Nat} (hk : P_J41_nextNode K o κ χ h n z) : G K Y h n z 0 (lv_argsA 0 [vR (some o)]) [] := by
  show G K Y h n z 0 [(0, vR (some o))] []
  refine r_aload_n X (pc := 0) dJ41_nextNode_0 rfl (q := 0) rfl ?_
  refine r_hGR X (pc := 1) fa_J41_26_J42 dJ41_nextNode_1 hk (fun y16 hk => ?_)
  refine r_astore_n X (pc := 4) (lv1 := [(1, vR y16), (0, vR (some o))]) dJ41_nextNode_4 rfl (by decide) rfl ?_
  refine r_aload_n X (pc := 5) dJ41_nextNode_5 rfl (q := 1) rfl ?_
  refine r_hGR X (pc := 6) fa_J41_1_J42 dJ41_nextNode_6 hk (fun y17 hk => ?_)
  refine r_hGI X (pc := 9) fa_J41_29_J25 dJ41_nextNode_9 hk (fun y18 hk => ?_)
  refine r_aload_n X (pc := 12) dJ41_nextNode_12 rfl (q := 1) rfl ?_
  refine r_hGI X (pc := 13) fa_J41_33_J42 dJ41_nextNode_13 hk (fun y19 hk => ?_)
  obtain ⟨b20, b21, hk⟩ := hk
  refine r_icmp_eq X (pc := 16) (tgt := 27) dJ41_nextNode_16 (by decide) ⟨b20, b21⟩ (fun c22 => ?_) (fun c22 => ?_)
  · have hk := hk.1 c22
    refine r_aload_n X (pc := 27) dJ41_nextNode_27 rfl (q := 0) rfl ?_
    refine r_ifnonnull X (pc := 28) (tgt := 39) dJ41_nextNode_28 (by decide) (fun c23 => ?_) (fun c23 => ?_)
    · have hk := hk.2 c23
      refine r_aload_n X (pc := 39) dJ41_nextNode_39 rfl (q := 1) rfl ?_
      refine r_aload_n X (pc := 40) dJ41_nextNode_40 rfl (q := 0) rfl ?_
      refine r_hPut X (pc := 41) fp_J41_36_J42 (fit_ref y16).1 (fit_ref y16).2 dJ41_nextNode_41 hk (fun h24 hk => ?_)
      refine r_aload_n X (pc := 44) dJ41_nextNode_44 rfl (q := 1) rfl ?_
      refine r_aload_n X (pc := 45) dJ41_nextNode_45 rfl (q := 1) rfl ?_
      refine r_hGI X (pc := 46) fa_J41_13_J42 dJ41_nextNode_46 hk (fun y25 hk => ?_)
      obtain ⟨b26, hk⟩ := hk
      refine r_if_eq X (pc := 49) (tgt := 59) dJ41_nextNode_49 (by decide) b26 (fun c27 => ?_) (fun c27 => ?_)
      · have hk := hk.1 c27
        refine r_aload_n X (pc := 59) dJ41_nextNode_59 rfl (q := 0) rfl ?_
        refine r_hGR X (pc := 60) fa_J41_50_J33 dJ41_nextNode_60 hk (fun y28 hk => ?_)
        refine r_hPut X (pc := 63) fp_J41_26_J42 (fit_ref y28).1 (fit_ref y28).2 dJ41_nextNode_63 hk (fun h29 hk => ?_)
        refine r_aload_n X (pc := 66) dJ41_nextNode_66 rfl (q := 0) rfl ?_
        exact r_aret X E (Or.inl ⟨_, rfl⟩) (pc := 67) dJ41_nextNode_67 ⟨_, rfl, hk⟩
      · have hk := hk.2 c27
        refine r_aload_n X (pc := 52) dJ41_nextNode_52 rfl (q := 0) rfl ?_
        refine r_hGR X (pc := 53) fa_J41_45_J33 dJ41_nextNode_53 hk (fun y30 hk => ?_)
        refine r_goto X (pc := 56) (tgt := 63) dJ41_nextNode_56 (by decide) ?_
        refine r_hPut X (pc := 63) fp_J41_26_J42 (fit_ref y30).1 (fit_ref y30).2 dJ41_nextNode_63 hk (fun h31 hk => ?_)
        refine r_aload_n X (pc := 66) dJ41_nextNode_66 rfl (q := 0) rfl ?_
        exact r_aret X E (Or.inl ⟨_, rfl⟩) (pc := 67) dJ41_nextNode_67 ⟨_, rfl, hk⟩
    · have hk := hk.1 c23
      exact hk.elim
  · have hk := hk.2 c22
    exact hk.elim
theorem s_J41_nextNode {K : KT} {l : Launch} {o : Nat} {κ : Option Nat → AH → Nat → Nat → Prop} {χ : QxT} {h : AH} {n : Nat} {z : Nat} (hk : P_J41_nextNode K o κ χ h n z) : Ct K l yJ41_nextNode (ws_ yJ41_nextNode cJ41_nextNode 2 (Option.some (Jvm.ClassFile.FieldType.object "java/util/LinkedHashMap$Entry"))) 0 0 ([vR (some o)].map cV) h n z (QvR κ) χ :=
  ct_of (by decide +kernel) (Nat.le_of_ble_eq_true rfl) (fun Y X E => w_J41_nextNode X E hk)
set_option maxHeartbeats 4000000 in
theorem w_J42_next {K : KT} {Y : YT} {o : Nat} {κ : Option Nat → AH → Nat → Nat → Prop} {χ : QxT} (X : XY K "java/util/LinkedHashMap$LinkedKeyIterator" "next" cJ42_next (Option.some (Jvm.ClassFile.FieldType.object "java/lang/Object")) [] 1 1 21 Y) (E : YE K Y (QvR κ) χ) {h : AH} {n : Nat} {z : Nat} (hk : P_J42_next K o κ χ h n z) : G K Y h n z 0 (lv_argsA 0 [vR (some o)]) [] := by
  show G K Y h n z 0 [(0, vR (some o))] []
  refine r_aload_n X (pc := 0) dJ42_next_0 rfl (q := 0) rfl ?_
  obtain ⟨o24, fs25, e9, b26, hk⟩ := hk
  refine r_callU X (pc := 1) (As := []) (st := []) rfl rfl e9 b26 mu_J42_7_20 (fun _ => s_J41_nextNode hk) ⟨by decide, by decide⟩ (Nat.le_of_ble_eq_true rfl) dJ42_next_1 (fun v9 h4 n5 z6 hq => ?_) (fun ci19 q20 h21 n22 z23 hf => ?_)
  · obtain ⟨r3, rfl, hk⟩ := hq
    refine ⟨[vR r3], rfl, ?_⟩
    obtain ⟨o16, fs17, e9, b18, hk⟩ := hk
    refine r_callU X (pc := 4) (As := []) (st := []) rfl rfl e9 b18 mu_J42_13_18 (fun _ => s_J32_getKey hk) ⟨by decide, by decide⟩ (Nat.le_of_ble_eq_true rfl) dJ42_next_4 (fun v9 h8 n9 z10 hq => ?_) (fun ci11 q12 h13 n14 z15 hf => ?_)
    · obtain ⟨r7, rfl, hk⟩ := hq
      refine ⟨[vR r7], rfl, ?_⟩
      exact r_aret X E (Or.inl ⟨_, rfl⟩) (pc := 7) dJ42_next_7 ⟨_, rfl, hk⟩
    · have hk := hf
      exact r_out X E (fun _ h9 => nomatch h9) hk
  · have hk := hf
    exact r_out X E (fun _ h9 => nomatch h9) hk
theorem s_J42_next {K : KT} {l : Launch} {o : Nat} {κ : Option Nat → AH → Nat → Nat → Prop} {χ : QxT} {h : AH} {n : Nat} {z : Nat} (hk : P_J42_next K o κ χ h n z) : Ct K l yJ42_next (ws_ yJ42_next cJ42_next 1 (Option.some (Jvm.ClassFile.FieldType.object "java/lang/Object"))) 1 21 ([vR (some o)].map cV) h n z (QvR κ) χ :=
  ct_of (by decide +kernel) (Nat.le_of_ble_eq_true rfl) (fun Y X E => w_J42_next X E hk)
set_option maxHeartbeats 4000000 in
theorem w_X11_init {K : KT} {Y : YT} {o : Nat} {κ : AH → Nat → Nat → Prop} {χ : QxT} (X : XY K "TrailMarkers$Leg" "<init>" cX11_init none [] 4 1 60 Y) (E : YE K Y (QvV κ) χ) {h : AH} {n : Nat} {z : Nat} {x1 : Int} {x2 : Int} {x3 : Int} (hk : P_X11_init K o κ χ h n z x1 x2 x3) : G K Y h n z 0 (lv_argsA 0 [vR (some o), vI x1, vI x2, vI x3]) [] := by
  show G K Y h n z 0 [(0, vR (some o)), (1, vI x1), (2, vI x2), (3, vI x3)] []
  refine r_aload_n X (pc := 0) dX11_init_0 rfl (q := 0) rfl ?_
  refine r_objinit X (pc := 1) q1340 q203 q204 ⟨by decide, Nat.le_of_ble_eq_true rfl⟩ dX11_init_1 ?_
  refine r_aload_n X (pc := 4) dX11_init_4 rfl (q := 0) rfl ?_
  refine r_iload_n X (pc := 5) dX11_init_5 rfl (q := 1) rfl ?_
  refine r_hPutF X (pc := 6) fp_X11_7 rfl rfl rfl dX11_init_6 hk (fun h5 hk => ?_)
  refine r_aload_n X (pc := 9) dX11_init_9 rfl (q := 0) rfl ?_
  refine r_iload_n X (pc := 10) dX11_init_10 rfl (q := 2) rfl ?_
  refine r_hPutF X (pc := 11) fp_X11_13 rfl rfl rfl dX11_init_11 hk (fun h6 hk => ?_)
  refine r_aload_n X (pc := 14) dX11_init_14 rfl (q := 0) rfl ?_
  refine r_iload_n X (pc := 15) dX11_init_15 rfl (q := 3) rfl ?_
  obtain ⟨b8, hk⟩ := hk
  refine r_hPutF X (pc := 16) fp_X11_16 rfl (fit_bool b8).1 (fit_bool b8).2 dX11_init_16 hk (fun h7 hk => ?_)
  exact r_vret X E (pc := 19) dX11_init_19 ⟨rfl, hk⟩
theorem s_X11_init {K : KT} {l : Launch} {o : Nat} {κ : AH → Nat → Nat → Prop} {χ : QxT} {h : AH} {n : Nat} {z : Nat} {x1 : Int} {x2 : Int} {x3 : Int} (hk : P_X11_init K o κ χ h n z x1 x2 x3) : Ct K l yX11_init (ws_ yX11_init cX11_init 4 none) 1 60 ([vR (some o), vI x1, vI x2, vI x3].map cV) h n z (QvV κ) χ :=
  ct_of (by decide +kernel) (Nat.le_of_ble_eq_true rfl) (fun Y X E => w_X11_init X E hk)
set_option maxHeartbeats 4000000 in
theorem w_X12_init {K : KT} {Y : YT} {o : Nat} {κ : AH → Nat → Nat → Prop} {χ : QxT} (X : XY K "TrailMarkers$Cell" "<init>" cX12_init none [] 3 1 60 Y) (E : YE K Y (QvV κ) χ) {h : AH} {n : Nat} {z : Nat} {x1 : Int} {x2 : Int} (hk : P_X12_init K o κ χ h n z x1 x2) : G K Y h n z 0 (lv_argsA 0 [vR (some o), vI x1, vI x2]) [] := by
  show G K Y h n z 0 [(0, vR (some o)), (1, vI x1), (2, vI x2)] []
  refine r_aload_n X (pc := 0) dX12_init_0 rfl (q := 0) rfl ?_
  refine r_objinit X (pc := 1) q2185 q203 q204 ⟨by decide, Nat.le_of_ble_eq_true rfl⟩ dX12_init_1 ?_
  refine r_aload_n X (pc := 4) dX12_init_4 rfl (q := 0) rfl ?_
  refine r_iload_n X (pc := 5) dX12_init_5 rfl (q := 1) rfl ?_
  refine r_hPutF X (pc := 6) fp_X12_7 rfl rfl rfl dX12_init_6 hk (fun h3 hk => ?_)
  refine r_aload_n X (pc := 9) dX12_init_9 rfl (q := 0) rfl ?_
  refine r_iload_n X (pc := 10) dX12_init_10 rfl (q := 2) rfl ?_
  refine r_hPutF X (pc := 11) fp_X12_13 rfl rfl rfl dX12_init_11 hk (fun h4 hk => ?_)
  exact r_vret X E (pc := 14) dX12_init_14 ⟨rfl, hk⟩
theorem s_X12_init {K : KT} {l : Launch} {o : Nat} {κ : AH → Nat → Nat → Prop} {χ : QxT} {h : AH} {n : Nat} {z : Nat} {x1 : Int} {x2 : Int} (hk : P_X12_init K o κ χ h n z x1 x2) : Ct K l yX12_init (ws_ yX12_init cX12_init 3 none) 1 60 ([vR (some o), vI x1, vI x2].map cV) h n z (QvV κ) χ :=
  ct_of (by decide +kernel) (Nat.le_of_ble_eq_true rfl) (fun Y X E => w_X12_init X E hk)
set_option maxHeartbeats 4000000 in
theorem w_X12_ofTold {K : KT} {Y : YT} {κ : Option Nat → AH → Nat → Nat → Prop} {χ : QxT} (X : XY K "TrailMarkers$Cell" "ofTold" cX12_ofTold (Option.some (Jvm.ClassFile.FieldType.object "TrailMarkers$Cell")) [] 1 2 82 Y) (E : YE K Y (QvR κ) χ) {h : AH} {n : Nat} {z : Nat} {x0 : Int} (hk : P_X12_ofTold K κ χ h n z x0) : G K Y h n z 0 (lv_argsA 0 [vI x0]) [] := by
  show G K Y h n z 0 [(0, vI x0)] []
  refine r_hNew X (pc := 0) nw_X12_8 dX12_ofTold_0 hk (fun h3 hk => ?_)
  refine r_dup X (pc := 3) dX12_ofTold_3 rfl ?_
  refine r_iload_n X (pc := 4) dX12_ofTold_4 rfl (q := 0) rfl ?_
  refine r_bipush X (pc := 5) dX12_ofTold_5 (by decide) ?_
  obtain ⟨b4, hk⟩ := hk
  refine r_idiv X (pc := 7) dX12_ofTold_7 ⟨⟨b4, (by decide)⟩, (by decide)⟩ ?_
  refine r_iload_n X (pc := 8) dX12_ofTold_8 rfl (q := 0) rfl ?_
  refine r_bipush X (pc := 9) dX12_ofTold_9 (by decide) ?_
  refine r_irem X (pc := 11) dX12_ofTold_11 ⟨⟨b4, (by decide)⟩, (by decide)⟩ ?_
  refine r_callI X (pc := 12) (As := [vI (x0.tdiv 100), vI (x0.tmod 100)]) (st := [vR (some n)]) m_X12_16 (fun _ => s_X12_init hk) ⟨by decide, by decide⟩ (Nat.le_of_ble_eq_true rfl) dX12_ofTold_12 (fun v9 h5 n6 z7 hq => ?_) (fun ci8 q9 h10 n11 z12 hf => ?_)
  · obtain ⟨rfl, hk⟩ := hq
    refine ⟨[], rfl, ?_⟩
    exact r_aret X E (Or.inl ⟨_, rfl⟩) (pc := 15) dX12_ofTold_15 ⟨_, rfl, hk⟩
  · have hk := hf
    exact r_out X E (fun _ h9 => nomatch h9) hk
theorem s_X12_ofTold {K : KT} {l : Launch} {κ : Option Nat → AH → Nat → Nat → Prop} {χ : QxT} {h : AH} {n : Nat} {z : Nat} {x0 : Int} (hk : P_X12_ofTold K κ χ h n z x0) : Ct K l yX12_ofTold (ws_ yX12_ofTold cX12_ofTold 1 (Option.some (Jvm.ClassFile.FieldType.object "TrailMarkers$Cell"))) 2 82 ([vI x0].map cV) h n z (QvR κ) χ :=
  ct_of (by decide +kernel) (Nat.le_of_ble_eq_true rfl) (fun Y X E => w_X12_ofTold X E hk)
set_option maxHeartbeats 4000000 in
theorem w_X11_write {K : KT} {Y : YT} {o : Nat} {κ : AH → Nat → Nat → Prop} {χ : QxT} (X : XY K "TrailMarkers$Leg" "write" cX11_write (Option.none : Option Jvm.ClassFile.FieldType) [] 2 6 174 Y) (E : YE K Y (QvV κ) χ) {h : AH} {n : Nat} {z : Nat} {x1 : Option Nat} (hk : P_X11_write K o κ χ h n z x1) : G K Y h n z 0 (lv_argsA 0 [vR (some o), vR x1]) [] := by
  show G K Y h n z 0 [(0, vR (some o)), (1, vR x1)] []
  refine r_aload_n X (pc := 0) dX11_write_0 rfl (q := 1) rfl ?_
  refine r_aload_n X (pc := 1) dX11_write_1 rfl (q := 0) rfl ?_
  refine r_hGI X (pc := 2) fa_X11_7 dX11_write_2 hk (fun y10 hk => ?_)
  obtain ⟨o60, fs61, e9, b62, hk⟩ := hk
  refine r_callV X (pc := 5) (As := [vI y10]) (st := []) rfl rfl e9 b62 m_X11_20 (fun _ => s_J12_append_2 hk) ⟨by decide, by decide⟩ (Nat.le_of_ble_eq_true rfl) dX11_write_5 (fun v9 h12 n13 z14 hq => ?_) (fun ci55 q56 h57 n58 z59 hf => ?_)
  · obtain ⟨r11, rfl, hk⟩ := hq
    refine ⟨[vR r11], rfl, ?_⟩
    refine r_ldcS X (pc := 8) (j := 15) rfl dX11_write_8 ?_
    refine r_aload_n X (pc := 10) dX11_write_10 rfl (q := 0) rfl ?_
    refine r_hGI X (pc := 11) fa_X11_13 dX11_write_11 hk (fun y15 hk => ?_)
    obtain ⟨o52, fs53, e9, b54, hk⟩ := hk
    refine r_callV X (pc := 14) (As := [vI y15]) (st := [vR r11]) rfl rfl e9 b54 m_X11_28 (fun _ => s_J4_charAt hk) ⟨by decide, by decide⟩ (Nat.le_of_ble_eq_true rfl) dX11_write_14 (fun v9 h17 n18 z19 hq => ?_) (fun ci47 q48 h49 n50 z51 hf => ?_)
    · obtain ⟨r16, rfl, hk⟩ := hq
      refine ⟨[vI r16], rfl, ?_⟩
      obtain ⟨o44, fs45, e9, b46, hk⟩ := hk
      refine r_callV X (pc := 17) (As := [vI r16]) (st := []) rfl rfl e9 b46 m_X11_34 (fun _ => s_J12_append hk) ⟨by decide, by decide⟩ (Nat.le_of_ble_eq_true rfl) dX11_write_17 (fun v9 h21 n22 z23 hq => ?_) (fun ci39 q40 h41 n42 z43 hf => ?_)
      · obtain ⟨r20, rfl, hk⟩ := hq
        refine ⟨[vR r20], rfl, ?_⟩
        refine r_pop X (pc := 20) dX11_write_20 rfl ?_
        refine r_aload_n X (pc := 21) dX11_write_21 rfl (q := 0) rfl ?_
        refine r_hGI X (pc := 22) fa_X11_16 dX11_write_22 hk (fun y24 hk => ?_)
        obtain ⟨b25, hk⟩ := hk
        refine r_if_eq X (pc := 25) (tgt := 35) dX11_write_25 (by decide) b25 (fun c26 => ?_) (fun c26 => ?_)
        · have hk := hk.1 c26
          exact r_vret X E (pc := 35) dX11_write_35 ⟨rfl, hk⟩
        · have hk := hk.2 c26
          refine r_aload_n X (pc := 28) dX11_write_28 rfl (q := 1) rfl ?_
          refine r_bipush X (pc := 29) dX11_write_29 (by decide) ?_
          obtain ⟨o36, fs37, e9, b38, hk⟩ := hk
          refine r_callV X (pc := 31) (As := [vI 120]) (st := []) rfl rfl e9 b38 m_X11_34 (fun _ => s_J12_append hk) ⟨by decide, by decide⟩ (Nat.le_of_ble_eq_true rfl) dX11_write_31 (fun v9 h28 n29 z30 hq => ?_) (fun ci31 q32 h33 n34 z35 hf => ?_)
          · obtain ⟨r27, rfl, hk⟩ := hq
            refine ⟨[vR r27], rfl, ?_⟩
            refine r_pop X (pc := 34) dX11_write_34 rfl ?_
            exact r_vret X E (pc := 35) dX11_write_35 ⟨rfl, hk⟩
          · have hk := hf
            exact r_out X E (fun _ h9 => nomatch h9) hk
      · have hk := hf
        exact r_out X E (fun _ h9 => nomatch h9) hk
    · have hk := hf
      exact r_out X E (fun _ h9 => nomatch h9) hk
  · have hk := hf
    exact r_out X E (fun _ h9 => nomatch h9) hk
theorem s_X11_write {K : KT} {l : Launch} {o : Nat} {κ : AH → Nat → Nat → Prop} {χ : QxT} {h : AH} {n : Nat} {z : Nat} {x1 : Option Nat} (hk : P_X11_write K o κ χ h n z x1) : Ct K l yX11_write (ws_ yX11_write cX11_write 2 (Option.none : Option Jvm.ClassFile.FieldType)) 6 174 ([vR (some o), vR x1].map cV) h n z (QvV κ) χ :=
  ct_of (by decide +kernel) (Nat.le_of_ble_eq_true rfl) (fun Y X E => w_X11_write X E hk)
