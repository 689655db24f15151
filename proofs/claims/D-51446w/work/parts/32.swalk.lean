set_option maxRecDepth 100000
set_option maxHeartbeats 4000000 in
theorem w_J4_coder {K : KT} {Y : YT} {o : Nat} {κ : Int → AH → Nat → Nat → Prop} {χ : QxT} (X : XY K "java/lang/String" "coder" cJ4_coder (Option.some Jvm.ClassFile.FieldType.byte) [] 1 0 0 Y) (E : YE K Y (QvI κ) χ) {h : AH} {n : Nat} {z : Nat} (hk : P_J4_coder K o κ χ h n z) : G K Y h n z 0 (lv_argsA 0 [vR (some o)]) [] := by
  show G K Y h n z 0 [(0, vR (some o))] []
  refine r_gets X (pc := 0) (v := vI 1) (j := 0) rfl rfl q745 dJ4_coder_0 ?_
  refine r_if_eq X (pc := 3) (tgt := 13) dJ4_coder_3 (by decide) (by decide) (fun c5 => ?_) (fun c5 => ?_)
  · exact absurd c5 (by decide)
  · refine r_aload_n X (pc := 6) dJ4_coder_6 rfl (q := 0) rfl ?_
    refine r_hGI X (pc := 7) fa_J4_15 dJ4_coder_7 hk (fun y3 hk => ?_)
    refine r_goto X (pc := 10) (tgt := 14) dJ4_coder_10 (by decide) ?_
    obtain ⟨b4, hk⟩ := hk
    exact r_iret X E (pc := 14) dJ4_coder_14 b4 ⟨_, rfl, hk⟩
theorem s_J4_coder {K : KT} {l : Launch} {o : Nat} {κ : Int → AH → Nat → Nat → Prop} {χ : QxT} {h : AH} {n : Nat} {z : Nat} (hk : P_J4_coder K o κ χ h n z) : Ct K l yJ4_coder (ws_ yJ4_coder cJ4_coder 1 (Option.some Jvm.ClassFile.FieldType.byte)) 0 0 ([vR (some o)].map cV) h n z (QvI κ) χ :=
  ct_of (by decide +kernel) (Nat.le_of_ble_eq_true rfl) (fun Y X E => w_J4_coder X E hk)
set_option maxHeartbeats 4000000 in
theorem w_J4_length {K : KT} {Y : YT} {o : Nat} {κ : Int → AH → Nat → Nat → Prop} {χ : QxT} (X : XY K "java/lang/String" "length" cJ4_length (Option.some Jvm.ClassFile.FieldType.int) [] 1 1 20 Y) (E : YE K Y (QvI κ) χ) {h : AH} {n : Nat} {z : Nat} (hk : P_J4_length K o κ χ h n z) : G K Y h n z 0 (lv_argsA 0 [vR (some o)]) [] := by
  show G K Y h n z 0 [(0, vR (some o))] []
  refine r_aload_n X (pc := 0) dJ4_length_0 rfl (q := 0) rfl ?_
  refine r_hGR X (pc := 1) fa_J4_9 dJ4_length_1 hk (fun y4 hk => ?_)
  refine r_hLen X (pc := 4) (t := 1) rfl dJ4_length_4 hk (fun y5 hk => ?_)
  refine r_aload_n X (pc := 5) dJ4_length_5 rfl (q := 0) rfl ?_
  obtain ⟨o15, fs16, e9, b17, hk⟩ := hk
  refine r_callV X (pc := 6) (As := []) (st := [vI y5]) rfl rfl e9 b17 m_J4_335 (fun _ => s_J4_coder hk) ⟨by decide, by decide⟩ (Nat.le_of_ble_eq_true rfl) dJ4_length_6 (fun v9 h7 n8 z9 hq => ?_) (fun ci10 q11 h12 n13 z14 hf => ?_)
  · obtain ⟨r6, rfl, hk⟩ := hq
    refine ⟨[vI r6], rfl, ?_⟩
    refine r_ishr X (pc := 9) dJ4_length_9 ?_
    exact r_iret X E (pc := 10) dJ4_length_10 rfl ⟨_, rfl, hk⟩
  · have hk := hf
    exact r_out X E (fun _ h9 => nomatch h9) hk
theorem s_J4_length {K : KT} {l : Launch} {o : Nat} {κ : Int → AH → Nat → Nat → Prop} {χ : QxT} {h : AH} {n : Nat} {z : Nat} (hk : P_J4_length K o κ χ h n z) : Ct K l yJ4_length (ws_ yJ4_length cJ4_length 1 (Option.some Jvm.ClassFile.FieldType.int)) 1 20 ([vR (some o)].map cV) h n z (QvI κ) χ :=
  ct_of (by decide +kernel) (Nat.le_of_ble_eq_true rfl) (fun Y X E => w_J4_length X E hk)
set_option maxHeartbeats 4000000 in
theorem w_J4_isLatin1 {K : KT} {Y : YT} {o : Nat} {κ : Int → AH → Nat → Nat → Prop} {χ : QxT} (X : XY K "java/lang/String" "isLatin1" cJ4_isLatin1 (Option.some Jvm.ClassFile.FieldType.boolean) [] 1 0 0 Y) (E : YE K Y (QvI κ) χ) {h : AH} {n : Nat} {z : Nat} (hk : P_J4_isLatin1 K o κ χ h n z) : G K Y h n z 0 (lv_argsA 0 [vR (some o)]) [] := by
  show G K Y h n z 0 [(0, vR (some o))] []
  refine r_gets X (pc := 0) (v := vI 1) (j := 0) rfl rfl q745 dJ4_isLatin1_0 ?_
  refine r_if_eq X (pc := 3) (tgt := 17) dJ4_isLatin1_3 (by decide) (by decide) (fun c8 => ?_) (fun c8 => ?_)
  · exact absurd c8 (by decide)
  · refine r_aload_n X (pc := 6) dJ4_isLatin1_6 rfl (q := 0) rfl ?_
    refine r_hGI X (pc := 7) fa_J4_15 dJ4_isLatin1_7 hk (fun y5 hk => ?_)
    obtain ⟨b6, hk⟩ := hk
    refine r_if_ne X (pc := 10) (tgt := 17) dJ4_isLatin1_10 (by decide) b6 (fun c7 => ?_) (fun c7 => ?_)
    · have hk := hk.2 c7
      refine r_iconst X (pc := 17) dJ4_isLatin1_17 ?_
      exact r_iret X E (pc := 18) dJ4_isLatin1_18 rfl ⟨_, rfl, hk⟩
    · have hk := hk.1 c7
      refine r_iconst X (pc := 13) dJ4_isLatin1_13 ?_
      refine r_goto X (pc := 14) (tgt := 18) dJ4_isLatin1_14 (by decide) ?_
      exact r_iret X E (pc := 18) dJ4_isLatin1_18 rfl ⟨_, rfl, hk⟩
theorem s_J4_isLatin1 {K : KT} {l : Launch} {o : Nat} {κ : Int → AH → Nat → Nat → Prop} {χ : QxT} {h : AH} {n : Nat} {z : Nat} (hk : P_J4_isLatin1 K o κ χ h n z) : Ct K l yJ4_isLatin1 (ws_ yJ4_isLatin1 cJ4_isLatin1 1 (Option.some Jvm.ClassFile.FieldType.boolean)) 0 0 ([vR (some o)].map cV) h n z (QvI κ) χ :=
  ct_of (by decide +kernel) (Nat.le_of_ble_eq_true rfl) (fun Y X E => w_J4_isLatin1 X E hk)
set_option maxHeartbeats 4000000 in
theorem w_J6_checkIndex_9 {K : KT} {Y : YT} {κ : Int → AH → Nat → Nat → Prop} {χ : QxT} (X : XY K "jdk/internal/util/Preconditions" "checkIndex" cJ6_checkIndex (Option.some Jvm.ClassFile.FieldType.int) [] 3 0 0 Y) (E : YE K Y (QvI κ) χ) : ∀ (h : AH) (n : Nat) (z : Nat) (x0 : Int) (x1 : Int) (x2 : Option Nat), P_J6_checkIndex_9 K κ χ h n z x0 x1 x2 → G K Y h n z 9 [(0, vI x0), (1, vI x1), (2, vR x2)] [] := by
  intro h n z x0 x1 x2 hk
  refine r_aload_n X (pc := 9) dJ6_checkIndex_9 rfl (q := 2) rfl ?_
  refine r_iload_n X (pc := 10) dJ6_checkIndex_10 rfl (q := 0) rfl ?_
  refine r_iload_n X (pc := 11) dJ6_checkIndex_11 rfl (q := 1) rfl ?_
  exact hk.elim
set_option maxHeartbeats 4000000 in
theorem w_J6_checkIndex {K : KT} {Y : YT} {κ : Int → AH → Nat → Nat → Prop} {χ : QxT} (X : XY K "jdk/internal/util/Preconditions" "checkIndex" cJ6_checkIndex (Option.some Jvm.ClassFile.FieldType.int) [] 3 0 0 Y) (E : YE K Y (QvI κ) χ) {h : AH} {n : Nat} {z : Nat} {x0 : Int} {x1 : Int} {x2 : Option Nat} (hk : P_J6_checkIndex K κ χ h n z x0 x1 x2) : G K Y h n z 0 (lv_argsA 0 [vI x0, vI x1, vR x2]) [] := by
  show G K Y h n z 0 [(0, vI x0), (1, vI x1), (2, vR x2)] []
  refine r_iload_n X (pc := 0) dJ6_checkIndex_0 rfl (q := 0) rfl ?_
  obtain ⟨b6, hk⟩ := hk
  refine r_if_lt X (pc := 1) (tgt := 9) dJ6_checkIndex_1 (by decide) b6 (fun c7 => ?_) (fun c7 => ?_)
  · have hk := hk.1 c7
    exact w_J6_checkIndex_9 X E h n z x0 x1 x2 hk
  · have hk := hk.2 c7
    refine r_iload_n X (pc := 4) dJ6_checkIndex_4 rfl (q := 0) rfl ?_
    refine r_iload_n X (pc := 5) dJ6_checkIndex_5 rfl (q := 1) rfl ?_
    obtain ⟨b8, hk⟩ := hk
    refine r_icmp_lt X (pc := 6) (tgt := 16) dJ6_checkIndex_6 (by decide) ⟨b6, b8⟩ (fun c9 => ?_) (fun c9 => ?_)
    · have hk := hk.1 c9
      refine r_iload_n X (pc := 16) dJ6_checkIndex_16 rfl (q := 0) rfl ?_
      exact r_iret X E (pc := 17) dJ6_checkIndex_17 rfl ⟨_, rfl, hk⟩
    · have hk := hk.2 c9
      exact w_J6_checkIndex_9 X E h n z x0 x1 x2 hk
theorem s_J6_checkIndex {K : KT} {l : Launch} {κ : Int → AH → Nat → Nat → Prop} {χ : QxT} {h : AH} {n : Nat} {z : Nat} {x0 : Int} {x1 : Int} {x2 : Option Nat} (hk : P_J6_checkIndex K κ χ h n z x0 x1 x2) : Ct K l yJ6_checkIndex (ws_ yJ6_checkIndex cJ6_checkIndex 3 (Option.some Jvm.ClassFile.FieldType.int)) 0 0 ([vI x0, vI x1, vR x2].map cV) h n z (QvI κ) χ :=
  ct_of (by decide +kernel) (Nat.le_of_ble_eq_true rfl) (fun Y X E => w_J6_checkIndex X E hk)
set_option maxHeartbeats 4000000 in
theorem w_J4_checkIndex {K : KT} {Y : YT} {κ : AH → Nat → Nat → Prop} {χ : QxT} (X : XY K "java/lang/String" "checkIndex" cJ4_checkIndex (Option.none : Option Jvm.ClassFile.FieldType) [] 2 1 22 Y) (E : YE K Y (QvV κ) χ) {h : AH} {n : Nat} {z : Nat} {x0 : Int} {x1 : Int} (hk : P_J4_checkIndex K κ χ h n z x0 x1) : G K Y h n z 0 (lv_argsA 0 [vI x0, vI x1]) [] := by
  show G K Y h n z 0 [(0, vI x0), (1, vI x1)] []
  refine r_iload_n X (pc := 0) dJ4_checkIndex_0 rfl (q := 0) rfl ?_
  refine r_iload_n X (pc := 1) dJ4_checkIndex_1 rfl (q := 1) rfl ?_
  refine r_gets X (pc := 2) (v := vR (kr K 2)) (j := 7) rfl rfl q613 dJ4_checkIndex_2 ?_
  refine r_callS X (pc := 5) (As := [vI x0, vI x1, vR (kr K 2)]) (st := []) m_J4_1059 (fun _ => s_J6_checkIndex hk) ⟨by decide, by decide⟩ (Nat.le_of_ble_eq_true rfl) dJ4_checkIndex_5 (fun v9 h3 n4 z5 hq => ?_) (fun ci6 q7 h8 n9 z10 hf => ?_)
  · obtain ⟨r2, rfl, hk⟩ := hq
    refine ⟨[vI r2], rfl, ?_⟩
    refine r_pop X (pc := 8) dJ4_checkIndex_8 rfl ?_
    exact r_vret X E (pc := 9) dJ4_checkIndex_9 ⟨rfl, hk⟩
  · have hk := hf
    exact r_out X E (fun _ h9 => nomatch h9) hk
theorem s_J4_checkIndex {K : KT} {l : Launch} {κ : AH → Nat → Nat → Prop} {χ : QxT} {h : AH} {n : Nat} {z : Nat} {x0 : Int} {x1 : Int} (hk : P_J4_checkIndex K κ χ h n z x0 x1) : Ct K l yJ4_checkIndex (ws_ yJ4_checkIndex cJ4_checkIndex 2 (Option.none : Option Jvm.ClassFile.FieldType)) 1 22 ([vI x0, vI x1].map cV) h n z (QvV κ) χ :=
  ct_of (by decide +kernel) (Nat.le_of_ble_eq_true rfl) (fun Y X E => w_J4_checkIndex X E hk)
set_option maxHeartbeats 4000000 in
theorem w_J5_charAt {K : KT} {Y : YT} {κ : Int → AH → Nat → Nat → Prop} {χ : QxT} (X : XY K "java/lang/StringLatin1" "charAt" cJ5_charAt (Option.some Jvm.ClassFile.FieldType.char) [] 2 2 43 Y) (E : YE K Y (QvI κ) χ) {h : AH} {n : Nat} {z : Nat} {x0 : Option Nat} {x1 : Int} (hk : P_J5_charAt K κ χ h n z x0 x1) : G K Y h n z 0 (lv_argsA 0 [vR x0, vI x1]) [] := by
  show G K Y h n z 0 [(0, vR x0), (1, vI x1)] []
  refine r_iload_n X (pc := 0) dJ5_charAt_0 rfl (q := 1) rfl ?_
  refine r_aload_n X (pc := 1) dJ5_charAt_1 rfl (q := 0) rfl ?_
  refine r_hLen X (pc := 2) (t := 1) rfl dJ5_charAt_2 hk (fun y3 hk => ?_)
  refine r_callS X (pc := 3) (As := [vI x1, vI y3]) (st := []) m_J5_9 (fun _ => s_J4_checkIndex hk) ⟨by decide, by decide⟩ (Nat.le_of_ble_eq_true rfl) dJ5_charAt_3 (fun v9 h4 n5 z6 hq => ?_) (fun ci9 q10 h11 n12 z13 hf => ?_)
  · obtain ⟨rfl, hk⟩ := hq
    refine ⟨[], rfl, ?_⟩
    refine r_aload_n X (pc := 6) dJ5_charAt_6 rfl (q := 0) rfl ?_
    refine r_iload_n X (pc := 7) dJ5_charAt_7 rfl (q := 1) rfl ?_
    refine r_hAB X (pc := 8) dJ5_charAt_8 hk (fun y7 hk => ?_)
    refine r_sipush X (pc := 9) dJ5_charAt_9 (by decide) ?_
    refine r_iand X (pc := 12) dJ5_charAt_12 ?_
    refine r_i2c X (pc := 13) dJ5_charAt_13 ?_
    obtain ⟨b8, hk⟩ := hk
    exact r_iret X E (pc := 14) dJ5_charAt_14 b8 ⟨_, rfl, hk⟩
  · have hk := hf
    exact r_out X E (fun _ h9 => nomatch h9) hk
theorem s_J5_charAt {K : KT} {l : Launch} {κ : Int → AH → Nat → Nat → Prop} {χ : QxT} {h : AH} {n : Nat} {z : Nat} {x0 : Option Nat} {x1 : Int} (hk : P_J5_charAt K κ χ h n z x0 x1) : Ct K l yJ5_charAt (ws_ yJ5_charAt cJ5_charAt 2 (Option.some Jvm.ClassFile.FieldType.char)) 2 43 ([vR x0, vI x1].map cV) h n z (QvI κ) χ :=
  ct_of (by decide +kernel) (Nat.le_of_ble_eq_true rfl) (fun Y X E => w_J5_charAt X E hk)
set_option maxHeartbeats 4000000 in
theorem w_J4_charAt {K : KT} {Y : YT} {o : Nat} {κ : Int → AH → Nat → Nat → Prop} {χ : QxT} (X : XY K "java/lang/String" "charAt" cJ4_charAt (Option.some Jvm.ClassFile.FieldType.char) [] 2 3 64 Y) (E : YE K Y (QvI κ) χ) {h : AH} {n : Nat} {z : Nat} {x1 : Int} (hk : P_J4_charAt K o κ χ h n z x1) : G K Y h n z 0 (lv_argsA 0 [vR (some o), vI x1]) [] := by
  show G K Y h n z 0 [(0, vR (some o)), (1, vI x1)] []
  refine r_aload_n X (pc := 0) dJ4_charAt_0 rfl (q := 0) rfl ?_
  obtain ⟨o32, fs33, e9, b34, hk⟩ := hk
  refine r_callV X (pc := 1) (As := []) (st := []) rfl rfl e9 b34 m_J4_492 (fun _ => s_J4_isLatin1 hk) ⟨by decide, by decide⟩ (Nat.le_of_ble_eq_true rfl) dJ4_charAt_1 (fun v9 h9 n10 z11 hq => ?_) (fun ci27 q28 h29 n30 z31 hf => ?_)
  · obtain ⟨r8, rfl, hk⟩ := hq
    refine ⟨[vI r8], rfl, ?_⟩
    obtain ⟨b12, hk⟩ := hk
    refine r_if_eq X (pc := 4) (tgt := 16) dJ4_charAt_4 (by decide) b12 (fun c13 => ?_) (fun c13 => ?_)
    · have hk := hk.1 c13
      refine r_aload_n X (pc := 16) dJ4_charAt_16 rfl (q := 0) rfl ?_
      refine r_hGR X (pc := 17) fa_J4_9 dJ4_charAt_17 hk (fun y14 hk => ?_)
      refine r_iload_n X (pc := 20) dJ4_charAt_20 rfl (q := 1) rfl ?_
      exact hk.elim
    · have hk := hk.2 c13
      refine r_aload_n X (pc := 7) dJ4_charAt_7 rfl (q := 0) rfl ?_
      refine r_hGR X (pc := 8) fa_J4_9 dJ4_charAt_8 hk (fun y16 hk => ?_)
      refine r_iload_n X (pc := 11) dJ4_charAt_11 rfl (q := 1) rfl ?_
      refine r_callS X (pc := 12) (As := [vR y16, vI x1]) (st := []) m_J4_495 (fun _ => s_J5_charAt hk) ⟨by decide, by decide⟩ (Nat.le_of_ble_eq_true rfl) dJ4_charAt_12 (fun v9 h18 n19 z20 hq => ?_) (fun ci22 q23 h24 n25 z26 hf => ?_)
      · obtain ⟨r17, rfl, hk⟩ := hq
        refine ⟨[vI r17], rfl, ?_⟩
        obtain ⟨b21, hk⟩ := hk
        exact r_iret X E (pc := 15) dJ4_charAt_15 b21 ⟨_, rfl, hk⟩
      · have hk := hf
        exact r_out X E (fun _ h9 => nomatch h9) hk
  · have hk := hf
    exact r_out X E (fun _ h9 => nomatch h9) hk
theorem s_J4_charAt {K : KT} {l : Launch} {o : Nat} {κ : Int → AH → Nat → Nat → Prop} {χ : QxT} {h : AH} {n : Nat} {z : Nat} {x1 : Int} (hk : P_J4_charAt K o κ χ h n z x1) : Ct K l yJ4_charAt (ws_ yJ4_charAt cJ4_charAt 2 (Option.some Jvm.ClassFile.FieldType.char)) 3 64 ([vR (some o), vI x1].map cV) h n z (QvI κ) χ :=
  ct_of (by decide +kernel) (Nat.le_of_ble_eq_true rfl) (fun Y X E => w_J4_charAt X E hk)
