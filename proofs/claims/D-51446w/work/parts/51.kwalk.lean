set_option maxRecDepth 100000
set_option maxHeartbeats 4000000 in
theorem w_X1_stepX {K : KT} {Y : YT} {Qx : QxT} {h : AH} {n z : Nat} {κ : Int → Prop} (X : XY K "TrailMarkers" "stepX" cX1_stepX (Option.some Jvm.ClassFile.FieldType.int) [] 1 0 0 Y) (E : YE K Y (pQ h n z κ) Qx) {x0 : Int} (hk : P_X1_stepX κ x0) : G K Y h n z 0 (lv_argsA 0 [vI x0]) [] := by
  show G K Y h n z 0 [(0, vI x0)] []
  refine r_iload_n X (pc := 0) dX1_stepX_0 rfl (q := 0) rfl ?_
  refine r_iconst X (pc := 1) dX1_stepX_1 ?_
  obtain ⟨b5, hk⟩ := hk
  refine r_icmp_ne X (pc := 2) (tgt := 9) dX1_stepX_2 (by decide) ⟨b5, (by decide)⟩ (fun c6 => ?_) (fun c6 => ?_)
  · have hk := hk.2 c6
    refine r_iload_n X (pc := 9) dX1_stepX_9 rfl (q := 0) rfl ?_
    refine r_iconst X (pc := 10) dX1_stepX_10 ?_
    refine r_icmp_ne X (pc := 11) (tgt := 18) dX1_stepX_11 (by decide) ⟨b5, (by decide)⟩ (fun c7 => ?_) (fun c7 => ?_)
    · have hk := hk.2 c7
      refine r_iconst X (pc := 18) dX1_stepX_18 ?_
      exact r_iret X E (pc := 19) dX1_stepX_19 rfl ⟨_, rfl, rfl, rfl, rfl, hk⟩
    · have hk := hk.1 c7
      refine r_iconst X (pc := 14) dX1_stepX_14 ?_
      refine r_goto X (pc := 15) (tgt := 19) dX1_stepX_15 (by decide) ?_
      exact r_iret X E (pc := 19) dX1_stepX_19 rfl ⟨_, rfl, rfl, rfl, rfl, hk⟩
  · have hk := hk.1 c6
    refine r_iconst X (pc := 5) dX1_stepX_5 ?_
    refine r_goto X (pc := 6) (tgt := 19) dX1_stepX_6 (by decide) ?_
    exact r_iret X E (pc := 19) dX1_stepX_19 rfl ⟨_, rfl, rfl, rfl, rfl, hk⟩
theorem s_X1_stepX {K : KT} {l : Launch} {n z : Nat} {h : AH} {κ : Int → Prop} {x0 : Int} (hk : P_X1_stepX κ x0) : Ct K l yX1_stepX (ws_ yX1_stepX cX1_stepX 1 (Option.some Jvm.ClassFile.FieldType.int)) 0 0 ([vI x0].map cV) h n z (pQ h n z κ) noX :=
  ct_of (by decide +kernel) (Nat.le_of_ble_eq_true rfl) (fun Y X E => w_X1_stepX X E hk)
set_option maxHeartbeats 4000000 in
theorem w_X1_stepY {K : KT} {Y : YT} {Qx : QxT} {h : AH} {n z : Nat} {κ : Int → Prop} (X : XY K "TrailMarkers" "stepY" cX1_stepY (Option.some Jvm.ClassFile.FieldType.int) [] 1 0 0 Y) (E : YE K Y (pQ h n z κ) Qx) {x0 : Int} (hk : P_X1_stepY κ x0) : G K Y h n z 0 (lv_argsA 0 [vI x0]) [] := by
  show G K Y h n z 0 [(0, vI x0)] []
  refine r_iload_n X (pc := 0) dX1_stepY_0 rfl (q := 0) rfl ?_
  refine r_iconst X (pc := 1) dX1_stepY_1 ?_
  obtain ⟨b5, hk⟩ := hk
  refine r_icmp_ne X (pc := 2) (tgt := 9) dX1_stepY_2 (by decide) ⟨b5, (by decide)⟩ (fun c6 => ?_) (fun c6 => ?_)
  · have hk := hk.2 c6
    refine r_iload_n X (pc := 9) dX1_stepY_9 rfl (q := 0) rfl ?_
    refine r_if_ne X (pc := 10) (tgt := 17) dX1_stepY_10 (by decide) b5 (fun c7 => ?_) (fun c7 => ?_)
    · have hk := hk.2 c7
      refine r_iconst X (pc := 17) dX1_stepY_17 ?_
      exact r_iret X E (pc := 18) dX1_stepY_18 rfl ⟨_, rfl, rfl, rfl, rfl, hk⟩
    · have hk := hk.1 c7
      refine r_iconst X (pc := 13) dX1_stepY_13 ?_
      refine r_goto X (pc := 14) (tgt := 18) dX1_stepY_14 (by decide) ?_
      exact r_iret X E (pc := 18) dX1_stepY_18 rfl ⟨_, rfl, rfl, rfl, rfl, hk⟩
  · have hk := hk.1 c6
    refine r_iconst X (pc := 5) dX1_stepY_5 ?_
    refine r_goto X (pc := 6) (tgt := 18) dX1_stepY_6 (by decide) ?_
    exact r_iret X E (pc := 18) dX1_stepY_18 rfl ⟨_, rfl, rfl, rfl, rfl, hk⟩
theorem s_X1_stepY {K : KT} {l : Launch} {n z : Nat} {h : AH} {κ : Int → Prop} {x0 : Int} (hk : P_X1_stepY κ x0) : Ct K l yX1_stepY (ws_ yX1_stepY cX1_stepY 1 (Option.some Jvm.ClassFile.FieldType.int)) 0 0 ([vI x0].map cV) h n z (pQ h n z κ) noX :=
  ct_of (by decide +kernel) (Nat.le_of_ble_eq_true rfl) (fun Y X E => w_X1_stepY X E hk)
set_option maxHeartbeats 4000000 in
theorem w_X10_init {K : KT} {Y : YT} {o : Nat} {κ : AH → Nat → Nat → Prop} {χ : QxT} (X : XY K "TrailMarkers$Walk" "<init>" cX10_init none [] 2 1 60 Y) (E : YE K Y (QvV κ) χ) {h : AH} {n : Nat} {z : Nat} {x1 : Option Nat} (hk : P_X10_init K o κ χ h n z x1) : G K Y h n z 0 (lv_argsA 0 [vR (some o), vR x1]) [] := by
  show G K Y h n z 0 [(0, vR (some o)), (1, vR x1)] []
  refine r_aload_n X (pc := 0) dX10_init_0 rfl (q := 0) rfl ?_
  refine r_objinit X (pc := 1) q1178 q203 q204 ⟨by decide, Nat.le_of_ble_eq_true rfl⟩ dX10_init_1 ?_
  refine r_aload_n X (pc := 4) dX10_init_4 rfl (q := 0) rfl ?_
  refine r_aload_n X (pc := 5) dX10_init_5 rfl (q := 1) rfl ?_
  refine r_hPutF X (pc := 6) fp_X10_9 rfl (fit_ref x1).1 (fit_ref x1).2 dX10_init_6 hk (fun h2 hk => ?_)
  exact r_vret X E (pc := 9) dX10_init_9 ⟨rfl, hk⟩
theorem s_X10_init {K : KT} {l : Launch} {o : Nat} {κ : AH → Nat → Nat → Prop} {χ : QxT} {h : AH} {n : Nat} {z : Nat} {x1 : Option Nat} (hk : P_X10_init K o κ χ h n z x1) : Ct K l yX10_init (ws_ yX10_init cX10_init 2 none) 1 60 ([vR (some o), vR x1].map cV) h n z (QvV κ) χ :=
  ct_of (by decide +kernel) (Nat.le_of_ble_eq_true rfl) (fun Y X E => w_X10_init X E hk)
set_option maxHeartbeats 4000000 in
theorem w_X2_isBlock {K : KT} {Y : YT} {o : Nat} {κ : Int → AH → Nat → Nat → Prop} {χ : QxT} (X : XY K "TrailMarkers$Trails" "isBlock" cX2_isBlock (Option.some Jvm.ClassFile.FieldType.boolean) [] 3 0 0 Y) (E : YE K Y (QvI κ) χ) {h : AH} {n : Nat} {z : Nat} {x1 : Int} {x2 : Int} (hk : P_X2_isBlock K o κ χ h n z x1 x2) : G K Y h n z 0 (lv_argsA 0 [vR (some o), vI x1, vI x2]) [] := by
  show G K Y h n z 0 [(0, vR (some o)), (1, vI x1), (2, vI x2)] []
  refine r_aload_n X (pc := 0) dX2_isBlock_0 rfl (q := 0) rfl ?_
  refine r_hGR X (pc := 1) fa_X2_17 dX2_isBlock_1 hk (fun y5 hk => ?_)
  refine r_bipush X (pc := 4) dX2_isBlock_4 (by decide) ?_
  refine r_iload_n X (pc := 6) dX2_isBlock_6 rfl (q := 2) rfl ?_
  refine r_imul X (pc := 7) dX2_isBlock_7 ?_
  refine r_iload_n X (pc := 8) dX2_isBlock_8 rfl (q := 1) rfl ?_
  refine r_iadd X (pc := 9) dX2_isBlock_9 ?_
  refine r_hAB X (pc := 10) dX2_isBlock_10 hk (fun y6 hk => ?_)
  obtain ⟨b7, hk⟩ := hk
  refine r_if_ge X (pc := 11) (tgt := 18) dX2_isBlock_11 (by decide) b7 (fun c8 => ?_) (fun c8 => ?_)
  · have hk := hk.2 c8
    refine r_iconst X (pc := 18) dX2_isBlock_18 ?_
    exact r_iret X E (pc := 19) dX2_isBlock_19 rfl ⟨_, rfl, hk⟩
  · have hk := hk.1 c8
    refine r_iconst X (pc := 14) dX2_isBlock_14 ?_
    refine r_goto X (pc := 15) (tgt := 19) dX2_isBlock_15 (by decide) ?_
    exact r_iret X E (pc := 19) dX2_isBlock_19 rfl ⟨_, rfl, hk⟩
theorem s_X2_isBlock {K : KT} {l : Launch} {o : Nat} {κ : Int → AH → Nat → Nat → Prop} {χ : QxT} {h : AH} {n : Nat} {z : Nat} {x1 : Int} {x2 : Int} (hk : P_X2_isBlock K o κ χ h n z x1 x2) : Ct K l yX2_isBlock (ws_ yX2_isBlock cX2_isBlock 3 (Option.some Jvm.ClassFile.FieldType.boolean)) 0 0 ([vR (some o), vI x1, vI x2].map cV) h n z (QvI κ) χ :=
  ct_of (by decide +kernel) (Nat.le_of_ble_eq_true rfl) (fun Y X E => w_X2_isBlock X E hk)
set_option maxHeartbeats 4000000 in
theorem w_X2_isOnMap {K : KT} {Y : YT} {o : Nat} {κ : Int → AH → Nat → Nat → Prop} {χ : QxT} (X : XY K "TrailMarkers$Trails" "isOnMap" cX2_isOnMap (Option.some Jvm.ClassFile.FieldType.boolean) [] 3 0 0 Y) (E : YE K Y (QvI κ) χ) {h : AH} {n : Nat} {z : Nat} {x1 : Int} {x2 : Int} (hk : P_X2_isOnMap K o κ χ h n z x1 x2) : G K Y h n z 0 (lv_argsA 0 [vR (some o), vI x1, vI x2]) [] := by
  show G K Y h n z 0 [(0, vR (some o)), (1, vI x1), (2, vI x2)] []
  refine r_iload_n X (pc := 0) dX2_isOnMap_0 rfl (q := 1) rfl ?_
  obtain ⟨b13, hk⟩ := hk
  refine r_if_lt X (pc := 1) (tgt := 28) dX2_isOnMap_1 (by decide) b13 (fun c14 => ?_) (fun c14 => ?_)
  · have hk := hk.1 c14
    refine r_iconst X (pc := 28) dX2_isOnMap_28 ?_
    exact r_iret X E (pc := 29) dX2_isOnMap_29 rfl ⟨_, rfl, hk⟩
  · have hk := hk.2 c14
    refine r_iload_n X (pc := 4) dX2_isOnMap_4 rfl (q := 1) rfl ?_
    refine r_aload_n X (pc := 5) dX2_isOnMap_5 rfl (q := 0) rfl ?_
    refine r_hGI X (pc := 6) fa_X2_25 dX2_isOnMap_6 hk (fun y15 hk => ?_)
    obtain ⟨b16, hk⟩ := hk
    refine r_icmp_ge X (pc := 9) (tgt := 28) dX2_isOnMap_9 (by decide) ⟨b13, b16⟩ (fun c17 => ?_) (fun c17 => ?_)
    · have hk := hk.2 c17
      refine r_iconst X (pc := 28) dX2_isOnMap_28 ?_
      exact r_iret X E (pc := 29) dX2_isOnMap_29 rfl ⟨_, rfl, hk⟩
    · have hk := hk.1 c17
      refine r_iload_n X (pc := 12) dX2_isOnMap_12 rfl (q := 2) rfl ?_
      obtain ⟨b18, hk⟩ := hk
      refine r_if_lt X (pc := 13) (tgt := 28) dX2_isOnMap_13 (by decide) b18 (fun c19 => ?_) (fun c19 => ?_)
      · have hk := hk.1 c19
        refine r_iconst X (pc := 28) dX2_isOnMap_28 ?_
        exact r_iret X E (pc := 29) dX2_isOnMap_29 rfl ⟨_, rfl, hk⟩
      · have hk := hk.2 c19
        refine r_iload_n X (pc := 16) dX2_isOnMap_16 rfl (q := 2) rfl ?_
        refine r_aload_n X (pc := 17) dX2_isOnMap_17 rfl (q := 0) rfl ?_
        refine r_hGI X (pc := 18) fa_X2_29 dX2_isOnMap_18 hk (fun y20 hk => ?_)
        obtain ⟨b21, hk⟩ := hk
        refine r_icmp_ge X (pc := 21) (tgt := 28) dX2_isOnMap_21 (by decide) ⟨b18, b21⟩ (fun c22 => ?_) (fun c22 => ?_)
        · have hk := hk.2 c22
          refine r_iconst X (pc := 28) dX2_isOnMap_28 ?_
          exact r_iret X E (pc := 29) dX2_isOnMap_29 rfl ⟨_, rfl, hk⟩
        · have hk := hk.1 c22
          refine r_iconst X (pc := 24) dX2_isOnMap_24 ?_
          refine r_goto X (pc := 25) (tgt := 29) dX2_isOnMap_25 (by decide) ?_
          exact r_iret X E (pc := 29) dX2_isOnMap_29 rfl ⟨_, rfl, hk⟩
theorem s_X2_isOnMap {K : KT} {l : Launch} {o : Nat} {κ : Int → AH → Nat → Nat → Prop} {χ : QxT} {h : AH} {n : Nat} {z : Nat} {x1 : Int} {x2 : Int} (hk : P_X2_isOnMap K o κ χ h n z x1 x2) : Ct K l yX2_isOnMap (ws_ yX2_isOnMap cX2_isOnMap 3 (Option.some Jvm.ClassFile.FieldType.boolean)) 0 0 ([vR (some o), vI x1, vI x2].map cV) h n z (QvI κ) χ :=
  ct_of (by decide +kernel) (Nat.le_of_ble_eq_true rfl) (fun Y X E => w_X2_isOnMap X E hk)
set_option maxHeartbeats 4000000 in
theorem w_X2_postAt {K : KT} {Y : YT} {o : Nat} {κ : Int → AH → Nat → Nat → Prop} {χ : QxT} (X : XY K "TrailMarkers$Trails" "postAt" cX2_postAt (Option.some Jvm.ClassFile.FieldType.int) [] 3 0 0 Y) (E : YE K Y (QvI κ) χ) {h : AH} {n : Nat} {z : Nat} {x1 : Int} {x2 : Int} (hk : P_X2_postAt K o κ χ h n z x1 x2) : G K Y h n z 0 (lv_argsA 0 [vR (some o), vI x1, vI x2]) [] := by
  show G K Y h n z 0 [(0, vR (some o)), (1, vI x1), (2, vI x2)] []
  refine r_aload_n X (pc := 0) dX2_postAt_0 rfl (q := 0) rfl ?_
  refine r_hGR X (pc := 1) fa_X2_17 dX2_postAt_1 hk (fun y7 hk => ?_)
  refine r_bipush X (pc := 4) dX2_postAt_4 (by decide) ?_
  refine r_iload_n X (pc := 6) dX2_postAt_6 rfl (q := 2) rfl ?_
  refine r_imul X (pc := 7) dX2_postAt_7 ?_
  refine r_iload_n X (pc := 8) dX2_postAt_8 rfl (q := 1) rfl ?_
  refine r_iadd X (pc := 9) dX2_postAt_9 ?_
  refine r_hAB X (pc := 10) dX2_postAt_10 hk (fun y8 hk => ?_)
  obtain ⟨b9, hk⟩ := hk
  refine r_if_gt X (pc := 11) (tgt := 18) dX2_postAt_11 (by decide) b9 (fun c10 => ?_) (fun c10 => ?_)
  · have hk := hk.1 c10
    refine r_aload_n X (pc := 18) dX2_postAt_18 rfl (q := 0) rfl ?_
    refine r_hGR X (pc := 19) fa_X2_17 dX2_postAt_19 hk (fun y11 hk => ?_)
    refine r_bipush X (pc := 22) dX2_postAt_22 (by decide) ?_
    refine r_iload_n X (pc := 24) dX2_postAt_24 rfl (q := 2) rfl ?_
    refine r_imul X (pc := 25) dX2_postAt_25 ?_
    refine r_iload_n X (pc := 26) dX2_postAt_26 rfl (q := 1) rfl ?_
    refine r_iadd X (pc := 27) dX2_postAt_27 ?_
    refine r_hAB X (pc := 28) dX2_postAt_28 hk (fun y12 hk => ?_)
    refine r_iconst X (pc := 29) dX2_postAt_29 ?_
    refine r_isub X (pc := 30) dX2_postAt_30 ?_
    exact r_iret X E (pc := 31) dX2_postAt_31 rfl ⟨_, rfl, hk⟩
  · have hk := hk.2 c10
    refine r_iconst X (pc := 14) dX2_postAt_14 ?_
    refine r_goto X (pc := 15) (tgt := 31) dX2_postAt_15 (by decide) ?_
    exact r_iret X E (pc := 31) dX2_postAt_31 rfl ⟨_, rfl, hk⟩
theorem s_X2_postAt {K : KT} {l : Launch} {o : Nat} {κ : Int → AH → Nat → Nat → Prop} {χ : QxT} {h : AH} {n : Nat} {z : Nat} {x1 : Int} {x2 : Int} (hk : P_X2_postAt K o κ χ h n z x1 x2) : Ct K l yX2_postAt (ws_ yX2_postAt cX2_postAt 3 (Option.some Jvm.ClassFile.FieldType.int)) 0 0 ([vR (some o), vI x1, vI x2].map cV) h n z (QvI κ) χ :=
  ct_of (by decide +kernel) (Nat.le_of_ble_eq_true rfl) (fun Y X E => w_X2_postAt X E hk)
set_option maxHeartbeats 4000000 in
theorem w_X3_standsFor {K : KT} {Y : YT} {o : Nat} {κ : Int → AH → Nat → Nat → Prop} {χ : QxT} (X : XY K "TrailMarkers$Post" "standsFor" cX3_standsFor (Option.some Jvm.ClassFile.FieldType.boolean) [] 2 0 0 Y) (E : YE K Y (QvI κ) χ) {h : AH} {n : Nat} {z : Nat} {x1 : Int} (hk : P_X3_standsFor K o κ χ h n z x1) : G K Y h n z 0 (lv_argsA 0 [vR (some o), vI x1]) [] := by
  show G K Y h n z 0 [(0, vR (some o)), (1, vI x1)] []
  refine r_aload_n X (pc := 0) dX3_standsFor_0 rfl (q := 0) rfl ?_
  refine r_hGI X (pc := 1) fa_X3_22 dX3_standsFor_1 hk (fun y8 hk => ?_)
  obtain ⟨b9, hk⟩ := hk
  refine r_if_ne X (pc := 4) (tgt := 19) dX3_standsFor_4 (by decide) b9 (fun c10 => ?_) (fun c10 => ?_)
  · have hk := hk.2 c10
    refine r_iconst X (pc := 19) dX3_standsFor_19 ?_
    exact r_iret X E (pc := 20) dX3_standsFor_20 rfl ⟨_, rfl, hk⟩
  · have hk := hk.1 c10
    refine r_aload_n X (pc := 7) dX3_standsFor_7 rfl (q := 0) rfl ?_
    refine r_hGI X (pc := 8) fa_X3_16 dX3_standsFor_8 hk (fun y11 hk => ?_)
    refine r_iload_n X (pc := 11) dX3_standsFor_11 rfl (q := 1) rfl ?_
    obtain ⟨b12, b13, hk⟩ := hk
    refine r_icmp_ne X (pc := 12) (tgt := 19) dX3_standsFor_12 (by decide) ⟨b12, b13⟩ (fun c14 => ?_) (fun c14 => ?_)
    · have hk := hk.2 c14
      refine r_iconst X (pc := 19) dX3_standsFor_19 ?_
      exact r_iret X E (pc := 20) dX3_standsFor_20 rfl ⟨_, rfl, hk⟩
    · have hk := hk.1 c14
      refine r_iconst X (pc := 15) dX3_standsFor_15 ?_
      refine r_goto X (pc := 16) (tgt := 20) dX3_standsFor_16 (by decide) ?_
      exact r_iret X E (pc := 20) dX3_standsFor_20 rfl ⟨_, rfl, hk⟩
theorem s_X3_standsFor {K : KT} {l : Launch} {o : Nat} {κ : Int → AH → Nat → Nat → Prop} {χ : QxT} {h : AH} {n : Nat} {z : Nat} {x1 : Int} (hk : P_X3_standsFor K o κ χ h n z x1) : Ct K l yX3_standsFor (ws_ yX3_standsFor cX3_standsFor 2 (Option.some Jvm.ClassFile.FieldType.boolean)) 0 0 ([vR (some o), vI x1].map cV) h n z (QvI κ) χ :=
  ct_of (by decide +kernel) (Nat.le_of_ble_eq_true rfl) (fun Y X E => w_X3_standsFor X E hk)
set_option maxHeartbeats 4000000 in
theorem w_X10_go_25 {K : KT} {Y : YT} {o : Nat} {κ : Option Nat → AH → Nat → Nat → Prop} {χ : QxT} (X : XY K "TrailMarkers$Walk" "go" cX10_go (Option.some (Jvm.ClassFile.FieldType.object "TrailMarkers$Walk")) [] 9 1 22 Y) (E : YE K Y (QvR κ) χ) {k_209 : AH → Nat → Nat → Prop} (H_209 : ∀ (h : AH) (n : Nat) (z : Nat), k_209 h n z → G K Y h n z 209 [(0, vR (some o))] []) : ∀ (f : Nat) (h : AH) (n : Nat) (z : Nat) (x3 : Int) (x4 : Int) (x5 : Int), L_X10_go_25 K o k_209 κ χ f h n z x3 x4 x5 → G K Y h n z 25 [(0, vR (some o)), (3, vI x3), (4, vI x4), (5, vI x5)] [] := by
  intro f
  induction f with
  | zero => intro h n z x3 x4 x5 hk; exact hk.elim
  | succ f ih =>
    intro h n z x3 x4 x5 hk
    refine r_aload_n X (pc := 25) dX10_go_25 rfl (q := 0) rfl ?_
    refine r_hGI X (pc := 26) fa_X10_28 dX10_go_26 hk (fun y54 hk => ?_)
    obtain ⟨b55, hk⟩ := hk
    refine r_if_ne X (pc := 29) (tgt := 209) dX10_go_29 (by decide) b55 (fun c56 => ?_) (fun c56 => ?_)
    · have hk := hk.2 c56
      refine G.sub [0] rfl ?_
      exact H_209 h n z hk
    · have hk := hk.1 c56
      refine r_aload_n X (pc := 32) dX10_go_32 rfl (q := 0) rfl ?_
      refine r_hGI X (pc := 33) fa_X10_25 dX10_go_33 hk (fun y57 hk => ?_)
      refine r_iconst X (pc := 36) dX10_go_36 ?_
      obtain ⟨b58, hk⟩ := hk
      refine r_icmp_ne X (pc := 37) (tgt := 209) dX10_go_37 (by decide) ⟨b58, (by decide)⟩ (fun c59 => ?_) (fun c59 => ?_)
      · have hk := hk.2 c59
        refine G.sub [0] rfl ?_
        exact H_209 h n z hk
      · have hk := hk.1 c59
        refine r_aload_n X (pc := 40) dX10_go_40 rfl (q := 0) rfl ?_
        refine r_hGI X (pc := 41) fa_X10_15 dX10_go_41 hk (fun y60 hk => ?_)
        refine r_iload_n X (pc := 44) dX10_go_44 rfl (q := 1) rfl ?_
        refine r_callSN X (pc := 45) (As := [vI x3]) (st := [vI y60]) m_X10_31 (fun _ => s_X1_stepX hk) ⟨by decide, by decide⟩ (Nat.le_of_ble_eq_true rfl) dX10_go_45 (fun v9 h9 n9 z9 hq => ?_) (fun ci9 q9 h9 n9 z9 hf => ?_)
        · obtain ⟨r61, rfl, rfl, rfl, rfl, hk⟩ := hq
          refine ⟨[vI r61], rfl, ?_⟩
          refine r_iadd X (pc := 48) dX10_go_48 ?_
          refine r_istore X (pc := 49) (lv1 := [(6, vI (y60 + r61)), (0, vR (some o)), (3, vI x3), (4, vI x4), (5, vI x5)]) dX10_go_49 (by decide) rfl ?_
          refine r_aload_n X (pc := 51) dX10_go_51 rfl (q := 1) rfl ?_
          refine r_hGI X (pc := 52) fa_X10_19 dX10_go_52 hk (fun y62 hk => ?_)
          refine r_iload_n X (pc := 55) dX10_go_55 rfl (q := 2) rfl ?_
          refine r_callSN X (pc := 56) (As := [vI x3]) (st := [vI y62]) m_X10_35 (fun _ => s_X1_stepY hk) ⟨by decide, by decide⟩ (Nat.le_of_ble_eq_true rfl) dX10_go_56 (fun v9 h9 n9 z9 hq => ?_) (fun ci9 q9 h9 n9 z9 hf => ?_)
          · obtain ⟨r63, rfl, rfl, rfl, rfl, hk⟩ := hq
            refine ⟨[vI r63], rfl, ?_⟩
            refine r_iadd X (pc := 59) dX10_go_59 ?_
            refine r_istore X (pc := 60) (lv1 := [(7, vI (y62 + r63)), (6, vI (y60 + r61)), (0, vR (some o)), (3, vI x3), (4, vI x4), (5, vI x5)]) dX10_go_60 (by decide) rfl ?_
            refine r_aload_n X (pc := 62) dX10_go_62 rfl (q := 2) rfl ?_
            refine r_hGR X (pc := 63) fa_X10_9 dX10_go_63 hk (fun y64 hk => ?_)
            refine r_iload X (pc := 66) dX10_go_66 (q := 1) rfl ?_
            refine r_iload X (pc := 68) dX10_go_68 (q := 0) rfl ?_
            obtain ⟨o142, fs143, e9, b144, hk⟩ := hk
            refine r_callV X (pc := 70) (As := [vI (y60 + r61), vI (y62 + r63)]) (st := []) rfl rfl e9 b144 m_X10_38 (fun _ => s_X2_isOnMap hk) ⟨by decide, by decide⟩ (Nat.le_of_ble_eq_true rfl) dX10_go_70 (fun v9 h66 n67 z68 hq => ?_) (fun ci137 q138 h139 n140 z141 hf => ?_)
            · obtain ⟨r65, rfl, hk⟩ := hq
              refine ⟨[vI r65], rfl, ?_⟩
              obtain ⟨b69, hk⟩ := hk
              refine r_if_ne X (pc := 73) (tgt := 84) dX10_go_73 (by decide) b69 (fun c70 => ?_) (fun c70 => ?_)
              · have hk := hk.2 c70
                refine r_aload_n X (pc := 84) dX10_go_84 rfl (q := 2) rfl ?_
                refine r_hGR X (pc := 85) fa_X10_9 dX10_go_85 hk (fun y71 hk => ?_)
                refine r_iload X (pc := 88) dX10_go_88 (q := 1) rfl ?_
                refine r_iload X (pc := 90) dX10_go_90 (q := 0) rfl ?_
                obtain ⟨o133, fs134, e9, b135, hk⟩ := hk
                refine r_callV X (pc := 92) (As := [vI (y60 + r61), vI (y62 + r63)]) (st := []) rfl rfl e9 b135 m_X10_44 (fun _ => s_X2_isBlock hk) ⟨by decide, by decide⟩ (Nat.le_of_ble_eq_true rfl) dX10_go_92 (fun v9 h73 n74 z75 hq => ?_) (fun ci128 q129 h130 n131 z132 hf => ?_)
                · obtain ⟨r72, rfl, hk⟩ := hq
                  refine ⟨[vI r72], rfl, ?_⟩
                  obtain ⟨b76, hk⟩ := hk
                  refine r_if_eq X (pc := 95) (tgt := 106) dX10_go_95 (by decide) b76 (fun c77 => ?_) (fun c77 => ?_)
                  · have hk := hk.1 c77
                    refine r_aload_n X (pc := 106) dX10_go_106 rfl (q := 2) rfl ?_
                    refine r_hGI X (pc := 107) fa_X10_22 dX10_go_107 hk (fun y78 hk => ?_)
                    refine r_aload_n X (pc := 110) dX10_go_110 rfl (q := 2) rfl ?_
                    refine r_hGR X (pc := 111) fa_X10_9 dX10_go_111 hk (fun y79 hk => ?_)
                    refine r_hGR X (pc := 114) fa_X10_47_X2 dX10_go_114 hk (fun y80 hk => ?_)
                    refine r_iconst X (pc := 117) dX10_go_117 ?_
                    refine r_hAI X (pc := 118) dX10_go_118 hk (fun y81 hk => ?_)
                    obtain ⟨b82, b83, hk⟩ := hk
                    refine r_icmp_ne X (pc := 119) (tgt := 130) dX10_go_119 (by decide) ⟨b82, b83⟩ (fun c84 => ?_) (fun c84 => ?_)
                    · have hk := hk.2 c84
                      refine r_aload_n X (pc := 130) dX10_go_130 rfl (q := 2) rfl ?_
                      refine r_iload X (pc := 131) dX10_go_131 (q := 1) rfl ?_
                      refine r_hPut X (pc := 133) fp_X10_15 rfl rfl dX10_go_133 hk (fun h85 hk => ?_)
                      refine r_aload_n X (pc := 136) dX10_go_136 rfl (q := 2) rfl ?_
                      refine r_iload X (pc := 137) dX10_go_137 (q := 0) rfl ?_
                      refine r_hPut X (pc := 139) fp_X10_19 rfl rfl dX10_go_139 hk (fun h86 hk => ?_)
                      refine r_aload_n X (pc := 142) dX10_go_142 rfl (q := 2) rfl ?_
                      refine r_dup X (pc := 143) dX10_go_143 rfl ?_
                      refine r_hGI X (pc := 144) fa_X10_22 dX10_go_144 hk (fun y87 hk => ?_)
                      refine r_iconst X (pc := 147) dX10_go_147 ?_
                      refine r_iadd X (pc := 148) dX10_go_148 ?_
                      refine r_hPut X (pc := 149) fp_X10_22 rfl rfl dX10_go_149 hk (fun h88 hk => ?_)
                      refine r_aload_n X (pc := 152) dX10_go_152 rfl (q := 2) rfl ?_
                      refine r_hGR X (pc := 153) fa_X10_9 dX10_go_153 hk (fun y89 hk => ?_)
                      refine r_aload_n X (pc := 156) dX10_go_156 rfl (q := 2) rfl ?_
                      refine r_hGI X (pc := 157) fa_X10_15 dX10_go_157 hk (fun y90 hk => ?_)
                      refine r_aload_n X (pc := 160) dX10_go_160 rfl (q := 2) rfl ?_
                      refine r_hGI X (pc := 161) fa_X10_19 dX10_go_161 hk (fun y91 hk => ?_)
                      obtain ⟨o123, fs124, e9, b125, hk⟩ := hk
                      refine r_callV X (pc := 164) (As := [vI y90, vI y91]) (st := []) rfl rfl e9 b125 m_X10_51 (fun _ => s_X2_postAt hk) ⟨by decide, by decide⟩ (Nat.le_of_ble_eq_true rfl) dX10_go_164 (fun v9 h93 n94 z95 hq => ?_) (fun ci118 q119 h120 n121 z122 hf => ?_)
                      · obtain ⟨r92, rfl, hk⟩ := hq
                        refine ⟨[vI r92], rfl, ?_⟩
                        refine r_istore X (pc := 167) (lv1 := [(8, vI r92), (7, vI (y62 + r63)), (6, vI (y60 + r61)), (0, vR (some o)), (3, vI x3), (4, vI x4), (5, vI x5)]) dX10_go_167 (by decide) rfl ?_
                        refine r_iload X (pc := 169) dX10_go_169 (q := 0) rfl ?_
                        refine r_iconst X (pc := 171) dX10_go_171 ?_
                        obtain ⟨b96, hk⟩ := hk
                        refine r_icmp_eq X (pc := 172) (tgt := 206) dX10_go_172 (by decide) ⟨b96, (by decide)⟩ (fun c97 => ?_) (fun c97 => ?_)
                        · have hk := hk.1 c97
                          refine r_goto X (pc := 206) (tgt := 25) dX10_go_206 (by decide) ?_
                          refine G.sub [3, 4, 5, 6] rfl ?_
                          exact ih h93 n94 z95 x3 x4 x5 hk
                        · have hk := hk.2 c97
                          refine r_iload X (pc := 175) dX10_go_175 (q := 0) rfl ?_
                          refine r_iload X (pc := 177) dX10_go_177 (q := 6) rfl ?_
                          obtain ⟨b98, hk⟩ := hk
                          refine r_icmp_eq X (pc := 179) (tgt := 206) dX10_go_179 (by decide) ⟨b96, b98⟩ (fun c99 => ?_) (fun c99 => ?_)
                          · have hk := hk.1 c99
                            refine r_goto X (pc := 206) (tgt := 25) dX10_go_206 (by decide) ?_
                            refine G.sub [3, 4, 5, 6] rfl ?_
                            exact ih h93 n94 z95 x3 x4 x5 hk
                          · have hk := hk.2 c99
                            refine r_aload_n X (pc := 182) dX10_go_182 rfl (q := 3) rfl ?_
                            refine r_hGR X (pc := 183) fa_X10_9 dX10_go_183 hk (fun y100 hk => ?_)
                            refine r_hGR X (pc := 186) fa_X10_55_X2 dX10_go_186 hk (fun y101 hk => ?_)
                            refine r_iload X (pc := 189) dX10_go_189 (q := 0) rfl ?_
                            refine r_hAR X (pc := 191) (t := 5) rfl dX10_go_191 hk (fun y102 hk => ?_)
                            refine r_iload X (pc := 192) dX10_go_192 (q := 5) rfl ?_
                            obtain ⟨o115, fs116, e9, b117, hk⟩ := hk
                            refine r_callV X (pc := 194) (As := [vI x4]) (st := []) rfl rfl e9 b117 m_X10_59 (fun _ => s_X3_standsFor hk) ⟨by decide, by decide⟩ (Nat.le_of_ble_eq_true rfl) dX10_go_194 (fun v9 h104 n105 z106 hq => ?_) (fun ci110 q111 h112 n113 z114 hf => ?_)
                            · obtain ⟨r103, rfl, hk⟩ := hq
                              refine ⟨[vI r103], rfl, ?_⟩
                              obtain ⟨b107, hk⟩ := hk
                              refine r_if_eq X (pc := 197) (tgt := 206) dX10_go_197 (by decide) b107 (fun c108 => ?_) (fun c108 => ?_)
                              · have hk := hk.1 c108
                                refine r_goto X (pc := 206) (tgt := 25) dX10_go_206 (by decide) ?_
                                refine G.sub [3, 4, 5, 6] rfl ?_
                                exact ih h104 n105 z106 x3 x4 x5 hk
                              · have hk := hk.2 c108
                                refine r_aload_n X (pc := 200) dX10_go_200 rfl (q := 3) rfl ?_
                                refine r_iload X (pc := 201) dX10_go_201 (q := 0) rfl ?_
                                refine r_hPut X (pc := 203) fp_X10_25 rfl rfl dX10_go_203 hk (fun h109 hk => ?_)
                                refine r_goto X (pc := 206) (tgt := 25) dX10_go_206 (by decide) ?_
                                refine G.sub [3, 4, 5, 6] rfl ?_
                                exact ih h109 n105 z106 x3 x4 x5 hk
                            · have hk := hf
                              exact r_out X E (fun _ h9 => nomatch h9) hk
                      · have hk := hf
                        exact r_out X E (fun _ h9 => nomatch h9) hk
                    · have hk := hk.1 c84
                      refine r_aload_n X (pc := 122) dX10_go_122 rfl (q := 2) rfl ?_
                      refine r_iconst X (pc := 123) dX10_go_123 ?_
                      refine r_hPut X (pc := 124) fp_X10_28 rfl rfl dX10_go_124 hk (fun h126 hk => ?_)
                      refine r_goto X (pc := 127) (tgt := 206) dX10_go_127 (by decide) ?_
                      refine r_goto X (pc := 206) (tgt := 25) dX10_go_206 (by decide) ?_
                      refine G.sub [2, 3, 4, 5] rfl ?_
                      exact ih h126 n74 z75 x3 x4 x5 hk
                  · have hk := hk.2 c77
                    refine r_aload_n X (pc := 98) dX10_go_98 rfl (q := 2) rfl ?_
                    refine r_iconst X (pc := 99) dX10_go_99 ?_
                    refine r_hPut X (pc := 100) fp_X10_28 rfl rfl dX10_go_100 hk (fun h127 hk => ?_)
                    refine r_goto X (pc := 103) (tgt := 206) dX10_go_103 (by decide) ?_
                    refine r_goto X (pc := 206) (tgt := 25) dX10_go_206 (by decide) ?_
                    refine G.sub [2, 3, 4, 5] rfl ?_
                    exact ih h127 n74 z75 x3 x4 x5 hk
                · have hk := hf
                  exact r_out X E (fun _ h9 => nomatch h9) hk
              · have hk := hk.1 c70
                refine r_aload_n X (pc := 76) dX10_go_76 rfl (q := 2) rfl ?_
                refine r_iconst X (pc := 77) dX10_go_77 ?_
                refine r_hPut X (pc := 78) fp_X10_28 rfl rfl dX10_go_78 hk (fun h136 hk => ?_)
                refine r_goto X (pc := 81) (tgt := 206) dX10_go_81 (by decide) ?_
                refine r_goto X (pc := 206) (tgt := 25) dX10_go_206 (by decide) ?_
                refine G.sub [2, 3, 4, 5] rfl ?_
                exact ih h136 n67 z68 x3 x4 x5 hk
            · have hk := hf
              exact r_out X E (fun _ h9 => nomatch h9) hk
          · exact hf.elim
        · exact hf.elim
set_option maxHeartbeats 4000000 in
theorem w_X10_go_209 {K : KT} {Y : YT} {o : Nat} {κ : Option Nat → AH → Nat → Nat → Prop} {χ : QxT} (X : XY K "TrailMarkers$Walk" "go" cX10_go (Option.some (Jvm.ClassFile.FieldType.object "TrailMarkers$Walk")) [] 9 1 22 Y) (E : YE K Y (QvR κ) χ) : ∀ (h : AH) (n : Nat) (z : Nat), P_X10_go_209 K o κ χ h n z → G K Y h n z 209 [(0, vR (some o))] [] := by
  intro h n z hk
  refine r_aload_n X (pc := 209) dX10_go_209 rfl (q := 0) rfl ?_
  exact r_aret X E (Or.inl ⟨_, rfl⟩) (pc := 210) dX10_go_210 ⟨_, rfl, hk⟩
set_option maxHeartbeats 4000000 in
theorem w_X10_go {K : KT} {Y : YT} {o : Nat} {κ : Option Nat → AH → Nat → Nat → Prop} {χ : QxT} (X : XY K "TrailMarkers$Walk" "go" cX10_go (Option.some (Jvm.ClassFile.FieldType.object "TrailMarkers$Walk")) [] 9 1 22 Y) (E : YE K Y (QvR κ) χ) {h : AH} {n : Nat} {z : Nat} {x1 : Int} {x2 : Int} {x3 : Int} {x4 : Int} {x5 : Int} (hk : P_X10_go K o κ χ h n z x1 x2 x3 x4 x5) : G K Y h n z 0 (lv_argsA 0 [vR (some o), vI x1, vI x2, vI x3, vI x4, vI x5]) [] := by
  show G K Y h n z 0 [(0, vR (some o)), (1, vI x1), (2, vI x2), (3, vI x3), (4, vI x4), (5, vI x5)] []
  refine r_aload_n X (pc := 0) dX10_go_0 rfl (q := 0) rfl ?_
  refine r_iload_n X (pc := 1) dX10_go_1 rfl (q := 1) rfl ?_
  refine r_hPut X (pc := 2) fp_X10_15 rfl rfl dX10_go_2 hk (fun h145 hk => ?_)
  refine r_aload_n X (pc := 5) dX10_go_5 rfl (q := 0) rfl ?_
  refine r_iload_n X (pc := 6) dX10_go_6 rfl (q := 2) rfl ?_
  refine r_hPut X (pc := 7) fp_X10_19 rfl rfl dX10_go_7 hk (fun h146 hk => ?_)
  refine r_aload_n X (pc := 10) dX10_go_10 rfl (q := 0) rfl ?_
  refine r_iconst X (pc := 11) dX10_go_11 ?_
  refine r_hPut X (pc := 12) fp_X10_22 rfl rfl dX10_go_12 hk (fun h147 hk => ?_)
  refine r_aload_n X (pc := 15) dX10_go_15 rfl (q := 0) rfl ?_
  refine r_iconst X (pc := 16) dX10_go_16 ?_
  refine r_hPut X (pc := 17) fp_X10_25 rfl rfl dX10_go_17 hk (fun h148 hk => ?_)
  refine r_aload_n X (pc := 20) dX10_go_20 rfl (q := 0) rfl ?_
  refine r_iconst X (pc := 21) dX10_go_21 ?_
  refine r_hPut X (pc := 22) fp_X10_28 rfl rfl dX10_go_22 hk (fun h149 hk => ?_)
  refine G.sub [0, 3, 4, 5] rfl ?_
  have HH150 : ∀ (h : AH) (n : Nat) (z : Nat), (P_X10_go_209 K o κ χ h n z) → G K Y h n z 209 [(0, vR (some o))] [] := by
      intro h n z hk
      exact w_X10_go_209 X E h n z hk
  obtain ⟨f9, hk⟩ := hk
  exact w_X10_go_25 X E HH150 f9 h149 n z x3 x4 x5 hk
theorem s_X10_go {K : KT} {l : Launch} {o : Nat} {κ : Option Nat → AH → Nat → Nat → Prop} {χ : QxT} {h : AH} {n : Nat} {z : Nat} {x1 : Int} {x2 : Int} {x3 : Int} {x4 : Int} {x5 : Int} (hk : P_X10_go K o κ χ h n z x1 x2 x3 x4 x5) : Ct K l yX10_go (ws_ yX10_go cX10_go 9 (Option.some (Jvm.ClassFile.FieldType.object "TrailMarkers$Walk"))) 1 22 ([vR (some o), vI x1, vI x2, vI x3, vI x4, vI x5].map cV) h n z (QvR κ) χ :=
  ct_of (by decide +kernel) (Nat.le_of_ble_eq_true rfl) (fun Y X E => w_X10_go X E hk)
set_option maxHeartbeats 4000000 in
theorem w_X2_init {K : KT} {Y : YT} {o : Nat} {κ : AH → Nat → Nat → Prop} {χ : QxT} (X : XY K "TrailMarkers$Trails" "<init>" cX2_init none [] 5 1 60 Y) (E : YE K Y (QvV κ) χ) {h : AH} {n : Nat} {z : Nat} {x1 : Int} {x2 : Int} {x3 : Int} {x4 : Int} (hk : P_X2_init K o κ χ h n z x1 x2 x3 x4) : G K Y h n z 0 (lv_argsA 0 [vR (some o), vI x1, vI x2, vI x3, vI x4]) [] := by
  show G K Y h n z 0 [(0, vR (some o)), (1, vI x1), (2, vI x2), (3, vI x3), (4, vI x4)] []
  refine r_aload_n X (pc := 0) dX2_init_0 rfl (q := 0) rfl ?_
  refine r_objinit X (pc := 1) q210 q203 q204 ⟨by decide, Nat.le_of_ble_eq_true rfl⟩ dX2_init_1 ?_
  refine r_aload_n X (pc := 4) dX2_init_4 rfl (q := 0) rfl ?_
  refine r_bipush X (pc := 5) dX2_init_5 (by decide) ?_
  refine r_hAnew X (pc := 7) (t := 5) rfl q211 q212 dX2_init_7 hk (fun h13 hk => ?_)
  refine r_hPutF X (pc := 10) fp_X2_11 rfl (fit_arr (some n)).1 (fit_arr (some n)).2 dX2_init_10 hk (fun h14 hk => ?_)
  refine r_aload_n X (pc := 13) dX2_init_13 rfl (q := 0) rfl ?_
  refine r_sipush X (pc := 14) dX2_init_14 (by decide) ?_
  refine r_hNewA X (pc := 17) (t := 1) rfl rfl q250 (fun _ _ h9 => h9) (fun _ => rfl) (by decide) dX2_init_17 hk (fun h15 hk => ?_)
  refine r_hPutF X (pc := 19) fp_X2_17 rfl (fit_arr (some (n + 1))).1 (fit_arr (some (n + 1))).2 dX2_init_19 hk (fun h16 hk => ?_)
  refine r_aload_n X (pc := 22) dX2_init_22 rfl (q := 0) rfl ?_
  refine r_iconst X (pc := 23) dX2_init_23 ?_
  refine r_hNewA X (pc := 24) (t := 0) rfl rfl q251 (fun _ _ h9 => h9) (fun _ => rfl) (by decide) dX2_init_24 hk (fun h17 hk => ?_)
  refine r_hPutF X (pc := 26) fp_X2_21 rfl (fit_arr (some ((n + 1) + 1))).1 (fit_arr (some ((n + 1) + 1))).2 dX2_init_26 hk (fun h18 hk => ?_)
  refine r_aload_n X (pc := 29) dX2_init_29 rfl (q := 0) rfl ?_
  refine r_iload_n X (pc := 30) dX2_init_30 rfl (q := 1) rfl ?_
  refine r_hPutF X (pc := 31) fp_X2_25 rfl rfl rfl dX2_init_31 hk (fun h19 hk => ?_)
  refine r_aload_n X (pc := 34) dX2_init_34 rfl (q := 0) rfl ?_
  refine r_iload_n X (pc := 35) dX2_init_35 rfl (q := 2) rfl ?_
  refine r_hPutF X (pc := 36) fp_X2_29 rfl rfl rfl dX2_init_36 hk (fun h20 hk => ?_)
  refine r_aload_n X (pc := 39) dX2_init_39 rfl (q := 0) rfl ?_
  refine r_hGR X (pc := 40) fa_X2_21 dX2_init_40 hk (fun y21 hk => ?_)
  refine r_iconst X (pc := 43) dX2_init_43 ?_
  refine r_iload_n X (pc := 44) dX2_init_44 rfl (q := 3) rfl ?_
  refine r_hSI X (pc := 45) dX2_init_45 hk (fun h22 hk => ?_)
  refine r_aload_n X (pc := 46) dX2_init_46 rfl (q := 0) rfl ?_
  refine r_hGR X (pc := 47) fa_X2_21 dX2_init_47 hk (fun y23 hk => ?_)
  refine r_iconst X (pc := 50) dX2_init_50 ?_
  refine r_iload X (pc := 51) dX2_init_51 (q := 4) rfl ?_
  refine r_hSI X (pc := 53) dX2_init_53 hk (fun h24 hk => ?_)
  exact r_vret X E (pc := 54) dX2_init_54 ⟨rfl, hk⟩
theorem s_X2_init {K : KT} {l : Launch} {o : Nat} {κ : AH → Nat → Nat → Prop} {χ : QxT} {h : AH} {n : Nat} {z : Nat} {x1 : Int} {x2 : Int} {x3 : Int} {x4 : Int} (hk : P_X2_init K o κ χ h n z x1 x2 x3 x4) : Ct K l yX2_init (ws_ yX2_init cX2_init 5 none) 1 60 ([vR (some o), vI x1, vI x2, vI x3, vI x4].map cV) h n z (QvV κ) χ :=
  ct_of (by decide +kernel) (Nat.le_of_ble_eq_true rfl) (fun Y X E => w_X2_init X E hk)
set_option maxHeartbeats 4000000 in
theorem w_X2_reasonNot {K : KT} {Y : YT} {o : Nat} {κ : Int → AH → Nat → Nat → Prop} {χ : QxT} (X : XY K "TrailMarkers$Trails" "reasonNot" cX2_reasonNot (Option.some Jvm.ClassFile.FieldType.int) [] 4 1 22 Y) (E : YE K Y (QvI κ) χ) {h : AH} {n : Nat} {z : Nat} {x1 : Int} {x2 : Int} {x3 : Int} (hk : P_X2_reasonNot K o κ χ h n z x1 x2 x3) : G K Y h n z 0 (lv_argsA 0 [vR (some o), vI x1, vI x2, vI x3]) [] := by
  show G K Y h n z 0 [(0, vR (some o)), (1, vI x1), (2, vI x2), (3, vI x3)] []
  refine r_aload_n X (pc := 0) dX2_reasonNot_0 rfl (q := 0) rfl ?_
  refine r_iload_n X (pc := 1) dX2_reasonNot_1 rfl (q := 1) rfl ?_
  refine r_iload_n X (pc := 2) dX2_reasonNot_2 rfl (q := 2) rfl ?_
  obtain ⟨o53, fs54, e9, b55, hk⟩ := hk
  refine r_callV X (pc := 3) (As := [vI x1, vI x2]) (st := []) rfl rfl e9 b55 m_X2_47 (fun _ => s_X2_isOnMap hk) ⟨by decide, by decide⟩ (Nat.le_of_ble_eq_true rfl) dX2_reasonNot_3 (fun v9 h13 n14 z15 hq => ?_) (fun ci48 q49 h50 n51 z52 hf => ?_)
  · obtain ⟨r12, rfl, hk⟩ := hq
    refine ⟨[vI r12], rfl, ?_⟩
    obtain ⟨b16, hk⟩ := hk
    refine r_if_ne X (pc := 6) (tgt := 11) dX2_reasonNot_6 (by decide) b16 (fun c17 => ?_) (fun c17 => ?_)
    · have hk := hk.2 c17
      refine r_aload_n X (pc := 11) dX2_reasonNot_11 rfl (q := 0) rfl ?_
      refine r_iload_n X (pc := 12) dX2_reasonNot_12 rfl (q := 1) rfl ?_
      refine r_iload_n X (pc := 13) dX2_reasonNot_13 rfl (q := 2) rfl ?_
      obtain ⟨o45, fs46, e9, b47, hk⟩ := hk
      refine r_callV X (pc := 14) (As := [vI x1, vI x2]) (st := []) rfl rfl e9 b47 m_X2_51 (fun _ => s_X2_isBlock hk) ⟨by decide, by decide⟩ (Nat.le_of_ble_eq_true rfl) dX2_reasonNot_14 (fun v9 h19 n20 z21 hq => ?_) (fun ci40 q41 h42 n43 z44 hf => ?_)
      · obtain ⟨r18, rfl, hk⟩ := hq
        refine ⟨[vI r18], rfl, ?_⟩
        obtain ⟨b22, hk⟩ := hk
        refine r_if_eq X (pc := 17) (tgt := 22) dX2_reasonNot_17 (by decide) b22 (fun c23 => ?_) (fun c23 => ?_)
        · have hk := hk.1 c23
          refine r_aload_n X (pc := 22) dX2_reasonNot_22 rfl (q := 0) rfl ?_
          refine r_iload_n X (pc := 23) dX2_reasonNot_23 rfl (q := 1) rfl ?_
          refine r_iload_n X (pc := 24) dX2_reasonNot_24 rfl (q := 2) rfl ?_
          obtain ⟨o37, fs38, e9, b39, hk⟩ := hk
          refine r_callV X (pc := 25) (As := [vI x1, vI x2]) (st := []) rfl rfl e9 b39 m_X2_54 (fun _ => s_X2_postAt hk) ⟨by decide, by decide⟩ (Nat.le_of_ble_eq_true rfl) dX2_reasonNot_25 (fun v9 h25 n26 z27 hq => ?_) (fun ci32 q33 h34 n35 z36 hf => ?_)
          · obtain ⟨r24, rfl, hk⟩ := hq
            refine ⟨[vI r24], rfl, ?_⟩
            refine r_iconst X (pc := 28) dX2_reasonNot_28 ?_
            obtain ⟨b28, hk⟩ := hk
            refine r_icmp_eq X (pc := 29) (tgt := 34) dX2_reasonNot_29 (by decide) ⟨b28, (by decide)⟩ (fun c29 => ?_) (fun c29 => ?_)
            · have hk := hk.1 c29
              refine r_iload_n X (pc := 34) dX2_reasonNot_34 rfl (q := 3) rfl ?_
              obtain ⟨b30, hk⟩ := hk
              refine r_if_eq X (pc := 35) (tgt := 42) dX2_reasonNot_35 (by decide) b30 (fun c31 => ?_) (fun c31 => ?_)
              · have hk := hk.1 c31
                refine r_iconst X (pc := 42) dX2_reasonNot_42 ?_
                exact r_iret X E (pc := 43) dX2_reasonNot_43 rfl ⟨_, rfl, hk⟩
              · have hk := hk.2 c31
                refine r_iconst X (pc := 38) dX2_reasonNot_38 ?_
                refine r_goto X (pc := 39) (tgt := 43) dX2_reasonNot_39 (by decide) ?_
                exact r_iret X E (pc := 43) dX2_reasonNot_43 rfl ⟨_, rfl, hk⟩
            · have hk := hk.2 c29
              refine r_iconst X (pc := 32) dX2_reasonNot_32 ?_
              exact r_iret X E (pc := 33) dX2_reasonNot_33 rfl ⟨_, rfl, hk⟩
          · have hk := hf
            exact r_out X E (fun _ h9 => nomatch h9) hk
        · have hk := hk.2 c23
          refine r_iconst X (pc := 20) dX2_reasonNot_20 ?_
          exact r_iret X E (pc := 21) dX2_reasonNot_21 rfl ⟨_, rfl, hk⟩
      · have hk := hf
        exact r_out X E (fun _ h9 => nomatch h9) hk
    · have hk := hk.1 c17
      refine r_iconst X (pc := 9) dX2_reasonNot_9 ?_
      exact r_iret X E (pc := 10) dX2_reasonNot_10 rfl ⟨_, rfl, hk⟩
  · have hk := hf
    exact r_out X E (fun _ h9 => nomatch h9) hk
theorem s_X2_reasonNot {K : KT} {l : Launch} {o : Nat} {κ : Int → AH → Nat → Nat → Prop} {χ : QxT} {h : AH} {n : Nat} {z : Nat} {x1 : Int} {x2 : Int} {x3 : Int} (hk : P_X2_reasonNot K o κ χ h n z x1 x2 x3) : Ct K l yX2_reasonNot (ws_ yX2_reasonNot cX2_reasonNot 4 (Option.some Jvm.ClassFile.FieldType.int)) 1 22 ([vR (some o), vI x1, vI x2, vI x3].map cV) h n z (QvI κ) χ :=
  ct_of (by decide +kernel) (Nat.le_of_ble_eq_true rfl) (fun Y X E => w_X2_reasonNot X E hk)
set_option maxHeartbeats 4000000 in
theorem w_X2_needFree {K : KT} {Y : YT} {o : Nat} {κ : AH → Nat → Nat → Prop} {χ : QxT} (X : XY K "TrailMarkers$Trails" "needFree" cX2_needFree (Option.none : Option Jvm.ClassFile.FieldType) [] 5 9 261 Y) (E : YE K Y (QvV κ) χ) {h : AH} {n : Nat} {z : Nat} {x1 : Int} {x2 : Int} {x3 : Int} (hk : P_X2_needFree K o κ χ h n z x1 x2 x3) : G K Y h n z 0 (lv_argsA 0 [vR (some o), vI x1, vI x2, vI x3]) [] := by
  show G K Y h n z 0 [(0, vR (some o)), (1, vI x1), (2, vI x2), (3, vI x3)] []
  refine r_aload_n X (pc := 0) dX2_needFree_0 rfl (q := 0) rfl ?_
  refine r_iload_n X (pc := 1) dX2_needFree_1 rfl (q := 1) rfl ?_
  refine r_iload_n X (pc := 2) dX2_needFree_2 rfl (q := 2) rfl ?_
  refine r_iload_n X (pc := 3) dX2_needFree_3 rfl (q := 3) rfl ?_
  obtain ⟨o27, fs28, e9, b29, hk⟩ := hk
  refine r_callV X (pc := 4) (As := [vI x1, vI x2, vI x3]) (st := []) rfl rfl e9 b29 m_X2_58 (fun _ => s_X2_reasonNot hk) ⟨by decide, by decide⟩ (Nat.le_of_ble_eq_true rfl) dX2_needFree_4 (fun v9 h6 n7 z8 hq => ?_) (fun ci22 q23 h24 n25 z26 hf => ?_)
  · obtain ⟨r5, rfl, hk⟩ := hq
    refine ⟨[vI r5], rfl, ?_⟩
    refine r_istore X (pc := 7) (lv1 := [(4, vI r5), (0, vR (some o)), (1, vI x1), (2, vI x2), (3, vI x3)]) dX2_needFree_7 (by decide) rfl ?_
    refine r_iload X (pc := 9) dX2_needFree_9 (q := 0) rfl ?_
    obtain ⟨b9, hk⟩ := hk
    refine r_if_eq X (pc := 11) (tgt := 24) dX2_needFree_11 (by decide) b9 (fun c10 => ?_) (fun c10 => ?_)
    · have hk := hk.1 c10
      exact r_vret X E (pc := 24) dX2_needFree_24 ⟨rfl, hk⟩
    · have hk := hk.2 c10
      refine r_hNew X (pc := 14) nw_X2_62 dX2_needFree_14 hk (fun h11 hk => ?_)
      refine r_dup X (pc := 17) dX2_needFree_17 rfl ?_
      refine r_iload X (pc := 18) dX2_needFree_18 (q := 0) rfl ?_
      refine r_callI X (pc := 20) (As := [vI r5]) (st := [vR (some n7)]) m_X2_64 (fun _ => s_X4_init hk) ⟨by decide, by decide⟩ (Nat.le_of_ble_eq_true rfl) dX2_needFree_20 (fun v9 h12 n13 z14 hq => ?_) (fun ci17 q18 h19 n20 z21 hf => ?_)
      · obtain ⟨rfl, hk⟩ := hq
        refine ⟨[], rfl, ?_⟩
        refine r_hThrow X (pc := 23) dX2_needFree_23 hk (fun ci15 q16 hk => ?_)
        exact r_out X E (fun _ h9 => nomatch h9) hk
      · have hk := hf
        exact r_out X E (fun _ h9 => nomatch h9) hk
  · have hk := hf
    exact r_out X E (fun _ h9 => nomatch h9) hk
theorem s_X2_needFree {K : KT} {l : Launch} {o : Nat} {κ : AH → Nat → Nat → Prop} {χ : QxT} {h : AH} {n : Nat} {z : Nat} {x1 : Int} {x2 : Int} {x3 : Int} (hk : P_X2_needFree K o κ χ h n z x1 x2 x3) : Ct K l yX2_needFree (ws_ yX2_needFree cX2_needFree 5 (Option.none : Option Jvm.ClassFile.FieldType)) 9 261 ([vR (some o), vI x1, vI x2, vI x3].map cV) h n z (QvV κ) χ :=
  ct_of (by decide +kernel) (Nat.le_of_ble_eq_true rfl) (fun Y X E => w_X2_needFree X E hk)
set_option maxHeartbeats 4000000 in
theorem w_X2_put {K : KT} {Y : YT} {o : Nat} {κ : AH → Nat → Nat → Prop} {χ : QxT} (X : XY K "TrailMarkers$Trails" "put" cX2_put (Option.none : Option Jvm.ClassFile.FieldType) [] 4 0 0 Y) (E : YE K Y (QvV κ) χ) {h : AH} {n : Nat} {z : Nat} {x1 : Int} {x2 : Int} {x3 : Int} (hk : P_X2_put K o κ χ h n z x1 x2 x3) : G K Y h n z 0 (lv_argsA 0 [vR (some o), vI x1, vI x2, vI x3]) [] := by
  show G K Y h n z 0 [(0, vR (some o)), (1, vI x1), (2, vI x2), (3, vI x3)] []
  refine r_aload_n X (pc := 0) dX2_put_0 rfl (q := 0) rfl ?_
  refine r_hGR X (pc := 1) fa_X2_17 dX2_put_1 hk (fun y3 hk => ?_)
  refine r_bipush X (pc := 4) dX2_put_4 (by decide) ?_
  refine r_iload_n X (pc := 6) dX2_put_6 rfl (q := 2) rfl ?_
  refine r_imul X (pc := 7) dX2_put_7 ?_
  refine r_iload_n X (pc := 8) dX2_put_8 rfl (q := 1) rfl ?_
  refine r_iadd X (pc := 9) dX2_put_9 ?_
  refine r_iload_n X (pc := 10) dX2_put_10 rfl (q := 3) rfl ?_
  refine r_i2b X (pc := 11) dX2_put_11 ?_
  refine r_hSB X (pc := 12) dX2_put_12 hk (fun h4 hk => ?_)
  exact r_vret X E (pc := 13) dX2_put_13 ⟨rfl, hk⟩
theorem s_X2_put {K : KT} {l : Launch} {o : Nat} {κ : AH → Nat → Nat → Prop} {χ : QxT} {h : AH} {n : Nat} {z : Nat} {x1 : Int} {x2 : Int} {x3 : Int} (hk : P_X2_put K o κ χ h n z x1 x2 x3) : Ct K l yX2_put (ws_ yX2_put cX2_put 4 (Option.none : Option Jvm.ClassFile.FieldType)) 0 0 ([vR (some o), vI x1, vI x2, vI x3].map cV) h n z (QvV κ) χ :=
  ct_of (by decide +kernel) (Nat.le_of_ble_eq_true rfl) (fun Y X E => w_X2_put X E hk)
set_option maxHeartbeats 4000000 in
theorem w_X2_add_23 {K : KT} {Y : YT} {o : Nat} {κ : Int → AH → Nat → Nat → Prop} {χ : QxT} (X : XY K "TrailMarkers$Trails" "add" cX2_add (Option.some Jvm.ClassFile.FieldType.int) [] 2 10 285 Y) (E : YE K Y (QvI κ) χ) : ∀ (h : AH) (n : Nat) (z : Nat) (x1 : Option Nat) (s0 : Int) (s1 : Int) (s2 : Int), P_X2_add_23 K o κ χ h n z x1 s0 s1 s2 → G K Y h n z 23 [(0, vR (some o)), (1, vR x1)] [vI s0, vI s1, vI s2, vR (some o)] := by
  intro h n z x1 s0 s1 s2 hk
  obtain ⟨o43, fs44, e9, b45, hk⟩ := hk
  refine r_callV X (pc := 23) (As := [vI s2, vI s1, vI s0]) (st := []) rfl rfl e9 b45 m_X2_73 (fun _ => s_X2_needFree hk) ⟨by decide, by decide⟩ (Nat.le_of_ble_eq_true rfl) dX2_add_23 (fun v9 h15 n16 z17 hq => ?_) (fun ci38 q39 h40 n41 z42 hf => ?_)
  · obtain ⟨rfl, hk⟩ := hq
    refine ⟨[], rfl, ?_⟩
    refine r_aload_n X (pc := 26) dX2_add_26 rfl (q := 0) rfl ?_
    refine r_hGR X (pc := 27) fa_X2_11 dX2_add_27 hk (fun y18 hk => ?_)
    refine r_aload_n X (pc := 30) dX2_add_30 rfl (q := 0) rfl ?_
    refine r_hGI X (pc := 31) fa_X2_35 dX2_add_31 hk (fun y19 hk => ?_)
    refine r_aload_n X (pc := 34) dX2_add_34 rfl (q := 1) rfl ?_
    refine r_hSR X (pc := 35) (t := 5) rfl cos_TrailMarkers_Post_2 dX2_add_35 hk (fun h20 hk => ?_)
    refine r_aload_n X (pc := 36) dX2_add_36 rfl (q := 0) rfl ?_
    refine r_dup X (pc := 37) dX2_add_37 rfl ?_
    refine r_hGI X (pc := 38) fa_X2_35 dX2_add_38 hk (fun y21 hk => ?_)
    refine r_iconst X (pc := 41) dX2_add_41 ?_
    refine r_iadd X (pc := 42) dX2_add_42 ?_
    refine r_hPut X (pc := 43) fp_X2_35 rfl rfl dX2_add_43 hk (fun h22 hk => ?_)
    refine r_aload_n X (pc := 46) dX2_add_46 rfl (q := 0) rfl ?_
    refine r_aload_n X (pc := 47) dX2_add_47 rfl (q := 1) rfl ?_
    refine r_hGI X (pc := 48) fa_X2_67_X3 dX2_add_48 hk (fun y23 hk => ?_)
    refine r_aload_n X (pc := 51) dX2_add_51 rfl (q := 1) rfl ?_
    refine r_hGI X (pc := 52) fa_X2_70_X3 dX2_add_52 hk (fun y24 hk => ?_)
    refine r_aload_n X (pc := 55) dX2_add_55 rfl (q := 0) rfl ?_
    refine r_hGI X (pc := 56) fa_X2_35 dX2_add_56 hk (fun y25 hk => ?_)
    obtain ⟨o35, fs36, e9, b37, hk⟩ := hk
    refine r_callV X (pc := 59) (As := [vI y23, vI y24, vI y25]) (st := []) rfl rfl e9 b37 m_X2_77 (fun _ => s_X2_put hk) ⟨by decide, by decide⟩ (Nat.le_of_ble_eq_true rfl) dX2_add_59 (fun v9 h26 n27 z28 hq => ?_) (fun ci30 q31 h32 n33 z34 hf => ?_)
    · obtain ⟨rfl, hk⟩ := hq
      refine ⟨[], rfl, ?_⟩
      refine r_aload_n X (pc := 62) dX2_add_62 rfl (q := 0) rfl ?_
      refine r_hGI X (pc := 63) fa_X2_35 dX2_add_63 hk (fun y29 hk => ?_)
      refine r_iconst X (pc := 66) dX2_add_66 ?_
      refine r_isub X (pc := 67) dX2_add_67 ?_
      exact r_iret X E (pc := 68) dX2_add_68 rfl ⟨_, rfl, hk⟩
    · have hk := hf
      exact r_out X E (fun _ h9 => nomatch h9) hk
  · have hk := hf
    exact r_out X E (fun _ h9 => nomatch h9) hk
set_option maxHeartbeats 4000000 in
theorem w_X2_add {K : KT} {Y : YT} {o : Nat} {κ : Int → AH → Nat → Nat → Prop} {χ : QxT} (X : XY K "TrailMarkers$Trails" "add" cX2_add (Option.some Jvm.ClassFile.FieldType.int) [] 2 10 285 Y) (E : YE K Y (QvI κ) χ) {h : AH} {n : Nat} {z : Nat} {x1 : Option Nat} (hk : P_X2_add K o κ χ h n z x1) : G K Y h n z 0 (lv_argsA 0 [vR (some o), vR x1]) [] := by
  show G K Y h n z 0 [(0, vR (some o)), (1, vR x1)] []
  refine r_aload_n X (pc := 0) dX2_add_0 rfl (q := 0) rfl ?_
  refine r_aload_n X (pc := 1) dX2_add_1 rfl (q := 1) rfl ?_
  refine r_hGI X (pc := 2) fa_X2_67_X3 dX2_add_2 hk (fun y46 hk => ?_)
  refine r_aload_n X (pc := 5) dX2_add_5 rfl (q := 1) rfl ?_
  refine r_hGI X (pc := 6) fa_X2_70_X3 dX2_add_6 hk (fun y47 hk => ?_)
  refine r_aload_n X (pc := 9) dX2_add_9 rfl (q := 0) rfl ?_
  refine r_hGI X (pc := 10) fa_X2_35 dX2_add_10 hk (fun y48 hk => ?_)
  refine r_bipush X (pc := 13) dX2_add_13 (by decide) ?_
  obtain ⟨b49, hk⟩ := hk
  refine r_icmp_ne X (pc := 15) (tgt := 22) dX2_add_15 (by decide) ⟨b49, (by decide)⟩ (fun c50 => ?_) (fun c50 => ?_)
  · have hk := hk.2 c50
    refine r_iconst X (pc := 22) dX2_add_22 ?_
    exact w_X2_add_23 X E h n z x1 0 y47 y46 hk
  · have hk := hk.1 c50
    refine r_iconst X (pc := 18) dX2_add_18 ?_
    refine r_goto X (pc := 19) (tgt := 23) dX2_add_19 (by decide) ?_
    exact w_X2_add_23 X E h n z x1 1 y47 y46 hk
theorem s_X2_add {K : KT} {l : Launch} {o : Nat} {κ : Int → AH → Nat → Nat → Prop} {χ : QxT} {h : AH} {n : Nat} {z : Nat} {x1 : Option Nat} (hk : P_X2_add K o κ χ h n z x1) : Ct K l yX2_add (ws_ yX2_add cX2_add 2 (Option.some Jvm.ClassFile.FieldType.int)) 10 285 ([vR (some o), vR x1].map cV) h n z (QvI κ) χ :=
  ct_of (by decide +kernel) (Nat.le_of_ble_eq_true rfl) (fun Y X E => w_X2_add X E hk)
set_option maxHeartbeats 4000000 in
theorem w_X3_init {K : KT} {Y : YT} {o : Nat} {κ : AH → Nat → Nat → Prop} {χ : QxT} (X : XY K "TrailMarkers$Post" "<init>" cX3_init none [] 6 1 60 Y) (E : YE K Y (QvV κ) χ) {h : AH} {n : Nat} {z : Nat} {x1 : Int} {x2 : Int} {x3 : Int} {x4 : Int} {x5 : Int} (hk : P_X3_init K o κ χ h n z x1 x2 x3 x4 x5) : G K Y h n z 0 (lv_argsA 0 [vR (some o), vI x1, vI x2, vI x3, vI x4, vI x5]) [] := by
  show G K Y h n z 0 [(0, vR (some o)), (1, vI x1), (2, vI x2), (3, vI x3), (4, vI x4), (5, vI x5)] []
  refine r_aload_n X (pc := 0) dX3_init_0 rfl (q := 0) rfl ?_
  refine r_objinit X (pc := 1) q284 q203 q204 ⟨by decide, Nat.le_of_ble_eq_true rfl⟩ dX3_init_1 ?_
  refine r_aload_n X (pc := 4) dX3_init_4 rfl (q := 0) rfl ?_
  refine r_iload_n X (pc := 5) dX3_init_5 rfl (q := 1) rfl ?_
  refine r_hPutF X (pc := 6) fp_X3_7 rfl rfl rfl dX3_init_6 hk (fun h7 hk => ?_)
  refine r_aload_n X (pc := 9) dX3_init_9 rfl (q := 0) rfl ?_
  refine r_iload_n X (pc := 10) dX3_init_10 rfl (q := 2) rfl ?_
  refine r_hPutF X (pc := 11) fp_X3_13 rfl rfl rfl dX3_init_11 hk (fun h8 hk => ?_)
  refine r_aload_n X (pc := 14) dX3_init_14 rfl (q := 0) rfl ?_
  refine r_iload_n X (pc := 15) dX3_init_15 rfl (q := 3) rfl ?_
  refine r_hPutF X (pc := 16) fp_X3_16 rfl rfl rfl dX3_init_16 hk (fun h9 hk => ?_)
  refine r_aload_n X (pc := 19) dX3_init_19 rfl (q := 0) rfl ?_
  refine r_iload X (pc := 20) dX3_init_20 (q := 4) rfl ?_
  refine r_hPutF X (pc := 22) fp_X3_19 rfl rfl rfl dX3_init_22 hk (fun h10 hk => ?_)
  refine r_aload_n X (pc := 25) dX3_init_25 rfl (q := 0) rfl ?_
  refine r_iload X (pc := 26) dX3_init_26 (q := 5) rfl ?_
  obtain ⟨b12, hk⟩ := hk
  refine r_hPutF X (pc := 28) fp_X3_22 rfl (fit_bool b12).1 (fit_bool b12).2 dX3_init_28 hk (fun h11 hk => ?_)
  exact r_vret X E (pc := 31) dX3_init_31 ⟨rfl, hk⟩
theorem s_X3_init {K : KT} {l : Launch} {o : Nat} {κ : AH → Nat → Nat → Prop} {χ : QxT} {h : AH} {n : Nat} {z : Nat} {x1 : Int} {x2 : Int} {x3 : Int} {x4 : Int} {x5 : Int} (hk : P_X3_init K o κ χ h n z x1 x2 x3 x4 x5) : Ct K l yX3_init (ws_ yX3_init cX3_init 6 none) 1 60 ([vR (some o), vI x1, vI x2, vI x3, vI x4, vI x5].map cV) h n z (QvV κ) χ :=
  ct_of (by decide +kernel) (Nat.le_of_ble_eq_true rfl) (fun Y X E => w_X3_init X E hk)
set_option maxHeartbeats 4000000 in
theorem w_X3_inState {K : KT} {Y : YT} {o : Nat} {κ : Option Nat → AH → Nat → Nat → Prop} {χ : QxT} (X : XY K "TrailMarkers$Post" "inState" cX3_inState (Option.some (Jvm.ClassFile.FieldType.object "TrailMarkers$Post")) [] 2 2 85 Y) (E : YE K Y (QvR κ) χ) {h : AH} {n : Nat} {z : Nat} {x1 : Int} (hk : P_X3_inState K o κ χ h n z x1) : G K Y h n z 0 (lv_argsA 0 [vR (some o), vI x1]) [] := by
  show G K Y h n z 0 [(0, vR (some o)), (1, vI x1)] []
  refine r_hNew X (pc := 0) nw_X3_8 dX3_inState_0 hk (fun h6 hk => ?_)
  refine r_dup X (pc := 3) dX3_inState_3 rfl ?_
  refine r_aload_n X (pc := 4) dX3_inState_4 rfl (q := 0) rfl ?_
  refine r_hGI X (pc := 5) fa_X3_7 dX3_inState_5 hk (fun y7 hk => ?_)
  refine r_aload_n X (pc := 8) dX3_inState_8 rfl (q := 0) rfl ?_
  refine r_hGI X (pc := 9) fa_X3_13 dX3_inState_9 hk (fun y8 hk => ?_)
  refine r_aload_n X (pc := 12) dX3_inState_12 rfl (q := 0) rfl ?_
  refine r_hGI X (pc := 13) fa_X3_16 dX3_inState_13 hk (fun y9 hk => ?_)
  refine r_aload_n X (pc := 16) dX3_inState_16 rfl (q := 0) rfl ?_
  refine r_hGI X (pc := 17) fa_X3_19 dX3_inState_17 hk (fun y10 hk => ?_)
  refine r_iload_n X (pc := 20) dX3_inState_20 rfl (q := 1) rfl ?_
  refine r_callI X (pc := 21) (As := [vI y7, vI y8, vI y9, vI y10, vI x1]) (st := [vR (some n)]) m_X3_26 (fun _ => s_X3_init hk) ⟨by decide, by decide⟩ (Nat.le_of_ble_eq_true rfl) dX3_inState_21 (fun v9 h11 n12 z13 hq => ?_) (fun ci14 q15 h16 n17 z18 hf => ?_)
  · obtain ⟨rfl, hk⟩ := hq
    refine ⟨[], rfl, ?_⟩
    exact r_aret X E (Or.inl ⟨_, rfl⟩) (pc := 24) dX3_inState_24 ⟨_, rfl, hk⟩
  · have hk := hf
    exact r_out X E (fun _ h9 => nomatch h9) hk
theorem s_X3_inState {K : KT} {l : Launch} {o : Nat} {κ : Option Nat → AH → Nat → Nat → Prop} {χ : QxT} {h : AH} {n : Nat} {z : Nat} {x1 : Int} (hk : P_X3_inState K o κ χ h n z x1) : Ct K l yX3_inState (ws_ yX3_inState cX3_inState 2 (Option.some (Jvm.ClassFile.FieldType.object "TrailMarkers$Post"))) 2 85 ([vR (some o), vI x1].map cV) h n z (QvR κ) χ :=
  ct_of (by decide +kernel) (Nat.le_of_ble_eq_true rfl) (fun Y X E => w_X3_inState X E hk)
set_option maxHeartbeats 4000000 in
theorem w_X2_change {K : KT} {Y : YT} {o : Nat} {κ : AH → Nat → Nat → Prop} {χ : QxT} (X : XY K "TrailMarkers$Trails" "change" cX2_change (Option.none : Option Jvm.ClassFile.FieldType) [] 3 9 261 Y) (E : YE K Y (QvV κ) χ) {h : AH} {n : Nat} {z : Nat} {x1 : Int} {x2 : Int} (hk : P_X2_change K o κ χ h n z x1 x2) : G K Y h n z 0 (lv_argsA 0 [vR (some o), vI x1, vI x2]) [] := by
  show G K Y h n z 0 [(0, vR (some o)), (1, vI x1), (2, vI x2)] []
  refine r_aload_n X (pc := 0) dX2_change_0 rfl (q := 0) rfl ?_
  refine r_hGR X (pc := 1) fa_X2_11 dX2_change_1 hk (fun y13 hk => ?_)
  refine r_iload_n X (pc := 4) dX2_change_4 rfl (q := 1) rfl ?_
  refine r_hAR X (pc := 5) (t := 5) rfl dX2_change_5 hk (fun y14 hk => ?_)
  refine r_hGI X (pc := 6) fa_X2_81_X3 dX2_change_6 hk (fun y15 hk => ?_)
  refine r_iload_n X (pc := 9) dX2_change_9 rfl (q := 2) rfl ?_
  obtain ⟨b16, b17, hk⟩ := hk
  refine r_icmp_ne X (pc := 10) (tgt := 22) dX2_change_10 (by decide) ⟨b16, b17⟩ (fun c18 => ?_) (fun c18 => ?_)
  · have hk := hk.2 c18
    refine r_aload_n X (pc := 22) dX2_change_22 rfl (q := 0) rfl ?_
    refine r_hGR X (pc := 23) fa_X2_11 dX2_change_23 hk (fun y19 hk => ?_)
    refine r_iload_n X (pc := 26) dX2_change_26 rfl (q := 1) rfl ?_
    refine r_aload_n X (pc := 27) dX2_change_27 rfl (q := 0) rfl ?_
    refine r_hGR X (pc := 28) fa_X2_11 dX2_change_28 hk (fun y20 hk => ?_)
    refine r_iload_n X (pc := 31) dX2_change_31 rfl (q := 1) rfl ?_
    refine r_hAR X (pc := 32) (t := 5) rfl dX2_change_32 hk (fun y21 hk => ?_)
    refine r_iload_n X (pc := 33) dX2_change_33 rfl (q := 2) rfl ?_
    obtain ⟨o32, fs33, e9, b34, hk⟩ := hk
    refine r_callV X (pc := 34) (As := [vI x2]) (st := [vI x1, vR y19]) rfl rfl e9 b34 m_X2_85 (fun _ => s_X3_inState hk) ⟨by decide, by decide⟩ (Nat.le_of_ble_eq_true rfl) dX2_change_34 (fun v9 h23 n24 z25 hq => ?_) (fun ci27 q28 h29 n30 z31 hf => ?_)
    · obtain ⟨r22, rfl, hk⟩ := hq
      refine ⟨[vR r22], rfl, ?_⟩
      refine r_hSR X (pc := 37) (t := 5) rfl cos_TrailMarkers_Post_2 dX2_change_37 hk (fun h26 hk => ?_)
      exact r_vret X E (pc := 38) dX2_change_38 ⟨rfl, hk⟩
    · have hk := hf
      exact r_out X E (fun _ h9 => nomatch h9) hk
  · have hk := hk.1 c18
    refine r_hNew X (pc := 13) nw_X2_62 dX2_change_13 hk (fun h35 hk => ?_)
    refine r_dup X (pc := 16) dX2_change_16 rfl ?_
    refine r_iconst X (pc := 17) dX2_change_17 ?_
    refine r_callI X (pc := 18) (As := [vI 5]) (st := [vR (some n)]) m_X2_64 (fun _ => s_X4_init hk) ⟨by decide, by decide⟩ (Nat.le_of_ble_eq_true rfl) dX2_change_18 (fun v9 h36 n37 z38 hq => ?_) (fun ci41 q42 h43 n44 z45 hf => ?_)
    · obtain ⟨rfl, hk⟩ := hq
      refine ⟨[], rfl, ?_⟩
      refine r_hThrow X (pc := 21) dX2_change_21 hk (fun ci39 q40 hk => ?_)
      exact r_out X E (fun _ h9 => nomatch h9) hk
    · have hk := hf
      exact r_out X E (fun _ h9 => nomatch h9) hk
theorem s_X2_change {K : KT} {l : Launch} {o : Nat} {κ : AH → Nat → Nat → Prop} {χ : QxT} {h : AH} {n : Nat} {z : Nat} {x1 : Int} {x2 : Int} (hk : P_X2_change K o κ χ h n z x1 x2) : Ct K l yX2_change (ws_ yX2_change cX2_change 3 (Option.none : Option Jvm.ClassFile.FieldType)) 9 261 ([vR (some o), vI x1, vI x2].map cV) h n z (QvV κ) χ :=
  ct_of (by decide +kernel) (Nat.le_of_ble_eq_true rfl) (fun Y X E => w_X2_change X E hk)
set_option maxHeartbeats 4000000 in
theorem w_X2_layBlock_17 {K : KT} {Y : YT} {o : Nat} {κ : AH → Nat → Nat → Prop} {χ : QxT} (X : XY K "TrailMarkers$Trails" "layBlock" cX2_layBlock (Option.none : Option Jvm.ClassFile.FieldType) [] 3 10 285 Y) (E : YE K Y (QvV κ) χ) : ∀ (h : AH) (n : Nat) (z : Nat) (x1 : Int) (x2 : Int) (s0 : Int) (s1 : Int) (s2 : Int), P_X2_layBlock_17 K o κ χ h n z x1 x2 s0 s1 s2 → G K Y h n z 17 [(0, vR (some o)), (1, vI x1), (2, vI x2)] [vI s0, vI s1, vI s2, vR (some o)] := by
  intro h n z x1 x2 s0 s1 s2 hk
  obtain ⟨o27, fs28, e9, b29, hk⟩ := hk
  refine r_callV X (pc := 17) (As := [vI s2, vI s1, vI s0]) (st := []) rfl rfl e9 b29 m_X2_73 (fun _ => s_X2_needFree hk) ⟨by decide, by decide⟩ (Nat.le_of_ble_eq_true rfl) dX2_layBlock_17 (fun v9 h6 n7 z8 hq => ?_) (fun ci22 q23 h24 n25 z26 hf => ?_)
  · obtain ⟨rfl, hk⟩ := hq
    refine ⟨[], rfl, ?_⟩
    refine r_aload_n X (pc := 20) dX2_layBlock_20 rfl (q := 0) rfl ?_
    refine r_iload_n X (pc := 21) dX2_layBlock_21 rfl (q := 1) rfl ?_
    refine r_iload_n X (pc := 22) dX2_layBlock_22 rfl (q := 2) rfl ?_
    refine r_iconst X (pc := 23) dX2_layBlock_23 ?_
    obtain ⟨o19, fs20, e9, b21, hk⟩ := hk
    refine r_callV X (pc := 24) (As := [vI x1, vI x2, vI (-1)]) (st := []) rfl rfl e9 b21 m_X2_77 (fun _ => s_X2_put hk) ⟨by decide, by decide⟩ (Nat.le_of_ble_eq_true rfl) dX2_layBlock_24 (fun v9 h9 n10 z11 hq => ?_) (fun ci14 q15 h16 n17 z18 hf => ?_)
    · obtain ⟨rfl, hk⟩ := hq
      refine ⟨[], rfl, ?_⟩
      refine r_aload_n X (pc := 27) dX2_layBlock_27 rfl (q := 0) rfl ?_
      refine r_dup X (pc := 28) dX2_layBlock_28 rfl ?_
      refine r_hGI X (pc := 29) fa_X2_44 dX2_layBlock_29 hk (fun y12 hk => ?_)
      refine r_iconst X (pc := 32) dX2_layBlock_32 ?_
      refine r_iadd X (pc := 33) dX2_layBlock_33 ?_
      refine r_hPut X (pc := 34) fp_X2_44 rfl rfl dX2_layBlock_34 hk (fun h13 hk => ?_)
      exact r_vret X E (pc := 37) dX2_layBlock_37 ⟨rfl, hk⟩
    · have hk := hf
      exact r_out X E (fun _ h9 => nomatch h9) hk
  · have hk := hf
    exact r_out X E (fun _ h9 => nomatch h9) hk
set_option maxHeartbeats 4000000 in
theorem w_X2_layBlock {K : KT} {Y : YT} {o : Nat} {κ : AH → Nat → Nat → Prop} {χ : QxT} (X : XY K "TrailMarkers$Trails" "layBlock" cX2_layBlock (Option.none : Option Jvm.ClassFile.FieldType) [] 3 10 285 Y) (E : YE K Y (QvV κ) χ) {h : AH} {n : Nat} {z : Nat} {x1 : Int} {x2 : Int} (hk : P_X2_layBlock K o κ χ h n z x1 x2) : G K Y h n z 0 (lv_argsA 0 [vR (some o), vI x1, vI x2]) [] := by
  show G K Y h n z 0 [(0, vR (some o)), (1, vI x1), (2, vI x2)] []
  refine r_aload_n X (pc := 0) dX2_layBlock_0 rfl (q := 0) rfl ?_
  refine r_iload_n X (pc := 1) dX2_layBlock_1 rfl (q := 1) rfl ?_
  refine r_iload_n X (pc := 2) dX2_layBlock_2 rfl (q := 2) rfl ?_
  refine r_aload_n X (pc := 3) dX2_layBlock_3 rfl (q := 0) rfl ?_
  refine r_hGI X (pc := 4) fa_X2_44 dX2_layBlock_4 hk (fun y30 hk => ?_)
  refine r_bipush X (pc := 7) dX2_layBlock_7 (by decide) ?_
  obtain ⟨b31, hk⟩ := hk
  refine r_icmp_ne X (pc := 9) (tgt := 16) dX2_layBlock_9 (by decide) ⟨b31, (by decide)⟩ (fun c32 => ?_) (fun c32 => ?_)
  · have hk := hk.2 c32
    refine r_iconst X (pc := 16) dX2_layBlock_16 ?_
    exact w_X2_layBlock_17 X E h n z x1 x2 0 x2 x1 hk
  · have hk := hk.1 c32
    refine r_iconst X (pc := 12) dX2_layBlock_12 ?_
    refine r_goto X (pc := 13) (tgt := 17) dX2_layBlock_13 (by decide) ?_
    exact w_X2_layBlock_17 X E h n z x1 x2 1 x2 x1 hk
theorem s_X2_layBlock {K : KT} {l : Launch} {o : Nat} {κ : AH → Nat → Nat → Prop} {χ : QxT} {h : AH} {n : Nat} {z : Nat} {x1 : Int} {x2 : Int} (hk : P_X2_layBlock K o κ χ h n z x1 x2) : Ct K l yX2_layBlock (ws_ yX2_layBlock cX2_layBlock 3 (Option.none : Option Jvm.ClassFile.FieldType)) 10 285 ([vR (some o), vI x1, vI x2].map cV) h n z (QvV κ) χ :=
  ct_of (by decide +kernel) (Nat.le_of_ble_eq_true rfl) (fun Y X E => w_X2_layBlock X E hk)
set_option maxHeartbeats 4000000 in
theorem w_X2_copy {K : KT} {Y : YT} {o : Nat} {κ : Option Nat → AH → Nat → Nat → Prop} {χ : QxT} (X : XY K "TrailMarkers$Trails" "copy" cX2_copy (Option.some (Jvm.ClassFile.FieldType.object "TrailMarkers$Trails")) [] 2 2 84 Y) (E : YE K Y (QvR κ) χ) {h : AH} {n : Nat} {z : Nat} (hk : P_X2_copy K o κ χ h n z) : G K Y h n z 0 (lv_argsA 0 [vR (some o)]) [] := by
  show G K Y h n z 0 [(0, vR (some o))] []
  refine r_hNew X (pc := 0) nw_X2_12 dX2_copy_0 hk (fun h21 hk => ?_)
  refine r_dup X (pc := 3) dX2_copy_3 rfl ?_
  refine r_aload_n X (pc := 4) dX2_copy_4 rfl (q := 0) rfl ?_
  refine r_hGI X (pc := 5) fa_X2_25 dX2_copy_5 hk (fun y22 hk => ?_)
  refine r_aload_n X (pc := 8) dX2_copy_8 rfl (q := 0) rfl ?_
  refine r_hGI X (pc := 9) fa_X2_29 dX2_copy_9 hk (fun y23 hk => ?_)
  refine r_aload_n X (pc := 12) dX2_copy_12 rfl (q := 0) rfl ?_
  refine r_hGR X (pc := 13) fa_X2_21 dX2_copy_13 hk (fun y24 hk => ?_)
  refine r_iconst X (pc := 16) dX2_copy_16 ?_
  refine r_hAI X (pc := 17) dX2_copy_17 hk (fun y25 hk => ?_)
  refine r_aload_n X (pc := 18) dX2_copy_18 rfl (q := 0) rfl ?_
  refine r_hGR X (pc := 19) fa_X2_21 dX2_copy_19 hk (fun y26 hk => ?_)
  refine r_iconst X (pc := 22) dX2_copy_22 ?_
  refine r_hAI X (pc := 23) dX2_copy_23 hk (fun y27 hk => ?_)
  refine r_callI X (pc := 24) (As := [vI y22, vI y23, vI y25, vI y27]) (st := [vR (some n)]) m_X2_32 (fun _ => s_X2_init hk) ⟨by decide, by decide⟩ (Nat.le_of_ble_eq_true rfl) dX2_copy_24 (fun v9 h28 n29 z30 hq => ?_) (fun ci44 q45 h46 n47 z48 hf => ?_)
  · obtain ⟨rfl, hk⟩ := hq
    refine ⟨[], rfl, ?_⟩
    refine r_astore_n X (pc := 27) (lv1 := [(1, vR (some n)), (0, vR (some o))]) dX2_copy_27 rfl (by decide) rfl ?_
    refine r_aload_n X (pc := 28) dX2_copy_28 rfl (q := 1) rfl ?_
    refine r_hGR X (pc := 29) fa_X2_11 dX2_copy_29 hk (fun y31 hk => ?_)
    refine r_iconst X (pc := 32) dX2_copy_32 ?_
    refine r_aload_n X (pc := 33) dX2_copy_33 rfl (q := 0) rfl ?_
    refine r_hGR X (pc := 34) fa_X2_11 dX2_copy_34 hk (fun y32 hk => ?_)
    refine r_iconst X (pc := 37) dX2_copy_37 ?_
    refine r_aload_n X (pc := 38) dX2_copy_38 rfl (q := 1) rfl ?_
    refine r_hGI X (pc := 39) fa_X2_35 dX2_copy_39 hk (fun y33 hk => ?_)
    refine r_hCopyR X (pc := 42) (t := 5) rfl cos_TrailMarkers_Post_2 q1128 q585 q584 q151 ⟨by decide, Nat.le_of_ble_eq_true rfl⟩ dX2_copy_42 hk (fun h34 hk => ?_)
    refine r_aload_n X (pc := 45) dX2_copy_45 rfl (q := 0) rfl ?_
    refine r_aload_n X (pc := 46) dX2_copy_46 rfl (q := 1) rfl ?_
    refine r_hGI X (pc := 47) fa_X2_35 dX2_copy_47 hk (fun y35 hk => ?_)
    refine r_hPut X (pc := 50) fp_X2_35 rfl rfl dX2_copy_50 hk (fun h36 hk => ?_)
    refine r_aload_n X (pc := 53) dX2_copy_53 rfl (q := 1) rfl ?_
    refine r_hGR X (pc := 54) fa_X2_17 dX2_copy_54 hk (fun y37 hk => ?_)
    refine r_iconst X (pc := 57) dX2_copy_57 ?_
    refine r_aload_n X (pc := 58) dX2_copy_58 rfl (q := 0) rfl ?_
    refine r_hGR X (pc := 59) fa_X2_17 dX2_copy_59 hk (fun y38 hk => ?_)
    refine r_iconst X (pc := 62) dX2_copy_62 ?_
    refine r_aload_n X (pc := 63) dX2_copy_63 rfl (q := 1) rfl ?_
    refine r_hGR X (pc := 64) fa_X2_17 dX2_copy_64 hk (fun y39 hk => ?_)
    refine r_hLen X (pc := 67) (t := 1) rfl dX2_copy_67 hk (fun y40 hk => ?_)
    refine r_hCopyB X (pc := 68) q1128 q585 q584 q151 ⟨by decide, Nat.le_of_ble_eq_true rfl⟩ dX2_copy_68 hk (fun h41 hk => ?_)
    refine r_aload_n X (pc := 71) dX2_copy_71 rfl (q := 0) rfl ?_
    refine r_aload_n X (pc := 72) dX2_copy_72 rfl (q := 1) rfl ?_
    refine r_hGI X (pc := 73) fa_X2_44 dX2_copy_73 hk (fun y42 hk => ?_)
    refine r_hPut X (pc := 76) fp_X2_44 rfl rfl dX2_copy_76 hk (fun h43 hk => ?_)
    refine r_aload_n X (pc := 79) dX2_copy_79 rfl (q := 0) rfl ?_
    exact r_aret X E (Or.inl ⟨_, rfl⟩) (pc := 80) dX2_copy_80 ⟨_, rfl, hk⟩
  · have hk := hf
    exact r_out X E (fun _ h9 => nomatch h9) hk
theorem s_X2_copy {K : KT} {l : Launch} {o : Nat} {κ : Option Nat → AH → Nat → Nat → Prop} {χ : QxT} {h : AH} {n : Nat} {z : Nat} (hk : P_X2_copy K o κ χ h n z) : Ct K l yX2_copy (ws_ yX2_copy cX2_copy 2 (Option.some (Jvm.ClassFile.FieldType.object "TrailMarkers$Trails"))) 2 84 ([vR (some o)].map cV) h n z (QvR κ) χ :=
  ct_of (by decide +kernel) (Nat.le_of_ble_eq_true rfl) (fun Y X E => w_X2_copy X E hk)
set_option maxHeartbeats 4000000 in
theorem w_X2_standing_4 {K : KT} {Y : YT} {o : Nat} {κ : Int → AH → Nat → Nat → Prop} {χ : QxT} (X : XY K "TrailMarkers$Trails" "standing" cX2_standing (Option.some Jvm.ClassFile.FieldType.int) [] 4 1 21 Y) (E : YE K Y (QvI κ) χ) {k_34 : AH → Nat → Nat → Int → Prop} (H_34 : ∀ (h : AH) (n : Nat) (z : Nat) (x2 : Int), k_34 h n z x2 → G K Y h n z 34 [(0, vR (some o)), (2, vI x2)] []) : ∀ (f : Nat) (h : AH) (n : Nat) (z : Nat) (x1 : Int) (x2 : Int) (x3 : Int), L_X2_standing_4 K o k_34 κ χ f h n z x1 x2 x3 → G K Y h n z 4 [(0, vR (some o)), (1, vI x1), (2, vI x2), (3, vI x3)] [] := by
  intro f
  induction f with
  | zero => intro h n z x1 x2 x3 hk; exact hk.elim
  | succ f ih =>
    intro h n z x1 x2 x3 hk
    refine r_iload_n X (pc := 4) dX2_standing_4 rfl (q := 3) rfl ?_
    refine r_aload_n X (pc := 5) dX2_standing_5 rfl (q := 0) rfl ?_
    refine r_hGI X (pc := 6) fa_X2_35 dX2_standing_6 hk (fun y10 hk => ?_)
    obtain ⟨b11, b12, hk⟩ := hk
    refine r_icmp_ge X (pc := 9) (tgt := 34) dX2_standing_9 (by decide) ⟨b11, b12⟩ (fun c13 => ?_) (fun c13 => ?_)
    · have hk := hk.2 c13
      refine G.sub [0, 2] rfl ?_
      exact H_34 h n z x2 hk
    · have hk := hk.1 c13
      refine r_aload_n X (pc := 12) dX2_standing_12 rfl (q := 0) rfl ?_
      refine r_hGR X (pc := 13) fa_X2_11 dX2_standing_13 hk (fun y14 hk => ?_)
      refine r_iload_n X (pc := 16) dX2_standing_16 rfl (q := 3) rfl ?_
      refine r_hAR X (pc := 17) (t := 5) rfl dX2_standing_17 hk (fun y15 hk => ?_)
      refine r_iload_n X (pc := 18) dX2_standing_18 rfl (q := 1) rfl ?_
      obtain ⟨o27, fs28, e9, b29, hk⟩ := hk
      refine r_callV X (pc := 19) (As := [vI x1]) (st := []) rfl rfl e9 b29 m_X2_89 (fun _ => s_X3_standsFor hk) ⟨by decide, by decide⟩ (Nat.le_of_ble_eq_true rfl) dX2_standing_19 (fun v9 h17 n18 z19 hq => ?_) (fun ci22 q23 h24 n25 z26 hf => ?_)
      · obtain ⟨r16, rfl, hk⟩ := hq
        refine ⟨[vI r16], rfl, ?_⟩
        obtain ⟨b20, hk⟩ := hk
        refine r_if_eq X (pc := 22) (tgt := 28) dX2_standing_22 (by decide) b20 (fun c21 => ?_) (fun c21 => ?_)
        · have hk := hk.1 c21
          refine r_iinc X (pc := 28) (q := 3) (lv1 := [(3, vI (x3 + 1)), (0, vR (some o)), (1, vI x1), (2, vI x2)]) dX2_standing_28 rfl (by decide) rfl ?_
          refine r_goto X (pc := 31) (tgt := 4) dX2_standing_31 (by decide) ?_
          refine G.sub [1, 2, 3, 0] rfl ?_
          exact ih h17 n18 z19 x1 x2 (x3 + 1) hk
        · have hk := hk.2 c21
          refine r_iinc X (pc := 25) (q := 2) (lv1 := [(2, vI (x2 + 1)), (0, vR (some o)), (1, vI x1), (3, vI x3)]) dX2_standing_25 rfl (by decide) rfl ?_
          refine r_iinc X (pc := 28) (q := 3) (lv1 := [(3, vI (x3 + 1)), (2, vI (x2 + 1)), (0, vR (some o)), (1, vI x1)]) dX2_standing_28 rfl (by decide) rfl ?_
          refine r_goto X (pc := 31) (tgt := 4) dX2_standing_31 (by decide) ?_
          refine G.sub [2, 3, 1, 0] rfl ?_
          exact ih h17 n18 z19 x1 (x2 + 1) (x3 + 1) hk
      · have hk := hf
        exact r_out X E (fun _ h9 => nomatch h9) hk
set_option maxHeartbeats 4000000 in
theorem w_X2_standing_34 {K : KT} {Y : YT} {o : Nat} {κ : Int → AH → Nat → Nat → Prop} {χ : QxT} (X : XY K "TrailMarkers$Trails" "standing" cX2_standing (Option.some Jvm.ClassFile.FieldType.int) [] 4 1 21 Y) (E : YE K Y (QvI κ) χ) : ∀ (h : AH) (n : Nat) (z : Nat) (x2 : Int), P_X2_standing_34 K o κ χ h n z x2 → G K Y h n z 34 [(0, vR (some o)), (2, vI x2)] [] := by
  intro h n z x2 hk
  refine r_iload_n X (pc := 34) dX2_standing_34 rfl (q := 1) rfl ?_
  exact r_iret X E (pc := 35) dX2_standing_35 rfl ⟨_, rfl, hk⟩
set_option maxHeartbeats 4000000 in
theorem w_X2_standing {K : KT} {Y : YT} {o : Nat} {κ : Int → AH → Nat → Nat → Prop} {χ : QxT} (X : XY K "TrailMarkers$Trails" "standing" cX2_standing (Option.some Jvm.ClassFile.FieldType.int) [] 4 1 21 Y) (E : YE K Y (QvI κ) χ) {h : AH} {n : Nat} {z : Nat} {x1 : Int} (hk : P_X2_standing K o κ χ h n z x1) : G K Y h n z 0 (lv_argsA 0 [vR (some o), vI x1]) [] := by
  show G K Y h n z 0 [(0, vR (some o)), (1, vI x1)] []
  refine r_iconst X (pc := 0) dX2_standing_0 ?_
  refine r_istore_n X (pc := 1) (lv1 := [(2, vI 0), (0, vR (some o)), (1, vI x1)]) dX2_standing_1 rfl (by decide) rfl ?_
  refine r_iconst X (pc := 2) dX2_standing_2 ?_
  refine r_istore_n X (pc := 3) (lv1 := [(3, vI 0), (2, vI 0), (0, vR (some o)), (1, vI x1)]) dX2_standing_3 rfl (by decide) rfl ?_
  refine G.sub [2, 3, 1, 0] rfl ?_
  have HH30 : ∀ (h : AH) (n : Nat) (z : Nat) (x2 : Int), (P_X2_standing_34 K o κ χ h n z x2) → G K Y h n z 34 [(0, vR (some o)), (2, vI x2)] [] := by
      intro h n z x2 hk
      exact w_X2_standing_34 X E h n z x2 hk
  obtain ⟨f9, hk⟩ := hk
  exact w_X2_standing_4 X E HH30 f9 h n z x1 0 0 hk
theorem s_X2_standing {K : KT} {l : Launch} {o : Nat} {κ : Int → AH → Nat → Nat → Prop} {χ : QxT} {h : AH} {n : Nat} {z : Nat} {x1 : Int} (hk : P_X2_standing K o κ χ h n z x1) : Ct K l yX2_standing (ws_ yX2_standing cX2_standing 4 (Option.some Jvm.ClassFile.FieldType.int)) 1 21 ([vR (some o), vI x1].map cV) h n z (QvI κ) χ :=
  ct_of (by decide +kernel) (Nat.le_of_ble_eq_true rfl) (fun Y X E => w_X2_standing X E hk)
set_option maxHeartbeats 4000000 in
theorem w_X2_begin_2 {K : KT} {Y : YT} {o : Nat} {κ : Int → AH → Nat → Nat → Prop} {χ : QxT} (X : XY K "TrailMarkers$Trails" "begin" cX2_begin (Option.some Jvm.ClassFile.FieldType.int) [] 3 1 21 Y) (E : YE K Y (QvI κ) χ) {k_23 : AH → Nat → Nat → Int → Prop} {k_31 : AH → Nat → Nat → Prop} (H_23 : ∀ (h : AH) (n : Nat) (z : Nat) (x2 : Int), k_23 h n z x2 → G K Y h n z 23 [(0, vR (some o)), (2, vI x2)] []) (H_31 : ∀ (h : AH) (n : Nat) (z : Nat), k_31 h n z → G K Y h n z 31 [(0, vR (some o))] []) : ∀ (f : Nat) (h : AH) (n : Nat) (z : Nat) (x1 : Int) (x2 : Int), L_X2_begin_2 K o k_23 k_31 κ χ f h n z x1 x2 → G K Y h n z 2 [(0, vR (some o)), (1, vI x1), (2, vI x2)] [] := by
  intro f
  induction f with
  | zero => intro h n z x1 x2 hk; exact hk.elim
  | succ f ih =>
    intro h n z x1 x2 hk
    refine r_iload_n X (pc := 2) dX2_begin_2 rfl (q := 2) rfl ?_
    refine r_aload_n X (pc := 3) dX2_begin_3 rfl (q := 0) rfl ?_
    refine r_hGI X (pc := 4) fa_X2_35 dX2_begin_4 hk (fun y10 hk => ?_)
    obtain ⟨b11, b12, hk⟩ := hk
    refine r_icmp_ge X (pc := 7) (tgt := 31) dX2_begin_7 (by decide) ⟨b11, b12⟩ (fun c13 => ?_) (fun c13 => ?_)
    · have hk := hk.2 c13
      refine G.sub [0] rfl ?_
      exact H_31 h n z hk
    · have hk := hk.1 c13
      refine r_aload_n X (pc := 10) dX2_begin_10 rfl (q := 0) rfl ?_
      refine r_hGR X (pc := 11) fa_X2_11 dX2_begin_11 hk (fun y14 hk => ?_)
      refine r_iload_n X (pc := 14) dX2_begin_14 rfl (q := 2) rfl ?_
      refine r_hAR X (pc := 15) (t := 5) rfl dX2_begin_15 hk (fun y15 hk => ?_)
      refine r_iload_n X (pc := 16) dX2_begin_16 rfl (q := 1) rfl ?_
      obtain ⟨o27, fs28, e9, b29, hk⟩ := hk
      refine r_callV X (pc := 17) (As := [vI x1]) (st := []) rfl rfl e9 b29 m_X2_89 (fun _ => s_X3_standsFor hk) ⟨by decide, by decide⟩ (Nat.le_of_ble_eq_true rfl) dX2_begin_17 (fun v9 h17 n18 z19 hq => ?_) (fun ci22 q23 h24 n25 z26 hf => ?_)
      · obtain ⟨r16, rfl, hk⟩ := hq
        refine ⟨[vI r16], rfl, ?_⟩
        obtain ⟨b20, hk⟩ := hk
        refine r_if_eq X (pc := 20) (tgt := 25) dX2_begin_20 (by decide) b20 (fun c21 => ?_) (fun c21 => ?_)
        · have hk := hk.1 c21
          refine r_iinc X (pc := 25) (q := 2) (lv1 := [(2, vI (x2 + 1)), (0, vR (some o)), (1, vI x1)]) dX2_begin_25 rfl (by decide) rfl ?_
          refine r_goto X (pc := 28) (tgt := 2) dX2_begin_28 (by decide) ?_
          refine G.sub [1, 2, 0] rfl ?_
          exact ih h17 n18 z19 x1 (x2 + 1) hk
        · have hk := hk.2 c21
          refine G.sub [0, 2] rfl ?_
          exact H_23 h17 n18 z19 x2 hk
      · have hk := hf
        exact r_out X E (fun _ h9 => nomatch h9) hk
set_option maxHeartbeats 4000000 in
theorem w_X2_begin_23 {K : KT} {Y : YT} {o : Nat} {κ : Int → AH → Nat → Nat → Prop} {χ : QxT} (X : XY K "TrailMarkers$Trails" "begin" cX2_begin (Option.some Jvm.ClassFile.FieldType.int) [] 3 1 21 Y) (E : YE K Y (QvI κ) χ) : ∀ (h : AH) (n : Nat) (z : Nat) (x2 : Int), P_X2_begin_23 K o κ χ h n z x2 → G K Y h n z 23 [(0, vR (some o)), (2, vI x2)] [] := by
  intro h n z x2 hk
  refine r_iload_n X (pc := 23) dX2_begin_23 rfl (q := 1) rfl ?_
  exact r_iret X E (pc := 24) dX2_begin_24 rfl ⟨_, rfl, hk⟩
set_option maxHeartbeats 4000000 in
theorem w_X2_begin_31 {K : KT} {Y : YT} {o : Nat} {κ : Int → AH → Nat → Nat → Prop} {χ : QxT} (X : XY K "TrailMarkers$Trails" "begin" cX2_begin (Option.some Jvm.ClassFile.FieldType.int) [] 3 1 21 Y) (E : YE K Y (QvI κ) χ) : ∀ (h : AH) (n : Nat) (z : Nat), P_X2_begin_31 K o κ χ h n z → G K Y h n z 31 [(0, vR (some o))] [] := by
  intro h n z hk
  refine r_iconst X (pc := 31) dX2_begin_31 ?_
  exact r_iret X E (pc := 32) dX2_begin_32 rfl ⟨_, rfl, hk⟩
set_option maxHeartbeats 4000000 in
theorem w_X2_begin {K : KT} {Y : YT} {o : Nat} {κ : Int → AH → Nat → Nat → Prop} {χ : QxT} (X : XY K "TrailMarkers$Trails" "begin" cX2_begin (Option.some Jvm.ClassFile.FieldType.int) [] 3 1 21 Y) (E : YE K Y (QvI κ) χ) {h : AH} {n : Nat} {z : Nat} {x1 : Int} (hk : P_X2_begin K o κ χ h n z x1) : G K Y h n z 0 (lv_argsA 0 [vR (some o), vI x1]) [] := by
  show G K Y h n z 0 [(0, vR (some o)), (1, vI x1)] []
  refine r_iconst X (pc := 0) dX2_begin_0 ?_
  refine r_istore_n X (pc := 1) (lv1 := [(2, vI 0), (0, vR (some o)), (1, vI x1)]) dX2_begin_1 rfl (by decide) rfl ?_
  refine G.sub [1, 2, 0] rfl ?_
  have HH30 : ∀ (h : AH) (n : Nat) (z : Nat) (x2 : Int), (P_X2_begin_23 K o κ χ h n z x2) → G K Y h n z 23 [(0, vR (some o)), (2, vI x2)] [] := by
      intro h n z x2 hk
      exact w_X2_begin_23 X E h n z x2 hk
  have HH31 : ∀ (h : AH) (n : Nat) (z : Nat), (P_X2_begin_31 K o κ χ h n z) → G K Y h n z 31 [(0, vR (some o))] [] := by
      intro h n z hk
      exact w_X2_begin_31 X E h n z hk
  obtain ⟨f9, hk⟩ := hk
  exact w_X2_begin_2 X E HH30 HH31 f9 h n z x1 0 hk
theorem s_X2_begin {K : KT} {l : Launch} {o : Nat} {κ : Int → AH → Nat → Nat → Prop} {χ : QxT} {h : AH} {n : Nat} {z : Nat} {x1 : Int} (hk : P_X2_begin K o κ χ h n z x1) : Ct K l yX2_begin (ws_ yX2_begin cX2_begin 3 (Option.some Jvm.ClassFile.FieldType.int)) 1 21 ([vR (some o), vI x1].map cV) h n z (QvI κ) χ :=
  ct_of (by decide +kernel) (Nat.le_of_ble_eq_true rfl) (fun Y X E => w_X2_begin X E hk)
set_option maxHeartbeats 4000000 in
theorem w_X2_drop_35 {K : KT} {Y : YT} {o : Nat} {κ : AH → Nat → Nat → Prop} {χ : QxT} (X : XY K "TrailMarkers$Trails" "drop" cX2_drop (Option.none : Option Jvm.ClassFile.FieldType) [] 3 1 23 Y) (E : YE K Y (QvV κ) χ) {k_88 : AH → Nat → Nat → Prop} (H_88 : ∀ (h : AH) (n : Nat) (z : Nat), k_88 h n z → G K Y h n z 88 [(0, vR (some o))] []) : ∀ (f : Nat) (h : AH) (n : Nat) (z : Nat) (x2 : Int), L_X2_drop_35 K o k_88 κ χ f h n z x2 → G K Y h n z 35 [(0, vR (some o)), (2, vI x2)] [] := by
  intro f
  induction f with
  | zero => intro h n z x2 hk; exact hk.elim
  | succ f ih =>
    intro h n z x2 hk
    refine r_iload_n X (pc := 35) dX2_drop_35 rfl (q := 1) rfl ?_
    refine r_aload_n X (pc := 36) dX2_drop_36 rfl (q := 0) rfl ?_
    refine r_hGI X (pc := 37) fa_X2_35 dX2_drop_37 hk (fun y23 hk => ?_)
    obtain ⟨b24, b25, hk⟩ := hk
    refine r_icmp_ge X (pc := 40) (tgt := 88) dX2_drop_40 (by decide) ⟨b24, b25⟩ (fun c26 => ?_) (fun c26 => ?_)
    · have hk := hk.2 c26
      refine G.sub [0] rfl ?_
      exact H_88 h n z hk
    · have hk := hk.1 c26
      refine r_aload_n X (pc := 43) dX2_drop_43 rfl (q := 0) rfl ?_
      refine r_hGR X (pc := 44) fa_X2_11 dX2_drop_44 hk (fun y27 hk => ?_)
      refine r_iload_n X (pc := 47) dX2_drop_47 rfl (q := 1) rfl ?_
      refine r_aload_n X (pc := 48) dX2_drop_48 rfl (q := 0) rfl ?_
      refine r_hGR X (pc := 49) fa_X2_11 dX2_drop_49 hk (fun y28 hk => ?_)
      refine r_iload_n X (pc := 52) dX2_drop_52 rfl (q := 1) rfl ?_
      refine r_iconst X (pc := 53) dX2_drop_53 ?_
      refine r_iadd X (pc := 54) dX2_drop_54 ?_
      refine r_hAR X (pc := 55) (t := 5) rfl dX2_drop_55 hk (fun y29 hk => ?_)
      refine r_hSR X (pc := 56) (t := 5) rfl cos_TrailMarkers_Post_2 dX2_drop_56 hk (fun h30 hk => ?_)
      refine r_aload_n X (pc := 57) dX2_drop_57 rfl (q := 0) rfl ?_
      refine r_aload_n X (pc := 58) dX2_drop_58 rfl (q := 0) rfl ?_
      refine r_hGR X (pc := 59) fa_X2_11 dX2_drop_59 hk (fun y31 hk => ?_)
      refine r_iload_n X (pc := 62) dX2_drop_62 rfl (q := 1) rfl ?_
      refine r_hAR X (pc := 63) (t := 5) rfl dX2_drop_63 hk (fun y32 hk => ?_)
      refine r_hGI X (pc := 64) fa_X2_67_X3 dX2_drop_64 hk (fun y33 hk => ?_)
      refine r_aload_n X (pc := 67) dX2_drop_67 rfl (q := 0) rfl ?_
      refine r_hGR X (pc := 68) fa_X2_11 dX2_drop_68 hk (fun y34 hk => ?_)
      refine r_iload_n X (pc := 71) dX2_drop_71 rfl (q := 1) rfl ?_
      refine r_hAR X (pc := 72) (t := 5) rfl dX2_drop_72 hk (fun y35 hk => ?_)
      refine r_hGI X (pc := 73) fa_X2_70_X3 dX2_drop_73 hk (fun y36 hk => ?_)
      refine r_iload_n X (pc := 76) dX2_drop_76 rfl (q := 1) rfl ?_
      refine r_iconst X (pc := 77) dX2_drop_77 ?_
      refine r_iadd X (pc := 78) dX2_drop_78 ?_
      obtain ⟨o45, fs46, e9, b47, hk⟩ := hk
      refine r_callV X (pc := 79) (As := [vI y33, vI y36, vI (x2 + 1)]) (st := []) rfl rfl e9 b47 m_X2_77 (fun _ => s_X2_put hk) ⟨by decide, by decide⟩ (Nat.le_of_ble_eq_true rfl) dX2_drop_79 (fun v9 h37 n38 z39 hq => ?_) (fun ci40 q41 h42 n43 z44 hf => ?_)
      · obtain ⟨rfl, hk⟩ := hq
        refine ⟨[], rfl, ?_⟩
        refine r_iinc X (pc := 82) (q := 1) (lv1 := [(2, vI (x2 + 1)), (0, vR (some o))]) dX2_drop_82 rfl (by decide) rfl ?_
        refine r_goto X (pc := 85) (tgt := 35) dX2_drop_85 (by decide) ?_
        refine G.sub [1, 0] rfl ?_
        exact ih h37 n38 z39 (x2 + 1) hk
      · have hk := hf
        exact r_out X E (fun _ h9 => nomatch h9) hk
set_option maxHeartbeats 4000000 in
theorem w_X2_drop_88 {K : KT} {Y : YT} {o : Nat} {κ : AH → Nat → Nat → Prop} {χ : QxT} (X : XY K "TrailMarkers$Trails" "drop" cX2_drop (Option.none : Option Jvm.ClassFile.FieldType) [] 3 1 23 Y) (E : YE K Y (QvV κ) χ) : ∀ (h : AH) (n : Nat) (z : Nat), P_X2_drop_88 K o κ χ h n z → G K Y h n z 88 [(0, vR (some o))] [] := by
  intro h n z hk
  exact r_vret X E (pc := 88) dX2_drop_88 ⟨rfl, hk⟩
set_option maxHeartbeats 4000000 in
theorem w_X2_drop {K : KT} {Y : YT} {o : Nat} {κ : AH → Nat → Nat → Prop} {χ : QxT} (X : XY K "TrailMarkers$Trails" "drop" cX2_drop (Option.none : Option Jvm.ClassFile.FieldType) [] 3 1 23 Y) (E : YE K Y (QvV κ) χ) {h : AH} {n : Nat} {z : Nat} {x1 : Int} (hk : P_X2_drop K o κ χ h n z x1) : G K Y h n z 0 (lv_argsA 0 [vR (some o), vI x1]) [] := by
  show G K Y h n z 0 [(0, vR (some o)), (1, vI x1)] []
  refine r_aload_n X (pc := 0) dX2_drop_0 rfl (q := 0) rfl ?_
  refine r_aload_n X (pc := 1) dX2_drop_1 rfl (q := 0) rfl ?_
  refine r_hGR X (pc := 2) fa_X2_11 dX2_drop_2 hk (fun y48 hk => ?_)
  refine r_iload_n X (pc := 5) dX2_drop_5 rfl (q := 1) rfl ?_
  refine r_hAR X (pc := 6) (t := 5) rfl dX2_drop_6 hk (fun y49 hk => ?_)
  refine r_hGI X (pc := 7) fa_X2_67_X3 dX2_drop_7 hk (fun y50 hk => ?_)
  refine r_aload_n X (pc := 10) dX2_drop_10 rfl (q := 0) rfl ?_
  refine r_hGR X (pc := 11) fa_X2_11 dX2_drop_11 hk (fun y51 hk => ?_)
  refine r_iload_n X (pc := 14) dX2_drop_14 rfl (q := 1) rfl ?_
  refine r_hAR X (pc := 15) (t := 5) rfl dX2_drop_15 hk (fun y52 hk => ?_)
  refine r_hGI X (pc := 16) fa_X2_70_X3 dX2_drop_16 hk (fun y53 hk => ?_)
  refine r_iconst X (pc := 19) dX2_drop_19 ?_
  obtain ⟨o65, fs66, e9, b67, hk⟩ := hk
  refine r_callV X (pc := 20) (As := [vI y50, vI y53, vI 0]) (st := []) rfl rfl e9 b67 m_X2_77 (fun _ => s_X2_put hk) ⟨by decide, by decide⟩ (Nat.le_of_ble_eq_true rfl) dX2_drop_20 (fun v9 h54 n55 z56 hq => ?_) (fun ci60 q61 h62 n63 z64 hf => ?_)
  · obtain ⟨rfl, hk⟩ := hq
    refine ⟨[], rfl, ?_⟩
    refine r_aload_n X (pc := 23) dX2_drop_23 rfl (q := 0) rfl ?_
    refine r_dup X (pc := 24) dX2_drop_24 rfl ?_
    refine r_hGI X (pc := 25) fa_X2_35 dX2_drop_25 hk (fun y57 hk => ?_)
    refine r_iconst X (pc := 28) dX2_drop_28 ?_
    refine r_isub X (pc := 29) dX2_drop_29 ?_
    refine r_hPut X (pc := 30) fp_X2_35 rfl rfl dX2_drop_30 hk (fun h58 hk => ?_)
    refine r_iload_n X (pc := 33) dX2_drop_33 rfl (q := 1) rfl ?_
    refine r_istore_n X (pc := 34) (lv1 := [(2, vI x1), (0, vR (some o)), (1, vI x1)]) dX2_drop_34 rfl (by decide) rfl ?_
    refine G.sub [1, 0] rfl ?_
    have HH59 : ∀ (h : AH) (n : Nat) (z : Nat), (P_X2_drop_88 K o κ χ h n z) → G K Y h n z 88 [(0, vR (some o))] [] := by
        intro h n z hk
        exact w_X2_drop_88 X E h n z hk
    obtain ⟨f9, hk⟩ := hk
    exact w_X2_drop_35 X E HH59 f9 h58 n55 z56 x1 hk
  · have hk := hf
    exact r_out X E (fun _ h9 => nomatch h9) hk
theorem s_X2_drop {K : KT} {l : Launch} {o : Nat} {κ : AH → Nat → Nat → Prop} {χ : QxT} {h : AH} {n : Nat} {z : Nat} {x1 : Int} (hk : P_X2_drop K o κ χ h n z x1) : Ct K l yX2_drop (ws_ yX2_drop cX2_drop 3 (Option.none : Option Jvm.ClassFile.FieldType)) 1 23 ([vR (some o), vI x1].map cV) h n z (QvV κ) χ :=
  ct_of (by decide +kernel) (Nat.le_of_ble_eq_true rfl) (fun Y X E => w_X2_drop X E hk)
set_option maxHeartbeats 4000000 in
theorem w_X2_takeBlock {K : KT} {Y : YT} {o : Nat} {κ : AH → Nat → Nat → Prop} {χ : QxT} (X : XY K "TrailMarkers$Trails" "takeBlock" cX2_takeBlock (Option.none : Option Jvm.ClassFile.FieldType) [] 3 1 23 Y) (E : YE K Y (QvV κ) χ) {h : AH} {n : Nat} {z : Nat} {x1 : Int} {x2 : Int} (hk : P_X2_takeBlock K o κ χ h n z x1 x2) : G K Y h n z 0 (lv_argsA 0 [vR (some o), vI x1, vI x2]) [] := by
  show G K Y h n z 0 [(0, vR (some o)), (1, vI x1), (2, vI x2)] []
  refine r_aload_n X (pc := 0) dX2_takeBlock_0 rfl (q := 0) rfl ?_
  refine r_iload_n X (pc := 1) dX2_takeBlock_1 rfl (q := 1) rfl ?_
  refine r_iload_n X (pc := 2) dX2_takeBlock_2 rfl (q := 2) rfl ?_
  refine r_iconst X (pc := 3) dX2_takeBlock_3 ?_
  obtain ⟨o13, fs14, e9, b15, hk⟩ := hk
  refine r_callV X (pc := 4) (As := [vI x1, vI x2, vI 0]) (st := []) rfl rfl e9 b15 m_X2_77 (fun _ => s_X2_put hk) ⟨by decide, by decide⟩ (Nat.le_of_ble_eq_true rfl) dX2_takeBlock_4 (fun v9 h3 n4 z5 hq => ?_) (fun ci8 q9 h10 n11 z12 hf => ?_)
  · obtain ⟨rfl, hk⟩ := hq
    refine ⟨[], rfl, ?_⟩
    refine r_aload_n X (pc := 7) dX2_takeBlock_7 rfl (q := 0) rfl ?_
    refine r_dup X (pc := 8) dX2_takeBlock_8 rfl ?_
    refine r_hGI X (pc := 9) fa_X2_44 dX2_takeBlock_9 hk (fun y6 hk => ?_)
    refine r_iconst X (pc := 12) dX2_takeBlock_12 ?_
    refine r_isub X (pc := 13) dX2_takeBlock_13 ?_
    refine r_hPut X (pc := 14) fp_X2_44 rfl rfl dX2_takeBlock_14 hk (fun h7 hk => ?_)
    exact r_vret X E (pc := 17) dX2_takeBlock_17 ⟨rfl, hk⟩
  · have hk := hf
    exact r_out X E (fun _ h9 => nomatch h9) hk
theorem s_X2_takeBlock {K : KT} {l : Launch} {o : Nat} {κ : AH → Nat → Nat → Prop} {χ : QxT} {h : AH} {n : Nat} {z : Nat} {x1 : Int} {x2 : Int} (hk : P_X2_takeBlock K o κ χ h n z x1 x2) : Ct K l yX2_takeBlock (ws_ yX2_takeBlock cX2_takeBlock 3 (Option.none : Option Jvm.ClassFile.FieldType)) 1 23 ([vR (some o), vI x1, vI x2].map cV) h n z (QvV κ) χ :=
  ct_of (by decide +kernel) (Nat.le_of_ble_eq_true rfl) (fun Y X E => w_X2_takeBlock X E hk)
set_option maxHeartbeats 4000000 in
theorem w_X2_hasMissingAt {K : KT} {Y : YT} {o : Nat} {κ : Int → AH → Nat → Nat → Prop} {χ : QxT} (X : XY K "TrailMarkers$Trails" "hasMissingAt" cX2_hasMissingAt (Option.some Jvm.ClassFile.FieldType.boolean) [] 4 1 22 Y) (E : YE K Y (QvI κ) χ) {h : AH} {n : Nat} {z : Nat} {x1 : Int} {x2 : Int} (hk : P_X2_hasMissingAt K o κ χ h n z x1 x2) : G K Y h n z 0 (lv_argsA 0 [vR (some o), vI x1, vI x2]) [] := by
  show G K Y h n z 0 [(0, vR (some o)), (1, vI x1), (2, vI x2)] []
  refine r_aload_n X (pc := 0) dX2_hasMissingAt_0 rfl (q := 0) rfl ?_
  refine r_iload_n X (pc := 1) dX2_hasMissingAt_1 rfl (q := 1) rfl ?_
  refine r_bipush X (pc := 2) dX2_hasMissingAt_2 (by decide) ?_
  obtain ⟨b16, hk⟩ := hk
  refine r_idiv X (pc := 4) dX2_hasMissingAt_4 ⟨⟨b16, (by decide)⟩, (by decide)⟩ ?_
  refine r_iload_n X (pc := 5) dX2_hasMissingAt_5 rfl (q := 1) rfl ?_
  refine r_bipush X (pc := 6) dX2_hasMissingAt_6 (by decide) ?_
  refine r_irem X (pc := 8) dX2_hasMissingAt_8 ⟨⟨b16, (by decide)⟩, (by decide)⟩ ?_
  obtain ⟨o39, fs40, e9, b41, hk⟩ := hk
  refine r_callV X (pc := 9) (As := [vI (x1.tdiv 100), vI (x1.tmod 100)]) (st := []) rfl rfl e9 b41 m_X2_54 (fun _ => s_X2_postAt hk) ⟨by decide, by decide⟩ (Nat.le_of_ble_eq_true rfl) dX2_hasMissingAt_9 (fun v9 h18 n19 z20 hq => ?_) (fun ci34 q35 h36 n37 z38 hf => ?_)
  · obtain ⟨r17, rfl, hk⟩ := hq
    refine ⟨[vI r17], rfl, ?_⟩
    refine r_istore_n X (pc := 12) (lv1 := [(3, vI r17), (0, vR (some o)), (1, vI x1), (2, vI x2)]) dX2_hasMissingAt_12 rfl (by decide) rfl ?_
    refine r_iload_n X (pc := 13) dX2_hasMissingAt_13 rfl (q := 0) rfl ?_
    refine r_iconst X (pc := 14) dX2_hasMissingAt_14 ?_
    obtain ⟨b21, hk⟩ := hk
    refine r_icmp_eq X (pc := 15) (tgt := 47) dX2_hasMissingAt_15 (by decide) ⟨b21, (by decide)⟩ (fun c22 => ?_) (fun c22 => ?_)
    · have hk := hk.1 c22
      refine r_iconst X (pc := 47) dX2_hasMissingAt_47 ?_
      exact r_iret X E (pc := 48) dX2_hasMissingAt_48 rfl ⟨_, rfl, hk⟩
    · have hk := hk.2 c22
      refine r_aload_n X (pc := 18) dX2_hasMissingAt_18 rfl (q := 1) rfl ?_
      refine r_hGR X (pc := 19) fa_X2_11 dX2_hasMissingAt_19 hk (fun y23 hk => ?_)
      refine r_iload_n X (pc := 22) dX2_hasMissingAt_22 rfl (q := 0) rfl ?_
      refine r_hAR X (pc := 23) (t := 5) rfl dX2_hasMissingAt_23 hk (fun y24 hk => ?_)
      refine r_hGI X (pc := 24) fa_X2_81_X3 dX2_hasMissingAt_24 hk (fun y25 hk => ?_)
      obtain ⟨b26, hk⟩ := hk
      refine r_if_eq X (pc := 27) (tgt := 47) dX2_hasMissingAt_27 (by decide) b26 (fun c27 => ?_) (fun c27 => ?_)
      · have hk := hk.1 c27
        refine r_iconst X (pc := 47) dX2_hasMissingAt_47 ?_
        exact r_iret X E (pc := 48) dX2_hasMissingAt_48 rfl ⟨_, rfl, hk⟩
      · have hk := hk.2 c27
        refine r_aload_n X (pc := 30) dX2_hasMissingAt_30 rfl (q := 1) rfl ?_
        refine r_hGR X (pc := 31) fa_X2_11 dX2_hasMissingAt_31 hk (fun y28 hk => ?_)
        refine r_iload_n X (pc := 34) dX2_hasMissingAt_34 rfl (q := 0) rfl ?_
        refine r_hAR X (pc := 35) (t := 5) rfl dX2_hasMissingAt_35 hk (fun y29 hk => ?_)
        refine r_hGI X (pc := 36) fa_X2_93_X3 dX2_hasMissingAt_36 hk (fun y30 hk => ?_)
        refine r_iload_n X (pc := 39) dX2_hasMissingAt_39 rfl (q := 3) rfl ?_
        obtain ⟨b31, b32, hk⟩ := hk
        refine r_icmp_ne X (pc := 40) (tgt := 47) dX2_hasMissingAt_40 (by decide) ⟨b31, b32⟩ (fun c33 => ?_) (fun c33 => ?_)
        · have hk := hk.2 c33
          refine r_iconst X (pc := 47) dX2_hasMissingAt_47 ?_
          exact r_iret X E (pc := 48) dX2_hasMissingAt_48 rfl ⟨_, rfl, hk⟩
        · have hk := hk.1 c33
          refine r_iconst X (pc := 43) dX2_hasMissingAt_43 ?_
          refine r_goto X (pc := 44) (tgt := 48) dX2_hasMissingAt_44 (by decide) ?_
          exact r_iret X E (pc := 48) dX2_hasMissingAt_48 rfl ⟨_, rfl, hk⟩
  · have hk := hf
    exact r_out X E (fun _ h9 => nomatch h9) hk
theorem s_X2_hasMissingAt {K : KT} {l : Launch} {o : Nat} {κ : Int → AH → Nat → Nat → Prop} {χ : QxT} {h : AH} {n : Nat} {z : Nat} {x1 : Int} {x2 : Int} (hk : P_X2_hasMissingAt K o κ χ h n z x1 x2) : Ct K l yX2_hasMissingAt (ws_ yX2_hasMissingAt cX2_hasMissingAt 4 (Option.some Jvm.ClassFile.FieldType.boolean)) 1 22 ([vR (some o), vI x1, vI x2].map cV) h n z (QvI κ) χ :=
  ct_of (by decide +kernel) (Nat.le_of_ble_eq_true rfl) (fun Y X E => w_X2_hasMissingAt X E hk)
set_option maxHeartbeats 4000000 in
theorem w_X3_turned {K : KT} {Y : YT} {o : Nat} {κ : Option Nat → AH → Nat → Nat → Prop} {χ : QxT} (X : XY K "TrailMarkers$Post" "turned" cX3_turned (Option.some (Jvm.ClassFile.FieldType.object "TrailMarkers$Post")) [] 2 2 85 Y) (E : YE K Y (QvR κ) χ) {h : AH} {n : Nat} {z : Nat} {x1 : Int} (hk : P_X3_turned K o κ χ h n z x1) : G K Y h n z 0 (lv_argsA 0 [vR (some o), vI x1]) [] := by
  show G K Y h n z 0 [(0, vR (some o)), (1, vI x1)] []
  refine r_hNew X (pc := 0) nw_X3_8 dX3_turned_0 hk (fun h6 hk => ?_)
  refine r_dup X (pc := 3) dX3_turned_3 rfl ?_
  refine r_aload_n X (pc := 4) dX3_turned_4 rfl (q := 0) rfl ?_
  refine r_hGI X (pc := 5) fa_X3_7 dX3_turned_5 hk (fun y7 hk => ?_)
  refine r_aload_n X (pc := 8) dX3_turned_8 rfl (q := 0) rfl ?_
  refine r_hGI X (pc := 9) fa_X3_13 dX3_turned_9 hk (fun y8 hk => ?_)
  refine r_aload_n X (pc := 12) dX3_turned_12 rfl (q := 0) rfl ?_
  refine r_hGI X (pc := 13) fa_X3_16 dX3_turned_13 hk (fun y9 hk => ?_)
  refine r_iload_n X (pc := 16) dX3_turned_16 rfl (q := 1) rfl ?_
  refine r_aload_n X (pc := 17) dX3_turned_17 rfl (q := 0) rfl ?_
  refine r_hGI X (pc := 18) fa_X3_22 dX3_turned_18 hk (fun y10 hk => ?_)
  refine r_callI X (pc := 21) (As := [vI y7, vI y8, vI y9, vI x1, vI y10]) (st := [vR (some n)]) m_X3_26 (fun _ => s_X3_init hk) ⟨by decide, by decide⟩ (Nat.le_of_ble_eq_true rfl) dX3_turned_21 (fun v9 h11 n12 z13 hq => ?_) (fun ci14 q15 h16 n17 z18 hf => ?_)
  · obtain ⟨rfl, hk⟩ := hq
    refine ⟨[], rfl, ?_⟩
    exact r_aret X E (Or.inl ⟨_, rfl⟩) (pc := 24) dX3_turned_24 ⟨_, rfl, hk⟩
  · have hk := hf
    exact r_out X E (fun _ h9 => nomatch h9) hk
theorem s_X3_turned {K : KT} {l : Launch} {o : Nat} {κ : Option Nat → AH → Nat → Nat → Prop} {χ : QxT} {h : AH} {n : Nat} {z : Nat} {x1 : Int} (hk : P_X3_turned K o κ χ h n z x1) : Ct K l yX3_turned (ws_ yX3_turned cX3_turned 2 (Option.some (Jvm.ClassFile.FieldType.object "TrailMarkers$Post"))) 2 85 ([vR (some o), vI x1].map cV) h n z (QvR κ) χ :=
  ct_of (by decide +kernel) (Nat.le_of_ble_eq_true rfl) (fun Y X E => w_X3_turned X E hk)
set_option maxHeartbeats 4000000 in
theorem w_X3_cell {K : KT} {Y : YT} {o : Nat} {κ : Int → AH → Nat → Nat → Prop} {χ : QxT} (X : XY K "TrailMarkers$Post" "cell" cX3_cell (Option.some Jvm.ClassFile.FieldType.int) [] 1 0 0 Y) (E : YE K Y (QvI κ) χ) {h : AH} {n : Nat} {z : Nat} (hk : P_X3_cell K o κ χ h n z) : G K Y h n z 0 (lv_argsA 0 [vR (some o)]) [] := by
  show G K Y h n z 0 [(0, vR (some o))] []
  refine r_bipush X (pc := 0) dX3_cell_0 (by decide) ?_
  refine r_aload_n X (pc := 2) dX3_cell_2 rfl (q := 0) rfl ?_
  refine r_hGI X (pc := 3) fa_X3_7 dX3_cell_3 hk (fun y3 hk => ?_)
  refine r_imul X (pc := 6) dX3_cell_6 ?_
  refine r_aload_n X (pc := 7) dX3_cell_7 rfl (q := 0) rfl ?_
  refine r_hGI X (pc := 8) fa_X3_13 dX3_cell_8 hk (fun y4 hk => ?_)
  refine r_iadd X (pc := 11) dX3_cell_11 ?_
  exact r_iret X E (pc := 12) dX3_cell_12 rfl ⟨_, rfl, hk⟩
theorem s_X3_cell {K : KT} {l : Launch} {o : Nat} {κ : Int → AH → Nat → Nat → Prop} {χ : QxT} {h : AH} {n : Nat} {z : Nat} (hk : P_X3_cell K o κ χ h n z) : Ct K l yX3_cell (ws_ yX3_cell cX3_cell 1 (Option.some Jvm.ClassFile.FieldType.int)) 0 0 ([vR (some o)].map cV) h n z (QvI κ) χ :=
  ct_of (by decide +kernel) (Nat.le_of_ble_eq_true rfl) (fun Y X E => w_X3_cell X E hk)
set_option maxHeartbeats 4000000 in
theorem w_X9_init {K : KT} {Y : YT} {o : Nat} {κ : AH → Nat → Nat → Prop} {χ : QxT} (X : XY K "TrailMarkers$Way" "<init>" cX9_init none [] 1 1 60 Y) (E : YE K Y (QvV κ) χ) {h : AH} {n : Nat} {z : Nat} (hk : P_X9_init K o κ χ h n z) : G K Y h n z 0 (lv_argsA 0 [vR (some o)]) [] := by
  show G K Y h n z 0 [(0, vR (some o))] []
  refine r_aload_n X (pc := 0) dX9_init_0 rfl (q := 0) rfl ?_
  refine r_objinit X (pc := 1) q1145 q203 q204 ⟨by decide, Nat.le_of_ble_eq_true rfl⟩ dX9_init_1 ?_
  refine r_aload_n X (pc := 4) dX9_init_4 rfl (q := 0) rfl ?_
  refine r_iconst X (pc := 5) dX9_init_5 ?_
  refine r_hNewA X (pc := 6) (t := 0) rfl rfl q251 (fun _ _ h9 => h9) (fun _ => rfl) (by decide) dX9_init_6 hk (fun h5 hk => ?_)
  refine r_hPutF X (pc := 8) fp_X9_9 rfl (fit_arr (some n)).1 (fit_arr (some n)).2 dX9_init_8 hk (fun h6 hk => ?_)
  refine r_aload_n X (pc := 11) dX9_init_11 rfl (q := 0) rfl ?_
  refine r_iconst X (pc := 12) dX9_init_12 ?_
  refine r_hNewA X (pc := 13) (t := 0) rfl rfl q251 (fun _ _ h9 => h9) (fun _ => rfl) (by decide) dX9_init_13 hk (fun h7 hk => ?_)
  refine r_hPutF X (pc := 15) fp_X9_15 rfl (fit_arr (some (n + 1))).1 (fit_arr (some (n + 1))).2 dX9_init_15 hk (fun h8 hk => ?_)
  exact r_vret X E (pc := 18) dX9_init_18 ⟨rfl, hk⟩
theorem s_X9_init {K : KT} {l : Launch} {o : Nat} {κ : AH → Nat → Nat → Prop} {χ : QxT} {h : AH} {n : Nat} {z : Nat} (hk : P_X9_init K o κ χ h n z) : Ct K l yX9_init (ws_ yX9_init cX9_init 1 none) 1 60 ([vR (some o)].map cV) h n z (QvV κ) χ :=
  ct_of (by decide +kernel) (Nat.le_of_ble_eq_true rfl) (fun Y X E => w_X9_init X E hk)
set_option maxHeartbeats 4000000 in
theorem w_X9_clear {K : KT} {Y : YT} {o : Nat} {κ : AH → Nat → Nat → Prop} {χ : QxT} (X : XY K "TrailMarkers$Way" "clear" cX9_clear (Option.none : Option Jvm.ClassFile.FieldType) [] 1 0 0 Y) (E : YE K Y (QvV κ) χ) {h : AH} {n : Nat} {z : Nat} (hk : P_X9_clear K o κ χ h n z) : G K Y h n z 0 (lv_argsA 0 [vR (some o)]) [] := by
  show G K Y h n z 0 [(0, vR (some o))] []
  refine r_aload_n X (pc := 0) dX9_clear_0 rfl (q := 0) rfl ?_
  refine r_iconst X (pc := 1) dX9_clear_1 ?_
  refine r_hPut X (pc := 2) fp_X9_18 rfl rfl dX9_clear_2 hk (fun h4 hk => ?_)
  refine r_aload_n X (pc := 5) dX9_clear_5 rfl (q := 0) rfl ?_
  refine r_iconst X (pc := 6) dX9_clear_6 ?_
  refine r_hPut X (pc := 7) fp_X9_22 rfl rfl dX9_clear_7 hk (fun h5 hk => ?_)
  refine r_aload_n X (pc := 10) dX9_clear_10 rfl (q := 0) rfl ?_
  refine r_iconst X (pc := 11) dX9_clear_11 ?_
  refine r_hPut X (pc := 12) fp_X9_25 rfl rfl dX9_clear_12 hk (fun h6 hk => ?_)
  exact r_vret X E (pc := 15) dX9_clear_15 ⟨rfl, hk⟩
theorem s_X9_clear {K : KT} {l : Launch} {o : Nat} {κ : AH → Nat → Nat → Prop} {χ : QxT} {h : AH} {n : Nat} {z : Nat} (hk : P_X9_clear K o κ χ h n z) : Ct K l yX9_clear (ws_ yX9_clear cX9_clear 1 (Option.none : Option Jvm.ClassFile.FieldType)) 0 0 ([vR (some o)].map cV) h n z (QvV κ) χ :=
  ct_of (by decide +kernel) (Nat.le_of_ble_eq_true rfl) (fun Y X E => w_X9_clear X E hk)
set_option maxHeartbeats 4000000 in
theorem w_X9_offer_6 {K : KT} {Y : YT} {o : Nat} {κ : AH → Nat → Nat → Prop} {χ : QxT} (X : XY K "TrailMarkers$Way" "offer" cX9_offer (Option.none : Option Jvm.ClassFile.FieldType) [] 7 1 60 Y) (E : YE K Y (QvV κ) χ) {k_27 : AH → Nat → Nat → Int → Int → Option Nat → Option Nat → Int → Prop} (H_27 : ∀ (h : AH) (n : Nat) (z : Nat) (x1 : Int) (x2 : Int) (x3 : Option Nat) (x4 : Option Nat) (x5 : Int), k_27 h n z x1 x2 x3 x4 x5 → G K Y h n z 27 [(0, vR (some o)), (1, vI x1), (2, vI x2), (3, vR x3), (4, vR x4), (5, vI x5)] []) : ∀ (f : Nat) (h : AH) (n : Nat) (z : Nat) (x1 : Int) (x2 : Int) (x3 : Option Nat) (x4 : Option Nat) (x5 : Int) (x6 : Int), L_X9_offer_6 K o k_27 κ χ f h n z x1 x2 x3 x4 x5 x6 → G K Y h n z 6 [(0, vR (some o)), (1, vI x1), (2, vI x2), (3, vR x3), (4, vR x4), (5, vI x5), (6, vI x6)] [] := by
  intro f
  induction f with
  | zero => intro h n z x1 x2 x3 x4 x5 x6 hk; exact hk.elim
  | succ f ih =>
    intro h n z x1 x2 x3 x4 x5 x6 hk
    refine r_iload X (pc := 6) dX9_offer_6 (q := 6) rfl ?_
    refine r_iload_n X (pc := 8) dX9_offer_8 rfl (q := 2) rfl ?_
    obtain ⟨b23, b24, hk⟩ := hk
    refine r_icmp_gt X (pc := 9) (tgt := 27) dX9_offer_9 (by decide) ⟨b23, b24⟩ (fun c25 => ?_) (fun c25 => ?_)
    · have hk := hk.1 c25
      refine G.sub [0, 1, 2, 3, 4, 5] rfl ?_
      exact H_27 h n z x1 x2 x3 x4 x5 hk
    · have hk := hk.2 c25
      refine r_iload X (pc := 12) dX9_offer_12 (q := 5) rfl ?_
      refine r_aload_n X (pc := 14) dX9_offer_14 rfl (q := 3) rfl ?_
      refine r_iload X (pc := 15) dX9_offer_15 (q := 6) rfl ?_
      refine r_hAI X (pc := 17) dX9_offer_17 hk (fun y26 hk => ?_)
      refine r_iadd X (pc := 18) dX9_offer_18 ?_
      refine r_istore X (pc := 19) (lv1 := [(5, vI (x5 + y26)), (0, vR (some o)), (1, vI x1), (2, vI x2), (3, vR x3), (4, vR x4), (6, vI x6)]) dX9_offer_19 (by decide) rfl ?_
      refine r_iinc X (pc := 21) (q := 6) (lv1 := [(6, vI (x6 + 1)), (5, vI (x5 + y26)), (0, vR (some o)), (1, vI x1), (2, vI x2), (3, vR x3), (4, vR x4)]) dX9_offer_21 rfl (by decide) rfl ?_
      refine r_goto X (pc := 24) (tgt := 6) dX9_offer_24 (by decide) ?_
      refine G.sub [2, 3, 4, 5, 6, 1, 0] rfl ?_
      exact ih h n z x1 x2 x3 x4 (x5 + y26) (x6 + 1) hk
set_option maxHeartbeats 4000000 in
theorem w_X9_offer_45 {K : KT} {Y : YT} {o : Nat} {κ : AH → Nat → Nat → Prop} {χ : QxT} (X : XY K "TrailMarkers$Way" "offer" cX9_offer (Option.none : Option Jvm.ClassFile.FieldType) [] 7 1 60 Y) (E : YE K Y (QvV κ) χ) : ∀ (h : AH) (n : Nat) (z : Nat) (x1 : Int) (x2 : Int) (x3 : Option Nat) (x4 : Option Nat) (x5 : Int), P_X9_offer_45 K o κ χ h n z x1 x2 x3 x4 x5 → G K Y h n z 45 [(0, vR (some o)), (1, vI x1), (2, vI x2), (3, vR x3), (4, vR x4), (5, vI x5)] [] := by
  intro h n z x1 x2 x3 x4 x5 hk
  refine r_aload_n X (pc := 45) dX9_offer_45 rfl (q := 0) rfl ?_
  refine r_iload_n X (pc := 46) dX9_offer_46 rfl (q := 1) rfl ?_
  refine r_hPut X (pc := 47) fp_X9_18 rfl rfl dX9_offer_47 hk (fun h27 hk => ?_)
  refine r_aload_n X (pc := 50) dX9_offer_50 rfl (q := 0) rfl ?_
  refine r_iload X (pc := 51) dX9_offer_51 (q := 5) rfl ?_
  refine r_hPut X (pc := 53) fp_X9_22 rfl rfl dX9_offer_53 hk (fun h28 hk => ?_)
  refine r_aload_n X (pc := 56) dX9_offer_56 rfl (q := 0) rfl ?_
  refine r_iload_n X (pc := 57) dX9_offer_57 rfl (q := 2) rfl ?_
  refine r_hPut X (pc := 58) fp_X9_25 rfl rfl dX9_offer_58 hk (fun h29 hk => ?_)
  refine r_aload_n X (pc := 61) dX9_offer_61 rfl (q := 3) rfl ?_
  refine r_iconst X (pc := 62) dX9_offer_62 ?_
  refine r_aload_n X (pc := 63) dX9_offer_63 rfl (q := 0) rfl ?_
  refine r_hGR X (pc := 64) fa_X9_9 dX9_offer_64 hk (fun y30 hk => ?_)
  refine r_iconst X (pc := 67) dX9_offer_67 ?_
  refine r_aload_n X (pc := 68) dX9_offer_68 rfl (q := 0) rfl ?_
  refine r_hGR X (pc := 69) fa_X9_9 dX9_offer_69 hk (fun y31 hk => ?_)
  refine r_hLen X (pc := 72) (t := 0) rfl dX9_offer_72 hk (fun y32 hk => ?_)
  refine r_hCopyI X (pc := 73) q1313 q585 q584 q151 ⟨by decide, Nat.le_of_ble_eq_true rfl⟩ dX9_offer_73 hk (fun h33 hk => ?_)
  refine r_aload X (pc := 76) dX9_offer_76 (q := 4) rfl ?_
  refine r_iconst X (pc := 78) dX9_offer_78 ?_
  refine r_aload_n X (pc := 79) dX9_offer_79 rfl (q := 0) rfl ?_
  refine r_hGR X (pc := 80) fa_X9_15 dX9_offer_80 hk (fun y34 hk => ?_)
  refine r_iconst X (pc := 83) dX9_offer_83 ?_
  refine r_aload_n X (pc := 84) dX9_offer_84 rfl (q := 0) rfl ?_
  refine r_hGR X (pc := 85) fa_X9_15 dX9_offer_85 hk (fun y35 hk => ?_)
  refine r_hLen X (pc := 88) (t := 0) rfl dX9_offer_88 hk (fun y36 hk => ?_)
  refine r_hCopyI X (pc := 89) q1313 q585 q584 q151 ⟨by decide, Nat.le_of_ble_eq_true rfl⟩ dX9_offer_89 hk (fun h37 hk => ?_)
  exact r_vret X E (pc := 92) dX9_offer_92 ⟨rfl, hk⟩
set_option maxHeartbeats 4000000 in
theorem w_X9_offer_27 {K : KT} {Y : YT} {o : Nat} {κ : AH → Nat → Nat → Prop} {χ : QxT} (X : XY K "TrailMarkers$Way" "offer" cX9_offer (Option.none : Option Jvm.ClassFile.FieldType) [] 7 1 60 Y) (E : YE K Y (QvV κ) χ) : ∀ (h : AH) (n : Nat) (z : Nat) (x1 : Int) (x2 : Int) (x3 : Option Nat) (x4 : Option Nat) (x5 : Int), P_X9_offer_27 K o κ χ h n z x1 x2 x3 x4 x5 → G K Y h n z 27 [(0, vR (some o)), (1, vI x1), (2, vI x2), (3, vR x3), (4, vR x4), (5, vI x5)] [] := by
  intro h n z x1 x2 x3 x4 x5 hk
  refine r_aload_n X (pc := 27) dX9_offer_27 rfl (q := 0) rfl ?_
  refine r_hGI X (pc := 28) fa_X9_18 dX9_offer_28 hk (fun y38 hk => ?_)
  refine r_iconst X (pc := 31) dX9_offer_31 ?_
  obtain ⟨b39, hk⟩ := hk
  refine r_icmp_eq X (pc := 32) (tgt := 45) dX9_offer_32 (by decide) ⟨b39, (by decide)⟩ (fun c40 => ?_) (fun c40 => ?_)
  · have hk := hk.1 c40
    exact w_X9_offer_45 X E h n z x1 x2 x3 x4 x5 hk
  · have hk := hk.2 c40
    refine r_iload X (pc := 35) dX9_offer_35 (q := 5) rfl ?_
    refine r_aload_n X (pc := 37) dX9_offer_37 rfl (q := 0) rfl ?_
    refine r_hGI X (pc := 38) fa_X9_22 dX9_offer_38 hk (fun y41 hk => ?_)
    obtain ⟨b42, b43, hk⟩ := hk
    refine r_icmp_lt X (pc := 41) (tgt := 45) dX9_offer_41 (by decide) ⟨b42, b43⟩ (fun c44 => ?_) (fun c44 => ?_)
    · have hk := hk.1 c44
      exact w_X9_offer_45 X E h n z x1 x2 x3 x4 x5 hk
    · have hk := hk.2 c44
      exact r_vret X E (pc := 44) dX9_offer_44 ⟨rfl, hk⟩
set_option maxHeartbeats 4000000 in
theorem w_X9_offer {K : KT} {Y : YT} {o : Nat} {κ : AH → Nat → Nat → Prop} {χ : QxT} (X : XY K "TrailMarkers$Way" "offer" cX9_offer (Option.none : Option Jvm.ClassFile.FieldType) [] 7 1 60 Y) (E : YE K Y (QvV κ) χ) {h : AH} {n : Nat} {z : Nat} {x1 : Int} {x2 : Int} {x3 : Option Nat} {x4 : Option Nat} (hk : P_X9_offer K o κ χ h n z x1 x2 x3 x4) : G K Y h n z 0 (lv_argsA 0 [vR (some o), vI x1, vI x2, vR x3, vR x4]) [] := by
  show G K Y h n z 0 [(0, vR (some o)), (1, vI x1), (2, vI x2), (3, vR x3), (4, vR x4)] []
  refine r_iconst X (pc := 0) dX9_offer_0 ?_
  refine r_istore X (pc := 1) (lv1 := [(5, vI 0), (0, vR (some o)), (1, vI x1), (2, vI x2), (3, vR x3), (4, vR x4)]) dX9_offer_1 (by decide) rfl ?_
  refine r_iconst X (pc := 3) dX9_offer_3 ?_
  refine r_istore X (pc := 4) (lv1 := [(6, vI 0), (5, vI 0), (0, vR (some o)), (1, vI x1), (2, vI x2), (3, vR x3), (4, vR x4)]) dX9_offer_4 (by decide) rfl ?_
  refine G.sub [2, 3, 4, 5, 6, 1, 0] rfl ?_
  have HH45 : ∀ (h : AH) (n : Nat) (z : Nat) (x1 : Int) (x2 : Int) (x3 : Option Nat) (x4 : Option Nat) (x5 : Int), (P_X9_offer_27 K o κ χ h n z x1 x2 x3 x4 x5) → G K Y h n z 27 [(0, vR (some o)), (1, vI x1), (2, vI x2), (3, vR x3), (4, vR x4), (5, vI x5)] [] := by
      intro h n z x1 x2 x3 x4 x5 hk
      exact w_X9_offer_27 X E h n z x1 x2 x3 x4 x5 hk
  obtain ⟨f9, hk⟩ := hk
  exact w_X9_offer_6 X E HH45 f9 h n z x1 x2 x3 x4 0 0 hk
theorem s_X9_offer {K : KT} {l : Launch} {o : Nat} {κ : AH → Nat → Nat → Prop} {χ : QxT} {h : AH} {n : Nat} {z : Nat} {x1 : Int} {x2 : Int} {x3 : Option Nat} {x4 : Option Nat} (hk : P_X9_offer K o κ χ h n z x1 x2 x3 x4) : Ct K l yX9_offer (ws_ yX9_offer cX9_offer 7 (Option.none : Option Jvm.ClassFile.FieldType)) 1 60 ([vR (some o), vI x1, vI x2, vR x3, vR x4].map cV) h n z (QvV κ) χ :=
  ct_of (by decide +kernel) (Nat.le_of_ble_eq_true rfl) (fun Y X E => w_X9_offer X E hk)
