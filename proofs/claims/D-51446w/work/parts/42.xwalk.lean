set_option maxRecDepth 100000
set_option maxHeartbeats 4000000 in
theorem w_J2_init {K : KT} {Y : YT} {o : Nat} {κ : AH → Nat → Nat → Prop} {χ : QxT} (X : XY K "java/lang/Throwable" "<init>" cJ2_init none [] 1 6 200 Y) (E : YE K Y (QvV κ) χ) {h : AH} {n : Nat} {z : Nat} (hk : P_J2_init K o κ χ h n z) : G K Y h n z 0 (lv_argsA 0 [vR (some o)]) [] := by
  show G K Y h n z 0 [(0, vR (some o))] []
  refine r_aload_n X (pc := 0) dJ2_init_0 rfl (q := 0) rfl ?_
  refine r_objinit X (pc := 1) q362 q203 q204 ⟨by decide, Nat.le_of_ble_eq_true rfl⟩ dJ2_init_1 ?_
  refine r_aload_n X (pc := 4) dJ2_init_4 rfl (q := 0) rfl ?_
  refine r_aload_n X (pc := 5) dJ2_init_5 rfl (q := 0) rfl ?_
  refine r_hPutL X (pc := 6) fpL_J2_7 (fit_ref (some o)).1 (fit_ref (some o)).2 dJ2_init_6 hk (fun h4 hk => ?_)
  refine r_aload_n X (pc := 9) dJ2_init_9 rfl (q := 0) rfl ?_
  refine r_gets X (pc := 10) (v := vR (kr K 0)) (j := 5) rfl rfl q363 dJ2_init_10 ?_
  refine r_hPutL X (pc := 13) fpL_J2_17 (fit_arr (kr K 0)).1 (fit_arr (kr K 0)).2 dJ2_init_13 hk (fun h5 hk => ?_)
  refine r_aload_n X (pc := 16) dJ2_init_16 rfl (q := 0) rfl ?_
  refine r_gets X (pc := 17) (v := vR (kr K 1)) (j := 6) rfl rfl q365 dJ2_init_17 ?_
  refine r_hPutL X (pc := 20) fpL_J2_24 (fit_ref (kr K 1)).1 (fit_ref (kr K 1)).2 dJ2_init_20 hk (fun h6 hk => ?_)
  refine r_aload_n X (pc := 23) dJ2_init_23 rfl (q := 0) rfl ?_
  refine r_hFill X (pc := 24) ⟨by decide, Nat.le_of_ble_eq_true rfl⟩ dJ2_init_24 hk (fun hk => ?_)
  refine r_pop X (pc := 27) dJ2_init_27 rfl ?_
  exact r_vret X E (pc := 28) dJ2_init_28 ⟨rfl, hk⟩
theorem s_J2_init {K : KT} {l : Launch} {o : Nat} {κ : AH → Nat → Nat → Prop} {χ : QxT} {h : AH} {n : Nat} {z : Nat} (hk : P_J2_init K o κ χ h n z) : Ct K l yJ2_init (ws_ yJ2_init cJ2_init 1 none) 6 200 ([vR (some o)].map cV) h n z (QvV κ) χ :=
  ct_of (by decide +kernel) (Nat.le_of_ble_eq_true rfl) (fun Y X E => w_J2_init X E hk)
set_option maxHeartbeats 4000000 in
theorem w_J2_init_3 {K : KT} {Y : YT} {o : Nat} {κ : AH → Nat → Nat → Prop} {χ : QxT} (X : XY K "java/lang/Throwable" "<init>" cJ2_init_3 none [] 3 6 200 Y) (E : YE K Y (QvV κ) χ) {h : AH} {n : Nat} {z : Nat} {x1 : Option Nat} {x2 : Option Nat} (hk : P_J2_init_3 K o κ χ h n z x1 x2) : G K Y h n z 0 (lv_argsA 0 [vR (some o), vR x1, vR x2]) [] := by
  show G K Y h n z 0 [(0, vR (some o)), (1, vR x1), (2, vR x2)] []
  refine r_aload_n X (pc := 0) dJ2_init_3_0 rfl (q := 0) rfl ?_
  refine r_objinit X (pc := 1) q362 q203 q204 ⟨by decide, Nat.le_of_ble_eq_true rfl⟩ dJ2_init_3_1 ?_
  refine r_aload_n X (pc := 4) dJ2_init_3_4 rfl (q := 0) rfl ?_
  refine r_aload_n X (pc := 5) dJ2_init_3_5 rfl (q := 0) rfl ?_
  refine r_hPutL X (pc := 6) fpL_J2_7 (fit_ref (some o)).1 (fit_ref (some o)).2 dJ2_init_3_6 hk (fun h6 hk => ?_)
  refine r_aload_n X (pc := 9) dJ2_init_3_9 rfl (q := 0) rfl ?_
  refine r_gets X (pc := 10) (v := vR (kr K 0)) (j := 5) rfl rfl q363 dJ2_init_3_10 ?_
  refine r_hPutL X (pc := 13) fpL_J2_17 (fit_arr (kr K 0)).1 (fit_arr (kr K 0)).2 dJ2_init_3_13 hk (fun h7 hk => ?_)
  refine r_aload_n X (pc := 16) dJ2_init_3_16 rfl (q := 0) rfl ?_
  refine r_gets X (pc := 17) (v := vR (kr K 1)) (j := 6) rfl rfl q365 dJ2_init_3_17 ?_
  refine r_hPutL X (pc := 20) fpL_J2_24 (fit_ref (kr K 1)).1 (fit_ref (kr K 1)).2 dJ2_init_3_20 hk (fun h8 hk => ?_)
  refine r_aload_n X (pc := 23) dJ2_init_3_23 rfl (q := 0) rfl ?_
  refine r_hFill X (pc := 24) ⟨by decide, Nat.le_of_ble_eq_true rfl⟩ dJ2_init_3_24 hk (fun hk => ?_)
  refine r_pop X (pc := 27) dJ2_init_3_27 rfl ?_
  refine r_aload_n X (pc := 28) dJ2_init_3_28 rfl (q := 0) rfl ?_
  refine r_aload_n X (pc := 29) dJ2_init_3_29 rfl (q := 1) rfl ?_
  refine r_hPutL X (pc := 30) fpL_J2_31 (fit_ref x1).1 (fit_ref x1).2 dJ2_init_3_30 hk (fun h9 hk => ?_)
  refine r_aload_n X (pc := 33) dJ2_init_3_33 rfl (q := 0) rfl ?_
  refine r_aload_n X (pc := 34) dJ2_init_3_34 rfl (q := 2) rfl ?_
  refine r_hPutL X (pc := 35) fpL_J2_7 (fit_ref x2).1 (fit_ref x2).2 dJ2_init_3_35 hk (fun h10 hk => ?_)
  exact r_vret X E (pc := 38) dJ2_init_3_38 ⟨rfl, hk⟩
theorem s_J2_init_3 {K : KT} {l : Launch} {o : Nat} {κ : AH → Nat → Nat → Prop} {χ : QxT} {h : AH} {n : Nat} {z : Nat} {x1 : Option Nat} {x2 : Option Nat} (hk : P_J2_init_3 K o κ χ h n z x1 x2) : Ct K l yJ2_init_3 (ws_ yJ2_init_3 cJ2_init_3 3 none) 6 200 ([vR (some o), vR x1, vR x2].map cV) h n z (QvV κ) χ :=
  ct_of (by decide +kernel) (Nat.le_of_ble_eq_true rfl) (fun Y X E => w_J2_init_3 X E hk)
set_option maxHeartbeats 4000000 in
theorem w_J3_init {K : KT} {Y : YT} {o : Nat} {κ : AH → Nat → Nat → Prop} {χ : QxT} (X : XY K "java/lang/Exception" "<init>" cJ3_init none [] 1 7 220 Y) (E : YE K Y (QvV κ) χ) {h : AH} {n : Nat} {z : Nat} (hk : P_J3_init K o κ χ h n z) : G K Y h n z 0 (lv_argsA 0 [vR (some o)]) [] := by
  show G K Y h n z 0 [(0, vR (some o))] []
  refine r_aload_n X (pc := 0) dJ3_init_0 rfl (q := 0) rfl ?_
  refine r_callI X (pc := 1) (As := []) (st := []) m_J3_1 (fun _ => s_J2_init hk) ⟨by decide, by decide⟩ (Nat.le_of_ble_eq_true rfl) dJ3_init_1 (fun v9 h1 n2 z3 hq => ?_) (fun ci4 q5 h6 n7 z8 hf => ?_)
  · obtain ⟨rfl, hk⟩ := hq
    refine ⟨[], rfl, ?_⟩
    exact r_vret X E (pc := 4) dJ3_init_4 ⟨rfl, hk⟩
  · have hk := hf
    exact r_out X E (fun _ h9 => nomatch h9) hk
theorem s_J3_init {K : KT} {l : Launch} {o : Nat} {κ : AH → Nat → Nat → Prop} {χ : QxT} {h : AH} {n : Nat} {z : Nat} (hk : P_J3_init K o κ χ h n z) : Ct K l yJ3_init (ws_ yJ3_init cJ3_init 1 none) 7 220 ([vR (some o)].map cV) h n z (QvV κ) χ :=
  ct_of (by decide +kernel) (Nat.le_of_ble_eq_true rfl) (fun Y X E => w_J3_init X E hk)
set_option maxHeartbeats 4000000 in
theorem w_J3_init_3 {K : KT} {Y : YT} {o : Nat} {κ : AH → Nat → Nat → Prop} {χ : QxT} (X : XY K "java/lang/Exception" "<init>" cJ3_init_3 none [] 3 7 222 Y) (E : YE K Y (QvV κ) χ) {h : AH} {n : Nat} {z : Nat} {x1 : Option Nat} {x2 : Option Nat} (hk : P_J3_init_3 K o κ χ h n z x1 x2) : G K Y h n z 0 (lv_argsA 0 [vR (some o), vR x1, vR x2]) [] := by
  show G K Y h n z 0 [(0, vR (some o)), (1, vR x1), (2, vR x2)] []
  refine r_aload_n X (pc := 0) dJ3_init_3_0 rfl (q := 0) rfl ?_
  refine r_aload_n X (pc := 1) dJ3_init_3_1 rfl (q := 1) rfl ?_
  refine r_aload_n X (pc := 2) dJ3_init_3_2 rfl (q := 2) rfl ?_
  refine r_callI X (pc := 3) (As := [vR x1, vR x2]) (st := []) m_J3_10 (fun _ => s_J2_init_3 hk) ⟨by decide, by decide⟩ (Nat.le_of_ble_eq_true rfl) dJ3_init_3_3 (fun v9 h1 n2 z3 hq => ?_) (fun ci4 q5 h6 n7 z8 hf => ?_)
  · obtain ⟨rfl, hk⟩ := hq
    refine ⟨[], rfl, ?_⟩
    exact r_vret X E (pc := 6) dJ3_init_3_6 ⟨rfl, hk⟩
  · have hk := hf
    exact r_out X E (fun _ h9 => nomatch h9) hk
theorem s_J3_init_3 {K : KT} {l : Launch} {o : Nat} {κ : AH → Nat → Nat → Prop} {χ : QxT} {h : AH} {n : Nat} {z : Nat} {x1 : Option Nat} {x2 : Option Nat} (hk : P_J3_init_3 K o κ χ h n z x1 x2) : Ct K l yJ3_init_3 (ws_ yJ3_init_3 cJ3_init_3 3 none) 7 222 ([vR (some o), vR x1, vR x2].map cV) h n z (QvV κ) χ :=
  ct_of (by decide +kernel) (Nat.le_of_ble_eq_true rfl) (fun Y X E => w_J3_init_3 X E hk)
set_option maxHeartbeats 4000000 in
theorem w_J9_init_2 {K : KT} {Y : YT} {o : Nat} {κ : AH → Nat → Nat → Prop} {χ : QxT} (X : XY K "java/lang/RuntimeException" "<init>" cJ9_init_2 none [] 1 8 240 Y) (E : YE K Y (QvV κ) χ) {h : AH} {n : Nat} {z : Nat} (hk : P_J9_init_2 K o κ χ h n z) : G K Y h n z 0 (lv_argsA 0 [vR (some o)]) [] := by
  show G K Y h n z 0 [(0, vR (some o))] []
  refine r_aload_n X (pc := 0) dJ9_init_2_0 rfl (q := 0) rfl ?_
  refine r_callI X (pc := 1) (As := []) (st := []) m_J9_1 (fun _ => s_J3_init hk) ⟨by decide, by decide⟩ (Nat.le_of_ble_eq_true rfl) dJ9_init_2_1 (fun v9 h1 n2 z3 hq => ?_) (fun ci4 q5 h6 n7 z8 hf => ?_)
  · obtain ⟨rfl, hk⟩ := hq
    refine ⟨[], rfl, ?_⟩
    exact r_vret X E (pc := 4) dJ9_init_2_4 ⟨rfl, hk⟩
  · have hk := hf
    exact r_out X E (fun _ h9 => nomatch h9) hk
theorem s_J9_init_2 {K : KT} {l : Launch} {o : Nat} {κ : AH → Nat → Nat → Prop} {χ : QxT} {h : AH} {n : Nat} {z : Nat} (hk : P_J9_init_2 K o κ χ h n z) : Ct K l yJ9_init_2 (ws_ yJ9_init_2 cJ9_init_2 1 none) 8 240 ([vR (some o)].map cV) h n z (QvV κ) χ :=
  ct_of (by decide +kernel) (Nat.le_of_ble_eq_true rfl) (fun Y X E => w_J9_init_2 X E hk)
set_option maxHeartbeats 4000000 in
theorem w_J10_init_2 {K : KT} {Y : YT} {o : Nat} {κ : AH → Nat → Nat → Prop} {χ : QxT} (X : XY K "java/lang/IllegalArgumentException" "<init>" cJ10_init_2 none [] 1 9 260 Y) (E : YE K Y (QvV κ) χ) {h : AH} {n : Nat} {z : Nat} (hk : P_J10_init_2 K o κ χ h n z) : G K Y h n z 0 (lv_argsA 0 [vR (some o)]) [] := by
  show G K Y h n z 0 [(0, vR (some o))] []
  refine r_aload_n X (pc := 0) dJ10_init_2_0 rfl (q := 0) rfl ?_
  refine r_callI X (pc := 1) (As := []) (st := []) m_J10_1 (fun _ => s_J9_init_2 hk) ⟨by decide, by decide⟩ (Nat.le_of_ble_eq_true rfl) dJ10_init_2_1 (fun v9 h1 n2 z3 hq => ?_) (fun ci4 q5 h6 n7 z8 hf => ?_)
  · obtain ⟨rfl, hk⟩ := hq
    refine ⟨[], rfl, ?_⟩
    exact r_vret X E (pc := 4) dJ10_init_2_4 ⟨rfl, hk⟩
  · have hk := hf
    exact r_out X E (fun _ h9 => nomatch h9) hk
theorem s_J10_init_2 {K : KT} {l : Launch} {o : Nat} {κ : AH → Nat → Nat → Prop} {χ : QxT} {h : AH} {n : Nat} {z : Nat} (hk : P_J10_init_2 K o κ χ h n z) : Ct K l yJ10_init_2 (ws_ yJ10_init_2 cJ10_init_2 1 none) 9 260 ([vR (some o)].map cV) h n z (QvV κ) χ :=
  ct_of (by decide +kernel) (Nat.le_of_ble_eq_true rfl) (fun Y X E => w_J10_init_2 X E hk)
set_option maxHeartbeats 4000000 in
theorem w_J17_init_2 {K : KT} {Y : YT} {o : Nat} {κ : AH → Nat → Nat → Prop} {χ : QxT} (X : XY K "java/lang/IllegalStateException" "<init>" cJ17_init_2 none [] 1 9 260 Y) (E : YE K Y (QvV κ) χ) {h : AH} {n : Nat} {z : Nat} (hk : P_J17_init_2 K o κ χ h n z) : G K Y h n z 0 (lv_argsA 0 [vR (some o)]) [] := by
  show G K Y h n z 0 [(0, vR (some o))] []
  refine r_aload_n X (pc := 0) dJ17_init_2_0 rfl (q := 0) rfl ?_
  refine r_callI X (pc := 1) (As := []) (st := []) m_J17_1 (fun _ => s_J9_init_2 hk) ⟨by decide, by decide⟩ (Nat.le_of_ble_eq_true rfl) dJ17_init_2_1 (fun v9 h1 n2 z3 hq => ?_) (fun ci4 q5 h6 n7 z8 hf => ?_)
  · obtain ⟨rfl, hk⟩ := hq
    refine ⟨[], rfl, ?_⟩
    exact r_vret X E (pc := 4) dJ17_init_2_4 ⟨rfl, hk⟩
  · have hk := hf
    exact r_out X E (fun _ h9 => nomatch h9) hk
theorem s_J17_init_2 {K : KT} {l : Launch} {o : Nat} {κ : AH → Nat → Nat → Prop} {χ : QxT} {h : AH} {n : Nat} {z : Nat} (hk : P_J17_init_2 K o κ χ h n z) : Ct K l yJ17_init_2 (ws_ yJ17_init_2 cJ17_init_2 1 none) 9 260 ([vR (some o)].map cV) h n z (QvV κ) χ :=
  ct_of (by decide +kernel) (Nat.le_of_ble_eq_true rfl) (fun Y X E => w_J17_init_2 X E hk)
set_option maxHeartbeats 4000000 in
theorem w_J18_init_2 {K : KT} {Y : YT} {o : Nat} {κ : AH → Nat → Nat → Prop} {χ : QxT} (X : XY K "java/lang/IndexOutOfBoundsException" "<init>" cJ18_init_2 none [] 1 9 260 Y) (E : YE K Y (QvV κ) χ) {h : AH} {n : Nat} {z : Nat} (hk : P_J18_init_2 K o κ χ h n z) : G K Y h n z 0 (lv_argsA 0 [vR (some o)]) [] := by
  show G K Y h n z 0 [(0, vR (some o))] []
  refine r_aload_n X (pc := 0) dJ18_init_2_0 rfl (q := 0) rfl ?_
  refine r_callI X (pc := 1) (As := []) (st := []) m_J18_1 (fun _ => s_J9_init_2 hk) ⟨by decide, by decide⟩ (Nat.le_of_ble_eq_true rfl) dJ18_init_2_1 (fun v9 h1 n2 z3 hq => ?_) (fun ci4 q5 h6 n7 z8 hf => ?_)
  · obtain ⟨rfl, hk⟩ := hq
    refine ⟨[], rfl, ?_⟩
    exact r_vret X E (pc := 4) dJ18_init_2_4 ⟨rfl, hk⟩
  · have hk := hf
    exact r_out X E (fun _ h9 => nomatch h9) hk
theorem s_J18_init_2 {K : KT} {l : Launch} {o : Nat} {κ : AH → Nat → Nat → Prop} {χ : QxT} {h : AH} {n : Nat} {z : Nat} (hk : P_J18_init_2 K o κ χ h n z) : Ct K l yJ18_init_2 (ws_ yJ18_init_2 cJ18_init_2 1 none) 9 260 ([vR (some o)].map cV) h n z (QvV κ) χ :=
  ct_of (by decide +kernel) (Nat.le_of_ble_eq_true rfl) (fun Y X E => w_J18_init_2 X E hk)
set_option maxHeartbeats 4000000 in
theorem w_X4_init {K : KT} {Y : YT} {o : Nat} {κ : AH → Nat → Nat → Prop} {χ : QxT} (X : XY K "TrailMarkers$PlaceException" "<init>" cX4_init none [] 2 8 240 Y) (E : YE K Y (QvV κ) χ) {h : AH} {n : Nat} {z : Nat} {x1 : Int} (hk : P_X4_init K o κ χ h n z x1) : G K Y h n z 0 (lv_argsA 0 [vR (some o), vI x1]) [] := by
  show G K Y h n z 0 [(0, vR (some o)), (1, vI x1)] []
  refine r_aload_n X (pc := 0) dX4_init_0 rfl (q := 0) rfl ?_
  refine r_callI X (pc := 1) (As := []) (st := []) m_X4_1 (fun _ => s_J3_init hk) ⟨by decide, by decide⟩ (Nat.le_of_ble_eq_true rfl) dX4_init_1 (fun v9 h2 n3 z4 hq => ?_) (fun ci6 q7 h8 n9 z10 hf => ?_)
  · obtain ⟨rfl, hk⟩ := hq
    refine ⟨[], rfl, ?_⟩
    refine r_aload_n X (pc := 4) dX4_init_4 rfl (q := 0) rfl ?_
    refine r_iload_n X (pc := 5) dX4_init_5 rfl (q := 1) rfl ?_
    refine r_hPutF X (pc := 6) fp_X4_7 rfl rfl rfl dX4_init_6 hk (fun h5 hk => ?_)
    exact r_vret X E (pc := 9) dX4_init_9 ⟨rfl, hk⟩
  · have hk := hf
    exact r_out X E (fun _ h9 => nomatch h9) hk
theorem s_X4_init {K : KT} {l : Launch} {o : Nat} {κ : AH → Nat → Nat → Prop} {χ : QxT} {h : AH} {n : Nat} {z : Nat} {x1 : Int} (hk : P_X4_init K o κ χ h n z x1) : Ct K l yX4_init (ws_ yX4_init cX4_init 2 none) 8 240 ([vR (some o), vI x1].map cV) h n z (QvV κ) χ :=
  ct_of (by decide +kernel) (Nat.le_of_ble_eq_true rfl) (fun Y X E => w_X4_init X E hk)
set_option maxHeartbeats 4000000 in
theorem w_X7_init {K : KT} {Y : YT} {o : Nat} {κ : AH → Nat → Nat → Prop} {χ : QxT} (X : XY K "TrailMarkers$TextException" "<init>" cX7_init none [] 3 8 240 Y) (E : YE K Y (QvV κ) χ) {h : AH} {n : Nat} {z : Nat} {x1 : Int} {x2 : Int} (hk : P_X7_init K o κ χ h n z x1 x2) : G K Y h n z 0 (lv_argsA 0 [vR (some o), vI x1, vI x2]) [] := by
  show G K Y h n z 0 [(0, vR (some o)), (1, vI x1), (2, vI x2)] []
  refine r_aload_n X (pc := 0) dX7_init_0 rfl (q := 0) rfl ?_
  refine r_callI X (pc := 1) (As := []) (st := []) m_X7_1 (fun _ => s_J3_init hk) ⟨by decide, by decide⟩ (Nat.le_of_ble_eq_true rfl) dX7_init_1 (fun v9 h3 n4 z5 hq => ?_) (fun ci8 q9 h10 n11 z12 hf => ?_)
  · obtain ⟨rfl, hk⟩ := hq
    refine ⟨[], rfl, ?_⟩
    refine r_aload_n X (pc := 4) dX7_init_4 rfl (q := 0) rfl ?_
    refine r_iload_n X (pc := 5) dX7_init_5 rfl (q := 1) rfl ?_
    refine r_hPutF X (pc := 6) fp_X7_7 rfl rfl rfl dX7_init_6 hk (fun h6 hk => ?_)
    refine r_aload_n X (pc := 9) dX7_init_9 rfl (q := 0) rfl ?_
    refine r_iload_n X (pc := 10) dX7_init_10 rfl (q := 2) rfl ?_
    refine r_hPutF X (pc := 11) fp_X7_13 rfl rfl rfl dX7_init_11 hk (fun h7 hk => ?_)
    exact r_vret X E (pc := 14) dX7_init_14 ⟨rfl, hk⟩
  · have hk := hf
    exact r_out X E (fun _ h9 => nomatch h9) hk
theorem s_X7_init {K : KT} {l : Launch} {o : Nat} {κ : AH → Nat → Nat → Prop} {χ : QxT} {h : AH} {n : Nat} {z : Nat} {x1 : Int} {x2 : Int} (hk : P_X7_init K o κ χ h n z x1 x2) : Ct K l yX7_init (ws_ yX7_init cX7_init 3 none) 8 240 ([vR (some o), vI x1, vI x2].map cV) h n z (QvV κ) χ :=
  ct_of (by decide +kernel) (Nat.le_of_ble_eq_true rfl) (fun Y X E => w_X7_init X E hk)
set_option maxHeartbeats 4000000 in
theorem w_X7_init_2 {K : KT} {Y : YT} {o : Nat} {κ : AH → Nat → Nat → Prop} {χ : QxT} (X : XY K "TrailMarkers$TextException" "<init>" cX7_init_2 none [] 3 8 244 Y) (E : YE K Y (QvV κ) χ) {h : AH} {n : Nat} {z : Nat} {x1 : Option Nat} {x2 : Int} (hk : P_X7_init_2 K o κ χ h n z x1 x2) : G K Y h n z 0 (lv_argsA 0 [vR (some o), vR x1, vI x2]) [] := by
  show G K Y h n z 0 [(0, vR (some o)), (1, vR x1), (2, vI x2)] []
  refine r_aload_n X (pc := 0) dX7_init_2_0 rfl (q := 0) rfl ?_
  refine r_null X (pc := 1) dX7_init_2_1 ?_
  refine r_aload_n X (pc := 2) dX7_init_2_2 rfl (q := 1) rfl ?_
  refine r_callI X (pc := 3) (As := [vR none, vR x1]) (st := []) m_X7_16 (fun _ => s_J3_init_3 hk) ⟨by decide, by decide⟩ (Nat.le_of_ble_eq_true rfl) dX7_init_2_3 (fun v9 h3 n4 z5 hq => ?_) (fun ci8 q9 h10 n11 z12 hf => ?_)
  · obtain ⟨rfl, hk⟩ := hq
    refine ⟨[], rfl, ?_⟩
    refine r_aload_n X (pc := 6) dX7_init_2_6 rfl (q := 0) rfl ?_
    refine r_iconst X (pc := 7) dX7_init_2_7 ?_
    refine r_hPutF X (pc := 8) fp_X7_7 rfl rfl rfl dX7_init_2_8 hk (fun h6 hk => ?_)
    refine r_aload_n X (pc := 11) dX7_init_2_11 rfl (q := 0) rfl ?_
    refine r_iload_n X (pc := 12) dX7_init_2_12 rfl (q := 2) rfl ?_
    refine r_hPutF X (pc := 13) fp_X7_13 rfl rfl rfl dX7_init_2_13 hk (fun h7 hk => ?_)
    exact r_vret X E (pc := 16) dX7_init_2_16 ⟨rfl, hk⟩
  · have hk := hf
    exact r_out X E (fun _ h9 => nomatch h9) hk
theorem s_X7_init_2 {K : KT} {l : Launch} {o : Nat} {κ : AH → Nat → Nat → Prop} {χ : QxT} {h : AH} {n : Nat} {z : Nat} {x1 : Option Nat} {x2 : Int} (hk : P_X7_init_2 K o κ χ h n z x1 x2) : Ct K l yX7_init_2 (ws_ yX7_init_2 cX7_init_2 3 none) 8 244 ([vR (some o), vR x1, vI x2].map cV) h n z (QvV κ) χ :=
  ct_of (by decide +kernel) (Nat.le_of_ble_eq_true rfl) (fun Y X E => w_X7_init_2 X E hk)
set_option maxHeartbeats 4000000 in
theorem w_X7_reason {K : KT} {Y : YT} {o : Nat} {κ : Int → AH → Nat → Nat → Prop} {χ : QxT} (X : XY K "TrailMarkers$TextException" "reason" cX7_reason (Option.some Jvm.ClassFile.FieldType.int) [] 3 6 200 Y) (E : YE K Y (QvI κ) χ) {h : AH} {n : Nat} {z : Nat} (hk : P_X7_reason K o κ χ h n z) : G K Y h n z 0 (lv_argsA 0 [vR (some o)]) [] := by
  show G K Y h n z 0 [(0, vR (some o))] []
  refine r_aload_n X (pc := 0) dX7_reason_0 rfl (q := 0) rfl ?_
  refine r_hCause X (pc := 1) ⟨by decide, Nat.le_of_ble_eq_true rfl⟩ dX7_reason_1 hk (fun y6 hk => ?_)
  refine r_astore_n X (pc := 4) (lv1 := [(2, vR y6), (0, vR (some o))]) dX7_reason_4 rfl (by decide) rfl ?_
  refine r_aload_n X (pc := 5) dX7_reason_5 rfl (q := 0) rfl ?_
  refine r_hInst X (pc := 6) q1117 cos_TrailMarkers_PlaceException_3 cns_TrailMarkers_PlaceException_6_22_21_23 dX7_reason_6 hk (fun y7 hk => ?_)
  obtain ⟨b8, hk⟩ := hk
  refine r_if_eq X (pc := 9) (tgt := 24) dX7_reason_9 (by decide) b8 (fun c9 => ?_) (fun c9 => ?_)
  · have hk := hk.1 c9
    refine r_iconst X (pc := 24) dX7_reason_24 ?_
    exact r_iret X E (pc := 25) dX7_reason_25 rfl ⟨_, rfl, hk⟩
  · have hk := hk.2 c9
    refine r_aload_n X (pc := 12) dX7_reason_12 rfl (q := 0) rfl ?_
    refine r_hCast X (pc := 13) q1117 cos_TrailMarkers_PlaceException_3 dX7_reason_13 hk (fun hk => ?_)
    refine r_astore_n X (pc := 16) (lv1 := [(1, vR y6), (2, vR y6), (0, vR (some o))]) dX7_reason_16 rfl (by decide) rfl ?_
    refine r_aload_n X (pc := 17) dX7_reason_17 rfl (q := 0) rfl ?_
    refine r_hGI X (pc := 18) fa_X7_25_X4 dX7_reason_18 hk (fun y10 hk => ?_)
    refine r_goto X (pc := 21) (tgt := 25) dX7_reason_21 (by decide) ?_
    exact r_iret X E (pc := 25) dX7_reason_25 rfl ⟨_, rfl, hk⟩
theorem s_X7_reason {K : KT} {l : Launch} {o : Nat} {κ : Int → AH → Nat → Nat → Prop} {χ : QxT} {h : AH} {n : Nat} {z : Nat} (hk : P_X7_reason K o κ χ h n z) : Ct K l yX7_reason (ws_ yX7_reason cX7_reason 3 (Option.some Jvm.ClassFile.FieldType.int)) 6 200 ([vR (some o)].map cV) h n z (QvI κ) χ :=
  ct_of (by decide +kernel) (Nat.le_of_ble_eq_true rfl) (fun Y X E => w_X7_reason X E hk)
