set_option maxRecDepth 100000
set_option maxHeartbeats 4000000 in
theorem w_X5_copy {K : KT} {Y : YT} {Qx : QxT} {t n z : Nat} {h0 : AH} {κ : TS → Prop} (X : XY K "TrailMarkersModel" "copy" cX5_copy (Option.none : Option Jvm.ClassFile.FieldType) [] 4 1 60 Y) (E : YE K Y (tQv t h0 n z κ) Qx) (hz : kz K ≤ t) {sg : TS} {x0 : Nat} {x1 : Int} {x2 : Nat} {x3 : Int} (hk : P_X5_copy κ sg x0 x1 x2 x3) : G K Y (tw t sg h0) n z 0 (lv_argsA 0 [vR (some (twAd t x0)), vI x1, vR (some (twAd t x2)), vI x3]) [] := by
  show G K Y (tw t sg h0) n z 0 [(0, vR (some (twAd t x0))), (1, vI x1), (2, vR (some (twAd t x2))), (3, vI x3)] []
  refine r_aload_n X (pc := 0) dX5_copy_0 rfl (q := 0) rfl ?_
  refine r_iload_n X (pc := 1) dX5_copy_1 rfl (q := 1) rfl ?_
  refine r_aload_n X (pc := 2) dX5_copy_2 rfl (q := 2) rfl ?_
  refine r_iload_n X (pc := 3) dX5_copy_3 rfl (q := 3) rfl ?_
  refine r_sipush X (pc := 4) dX5_copy_4 (by decide) ?_
  obtain ⟨N4, N5, b6, hk⟩ := hk
  refine r_tcopy X (pc := 7) q3045 q585 q584 q151 hz dX5_copy_7 b6 ⟨by decide, Nat.le_of_ble_eq_true rfl⟩ ?_
  exact r_vret X E (pc := 10) dX5_copy_10 ⟨rfl, rfl, rfl, _, rfl, hk⟩
theorem s_X5_copy {K : KT} {l : Launch} {t n z : Nat} {h0 : AH} {κ : TS → Prop} (hz : kz K ≤ t) {sg : TS} {x0 : Nat} {x1 : Int} {x2 : Nat} {x3 : Int} (hk : P_X5_copy κ sg x0 x1 x2 x3) : Ct K l yX5_copy (ws_ yX5_copy cX5_copy 4 (Option.none : Option Jvm.ClassFile.FieldType)) 1 60 ([vR (some (twAd t x0)), vI x1, vR (some (twAd t x2)), vI x3].map cV) (tw t sg h0) n z (tQv t h0 n z κ) noX :=
  ct_of (by decide +kernel) (Nat.le_of_ble_eq_true rfl) (fun Y X E => w_X5_copy X E hz hk)
set_option maxHeartbeats 4000000 in
theorem w_X5_isIn {K : KT} {Y : YT} {Qx : QxT} {h : AH} {n z : Nat} {κ : Int → Prop} (X : XY K "TrailMarkersModel" "isIn" cX5_isIn (Option.some Jvm.ClassFile.FieldType.boolean) [] 3 0 0 Y) (E : YE K Y (pQ h n z κ) Qx) {x0 : Int} {x1 : Int} {x2 : Int} (hk : P_X5_isIn κ x0 x1 x2) : G K Y h n z 0 (lv_argsA 0 [vI x0, vI x1, vI x2]) [] := by
  show G K Y h n z 0 [(0, vI x0), (1, vI x1), (2, vI x2)] []
  refine r_iload_n X (pc := 0) dX5_isIn_0 rfl (q := 0) rfl ?_
  refine r_iload_n X (pc := 1) dX5_isIn_1 rfl (q := 1) rfl ?_
  obtain ⟨b7, b8, hk⟩ := hk
  refine r_icmp_lt X (pc := 2) (tgt := 14) dX5_isIn_2 (by decide) ⟨b7, b8⟩ (fun c9 => ?_) (fun c9 => ?_)
  · have hk := hk.1 c9
    refine r_iconst X (pc := 14) dX5_isIn_14 ?_
    exact r_iret X E (pc := 15) dX5_isIn_15 rfl ⟨_, rfl, rfl, rfl, rfl, hk⟩
  · have hk := hk.2 c9
    refine r_iload_n X (pc := 5) dX5_isIn_5 rfl (q := 0) rfl ?_
    refine r_iload_n X (pc := 6) dX5_isIn_6 rfl (q := 2) rfl ?_
    obtain ⟨b10, hk⟩ := hk
    refine r_icmp_gt X (pc := 7) (tgt := 14) dX5_isIn_7 (by decide) ⟨b7, b10⟩ (fun c11 => ?_) (fun c11 => ?_)
    · have hk := hk.1 c11
      refine r_iconst X (pc := 14) dX5_isIn_14 ?_
      exact r_iret X E (pc := 15) dX5_isIn_15 rfl ⟨_, rfl, rfl, rfl, rfl, hk⟩
    · have hk := hk.2 c11
      refine r_iconst X (pc := 10) dX5_isIn_10 ?_
      refine r_goto X (pc := 11) (tgt := 15) dX5_isIn_11 (by decide) ?_
      exact r_iret X E (pc := 15) dX5_isIn_15 rfl ⟨_, rfl, rfl, rfl, rfl, hk⟩
theorem s_X5_isIn {K : KT} {l : Launch} {n z : Nat} {h : AH} {κ : Int → Prop} {x0 : Int} {x1 : Int} {x2 : Int} (hk : P_X5_isIn κ x0 x1 x2) : Ct K l yX5_isIn (ws_ yX5_isIn cX5_isIn 3 (Option.some Jvm.ClassFile.FieldType.boolean)) 0 0 ([vI x0, vI x1, vI x2].map cV) h n z (pQ h n z κ) noX :=
  ct_of (by decide +kernel) (Nat.le_of_ble_eq_true rfl) (fun Y X E => w_X5_isIn X E hk)
set_option maxHeartbeats 4000000 in
theorem w_X5_isDigit {K : KT} {Y : YT} {Qx : QxT} {t n z : Nat} {h0 : AH} {κ : Int → TS → Prop} (X : XY K "TrailMarkersModel" "isDigit" cX5_isDigit (Option.some Jvm.ClassFile.FieldType.boolean) [] 2 1 22 Y) (E : YE K Y (tQ t h0 n z κ) Qx) (hz : kz K ≤ t) {sg : TS} {x1 : Int} (hk : P_X5_isDigit κ sg x1) : G K Y (tw t sg h0) n z 0 (lv_argsA 0 [vR (some t), vI x1]) [] := by
  show G K Y (tw t sg h0) n z 0 [(0, vR (some t)), (1, vI x1)] []
  refine r_iload_n X (pc := 0) dX5_isDigit_0 rfl (q := 1) rfl ?_
  refine r_aload_n X (pc := 1) dX5_isDigit_1 rfl (q := 0) rfl ?_
  refine r_tgI X (pc := 2) (v := sg.1 10) fa_X5_93 (by decide) rfl dX5_isDigit_2 ?_
  obtain ⟨b7, b8, hk⟩ := hk
  refine r_icmp_ge X (pc := 5) (tgt := 28) dX5_isDigit_5 (by decide) ⟨b7, b8⟩ (fun c9 => ?_) (fun c9 => ?_)
  · have hk := hk.2 c9
    refine r_iconst X (pc := 28) dX5_isDigit_28 ?_
    exact r_iret X E (pc := 29) dX5_isDigit_29 rfl ⟨_, rfl, rfl, rfl, _, rfl, hk⟩
  · have hk := hk.1 c9
    refine r_aload_n X (pc := 8) dX5_isDigit_8 rfl (q := 0) rfl ?_
    refine r_tgR X (pc := 9) (ty := 0) (N := 700) fa_X5_29 rfl (by decide) dX5_isDigit_9 ?_
    refine r_iload_n X (pc := 12) dX5_isDigit_12 rfl (q := 1) rfl ?_
    obtain ⟨b10, hk⟩ := hk
    refine r_tiald X (pc := 13) (v := sg.2 8 x1) (N := 700) rfl rfl dX5_isDigit_13 b10 ?_
    refine r_bipush X (pc := 14) dX5_isDigit_14 (by decide) ?_
    refine r_bipush X (pc := 16) dX5_isDigit_16 (by decide) ?_
    refine r_callS X (pc := 18) (As := [vI (sg.2 8 x1), vI 48, vI 57]) (st := []) m_X5_119 (fun _ => s_X5_isIn hk) ⟨by decide, by decide⟩ (Nat.le_of_ble_eq_true rfl) dX5_isDigit_18 (fun v9 h9 n9 z9 hq => ?_) (fun _ _ _ _ _ hf => hf.elim)
    obtain ⟨r11, rfl, rfl, rfl, rfl, hk⟩ := hq
    refine ⟨[vI r11], rfl, ?_⟩
    obtain ⟨b12, hk⟩ := hk
    refine r_if_eq X (pc := 21) (tgt := 28) dX5_isDigit_21 (by decide) b12 (fun c13 => ?_) (fun c13 => ?_)
    · have hk := hk.1 c13
      refine r_iconst X (pc := 28) dX5_isDigit_28 ?_
      exact r_iret X E (pc := 29) dX5_isDigit_29 rfl ⟨_, rfl, rfl, rfl, _, rfl, hk⟩
    · have hk := hk.2 c13
      refine r_iconst X (pc := 24) dX5_isDigit_24 ?_
      refine r_goto X (pc := 25) (tgt := 29) dX5_isDigit_25 (by decide) ?_
      exact r_iret X E (pc := 29) dX5_isDigit_29 rfl ⟨_, rfl, rfl, rfl, _, rfl, hk⟩
theorem s_X5_isDigit {K : KT} {l : Launch} {t n z : Nat} {h0 : AH} {κ : Int → TS → Prop} (hz : kz K ≤ t) {sg : TS} {x1 : Int} (hk : P_X5_isDigit κ sg x1) : Ct K l yX5_isDigit (ws_ yX5_isDigit cX5_isDigit 2 (Option.some Jvm.ClassFile.FieldType.boolean)) 1 22 ([vR (some t), vI x1].map cV) (tw t sg h0) n z (tQ t h0 n z κ) noX :=
  ct_of (by decide +kernel) (Nat.le_of_ble_eq_true rfl) (fun Y X E => w_X5_isDigit X E hz hk)
set_option maxHeartbeats 4000000 in
theorem w_X5_isLetter {K : KT} {Y : YT} {Qx : QxT} {t n z : Nat} {h0 : AH} {κ : Int → TS → Prop} (X : XY K "TrailMarkersModel" "isLetter" cX5_isLetter (Option.some Jvm.ClassFile.FieldType.boolean) [] 2 1 22 Y) (E : YE K Y (tQ t h0 n z κ) Qx) (hz : kz K ≤ t) {sg : TS} {x1 : Int} (hk : P_X5_isLetter κ sg x1) : G K Y (tw t sg h0) n z 0 (lv_argsA 0 [vR (some t), vI x1]) [] := by
  show G K Y (tw t sg h0) n z 0 [(0, vR (some t)), (1, vI x1)] []
  refine r_iload_n X (pc := 0) dX5_isLetter_0 rfl (q := 1) rfl ?_
  refine r_aload_n X (pc := 1) dX5_isLetter_1 rfl (q := 0) rfl ?_
  refine r_tgI X (pc := 2) (v := sg.1 10) fa_X5_93 (by decide) rfl dX5_isLetter_2 ?_
  obtain ⟨b7, b8, hk⟩ := hk
  refine r_icmp_ge X (pc := 5) (tgt := 28) dX5_isLetter_5 (by decide) ⟨b7, b8⟩ (fun c9 => ?_) (fun c9 => ?_)
  · have hk := hk.2 c9
    refine r_iconst X (pc := 28) dX5_isLetter_28 ?_
    exact r_iret X E (pc := 29) dX5_isLetter_29 rfl ⟨_, rfl, rfl, rfl, _, rfl, hk⟩
  · have hk := hk.1 c9
    refine r_aload_n X (pc := 8) dX5_isLetter_8 rfl (q := 0) rfl ?_
    refine r_tgR X (pc := 9) (ty := 0) (N := 700) fa_X5_29 rfl (by decide) dX5_isLetter_9 ?_
    refine r_iload_n X (pc := 12) dX5_isLetter_12 rfl (q := 1) rfl ?_
    obtain ⟨b10, hk⟩ := hk
    refine r_tiald X (pc := 13) (v := sg.2 8 x1) (N := 700) rfl rfl dX5_isLetter_13 b10 ?_
    refine r_bipush X (pc := 14) dX5_isLetter_14 (by decide) ?_
    refine r_bipush X (pc := 16) dX5_isLetter_16 (by decide) ?_
    refine r_callS X (pc := 18) (As := [vI (sg.2 8 x1), vI 97, vI 122]) (st := []) m_X5_119 (fun _ => s_X5_isIn hk) ⟨by decide, by decide⟩ (Nat.le_of_ble_eq_true rfl) dX5_isLetter_18 (fun v9 h9 n9 z9 hq => ?_) (fun _ _ _ _ _ hf => hf.elim)
    obtain ⟨r11, rfl, rfl, rfl, rfl, hk⟩ := hq
    refine ⟨[vI r11], rfl, ?_⟩
    obtain ⟨b12, hk⟩ := hk
    refine r_if_eq X (pc := 21) (tgt := 28) dX5_isLetter_21 (by decide) b12 (fun c13 => ?_) (fun c13 => ?_)
    · have hk := hk.1 c13
      refine r_iconst X (pc := 28) dX5_isLetter_28 ?_
      exact r_iret X E (pc := 29) dX5_isLetter_29 rfl ⟨_, rfl, rfl, rfl, _, rfl, hk⟩
    · have hk := hk.2 c13
      refine r_iconst X (pc := 24) dX5_isLetter_24 ?_
      refine r_goto X (pc := 25) (tgt := 29) dX5_isLetter_25 (by decide) ?_
      exact r_iret X E (pc := 29) dX5_isLetter_29 rfl ⟨_, rfl, rfl, rfl, _, rfl, hk⟩
theorem s_X5_isLetter {K : KT} {l : Launch} {t n z : Nat} {h0 : AH} {κ : Int → TS → Prop} (hz : kz K ≤ t) {sg : TS} {x1 : Int} (hk : P_X5_isLetter κ sg x1) : Ct K l yX5_isLetter (ws_ yX5_isLetter cX5_isLetter 2 (Option.some Jvm.ClassFile.FieldType.boolean)) 1 22 ([vR (some t), vI x1].map cV) (tw t sg h0) n z (tQ t h0 n z κ) noX :=
  ct_of (by decide +kernel) (Nat.le_of_ble_eq_true rfl) (fun Y X E => w_X5_isLetter X E hz hk)
set_option maxHeartbeats 4000000 in
theorem w_X5_next_0 {K : KT} {Y : YT} {Qx : QxT} {t n z : Nat} {h0 : AH} {κ : TS → Prop} (X : XY K "TrailMarkersModel" "next" cX5_next (Option.none : Option Jvm.ClassFile.FieldType) [] 1 2 60 Y) (E : YE K Y (tQv t h0 n z κ) Qx) (hz : kz K ≤ t) {k_38 : TS → Prop} (H_38 : ∀ (sg : TS), k_38 sg → G K Y (tw t sg h0) n z 38 [(0, vR (some t))] []) : ∀ (f : Nat) (sg : TS), L_X5_next_0 k_38 κ f sg → G K Y (tw t sg h0) n z 0 [(0, vR (some t))] [] := by
  intro f
  induction f with
  | zero => intro sg hk; exact hk.elim
  | succ f ih =>
    intro sg hk
    refine r_aload_n X (pc := 0) dX5_next_0 rfl (q := 0) rfl ?_
    refine r_tgI X (pc := 1) (v := sg.1 41) fa_X5_262 (by decide) rfl dX5_next_1 ?_
    refine r_aload_n X (pc := 4) dX5_next_4 rfl (q := 0) rfl ?_
    refine r_tgI X (pc := 5) (v := sg.1 10) fa_X5_93 (by decide) rfl dX5_next_5 ?_
    obtain ⟨b33, b34, hk⟩ := hk
    refine r_icmp_ge X (pc := 8) (tgt := 38) dX5_next_8 (by decide) ⟨b33, b34⟩ (fun c35 => ?_) (fun c35 => ?_)
    · have hk := hk.2 c35
      exact H_38 sg hk
    · have hk := hk.1 c35
      refine r_aload_n X (pc := 11) dX5_next_11 rfl (q := 0) rfl ?_
      refine r_tgR X (pc := 12) (ty := 0) (N := 700) fa_X5_29 rfl (by decide) dX5_next_12 ?_
      refine r_aload_n X (pc := 15) dX5_next_15 rfl (q := 0) rfl ?_
      refine r_tgI X (pc := 16) (v := sg.1 41) fa_X5_262 (by decide) rfl dX5_next_16 ?_
      obtain ⟨b36, hk⟩ := hk
      refine r_tiald X (pc := 19) (v := sg.2 8 (sg.1 41)) (N := 700) rfl rfl dX5_next_19 b36 ?_
      refine r_bipush X (pc := 20) dX5_next_20 (by decide) ?_
      obtain ⟨b37, hk⟩ := hk
      refine r_icmp_ne X (pc := 22) (tgt := 38) dX5_next_22 (by decide) ⟨b37, (by decide)⟩ (fun c38 => ?_) (fun c38 => ?_)
      · have hk := hk.2 c38
        exact H_38 sg hk
      · have hk := hk.1 c38
        refine r_aload_n X (pc := 25) dX5_next_25 rfl (q := 0) rfl ?_
        refine r_dup X (pc := 26) dX5_next_26 rfl ?_
        refine r_tgI X (pc := 27) (v := sg.1 41) fa_X5_262 (by decide) rfl dX5_next_27 ?_
        refine r_iconst X (pc := 30) dX5_next_30 ?_
        refine r_iadd X (pc := 31) dX5_next_31 ?_
        refine r_tpI X (pc := 32) fp_X5_262 hz (by decide) dX5_next_32 ?_
        refine r_goto X (pc := 35) (tgt := 0) dX5_next_35 (by decide) ?_
        exact ih (setS sg 41 ((sg.1 41) + 1)) hk
set_option maxHeartbeats 4000000 in
theorem w_X5_next_241 {K : KT} {Y : YT} {Qx : QxT} {t n z : Nat} {h0 : AH} {κ : TS → Prop} (X : XY K "TrailMarkersModel" "next" cX5_next (Option.none : Option Jvm.ClassFile.FieldType) [] 1 2 60 Y) (E : YE K Y (tQv t h0 n z κ) Qx) (hz : kz K ≤ t) : ∀ (sg : TS), P_X5_next_241 κ sg → G K Y (tw t sg h0) n z 241 [(0, vR (some t))] [] := by
  intro sg hk
  exact r_vret X E (pc := 241) dX5_next_241 ⟨rfl, rfl, rfl, _, rfl, hk⟩
set_option maxHeartbeats 4000000 in
theorem w_X5_next_81 {K : KT} {Y : YT} {Qx : QxT} {t n z : Nat} {h0 : AH} {κ : TS → Prop} (X : XY K "TrailMarkersModel" "next" cX5_next (Option.none : Option Jvm.ClassFile.FieldType) [] 1 2 60 Y) (E : YE K Y (tQv t h0 n z κ) Qx) (hz : kz K ≤ t) {k_241 : TS → Prop} (H_241 : ∀ (sg : TS), k_241 sg → G K Y (tw t sg h0) n z 241 [(0, vR (some t))] []) : ∀ (f : Nat) (sg : TS), L_X5_next_81 k_241 κ f sg → G K Y (tw t sg h0) n z 81 [(0, vR (some t))] [] := by
  intro f
  induction f with
  | zero => intro sg hk; exact hk.elim
  | succ f ih =>
    intro sg hk
    have hk : P_X5_isLetter (fun r39 sg40 => InR r39 ∧ (pIf (r39 = 0) (k_241 sg40) (L_X5_next_81 k_241 κ f (setS sg40 41 ((sg40.1 41) + 1))))) sg (sg.1 41) := hk
    refine r_aload_n X (pc := 81) dX5_next_81 rfl (q := 0) rfl ?_
    refine r_aload_n X (pc := 82) dX5_next_82 rfl (q := 0) rfl ?_
    refine r_tgI X (pc := 83) (v := sg.1 41) fa_X5_262 (by decide) rfl dX5_next_83 ?_
    refine r_callV X (pc := 86) (As := [vI (sg.1 41)]) (st := []) rfl rfl rfl (tw_t t _ h0) m_X5_271 (fun _ => s_X5_isLetter hz hk) ⟨by decide, by decide⟩ (Nat.le_of_ble_eq_true rfl) dX5_next_86 (fun v9 h9 n9 z9 hq => ?_) (fun _ _ _ _ _ hf => hf.elim)
    obtain ⟨r39, rfl, rfl, rfl, sg40, rfl, hk⟩ := hq
    refine ⟨[vI r39], rfl, ?_⟩
    obtain ⟨b41, hk⟩ := hk
    refine r_if_eq X (pc := 89) (tgt := 241) dX5_next_89 (by decide) b41 (fun c42 => ?_) (fun c42 => ?_)
    · have hk := hk.1 c42
      exact H_241 sg40 hk
    · have hk := hk.2 c42
      refine r_aload_n X (pc := 92) dX5_next_92 rfl (q := 0) rfl ?_
      refine r_dup X (pc := 93) dX5_next_93 rfl ?_
      refine r_tgI X (pc := 94) (v := sg40.1 41) fa_X5_262 (by decide) rfl dX5_next_94 ?_
      refine r_iconst X (pc := 97) dX5_next_97 ?_
      refine r_iadd X (pc := 98) dX5_next_98 ?_
      refine r_tpI X (pc := 99) fp_X5_262 hz (by decide) dX5_next_99 ?_
      refine r_goto X (pc := 102) (tgt := 81) dX5_next_102 (by decide) ?_
      exact ih (setS sg40 41 ((sg40.1 41) + 1)) hk
set_option maxHeartbeats 4000000 in
theorem w_X5_next_126 {K : KT} {Y : YT} {Qx : QxT} {t n z : Nat} {h0 : AH} {κ : TS → Prop} (X : XY K "TrailMarkersModel" "next" cX5_next (Option.none : Option Jvm.ClassFile.FieldType) [] 1 2 60 Y) (E : YE K Y (tQv t h0 n z κ) Qx) (hz : kz K ≤ t) {k_241 : TS → Prop} (H_241 : ∀ (sg : TS), k_241 sg → G K Y (tw t sg h0) n z 241 [(0, vR (some t))] []) : ∀ (f : Nat) (sg : TS), L_X5_next_126 k_241 κ f sg → G K Y (tw t sg h0) n z 126 [(0, vR (some t))] [] := by
  intro f
  induction f with
  | zero => intro sg hk; exact hk.elim
  | succ f ih =>
    intro sg hk
    have hk : P_X5_isDigit (fun r43 sg44 => InR r43 ∧ (pIf (r43 = 0) (k_241 sg44) ((0 ≤ (sg44.1 41) ∧ (sg44.1 41) < 700) ∧ (InR ((((sg44.1 42) * 10) + (sg44.2 8 (sg44.1 41))) - 48) ∧ (L_X5_next_126 k_241 κ f (setS (setS sg44 42 (jmin 100000 ((((sg44.1 42) * 10) + (sg44.2 8 (sg44.1 41))) - 48))) 41 ((sg44.1 41) + 1))))))) sg (sg.1 41) := hk
    refine r_aload_n X (pc := 126) dX5_next_126 rfl (q := 0) rfl ?_
    refine r_aload_n X (pc := 127) dX5_next_127 rfl (q := 0) rfl ?_
    refine r_tgI X (pc := 128) (v := sg.1 41) fa_X5_262 (by decide) rfl dX5_next_128 ?_
    refine r_callV X (pc := 131) (As := [vI (sg.1 41)]) (st := []) rfl rfl rfl (tw_t t _ h0) m_X5_274 (fun _ => s_X5_isDigit hz hk) ⟨by decide, by decide⟩ (Nat.le_of_ble_eq_true rfl) dX5_next_131 (fun v9 h9 n9 z9 hq => ?_) (fun _ _ _ _ _ hf => hf.elim)
    obtain ⟨r43, rfl, rfl, rfl, sg44, rfl, hk⟩ := hq
    refine ⟨[vI r43], rfl, ?_⟩
    obtain ⟨b45, hk⟩ := hk
    refine r_if_eq X (pc := 134) (tgt := 241) dX5_next_134 (by decide) b45 (fun c46 => ?_) (fun c46 => ?_)
    · have hk := hk.1 c46
      exact H_241 sg44 hk
    · have hk := hk.2 c46
      refine r_aload_n X (pc := 137) dX5_next_137 rfl (q := 0) rfl ?_
      refine r_ldcIw X (pc := 138) (v := 100000) dX5_next_138 q3061 (by decide) ?_
      refine r_aload_n X (pc := 141) dX5_next_141 rfl (q := 0) rfl ?_
      refine r_tgI X (pc := 142) (v := sg44.1 42) fa_X5_277 (by decide) rfl dX5_next_142 ?_
      refine r_bipush X (pc := 145) dX5_next_145 (by decide) ?_
      refine r_imul X (pc := 147) dX5_next_147 ?_
      refine r_aload_n X (pc := 148) dX5_next_148 rfl (q := 0) rfl ?_
      refine r_tgR X (pc := 149) (ty := 0) (N := 700) fa_X5_29 rfl (by decide) dX5_next_149 ?_
      refine r_aload_n X (pc := 152) dX5_next_152 rfl (q := 0) rfl ?_
      refine r_tgI X (pc := 153) (v := sg44.1 41) fa_X5_262 (by decide) rfl dX5_next_153 ?_
      obtain ⟨b47, hk⟩ := hk
      refine r_tiald X (pc := 156) (v := sg44.2 8 (sg44.1 41)) (N := 700) rfl rfl dX5_next_156 b47 ?_
      refine r_iadd X (pc := 157) dX5_next_157 ?_
      refine r_bipush X (pc := 158) dX5_next_158 (by decide) ?_
      refine r_isub X (pc := 160) dX5_next_160 ?_
      obtain ⟨b48, hk⟩ := hk
      refine r_mmin X (pc := 161) q3062 q512 q152 q513 (by decide) b48 ⟨by decide, Nat.le_of_ble_eq_true rfl⟩ dX5_next_161 ?_
      refine r_tpI X (pc := 164) fp_X5_277 hz (by decide) dX5_next_164 ?_
      refine r_aload_n X (pc := 167) dX5_next_167 rfl (q := 0) rfl ?_
      refine r_dup X (pc := 168) dX5_next_168 rfl ?_
      refine r_tgI X (pc := 169) (v := sg44.1 41) fa_X5_262 (by decide) rfl dX5_next_169 ?_
      refine r_iconst X (pc := 172) dX5_next_172 ?_
      refine r_iadd X (pc := 173) dX5_next_173 ?_
      refine r_tpI X (pc := 174) fp_X5_262 hz (by decide) dX5_next_174 ?_
      refine r_goto X (pc := 177) (tgt := 126) dX5_next_177 (by decide) ?_
      exact ih (setS (setS sg44 42 (jmin 100000 ((((sg44.1 42) * 10) + (sg44.2 8 (sg44.1 41))) - 48))) 41 ((sg44.1 41) + 1)) hk
set_option maxHeartbeats 4000000 in
theorem w_X5_next_228 {K : KT} {Y : YT} {Qx : QxT} {t n z : Nat} {h0 : AH} {κ : TS → Prop} (X : XY K "TrailMarkersModel" "next" cX5_next (Option.none : Option Jvm.ClassFile.FieldType) [] 1 2 60 Y) (E : YE K Y (tQv t h0 n z κ) Qx) (hz : kz K ≤ t) : ∀ (sg : TS) (s0 : Int), P_X5_next_228 κ sg s0 → G K Y (tw t sg h0) n z 228 [(0, vR (some t))] [vI s0, vR (some t)] := by
  intro sg s0 hk
  refine r_tpI X (pc := 228) fp_X5_268 hz (by decide) dX5_next_228 ?_
  refine r_aload_n X (pc := 231) dX5_next_231 rfl (q := 0) rfl ?_
  refine r_dup X (pc := 232) dX5_next_232 rfl ?_
  refine r_tgI X (pc := 233) (v := sg.1 41) fa_X5_262 (by decide) rfl dX5_next_233 ?_
  refine r_iconst X (pc := 236) dX5_next_236 ?_
  refine r_iadd X (pc := 237) dX5_next_237 ?_
  refine r_tpI X (pc := 238) fp_X5_262 hz (by decide) dX5_next_238 ?_
  exact w_X5_next_241 X E hz (setS (setS sg 39 s0) 41 ((sg.1 41) + 1)) hk
set_option maxHeartbeats 4000000 in
theorem w_X5_next_38 {K : KT} {Y : YT} {Qx : QxT} {t n z : Nat} {h0 : AH} {κ : TS → Prop} (X : XY K "TrailMarkersModel" "next" cX5_next (Option.none : Option Jvm.ClassFile.FieldType) [] 1 2 60 Y) (E : YE K Y (tQv t h0 n z κ) Qx) (hz : kz K ≤ t) : ∀ (sg : TS), P_X5_next_38 κ sg → G K Y (tw t sg h0) n z 38 [(0, vR (some t))] [] := by
  intro sg hk
  refine r_aload_n X (pc := 38) dX5_next_38 rfl (q := 0) rfl ?_
  refine r_aload_n X (pc := 39) dX5_next_39 rfl (q := 0) rfl ?_
  refine r_tgI X (pc := 40) (v := sg.1 41) fa_X5_262 (by decide) rfl dX5_next_40 ?_
  refine r_tpI X (pc := 43) fp_X5_265 hz (by decide) dX5_next_43 ?_
  refine r_aload_n X (pc := 46) dX5_next_46 rfl (q := 0) rfl ?_
  refine r_tgI X (pc := 47) (v := sg.1 41) fa_X5_262 (by decide) rfl dX5_next_47 ?_
  refine r_aload_n X (pc := 50) dX5_next_50 rfl (q := 0) rfl ?_
  refine r_tgI X (pc := 51) (v := sg.1 10) fa_X5_93 (by decide) rfl dX5_next_51 ?_
  obtain ⟨b49, b50, hk⟩ := hk
  refine r_icmp_ne X (pc := 54) (tgt := 65) dX5_next_54 (by decide) ⟨b49, b50⟩ (fun c51 => ?_) (fun c51 => ?_)
  · have hk := hk.2 c51
    refine r_aload_n X (pc := 65) dX5_next_65 rfl (q := 0) rfl ?_
    refine r_aload_n X (pc := 66) dX5_next_66 rfl (q := 0) rfl ?_
    refine r_tgI X (pc := 67) (v := sg.1 41) fa_X5_262 (by decide) rfl dX5_next_67 ?_
    refine r_callV X (pc := 70) (As := [vI (sg.1 41)]) (st := []) rfl rfl rfl (tw_t t _ h0) m_X5_271 (fun _ => s_X5_isLetter hz hk) ⟨by decide, by decide⟩ (Nat.le_of_ble_eq_true rfl) dX5_next_70 (fun v9 h9 n9 z9 hq => ?_) (fun _ _ _ _ _ hf => hf.elim)
    obtain ⟨r52, rfl, rfl, rfl, sg53, rfl, hk⟩ := hq
    refine ⟨[vI r52], rfl, ?_⟩
    obtain ⟨b54, hk⟩ := hk
    refine r_if_eq X (pc := 73) (tgt := 105) dX5_next_73 (by decide) b54 (fun c55 => ?_) (fun c55 => ?_)
    · have hk := hk.1 c55
      refine r_aload_n X (pc := 105) dX5_next_105 rfl (q := 0) rfl ?_
      refine r_aload_n X (pc := 106) dX5_next_106 rfl (q := 0) rfl ?_
      refine r_tgI X (pc := 107) (v := sg53.1 41) fa_X5_262 (by decide) rfl dX5_next_107 ?_
      refine r_callV X (pc := 110) (As := [vI (sg53.1 41)]) (st := []) rfl rfl rfl (tw_t t _ h0) m_X5_274 (fun _ => s_X5_isDigit hz hk) ⟨by decide, by decide⟩ (Nat.le_of_ble_eq_true rfl) dX5_next_110 (fun v9 h9 n9 z9 hq => ?_) (fun _ _ _ _ _ hf => hf.elim)
      obtain ⟨r56, rfl, rfl, rfl, sg57, rfl, hk⟩ := hq
      refine ⟨[vI r56], rfl, ?_⟩
      obtain ⟨b58, hk⟩ := hk
      refine r_if_eq X (pc := 113) (tgt := 180) dX5_next_113 (by decide) b58 (fun c59 => ?_) (fun c59 => ?_)
      · have hk := hk.1 c59
        refine r_aload_n X (pc := 180) dX5_next_180 rfl (q := 0) rfl ?_
        refine r_aload_n X (pc := 181) dX5_next_181 rfl (q := 0) rfl ?_
        refine r_tgR X (pc := 182) (ty := 0) (N := 700) fa_X5_29 rfl (by decide) dX5_next_182 ?_
        refine r_aload_n X (pc := 185) dX5_next_185 rfl (q := 0) rfl ?_
        refine r_tgI X (pc := 186) (v := sg57.1 41) fa_X5_262 (by decide) rfl dX5_next_186 ?_
        obtain ⟨b60, hk⟩ := hk
        refine r_tiald X (pc := 189) (v := sg57.2 8 (sg57.1 41)) (N := 700) rfl rfl dX5_next_189 b60 ?_
        refine r_bipush X (pc := 190) dX5_next_190 (by decide) ?_
        obtain ⟨b61, hk⟩ := hk
        refine r_icmp_eq X (pc := 192) (tgt := 223) dX5_next_192 (by decide) ⟨b61, (by decide)⟩ (fun c62 => ?_) (fun c62 => ?_)
        · have hk := hk.1 c62
          refine r_iconst X (pc := 223) dX5_next_223 ?_
          refine r_goto X (pc := 224) (tgt := 228) dX5_next_224 (by decide) ?_
          exact w_X5_next_228 X E hz sg57 3 hk
        · have hk := hk.2 c62
          refine r_aload_n X (pc := 195) dX5_next_195 rfl (q := 0) rfl ?_
          refine r_tgR X (pc := 196) (ty := 0) (N := 700) fa_X5_29 rfl (by decide) dX5_next_196 ?_
          refine r_aload_n X (pc := 199) dX5_next_199 rfl (q := 0) rfl ?_
          refine r_tgI X (pc := 200) (v := sg57.1 41) fa_X5_262 (by decide) rfl dX5_next_200 ?_
          refine r_tiald X (pc := 203) (v := sg57.2 8 (sg57.1 41)) (N := 700) rfl rfl dX5_next_203 b60 ?_
          refine r_bipush X (pc := 204) dX5_next_204 (by decide) ?_
          refine r_icmp_eq X (pc := 206) (tgt := 223) dX5_next_206 (by decide) ⟨b61, (by decide)⟩ (fun c63 => ?_) (fun c63 => ?_)
          · have hk := hk.1 c63
            refine r_iconst X (pc := 223) dX5_next_223 ?_
            refine r_goto X (pc := 224) (tgt := 228) dX5_next_224 (by decide) ?_
            exact w_X5_next_228 X E hz sg57 3 hk
          · have hk := hk.2 c63
            refine r_aload_n X (pc := 209) dX5_next_209 rfl (q := 0) rfl ?_
            refine r_tgR X (pc := 210) (ty := 0) (N := 700) fa_X5_29 rfl (by decide) dX5_next_210 ?_
            refine r_aload_n X (pc := 213) dX5_next_213 rfl (q := 0) rfl ?_
            refine r_tgI X (pc := 214) (v := sg57.1 41) fa_X5_262 (by decide) rfl dX5_next_214 ?_
            refine r_tiald X (pc := 217) (v := sg57.2 8 (sg57.1 41)) (N := 700) rfl rfl dX5_next_217 b60 ?_
            refine r_bipush X (pc := 218) dX5_next_218 (by decide) ?_
            refine r_icmp_ne X (pc := 220) (tgt := 227) dX5_next_220 (by decide) ⟨b61, (by decide)⟩ (fun c64 => ?_) (fun c64 => ?_)
            · have hk := hk.2 c64
              refine r_iconst X (pc := 227) dX5_next_227 ?_
              exact w_X5_next_228 X E hz sg57 4 hk
            · have hk := hk.1 c64
              refine r_iconst X (pc := 223) dX5_next_223 ?_
              refine r_goto X (pc := 224) (tgt := 228) dX5_next_224 (by decide) ?_
              exact w_X5_next_228 X E hz sg57 3 hk
      · have hk := hk.2 c59
        refine r_aload_n X (pc := 116) dX5_next_116 rfl (q := 0) rfl ?_
        refine r_iconst X (pc := 117) dX5_next_117 ?_
        refine r_tpI X (pc := 118) fp_X5_268 hz (by decide) dX5_next_118 ?_
        refine r_aload_n X (pc := 121) dX5_next_121 rfl (q := 0) rfl ?_
        refine r_iconst X (pc := 122) dX5_next_122 ?_
        refine r_tpI X (pc := 123) fp_X5_277 hz (by decide) dX5_next_123 ?_
        have HH65 : ∀ (sg : TS), (P_X5_next_241 κ sg) → G K Y (tw t sg h0) n z 241 [(0, vR (some t))] [] := by
            intro sg hk
            exact w_X5_next_241 X E hz sg hk
        obtain ⟨f9, hk⟩ := hk
        exact w_X5_next_126 X E hz HH65 f9 (setS (setS sg57 39 2) 42 0) hk
    · have hk := hk.2 c55
      refine r_aload_n X (pc := 76) dX5_next_76 rfl (q := 0) rfl ?_
      refine r_iconst X (pc := 77) dX5_next_77 ?_
      refine r_tpI X (pc := 78) fp_X5_268 hz (by decide) dX5_next_78 ?_
      have HH66 : ∀ (sg : TS), (P_X5_next_241 κ sg) → G K Y (tw t sg h0) n z 241 [(0, vR (some t))] [] := by
          intro sg hk
          exact w_X5_next_241 X E hz sg hk
      obtain ⟨f9, hk⟩ := hk
      exact w_X5_next_81 X E hz HH66 f9 (setS sg53 39 1) hk
  · have hk := hk.1 c51
    refine r_aload_n X (pc := 57) dX5_next_57 rfl (q := 0) rfl ?_
    refine r_iconst X (pc := 58) dX5_next_58 ?_
    refine r_tpI X (pc := 59) fp_X5_268 hz (by decide) dX5_next_59 ?_
    refine r_goto X (pc := 62) (tgt := 241) dX5_next_62 (by decide) ?_
    exact w_X5_next_241 X E hz (setS (setS sg 40 (sg.1 41)) 39 0) hk
set_option maxHeartbeats 4000000 in
theorem w_X5_next {K : KT} {Y : YT} {Qx : QxT} {t n z : Nat} {h0 : AH} {κ : TS → Prop} (X : XY K "TrailMarkersModel" "next" cX5_next (Option.none : Option Jvm.ClassFile.FieldType) [] 1 2 60 Y) (E : YE K Y (tQv t h0 n z κ) Qx) (hz : kz K ≤ t) {sg : TS} (hk : P_X5_next κ sg) : G K Y (tw t sg h0) n z 0 (lv_argsA 0 [vR (some t)]) [] := by
  show G K Y (tw t sg h0) n z 0 [(0, vR (some t))] []
  have HH67 : ∀ (sg : TS), (P_X5_next_38 κ sg) → G K Y (tw t sg h0) n z 38 [(0, vR (some t))] [] := by
      intro sg hk
      exact w_X5_next_38 X E hz sg hk
  obtain ⟨f9, hk⟩ := hk
  exact w_X5_next_0 X E hz HH67 f9 sg hk
theorem s_X5_next {K : KT} {l : Launch} {t n z : Nat} {h0 : AH} {κ : TS → Prop} (hz : kz K ≤ t) {sg : TS} (hk : P_X5_next κ sg) : Ct K l yX5_next (ws_ yX5_next cX5_next 1 (Option.none : Option Jvm.ClassFile.FieldType)) 2 60 ([vR (some t)].map cV) (tw t sg h0) n z (tQv t h0 n z κ) noX :=
  ct_of (by decide +kernel) (Nat.le_of_ble_eq_true rfl) (fun Y X E => w_X5_next X E hz hk)
set_option maxHeartbeats 4000000 in
theorem w_X5_starts {K : KT} {Y : YT} {Qx : QxT} {t n z : Nat} {h0 : AH} {κ : TS → Prop} (X : XY K "TrailMarkersModel" "starts" cX5_starts (Option.none : Option Jvm.ClassFile.FieldType) [] 1 3 83 Y) (E : YE K Y (tQv t h0 n z κ) Qx) (hz : kz K ≤ t) {sg : TS} (hk : P_X5_starts κ sg) : G K Y (tw t sg h0) n z 0 (lv_argsA 0 [vR (some t)]) [] := by
  show G K Y (tw t sg h0) n z 0 [(0, vR (some t))] []
  refine r_aload_n X (pc := 0) dX5_starts_0 rfl (q := 0) rfl ?_
  refine r_iconst X (pc := 1) dX5_starts_1 ?_
  refine r_tpI X (pc := 2) fp_X5_106 hz (by decide) dX5_starts_2 ?_
  refine r_aload_n X (pc := 5) dX5_starts_5 rfl (q := 0) rfl ?_
  refine r_iconst X (pc := 6) dX5_starts_6 ?_
  refine r_tpI X (pc := 7) fp_X5_262 hz (by decide) dX5_starts_7 ?_
  refine r_aload_n X (pc := 10) dX5_starts_10 rfl (q := 0) rfl ?_
  refine r_iconst X (pc := 11) dX5_starts_11 ?_
  refine r_tpZ X (pc := 12) fp_X5_288 hz (by decide) (Or.inl rfl) dX5_starts_12 ?_
  refine r_aload_n X (pc := 15) dX5_starts_15 rfl (q := 0) rfl ?_
  refine r_iconst X (pc := 16) dX5_starts_16 ?_
  refine r_tpI X (pc := 17) fp_X5_292 hz (by decide) dX5_starts_17 ?_
  refine r_aload_n X (pc := 20) dX5_starts_20 rfl (q := 0) rfl ?_
  refine r_iconst X (pc := 21) dX5_starts_21 ?_
  refine r_tpI X (pc := 22) fp_X5_35 hz (by decide) dX5_starts_22 ?_
  refine r_aload_n X (pc := 25) dX5_starts_25 rfl (q := 0) rfl ?_
  refine r_iconst X (pc := 26) dX5_starts_26 ?_
  refine r_tpI X (pc := 27) fp_X5_39 hz (by decide) dX5_starts_27 ?_
  refine r_aload_n X (pc := 30) dX5_starts_30 rfl (q := 0) rfl ?_
  refine r_tgR X (pc := 31) (ty := 0) (N := 526) fa_X5_9 rfl (by decide) dX5_starts_31 ?_
  refine r_iconst X (pc := 34) dX5_starts_34 ?_
  refine r_aload_n X (pc := 35) dX5_starts_35 rfl (q := 0) rfl ?_
  refine r_tgR X (pc := 36) (ty := 0) (N := 526) fa_X5_22 rfl (by decide) dX5_starts_36 ?_
  refine r_iconst X (pc := 39) dX5_starts_39 ?_
  refine r_callS X (pc := 40) (As := [vR (some (twAd t 0)), vI 0, vR (some (twAd t 4)), vI 0]) (st := []) m_X5_115 (fun _ => s_X5_copy hz hk) ⟨by decide, by decide⟩ (Nat.le_of_ble_eq_true rfl) dX5_starts_40 (fun v9 h9 n9 z9 hq => ?_) (fun _ _ _ _ _ hf => hf.elim)
  obtain ⟨rfl, rfl, rfl, sg3, rfl, hk⟩ := hq
  refine ⟨[], rfl, ?_⟩
  refine r_aload_n X (pc := 43) dX5_starts_43 rfl (q := 0) rfl ?_
  refine r_callV X (pc := 44) (As := []) (st := []) rfl rfl rfl (tw_t t _ h0) m_X5_295 (fun _ => s_X5_next hz hk) ⟨by decide, by decide⟩ (Nat.le_of_ble_eq_true rfl) dX5_starts_44 (fun v9 h9 n9 z9 hq => ?_) (fun _ _ _ _ _ hf => hf.elim)
  obtain ⟨rfl, rfl, rfl, sg4, rfl, hk⟩ := hq
  refine ⟨[], rfl, ?_⟩
  exact r_vret X E (pc := 47) dX5_starts_47 ⟨rfl, rfl, rfl, _, rfl, hk⟩
theorem s_X5_starts {K : KT} {l : Launch} {t n z : Nat} {h0 : AH} {κ : TS → Prop} (hz : kz K ≤ t) {sg : TS} (hk : P_X5_starts κ sg) : Ct K l yX5_starts (ws_ yX5_starts cX5_starts 1 (Option.none : Option Jvm.ClassFile.FieldType)) 3 83 ([vR (some t)].map cV) (tw t sg h0) n z (tQv t h0 n z κ) noX :=
  ct_of (by decide +kernel) (Nat.le_of_ble_eq_true rfl) (fun Y X E => w_X5_starts X E hz hk)
set_option maxHeartbeats 4000000 in
theorem w_X5_refused {K : KT} {Y : YT} {Qx : QxT} {t n z : Nat} {h0 : AH} {κ : TS → Prop} (X : XY K "TrailMarkersModel" "refused" cX5_refused (Option.none : Option Jvm.ClassFile.FieldType) [] 5 0 0 Y) (E : YE K Y (tQv t h0 n z κ) Qx) (hz : kz K ≤ t) {sg : TS} {x1 : Int} {x2 : Int} {x3 : Int} {x4 : Int} (hk : P_X5_refused κ sg x1 x2 x3 x4) : G K Y (tw t sg h0) n z 0 (lv_argsA 0 [vR (some t), vI x1, vI x2, vI x3, vI x4]) [] := by
  show G K Y (tw t sg h0) n z 0 [(0, vR (some t)), (1, vI x1), (2, vI x2), (3, vI x3), (4, vI x4)] []
  refine r_aload_n X (pc := 0) dX5_refused_0 rfl (q := 0) rfl ?_
  refine r_tgI X (pc := 1) (v := sg.1 43) fa_X5_288 (by decide) rfl dX5_refused_1 ?_
  obtain ⟨b5, hk⟩ := hk
  refine r_if_ne X (pc := 4) (tgt := 11) dX5_refused_4 (by decide) b5 (fun c6 => ?_) (fun c6 => ?_)
  · have hk := hk.2 c6
    exact r_vret X E (pc := 11) dX5_refused_11 ⟨rfl, rfl, rfl, _, rfl, hk⟩
  · have hk := hk.1 c6
    refine r_iload_n X (pc := 7) dX5_refused_7 rfl (q := 1) rfl ?_
    obtain ⟨b7, hk⟩ := hk
    refine r_if_ne X (pc := 8) (tgt := 12) dX5_refused_8 (by decide) b7 (fun c8 => ?_) (fun c8 => ?_)
    · have hk := hk.2 c8
      refine r_aload_n X (pc := 12) dX5_refused_12 rfl (q := 0) rfl ?_
      refine r_iconst X (pc := 13) dX5_refused_13 ?_
      refine r_tpZ X (pc := 14) fp_X5_288 hz (by decide) (Or.inr rfl) dX5_refused_14 ?_
      refine r_aload_n X (pc := 17) dX5_refused_17 rfl (q := 0) rfl ?_
      refine r_iload_n X (pc := 18) dX5_refused_18 rfl (q := 2) rfl ?_
      refine r_tpI X (pc := 19) fp_X5_292 hz (by decide) dX5_refused_19 ?_
      refine r_aload_n X (pc := 22) dX5_refused_22 rfl (q := 0) rfl ?_
      refine r_iload X (pc := 23) dX5_refused_23 (q := 4) rfl ?_
      refine r_tpI X (pc := 25) fp_X5_35 hz (by decide) dX5_refused_25 ?_
      refine r_aload_n X (pc := 28) dX5_refused_28 rfl (q := 0) rfl ?_
      refine r_iload_n X (pc := 29) dX5_refused_29 rfl (q := 3) rfl ?_
      refine r_tpI X (pc := 30) fp_X5_39 hz (by decide) dX5_refused_30 ?_
      exact r_vret X E (pc := 33) dX5_refused_33 ⟨rfl, rfl, rfl, _, rfl, hk⟩
    · have hk := hk.1 c8
      exact r_vret X E (pc := 11) dX5_refused_11 ⟨rfl, rfl, rfl, _, rfl, hk⟩
theorem s_X5_refused {K : KT} {l : Launch} {t n z : Nat} {h0 : AH} {κ : TS → Prop} (hz : kz K ≤ t) {sg : TS} {x1 : Int} {x2 : Int} {x3 : Int} {x4 : Int} (hk : P_X5_refused κ sg x1 x2 x3 x4) : Ct K l yX5_refused (ws_ yX5_refused cX5_refused 5 (Option.none : Option Jvm.ClassFile.FieldType)) 0 0 ([vR (some t), vI x1, vI x2, vI x3, vI x4].map cV) (tw t sg h0) n z (tQv t h0 n z κ) noX :=
  ct_of (by decide +kernel) (Nat.le_of_ble_eq_true rfl) (fun Y X E => w_X5_refused X E hz hk)
set_option maxHeartbeats 4000000 in
theorem w_X5_wrong {K : KT} {Y : YT} {Qx : QxT} {t n z : Nat} {h0 : AH} {κ : TS → Prop} (X : XY K "TrailMarkersModel" "wrong" cX5_wrong (Option.none : Option Jvm.ClassFile.FieldType) [] 3 1 24 Y) (E : YE K Y (tQv t h0 n z κ) Qx) (hz : kz K ≤ t) {sg : TS} {x1 : Int} {x2 : Int} (hk : P_X5_wrong κ sg x1 x2) : G K Y (tw t sg h0) n z 0 (lv_argsA 0 [vR (some t), vI x1, vI x2]) [] := by
  show G K Y (tw t sg h0) n z 0 [(0, vR (some t)), (1, vI x1), (2, vI x2)] []
  refine r_aload_n X (pc := 0) dX5_wrong_0 rfl (q := 0) rfl ?_
  refine r_iload_n X (pc := 1) dX5_wrong_1 rfl (q := 1) rfl ?_
  refine r_iload_n X (pc := 2) dX5_wrong_2 rfl (q := 2) rfl ?_
  refine r_iconst X (pc := 3) dX5_wrong_3 ?_
  refine r_aload_n X (pc := 4) dX5_wrong_4 rfl (q := 0) rfl ?_
  refine r_tgI X (pc := 5) (v := sg.1 40) fa_X5_265 (by decide) rfl dX5_wrong_5 ?_
  refine r_callV X (pc := 8) (As := [vI x1, vI x2, vI 0, vI (sg.1 40)]) (st := []) rfl rfl rfl (tw_t t _ h0) m_X5_284 (fun _ => s_X5_refused hz hk) ⟨by decide, by decide⟩ (Nat.le_of_ble_eq_true rfl) dX5_wrong_8 (fun v9 h9 n9 z9 hq => ?_) (fun _ _ _ _ _ hf => hf.elim)
  obtain ⟨rfl, rfl, rfl, sg2, rfl, hk⟩ := hq
  refine ⟨[], rfl, ?_⟩
  exact r_vret X E (pc := 11) dX5_wrong_11 ⟨rfl, rfl, rfl, _, rfl, hk⟩
theorem s_X5_wrong {K : KT} {l : Launch} {t n z : Nat} {h0 : AH} {κ : TS → Prop} (hz : kz K ≤ t) {sg : TS} {x1 : Int} {x2 : Int} (hk : P_X5_wrong κ sg x1 x2) : Ct K l yX5_wrong (ws_ yX5_wrong cX5_wrong 3 (Option.none : Option Jvm.ClassFile.FieldType)) 1 24 ([vR (some t), vI x1, vI x2].map cV) (tw t sg h0) n z (tQv t h0 n z κ) noX :=
  ct_of (by decide +kernel) (Nat.le_of_ble_eq_true rfl) (fun Y X E => w_X5_wrong X E hz hk)
set_option maxHeartbeats 4000000 in
theorem w_X5_go {K : KT} {Y : YT} {Qx : QxT} {t n z : Nat} {h0 : AH} {κ : TS → Prop} (X : XY K "TrailMarkersModel" "go" cX5_go (Option.none : Option Jvm.ClassFile.FieldType) [] 1 3 80 Y) (E : YE K Y (tQv t h0 n z κ) Qx) (hz : kz K ≤ t) {sg : TS} (hk : P_X5_go κ sg) : G K Y (tw t sg h0) n z 0 (lv_argsA 0 [vR (some t)]) [] := by
  show G K Y (tw t sg h0) n z 0 [(0, vR (some t))] []
  refine r_aload_n X (pc := 0) dX5_go_0 rfl (q := 0) rfl ?_
  refine r_tgI X (pc := 1) (v := sg.1 43) fa_X5_288 (by decide) rfl dX5_go_1 ?_
  obtain ⟨b4, hk⟩ := hk
  refine r_if_ne X (pc := 4) (tgt := 11) dX5_go_4 (by decide) b4 (fun c5 => ?_) (fun c5 => ?_)
  · have hk := hk.2 c5
    exact r_vret X E (pc := 11) dX5_go_11 ⟨rfl, rfl, rfl, _, rfl, hk⟩
  · have hk := hk.1 c5
    refine r_aload_n X (pc := 7) dX5_go_7 rfl (q := 0) rfl ?_
    refine r_callV X (pc := 8) (As := []) (st := []) rfl rfl rfl (tw_t t _ h0) m_X5_295 (fun _ => s_X5_next hz hk) ⟨by decide, by decide⟩ (Nat.le_of_ble_eq_true rfl) dX5_go_8 (fun v9 h9 n9 z9 hq => ?_) (fun _ _ _ _ _ hf => hf.elim)
    obtain ⟨rfl, rfl, rfl, sg6, rfl, hk⟩ := hq
    refine ⟨[], rfl, ?_⟩
    exact r_vret X E (pc := 11) dX5_go_11 ⟨rfl, rfl, rfl, _, rfl, hk⟩
theorem s_X5_go {K : KT} {l : Launch} {t n z : Nat} {h0 : AH} {κ : TS → Prop} (hz : kz K ≤ t) {sg : TS} (hk : P_X5_go κ sg) : Ct K l yX5_go (ws_ yX5_go cX5_go 1 (Option.none : Option Jvm.ClassFile.FieldType)) 3 80 ([vR (some t)].map cV) (tw t sg h0) n z (tQv t h0 n z κ) noX :=
  ct_of (by decide +kernel) (Nat.le_of_ble_eq_true rfl) (fun Y X E => w_X5_go X E hz hk)
set_option maxHeartbeats 4000000 in
theorem w_X5_here_43 {K : KT} {Y : YT} {Qx : QxT} {t n z : Nat} {h0 : AH} {κ : Int → TS → Prop} (X : XY K "TrailMarkersModel" "here" cX5_here (Option.some Jvm.ClassFile.FieldType.int) [] 3 2 46 Y) (E : YE K Y (tQ t h0 n z κ) Qx) (hz : kz K ≤ t) : ∀ (sg : TS) (x1 : Int) (s0 : Int), P_X5_here_43 κ sg x1 s0 → G K Y (tw t sg h0) n z 43 [(0, vR (some t)), (1, vI x1)] [vI s0, vR (some t)] := by
  intro sg x1 s0 hk
  refine r_iconst X (pc := 43) dX5_here_43 ?_
  refine r_callV X (pc := 44) (As := [vI s0, vI 2]) (st := []) rfl rfl rfl (tw_t t _ h0) m_X5_297 (fun _ => s_X5_wrong hz hk) ⟨by decide, by decide⟩ (Nat.le_of_ble_eq_true rfl) dX5_here_44 (fun v9 h9 n9 z9 hq => ?_) (fun _ _ _ _ _ hf => hf.elim)
  obtain ⟨rfl, rfl, rfl, sg11, rfl, hk⟩ := hq
  refine ⟨[], rfl, ?_⟩
  refine r_aload_n X (pc := 47) dX5_here_47 rfl (q := 0) rfl ?_
  refine r_tgI X (pc := 48) (v := sg11.1 43) fa_X5_288 (by decide) rfl dX5_here_48 ?_
  obtain ⟨b12, hk⟩ := hk
  refine r_if_eq X (pc := 51) (tgt := 58) dX5_here_51 (by decide) b12 (fun c13 => ?_) (fun c13 => ?_)
  · have hk := hk.1 c13
    refine r_aload_n X (pc := 58) dX5_here_58 rfl (q := 0) rfl ?_
    refine r_tgI X (pc := 59) (v := sg11.1 42) fa_X5_277 (by decide) rfl dX5_here_59 ?_
    exact r_iret X E (pc := 62) dX5_here_62 rfl ⟨_, rfl, rfl, rfl, _, rfl, hk⟩
  · have hk := hk.2 c13
    refine r_iload_n X (pc := 54) dX5_here_54 rfl (q := 1) rfl ?_
    refine r_goto X (pc := 55) (tgt := 62) dX5_here_55 (by decide) ?_
    exact r_iret X E (pc := 62) dX5_here_62 rfl ⟨_, rfl, rfl, rfl, _, rfl, hk⟩
set_option maxHeartbeats 4000000 in
theorem w_X5_here_14 {K : KT} {Y : YT} {Qx : QxT} {t n z : Nat} {h0 : AH} {κ : Int → TS → Prop} (X : XY K "TrailMarkersModel" "here" cX5_here (Option.some Jvm.ClassFile.FieldType.int) [] 3 2 46 Y) (E : YE K Y (tQ t h0 n z κ) Qx) (hz : kz K ≤ t) : ∀ (sg : TS) (x1 : Int) (x2 : Int) (s0 : Int), P_X5_here_14 κ sg x1 x2 s0 → G K Y (tw t sg h0) n z 14 [(0, vR (some t)), (1, vI x1), (2, vI x2)] [vI s0, vR (some t)] := by
  intro sg x1 x2 s0 hk
  refine r_iconst X (pc := 14) dX5_here_14 ?_
  refine r_callV X (pc := 15) (As := [vI s0, vI 1]) (st := []) rfl rfl rfl (tw_t t _ h0) m_X5_297 (fun _ => s_X5_wrong hz hk) ⟨by decide, by decide⟩ (Nat.le_of_ble_eq_true rfl) dX5_here_15 (fun v9 h9 n9 z9 hq => ?_) (fun _ _ _ _ _ hf => hf.elim)
  obtain ⟨rfl, rfl, rfl, sg14, rfl, hk⟩ := hq
  refine ⟨[], rfl, ?_⟩
  refine r_aload_n X (pc := 18) dX5_here_18 rfl (q := 0) rfl ?_
  refine r_aload_n X (pc := 19) dX5_here_19 rfl (q := 0) rfl ?_
  refine r_tgI X (pc := 20) (v := sg14.1 43) fa_X5_288 (by decide) rfl dX5_here_20 ?_
  obtain ⟨b15, hk⟩ := hk
  refine r_if_ne X (pc := 23) (tgt := 42) dX5_here_23 (by decide) b15 (fun c16 => ?_) (fun c16 => ?_)
  · have hk := hk.2 c16
    refine r_iconst X (pc := 42) dX5_here_42 ?_
    refine G.sub [0, 1] rfl ?_
    exact w_X5_here_43 X E hz sg14 x1 0 hk
  · have hk := hk.1 c16
    refine r_aload_n X (pc := 26) dX5_here_26 rfl (q := 0) rfl ?_
    refine r_tgI X (pc := 27) (v := sg14.1 42) fa_X5_277 (by decide) rfl dX5_here_27 ?_
    refine r_iload_n X (pc := 30) dX5_here_30 rfl (q := 1) rfl ?_
    refine r_iload_n X (pc := 31) dX5_here_31 rfl (q := 2) rfl ?_
    refine r_callS X (pc := 32) (As := [vI (sg14.1 42), vI x1, vI x2]) (st := [vR (some t)]) m_X5_119 (fun _ => s_X5_isIn hk) ⟨by decide, by decide⟩ (Nat.le_of_ble_eq_true rfl) dX5_here_32 (fun v9 h9 n9 z9 hq => ?_) (fun _ _ _ _ _ hf => hf.elim)
    obtain ⟨r17, rfl, rfl, rfl, rfl, hk⟩ := hq
    refine ⟨[vI r17], rfl, ?_⟩
    obtain ⟨b18, hk⟩ := hk
    refine r_if_ne X (pc := 35) (tgt := 42) dX5_here_35 (by decide) b18 (fun c19 => ?_) (fun c19 => ?_)
    · have hk := hk.2 c19
      refine r_iconst X (pc := 42) dX5_here_42 ?_
      refine G.sub [0, 1] rfl ?_
      exact w_X5_here_43 X E hz sg14 x1 0 hk
    · have hk := hk.1 c19
      refine r_iconst X (pc := 38) dX5_here_38 ?_
      refine r_goto X (pc := 39) (tgt := 43) dX5_here_39 (by decide) ?_
      refine G.sub [0, 1] rfl ?_
      exact w_X5_here_43 X E hz sg14 x1 1 hk
set_option maxHeartbeats 4000000 in
theorem w_X5_here {K : KT} {Y : YT} {Qx : QxT} {t n z : Nat} {h0 : AH} {κ : Int → TS → Prop} (X : XY K "TrailMarkersModel" "here" cX5_here (Option.some Jvm.ClassFile.FieldType.int) [] 3 2 46 Y) (E : YE K Y (tQ t h0 n z κ) Qx) (hz : kz K ≤ t) {sg : TS} {x1 : Int} {x2 : Int} (hk : P_X5_here κ sg x1 x2) : G K Y (tw t sg h0) n z 0 (lv_argsA 0 [vR (some t), vI x1, vI x2]) [] := by
  show G K Y (tw t sg h0) n z 0 [(0, vR (some t)), (1, vI x1), (2, vI x2)] []
  refine r_aload_n X (pc := 0) dX5_here_0 rfl (q := 0) rfl ?_
  refine r_aload_n X (pc := 1) dX5_here_1 rfl (q := 0) rfl ?_
  refine r_tgI X (pc := 2) (v := sg.1 39) fa_X5_268 (by decide) rfl dX5_here_2 ?_
  refine r_iconst X (pc := 5) dX5_here_5 ?_
  obtain ⟨b20, hk⟩ := hk
  refine r_icmp_eq X (pc := 6) (tgt := 13) dX5_here_6 (by decide) ⟨b20, (by decide)⟩ (fun c21 => ?_) (fun c21 => ?_)
  · have hk := hk.1 c21
    refine r_iconst X (pc := 13) dX5_here_13 ?_
    exact w_X5_here_14 X E hz sg x1 x2 0 hk
  · have hk := hk.2 c21
    refine r_iconst X (pc := 9) dX5_here_9 ?_
    refine r_goto X (pc := 10) (tgt := 14) dX5_here_10 (by decide) ?_
    exact w_X5_here_14 X E hz sg x1 x2 1 hk
theorem s_X5_here {K : KT} {l : Launch} {t n z : Nat} {h0 : AH} {κ : Int → TS → Prop} (hz : kz K ≤ t) {sg : TS} {x1 : Int} {x2 : Int} (hk : P_X5_here κ sg x1 x2) : Ct K l yX5_here (ws_ yX5_here cX5_here 3 (Option.some Jvm.ClassFile.FieldType.int)) 2 46 ([vR (some t), vI x1, vI x2].map cV) (tw t sg h0) n z (tQ t h0 n z κ) noX :=
  ct_of (by decide +kernel) (Nat.le_of_ble_eq_true rfl) (fun Y X E => w_X5_here X E hz hk)
set_option maxHeartbeats 4000000 in
theorem w_X5_number {K : KT} {Y : YT} {Qx : QxT} {t n z : Nat} {h0 : AH} {κ : Int → TS → Prop} (X : XY K "TrailMarkersModel" "number" cX5_number (Option.some Jvm.ClassFile.FieldType.int) [] 4 4 100 Y) (E : YE K Y (tQ t h0 n z κ) Qx) (hz : kz K ≤ t) {sg : TS} {x1 : Int} {x2 : Int} (hk : P_X5_number κ sg x1 x2) : G K Y (tw t sg h0) n z 0 (lv_argsA 0 [vR (some t), vI x1, vI x2]) [] := by
  show G K Y (tw t sg h0) n z 0 [(0, vR (some t)), (1, vI x1), (2, vI x2)] []
  refine r_aload_n X (pc := 0) dX5_number_0 rfl (q := 0) rfl ?_
  refine r_iload_n X (pc := 1) dX5_number_1 rfl (q := 1) rfl ?_
  refine r_iload_n X (pc := 2) dX5_number_2 rfl (q := 2) rfl ?_
  refine r_callV X (pc := 3) (As := [vI x1, vI x2]) (st := []) rfl rfl rfl (tw_t t _ h0) m_X5_301 (fun _ => s_X5_here hz hk) ⟨by decide, by decide⟩ (Nat.le_of_ble_eq_true rfl) dX5_number_3 (fun v9 h9 n9 z9 hq => ?_) (fun _ _ _ _ _ hf => hf.elim)
  obtain ⟨r3, rfl, rfl, rfl, sg4, rfl, hk⟩ := hq
  refine ⟨[vI r3], rfl, ?_⟩
  refine r_istore_n X (pc := 6) (lv1 := [(3, vI r3), (0, vR (some t)), (1, vI x1), (2, vI x2)]) dX5_number_6 rfl (by decide) rfl ?_
  refine r_aload_n X (pc := 7) dX5_number_7 rfl (q := 1) rfl ?_
  refine r_callV X (pc := 8) (As := []) (st := []) rfl rfl rfl (tw_t t _ h0) m_X5_304 (fun _ => s_X5_go hz hk) ⟨by decide, by decide⟩ (Nat.le_of_ble_eq_true rfl) dX5_number_8 (fun v9 h9 n9 z9 hq => ?_) (fun _ _ _ _ _ hf => hf.elim)
  obtain ⟨rfl, rfl, rfl, sg5, rfl, hk⟩ := hq
  refine ⟨[], rfl, ?_⟩
  refine r_iload_n X (pc := 11) dX5_number_11 rfl (q := 0) rfl ?_
  exact r_iret X E (pc := 12) dX5_number_12 rfl ⟨_, rfl, rfl, rfl, _, rfl, hk⟩
theorem s_X5_number {K : KT} {l : Launch} {t n z : Nat} {h0 : AH} {κ : Int → TS → Prop} (hz : kz K ≤ t) {sg : TS} {x1 : Int} {x2 : Int} (hk : P_X5_number κ sg x1 x2) : Ct K l yX5_number (ws_ yX5_number cX5_number 4 (Option.some Jvm.ClassFile.FieldType.int)) 4 100 ([vR (some t), vI x1, vI x2].map cV) (tw t sg h0) n z (tQ t h0 n z κ) noX :=
  ct_of (by decide +kernel) (Nat.le_of_ble_eq_true rfl) (fun Y X E => w_X5_number X E hz hk)
set_option maxHeartbeats 4000000 in
theorem w_X5_isSign {K : KT} {Y : YT} {Qx : QxT} {t n z : Nat} {h0 : AH} {κ : Int → TS → Prop} (X : XY K "TrailMarkersModel" "isSign" cX5_isSign (Option.some Jvm.ClassFile.FieldType.boolean) [] 2 0 0 Y) (E : YE K Y (tQ t h0 n z κ) Qx) (hz : kz K ≤ t) {sg : TS} {x1 : Int} (hk : P_X5_isSign κ sg x1) : G K Y (tw t sg h0) n z 0 (lv_argsA 0 [vR (some t), vI x1]) [] := by
  show G K Y (tw t sg h0) n z 0 [(0, vR (some t)), (1, vI x1)] []
  refine r_aload_n X (pc := 0) dX5_isSign_0 rfl (q := 0) rfl ?_
  refine r_tgI X (pc := 1) (v := sg.1 39) fa_X5_268 (by decide) rfl dX5_isSign_1 ?_
  refine r_iconst X (pc := 4) dX5_isSign_4 ?_
  obtain ⟨b7, hk⟩ := hk
  refine r_icmp_ne X (pc := 5) (tgt := 25) dX5_isSign_5 (by decide) ⟨b7, (by decide)⟩ (fun c8 => ?_) (fun c8 => ?_)
  · have hk := hk.2 c8
    refine r_iconst X (pc := 25) dX5_isSign_25 ?_
    exact r_iret X E (pc := 26) dX5_isSign_26 rfl ⟨_, rfl, rfl, rfl, _, rfl, hk⟩
  · have hk := hk.1 c8
    refine r_aload_n X (pc := 8) dX5_isSign_8 rfl (q := 0) rfl ?_
    refine r_tgR X (pc := 9) (ty := 0) (N := 700) fa_X5_29 rfl (by decide) dX5_isSign_9 ?_
    refine r_aload_n X (pc := 12) dX5_isSign_12 rfl (q := 0) rfl ?_
    refine r_tgI X (pc := 13) (v := sg.1 40) fa_X5_265 (by decide) rfl dX5_isSign_13 ?_
    obtain ⟨b9, hk⟩ := hk
    refine r_tiald X (pc := 16) (v := sg.2 8 (sg.1 40)) (N := 700) rfl rfl dX5_isSign_16 b9 ?_
    refine r_iload_n X (pc := 17) dX5_isSign_17 rfl (q := 1) rfl ?_
    obtain ⟨b10, b11, hk⟩ := hk
    refine r_icmp_ne X (pc := 18) (tgt := 25) dX5_isSign_18 (by decide) ⟨b10, b11⟩ (fun c12 => ?_) (fun c12 => ?_)
    · have hk := hk.2 c12
      refine r_iconst X (pc := 25) dX5_isSign_25 ?_
      exact r_iret X E (pc := 26) dX5_isSign_26 rfl ⟨_, rfl, rfl, rfl, _, rfl, hk⟩
    · have hk := hk.1 c12
      refine r_iconst X (pc := 21) dX5_isSign_21 ?_
      refine r_goto X (pc := 22) (tgt := 26) dX5_isSign_22 (by decide) ?_
      exact r_iret X E (pc := 26) dX5_isSign_26 rfl ⟨_, rfl, rfl, rfl, _, rfl, hk⟩
theorem s_X5_isSign {K : KT} {l : Launch} {t n z : Nat} {h0 : AH} {κ : Int → TS → Prop} (hz : kz K ≤ t) {sg : TS} {x1 : Int} (hk : P_X5_isSign κ sg x1) : Ct K l yX5_isSign (ws_ yX5_isSign cX5_isSign 2 (Option.some Jvm.ClassFile.FieldType.boolean)) 0 0 ([vR (some t), vI x1].map cV) (tw t sg h0) n z (tQ t h0 n z κ) noX :=
  ct_of (by decide +kernel) (Nat.le_of_ble_eq_true rfl) (fun Y X E => w_X5_isSign X E hz hk)
set_option maxHeartbeats 4000000 in
theorem w_X5_sign_14 {K : KT} {Y : YT} {Qx : QxT} {t n z : Nat} {h0 : AH} {κ : TS → Prop} (X : XY K "TrailMarkersModel" "sign" cX5_sign (Option.none : Option Jvm.ClassFile.FieldType) [] 2 4 100 Y) (E : YE K Y (tQv t h0 n z κ) Qx) (hz : kz K ≤ t) : ∀ (sg : TS) (s0 : Int), P_X5_sign_14 κ sg s0 → G K Y (tw t sg h0) n z 14 [(0, vR (some t))] [vI s0, vR (some t)] := by
  intro sg s0 hk
  refine r_iconst X (pc := 14) dX5_sign_14 ?_
  refine r_callV X (pc := 15) (As := [vI s0, vI 1]) (st := []) rfl rfl rfl (tw_t t _ h0) m_X5_297 (fun _ => s_X5_wrong hz hk) ⟨by decide, by decide⟩ (Nat.le_of_ble_eq_true rfl) dX5_sign_15 (fun v9 h9 n9 z9 hq => ?_) (fun _ _ _ _ _ hf => hf.elim)
  obtain ⟨rfl, rfl, rfl, sg6, rfl, hk⟩ := hq
  refine ⟨[], rfl, ?_⟩
  refine r_aload_n X (pc := 18) dX5_sign_18 rfl (q := 0) rfl ?_
  refine r_callV X (pc := 19) (As := []) (st := []) rfl rfl rfl (tw_t t _ h0) m_X5_304 (fun _ => s_X5_go hz hk) ⟨by decide, by decide⟩ (Nat.le_of_ble_eq_true rfl) dX5_sign_19 (fun v9 h9 n9 z9 hq => ?_) (fun _ _ _ _ _ hf => hf.elim)
  obtain ⟨rfl, rfl, rfl, sg7, rfl, hk⟩ := hq
  refine ⟨[], rfl, ?_⟩
  exact r_vret X E (pc := 22) dX5_sign_22 ⟨rfl, rfl, rfl, _, rfl, hk⟩
set_option maxHeartbeats 4000000 in
theorem w_X5_sign {K : KT} {Y : YT} {Qx : QxT} {t n z : Nat} {h0 : AH} {κ : TS → Prop} (X : XY K "TrailMarkersModel" "sign" cX5_sign (Option.none : Option Jvm.ClassFile.FieldType) [] 2 4 100 Y) (E : YE K Y (tQv t h0 n z κ) Qx) (hz : kz K ≤ t) {sg : TS} {x1 : Int} (hk : P_X5_sign κ sg x1) : G K Y (tw t sg h0) n z 0 (lv_argsA 0 [vR (some t), vI x1]) [] := by
  show G K Y (tw t sg h0) n z 0 [(0, vR (some t)), (1, vI x1)] []
  refine r_aload_n X (pc := 0) dX5_sign_0 rfl (q := 0) rfl ?_
  refine r_aload_n X (pc := 1) dX5_sign_1 rfl (q := 0) rfl ?_
  refine r_iload_n X (pc := 2) dX5_sign_2 rfl (q := 1) rfl ?_
  refine r_callV X (pc := 3) (As := [vI x1]) (st := [vR (some t)]) rfl rfl rfl (tw_t t _ h0) m_X5_307 (fun _ => s_X5_isSign hz hk) ⟨by decide, by decide⟩ (Nat.le_of_ble_eq_true rfl) dX5_sign_3 (fun v9 h9 n9 z9 hq => ?_) (fun _ _ _ _ _ hf => hf.elim)
  obtain ⟨r8, rfl, rfl, rfl, sg9, rfl, hk⟩ := hq
  refine ⟨[vI r8], rfl, ?_⟩
  obtain ⟨b10, hk⟩ := hk
  refine r_if_ne X (pc := 6) (tgt := 13) dX5_sign_6 (by decide) b10 (fun c11 => ?_) (fun c11 => ?_)
  · have hk := hk.2 c11
    refine r_iconst X (pc := 13) dX5_sign_13 ?_
    refine G.sub [0] rfl ?_
    exact w_X5_sign_14 X E hz sg9 0 hk
  · have hk := hk.1 c11
    refine r_iconst X (pc := 9) dX5_sign_9 ?_
    refine r_goto X (pc := 10) (tgt := 14) dX5_sign_10 (by decide) ?_
    refine G.sub [0] rfl ?_
    exact w_X5_sign_14 X E hz sg9 1 hk
theorem s_X5_sign {K : KT} {l : Launch} {t n z : Nat} {h0 : AH} {κ : TS → Prop} (hz : kz K ≤ t) {sg : TS} {x1 : Int} (hk : P_X5_sign κ sg x1) : Ct K l yX5_sign (ws_ yX5_sign cX5_sign 2 (Option.none : Option Jvm.ClassFile.FieldType)) 4 100 ([vR (some t), vI x1].map cV) (tw t sg h0) n z (tQv t h0 n z κ) noX :=
  ct_of (by decide +kernel) (Nat.le_of_ble_eq_true rfl) (fun Y X E => w_X5_sign X E hz hk)
set_option maxHeartbeats 4000000 in
theorem w_X5_isBlock {K : KT} {Y : YT} {Qx : QxT} {t n z : Nat} {h0 : AH} {κ : Int → TS → Prop} (X : XY K "TrailMarkersModel" "isBlock" cX5_isBlock (Option.some Jvm.ClassFile.FieldType.boolean) [] 3 0 0 Y) (E : YE K Y (tQ t h0 n z κ) Qx) (hz : kz K ≤ t) {sg : TS} {x1 : Int} {x2 : Int} (hk : P_X5_isBlock κ sg x1 x2) : G K Y (tw t sg h0) n z 0 (lv_argsA 0 [vR (some t), vI x1, vI x2]) [] := by
  show G K Y (tw t sg h0) n z 0 [(0, vR (some t)), (1, vI x1), (2, vI x2)] []
  refine r_aload_n X (pc := 0) dX5_isBlock_0 rfl (q := 0) rfl ?_
  refine r_tgR X (pc := 1) (ty := 0) (N := 526) fa_X5_9 rfl (by decide) dX5_isBlock_1 ?_
  refine r_bipush X (pc := 4) dX5_isBlock_4 (by decide) ?_
  refine r_bipush X (pc := 6) dX5_isBlock_6 (by decide) ?_
  refine r_iload_n X (pc := 8) dX5_isBlock_8 rfl (q := 2) rfl ?_
  refine r_imul X (pc := 9) dX5_isBlock_9 ?_
  refine r_iadd X (pc := 10) dX5_isBlock_10 ?_
  refine r_iload_n X (pc := 11) dX5_isBlock_11 rfl (q := 1) rfl ?_
  refine r_iadd X (pc := 12) dX5_isBlock_12 ?_
  obtain ⟨b4, hk⟩ := hk
  refine r_tiald X (pc := 13) (v := sg.2 0 ((6 + (20 * x2)) + x1)) (N := 526) rfl rfl dX5_isBlock_13 b4 ?_
  refine r_iconst X (pc := 14) dX5_isBlock_14 ?_
  obtain ⟨b5, hk⟩ := hk
  refine r_icmp_ne X (pc := 15) (tgt := 22) dX5_isBlock_15 (by decide) ⟨b5, (by decide)⟩ (fun c6 => ?_) (fun c6 => ?_)
  · have hk := hk.2 c6
    refine r_iconst X (pc := 22) dX5_isBlock_22 ?_
    exact r_iret X E (pc := 23) dX5_isBlock_23 rfl ⟨_, rfl, rfl, rfl, _, rfl, hk⟩
  · have hk := hk.1 c6
    refine r_iconst X (pc := 18) dX5_isBlock_18 ?_
    refine r_goto X (pc := 19) (tgt := 23) dX5_isBlock_19 (by decide) ?_
    exact r_iret X E (pc := 23) dX5_isBlock_23 rfl ⟨_, rfl, rfl, rfl, _, rfl, hk⟩
theorem s_X5_isBlock {K : KT} {l : Launch} {t n z : Nat} {h0 : AH} {κ : Int → TS → Prop} (hz : kz K ≤ t) {sg : TS} {x1 : Int} {x2 : Int} (hk : P_X5_isBlock κ sg x1 x2) : Ct K l yX5_isBlock (ws_ yX5_isBlock cX5_isBlock 3 (Option.some Jvm.ClassFile.FieldType.boolean)) 0 0 ([vR (some t), vI x1, vI x2].map cV) (tw t sg h0) n z (tQ t h0 n z κ) noX :=
  ct_of (by decide +kernel) (Nat.le_of_ble_eq_true rfl) (fun Y X E => w_X5_isBlock X E hz hk)
set_option maxHeartbeats 4000000 in
theorem w_X5_isOn {K : KT} {Y : YT} {Qx : QxT} {t n z : Nat} {h0 : AH} {κ : Int → TS → Prop} (X : XY K "TrailMarkersModel" "isOn" cX5_isOn (Option.some Jvm.ClassFile.FieldType.boolean) [] 3 1 22 Y) (E : YE K Y (tQ t h0 n z κ) Qx) (hz : kz K ≤ t) {sg : TS} {x1 : Int} {x2 : Int} (hk : P_X5_isOn κ sg x1 x2) : G K Y (tw t sg h0) n z 0 (lv_argsA 0 [vR (some t), vI x1, vI x2]) [] := by
  show G K Y (tw t sg h0) n z 0 [(0, vR (some t)), (1, vI x1), (2, vI x2)] []
  refine r_iload_n X (pc := 0) dX5_isOn_0 rfl (q := 1) rfl ?_
  refine r_iconst X (pc := 1) dX5_isOn_1 ?_
  refine r_aload_n X (pc := 2) dX5_isOn_2 rfl (q := 0) rfl ?_
  refine r_tgR X (pc := 3) (ty := 0) (N := 526) fa_X5_9 rfl (by decide) dX5_isOn_3 ?_
  refine r_iconst X (pc := 6) dX5_isOn_6 ?_
  refine r_tiald X (pc := 7) (v := sg.2 0 0) (N := 526) rfl rfl dX5_isOn_7 (by decide) ?_
  refine r_iconst X (pc := 8) dX5_isOn_8 ?_
  refine r_isub X (pc := 9) dX5_isOn_9 ?_
  refine r_callS X (pc := 10) (As := [vI x1, vI 0, vI ((sg.2 0 0) - 1)]) (st := []) m_X5_119 (fun _ => s_X5_isIn hk) ⟨by decide, by decide⟩ (Nat.le_of_ble_eq_true rfl) dX5_isOn_10 (fun v9 h9 n9 z9 hq => ?_) (fun _ _ _ _ _ hf => hf.elim)
  obtain ⟨r5, rfl, rfl, rfl, rfl, hk⟩ := hq
  refine ⟨[vI r5], rfl, ?_⟩
  obtain ⟨b6, hk⟩ := hk
  refine r_if_eq X (pc := 13) (tgt := 36) dX5_isOn_13 (by decide) b6 (fun c7 => ?_) (fun c7 => ?_)
  · have hk := hk.1 c7
    refine r_iconst X (pc := 36) dX5_isOn_36 ?_
    exact r_iret X E (pc := 37) dX5_isOn_37 rfl ⟨_, rfl, rfl, rfl, _, rfl, hk⟩
  · have hk := hk.2 c7
    refine r_iload_n X (pc := 16) dX5_isOn_16 rfl (q := 2) rfl ?_
    refine r_iconst X (pc := 17) dX5_isOn_17 ?_
    refine r_aload_n X (pc := 18) dX5_isOn_18 rfl (q := 0) rfl ?_
    refine r_tgR X (pc := 19) (ty := 0) (N := 526) fa_X5_9 rfl (by decide) dX5_isOn_19 ?_
    refine r_iconst X (pc := 22) dX5_isOn_22 ?_
    refine r_tiald X (pc := 23) (v := sg.2 0 1) (N := 526) rfl rfl dX5_isOn_23 (by decide) ?_
    refine r_iconst X (pc := 24) dX5_isOn_24 ?_
    refine r_isub X (pc := 25) dX5_isOn_25 ?_
    refine r_callS X (pc := 26) (As := [vI x2, vI 0, vI ((sg.2 0 1) - 1)]) (st := []) m_X5_119 (fun _ => s_X5_isIn hk) ⟨by decide, by decide⟩ (Nat.le_of_ble_eq_true rfl) dX5_isOn_26 (fun v9 h9 n9 z9 hq => ?_) (fun _ _ _ _ _ hf => hf.elim)
    obtain ⟨r8, rfl, rfl, rfl, rfl, hk⟩ := hq
    refine ⟨[vI r8], rfl, ?_⟩
    obtain ⟨b9, hk⟩ := hk
    refine r_if_eq X (pc := 29) (tgt := 36) dX5_isOn_29 (by decide) b9 (fun c10 => ?_) (fun c10 => ?_)
    · have hk := hk.1 c10
      refine r_iconst X (pc := 36) dX5_isOn_36 ?_
      exact r_iret X E (pc := 37) dX5_isOn_37 rfl ⟨_, rfl, rfl, rfl, _, rfl, hk⟩
    · have hk := hk.2 c10
      refine r_iconst X (pc := 32) dX5_isOn_32 ?_
      refine r_goto X (pc := 33) (tgt := 37) dX5_isOn_33 (by decide) ?_
      exact r_iret X E (pc := 37) dX5_isOn_37 rfl ⟨_, rfl, rfl, rfl, _, rfl, hk⟩
theorem s_X5_isOn {K : KT} {l : Launch} {t n z : Nat} {h0 : AH} {κ : Int → TS → Prop} (hz : kz K ≤ t) {sg : TS} {x1 : Int} {x2 : Int} (hk : P_X5_isOn κ sg x1 x2) : Ct K l yX5_isOn (ws_ yX5_isOn cX5_isOn 3 (Option.some Jvm.ClassFile.FieldType.boolean)) 1 22 ([vR (some t), vI x1, vI x2].map cV) (tw t sg h0) n z (tQ t h0 n z κ) noX :=
  ct_of (by decide +kernel) (Nat.le_of_ble_eq_true rfl) (fun Y X E => w_X5_isOn X E hz hk)
set_option maxHeartbeats 4000000 in
theorem w_X5_of {K : KT} {Y : YT} {Qx : QxT} {t n z : Nat} {h0 : AH} {κ : Int → TS → Prop} (X : XY K "TrailMarkersModel" "of" cX5_of (Option.some Jvm.ClassFile.FieldType.int) [] 3 0 0 Y) (E : YE K Y (tQ t h0 n z κ) Qx) (hz : kz K ≤ t) {sg : TS} {x1 : Int} {x2 : Int} (hk : P_X5_of κ sg x1 x2) : G K Y (tw t sg h0) n z 0 (lv_argsA 0 [vR (some t), vI x1, vI x2]) [] := by
  show G K Y (tw t sg h0) n z 0 [(0, vR (some t)), (1, vI x1), (2, vI x2)] []
  refine r_aload_n X (pc := 0) dX5_of_0 rfl (q := 0) rfl ?_
  refine r_tgR X (pc := 1) (ty := 0) (N := 526) fa_X5_9 rfl (by decide) dX5_of_1 ?_
  refine r_sipush X (pc := 4) dX5_of_4 (by decide) ?_
  refine r_iload_n X (pc := 7) dX5_of_7 rfl (q := 1) rfl ?_
  refine r_iconst X (pc := 8) dX5_of_8 ?_
  refine r_imul X (pc := 9) dX5_of_9 ?_
  refine r_iadd X (pc := 10) dX5_of_10 ?_
  refine r_iload_n X (pc := 11) dX5_of_11 rfl (q := 2) rfl ?_
  refine r_iadd X (pc := 12) dX5_of_12 ?_
  obtain ⟨b2, hk⟩ := hk
  refine r_tiald X (pc := 13) (v := sg.2 0 ((406 + (x1 * 5)) + x2)) (N := 526) rfl rfl dX5_of_13 b2 ?_
  exact r_iret X E (pc := 14) dX5_of_14 rfl ⟨_, rfl, rfl, rfl, _, rfl, hk⟩
theorem s_X5_of {K : KT} {l : Launch} {t n z : Nat} {h0 : AH} {κ : Int → TS → Prop} (hz : kz K ≤ t) {sg : TS} {x1 : Int} {x2 : Int} (hk : P_X5_of κ sg x1 x2) : Ct K l yX5_of (ws_ yX5_of cX5_of 3 (Option.some Jvm.ClassFile.FieldType.int)) 0 0 ([vR (some t), vI x1, vI x2].map cV) (tw t sg h0) n z (tQ t h0 n z κ) noX :=
  ct_of (by decide +kernel) (Nat.le_of_ble_eq_true rfl) (fun Y X E => w_X5_of X E hz hk)
set_option maxHeartbeats 4000000 in
theorem w_X5_postAt_2 {K : KT} {Y : YT} {Qx : QxT} {t n z : Nat} {h0 : AH} {κ : Int → TS → Prop} (X : XY K "TrailMarkersModel" "postAt" cX5_postAt (Option.some Jvm.ClassFile.FieldType.int) [] 4 1 22 Y) (E : YE K Y (tQ t h0 n z κ) Qx) (hz : kz K ≤ t) {k_32 : TS → Int → Prop} {k_40 : TS → Prop} (H_32 : ∀ (sg : TS) (x3 : Int), k_32 sg x3 → G K Y (tw t sg h0) n z 32 [(0, vR (some t)), (3, vI x3)] []) (H_40 : ∀ (sg : TS), k_40 sg → G K Y (tw t sg h0) n z 40 [(0, vR (some t))] []) : ∀ (f : Nat) (sg : TS) (x1 : Int) (x2 : Int) (x3 : Int), L_X5_postAt_2 k_32 k_40 κ f sg x1 x2 x3 → G K Y (tw t sg h0) n z 2 [(0, vR (some t)), (1, vI x1), (2, vI x2), (3, vI x3)] [] := by
  intro f
  induction f with
  | zero => intro sg x1 x2 x3 hk; exact hk.elim
  | succ f ih =>
    intro sg x1 x2 x3 hk
    refine r_iload_n X (pc := 2) dX5_postAt_2 rfl (q := 3) rfl ?_
    refine r_aload_n X (pc := 3) dX5_postAt_3 rfl (q := 0) rfl ?_
    refine r_tgR X (pc := 4) (ty := 0) (N := 526) fa_X5_9 rfl (by decide) dX5_postAt_4 ?_
    refine r_iconst X (pc := 7) dX5_postAt_7 ?_
    refine r_tiald X (pc := 8) (v := sg.2 0 4) (N := 526) rfl rfl dX5_postAt_8 (by decide) ?_
    obtain ⟨b12, b13, hk⟩ := hk
    refine r_icmp_ge X (pc := 9) (tgt := 40) dX5_postAt_9 (by decide) ⟨b12, b13⟩ (fun c14 => ?_) (fun c14 => ?_)
    · have hk := hk.2 c14
      refine G.sub [0] rfl ?_
      exact H_40 sg hk
    · have hk := hk.1 c14
      refine r_aload_n X (pc := 12) dX5_postAt_12 rfl (q := 0) rfl ?_
      refine r_iload_n X (pc := 13) dX5_postAt_13 rfl (q := 3) rfl ?_
      refine r_iconst X (pc := 14) dX5_postAt_14 ?_
      refine r_callV X (pc := 15) (As := [vI x3, vI 0]) (st := []) rfl rfl rfl (tw_t t _ h0) m_X5_130 (fun _ => s_X5_of hz hk) ⟨by decide, by decide⟩ (Nat.le_of_ble_eq_true rfl) dX5_postAt_15 (fun v9 h9 n9 z9 hq => ?_) (fun _ _ _ _ _ hf => hf.elim)
      obtain ⟨r15, rfl, rfl, rfl, sg16, rfl, hk⟩ := hq
      refine ⟨[vI r15], rfl, ?_⟩
      refine r_iload_n X (pc := 18) dX5_postAt_18 rfl (q := 1) rfl ?_
      obtain ⟨b17, b18, hk⟩ := hk
      refine r_icmp_ne X (pc := 19) (tgt := 34) dX5_postAt_19 (by decide) ⟨b17, b18⟩ (fun c19 => ?_) (fun c19 => ?_)
      · have hk := hk.2 c19
        refine r_iinc X (pc := 34) (q := 3) (lv1 := [(3, vI (x3 + 1)), (0, vR (some t)), (1, vI x1), (2, vI x2)]) dX5_postAt_34 rfl (by decide) rfl ?_
        refine r_goto X (pc := 37) (tgt := 2) dX5_postAt_37 (by decide) ?_
        refine G.sub [1, 2, 3, 0] rfl ?_
        exact ih sg16 x1 x2 (x3 + 1) hk
      · have hk := hk.1 c19
        refine r_aload_n X (pc := 22) dX5_postAt_22 rfl (q := 0) rfl ?_
        refine r_iload_n X (pc := 23) dX5_postAt_23 rfl (q := 3) rfl ?_
        refine r_iconst X (pc := 24) dX5_postAt_24 ?_
        refine r_callV X (pc := 25) (As := [vI x3, vI 1]) (st := []) rfl rfl rfl (tw_t t _ h0) m_X5_130 (fun _ => s_X5_of hz hk) ⟨by decide, by decide⟩ (Nat.le_of_ble_eq_true rfl) dX5_postAt_25 (fun v9 h9 n9 z9 hq => ?_) (fun _ _ _ _ _ hf => hf.elim)
        obtain ⟨r20, rfl, rfl, rfl, sg21, rfl, hk⟩ := hq
        refine ⟨[vI r20], rfl, ?_⟩
        refine r_iload_n X (pc := 28) dX5_postAt_28 rfl (q := 2) rfl ?_
        obtain ⟨b22, b23, hk⟩ := hk
        refine r_icmp_ne X (pc := 29) (tgt := 34) dX5_postAt_29 (by decide) ⟨b22, b23⟩ (fun c24 => ?_) (fun c24 => ?_)
        · have hk := hk.2 c24
          refine r_iinc X (pc := 34) (q := 3) (lv1 := [(3, vI (x3 + 1)), (0, vR (some t)), (1, vI x1), (2, vI x2)]) dX5_postAt_34 rfl (by decide) rfl ?_
          refine r_goto X (pc := 37) (tgt := 2) dX5_postAt_37 (by decide) ?_
          refine G.sub [1, 2, 3, 0] rfl ?_
          exact ih sg21 x1 x2 (x3 + 1) hk
        · have hk := hk.1 c24
          refine G.sub [0, 3] rfl ?_
          exact H_32 sg21 x3 hk
set_option maxHeartbeats 4000000 in
theorem w_X5_postAt_32 {K : KT} {Y : YT} {Qx : QxT} {t n z : Nat} {h0 : AH} {κ : Int → TS → Prop} (X : XY K "TrailMarkersModel" "postAt" cX5_postAt (Option.some Jvm.ClassFile.FieldType.int) [] 4 1 22 Y) (E : YE K Y (tQ t h0 n z κ) Qx) (hz : kz K ≤ t) : ∀ (sg : TS) (x3 : Int), P_X5_postAt_32 κ sg x3 → G K Y (tw t sg h0) n z 32 [(0, vR (some t)), (3, vI x3)] [] := by
  intro sg x3 hk
  refine r_iload_n X (pc := 32) dX5_postAt_32 rfl (q := 1) rfl ?_
  exact r_iret X E (pc := 33) dX5_postAt_33 rfl ⟨_, rfl, rfl, rfl, _, rfl, hk⟩
set_option maxHeartbeats 4000000 in
theorem w_X5_postAt_40 {K : KT} {Y : YT} {Qx : QxT} {t n z : Nat} {h0 : AH} {κ : Int → TS → Prop} (X : XY K "TrailMarkersModel" "postAt" cX5_postAt (Option.some Jvm.ClassFile.FieldType.int) [] 4 1 22 Y) (E : YE K Y (tQ t h0 n z κ) Qx) (hz : kz K ≤ t) : ∀ (sg : TS), P_X5_postAt_40 κ sg → G K Y (tw t sg h0) n z 40 [(0, vR (some t))] [] := by
  intro sg hk
  refine r_iconst X (pc := 40) dX5_postAt_40 ?_
  exact r_iret X E (pc := 41) dX5_postAt_41 rfl ⟨_, rfl, rfl, rfl, _, rfl, hk⟩
set_option maxHeartbeats 4000000 in
theorem w_X5_postAt {K : KT} {Y : YT} {Qx : QxT} {t n z : Nat} {h0 : AH} {κ : Int → TS → Prop} (X : XY K "TrailMarkersModel" "postAt" cX5_postAt (Option.some Jvm.ClassFile.FieldType.int) [] 4 1 22 Y) (E : YE K Y (tQ t h0 n z κ) Qx) (hz : kz K ≤ t) {sg : TS} {x1 : Int} {x2 : Int} (hk : P_X5_postAt κ sg x1 x2) : G K Y (tw t sg h0) n z 0 (lv_argsA 0 [vR (some t), vI x1, vI x2]) [] := by
  show G K Y (tw t sg h0) n z 0 [(0, vR (some t)), (1, vI x1), (2, vI x2)] []
  refine r_iconst X (pc := 0) dX5_postAt_0 ?_
  refine r_istore_n X (pc := 1) (lv1 := [(3, vI 0), (0, vR (some t)), (1, vI x1), (2, vI x2)]) dX5_postAt_1 rfl (by decide) rfl ?_
  refine G.sub [1, 2, 3, 0] rfl ?_
  have HH25 : ∀ (sg : TS) (x3 : Int), (P_X5_postAt_32 κ sg x3) → G K Y (tw t sg h0) n z 32 [(0, vR (some t)), (3, vI x3)] [] := by
      intro sg x3 hk
      exact w_X5_postAt_32 X E hz sg x3 hk
  have HH26 : ∀ (sg : TS), (P_X5_postAt_40 κ sg) → G K Y (tw t sg h0) n z 40 [(0, vR (some t))] [] := by
      intro sg hk
      exact w_X5_postAt_40 X E hz sg hk
  obtain ⟨f9, hk⟩ := hk
  exact w_X5_postAt_2 X E hz HH25 HH26 f9 sg x1 x2 0 hk
theorem s_X5_postAt {K : KT} {l : Launch} {t n z : Nat} {h0 : AH} {κ : Int → TS → Prop} (hz : kz K ≤ t) {sg : TS} {x1 : Int} {x2 : Int} (hk : P_X5_postAt κ sg x1 x2) : Ct K l yX5_postAt (ws_ yX5_postAt cX5_postAt 4 (Option.some Jvm.ClassFile.FieldType.int)) 1 22 ([vR (some t), vI x1, vI x2].map cV) (tw t sg h0) n z (tQ t h0 n z κ) noX :=
  ct_of (by decide +kernel) (Nat.le_of_ble_eq_true rfl) (fun Y X E => w_X5_postAt X E hz hk)
set_option maxHeartbeats 4000000 in
theorem w_X5_whyNoPost {K : KT} {Y : YT} {Qx : QxT} {t n z : Nat} {h0 : AH} {κ : Int → TS → Prop} (X : XY K "TrailMarkersModel" "whyNoPost" cX5_whyNoPost (Option.some Jvm.ClassFile.FieldType.int) [] 3 2 45 Y) (E : YE K Y (tQ t h0 n z κ) Qx) (hz : kz K ≤ t) {sg : TS} {x1 : Int} {x2 : Int} (hk : P_X5_whyNoPost κ sg x1 x2) : G K Y (tw t sg h0) n z 0 (lv_argsA 0 [vR (some t), vI x1, vI x2]) [] := by
  show G K Y (tw t sg h0) n z 0 [(0, vR (some t)), (1, vI x1), (2, vI x2)] []
  refine r_aload_n X (pc := 0) dX5_whyNoPost_0 rfl (q := 0) rfl ?_
  refine r_iload_n X (pc := 1) dX5_whyNoPost_1 rfl (q := 1) rfl ?_
  refine r_iload_n X (pc := 2) dX5_whyNoPost_2 rfl (q := 2) rfl ?_
  refine r_callV X (pc := 3) (As := [vI x1, vI x2]) (st := []) rfl rfl rfl (tw_t t _ h0) m_X5_123 (fun _ => s_X5_isOn hz hk) ⟨by decide, by decide⟩ (Nat.le_of_ble_eq_true rfl) dX5_whyNoPost_3 (fun v9 h9 n9 z9 hq => ?_) (fun _ _ _ _ _ hf => hf.elim)
  obtain ⟨r12, rfl, rfl, rfl, sg13, rfl, hk⟩ := hq
  refine ⟨[vI r12], rfl, ?_⟩
  obtain ⟨b14, hk⟩ := hk
  refine r_if_ne X (pc := 6) (tgt := 13) dX5_whyNoPost_6 (by decide) b14 (fun c15 => ?_) (fun c15 => ?_)
  · have hk := hk.2 c15
    refine r_aload_n X (pc := 13) dX5_whyNoPost_13 rfl (q := 0) rfl ?_
    refine r_iload_n X (pc := 14) dX5_whyNoPost_14 rfl (q := 1) rfl ?_
    refine r_iload_n X (pc := 15) dX5_whyNoPost_15 rfl (q := 2) rfl ?_
    refine r_callV X (pc := 16) (As := [vI x1, vI x2]) (st := []) rfl rfl rfl (tw_t t _ h0) m_X5_127 (fun _ => s_X5_isBlock hz hk) ⟨by decide, by decide⟩ (Nat.le_of_ble_eq_true rfl) dX5_whyNoPost_16 (fun v9 h9 n9 z9 hq => ?_) (fun _ _ _ _ _ hf => hf.elim)
    obtain ⟨r16, rfl, rfl, rfl, sg17, rfl, hk⟩ := hq
    refine ⟨[vI r16], rfl, ?_⟩
    obtain ⟨b18, hk⟩ := hk
    refine r_if_eq X (pc := 19) (tgt := 26) dX5_whyNoPost_19 (by decide) b18 (fun c19 => ?_) (fun c19 => ?_)
    · have hk := hk.1 c19
      refine r_aload_n X (pc := 26) dX5_whyNoPost_26 rfl (q := 0) rfl ?_
      refine r_iload_n X (pc := 27) dX5_whyNoPost_27 rfl (q := 1) rfl ?_
      refine r_iload_n X (pc := 28) dX5_whyNoPost_28 rfl (q := 2) rfl ?_
      refine r_callV X (pc := 29) (As := [vI x1, vI x2]) (st := []) rfl rfl rfl (tw_t t _ h0) m_X5_157 (fun _ => s_X5_postAt hz hk) ⟨by decide, by decide⟩ (Nat.le_of_ble_eq_true rfl) dX5_whyNoPost_29 (fun v9 h9 n9 z9 hq => ?_) (fun _ _ _ _ _ hf => hf.elim)
      obtain ⟨r20, rfl, rfl, rfl, sg21, rfl, hk⟩ := hq
      refine ⟨[vI r20], rfl, ?_⟩
      refine r_iconst X (pc := 32) dX5_whyNoPost_32 ?_
      obtain ⟨b22, hk⟩ := hk
      refine r_icmp_eq X (pc := 33) (tgt := 40) dX5_whyNoPost_33 (by decide) ⟨b22, (by decide)⟩ (fun c23 => ?_) (fun c23 => ?_)
      · have hk := hk.1 c23
        refine r_aload_n X (pc := 40) dX5_whyNoPost_40 rfl (q := 0) rfl ?_
        refine r_tgR X (pc := 41) (ty := 0) (N := 526) fa_X5_9 rfl (by decide) dX5_whyNoPost_41 ?_
        refine r_iconst X (pc := 44) dX5_whyNoPost_44 ?_
        refine r_tiald X (pc := 45) (v := sg21.2 0 4) (N := 526) rfl rfl dX5_whyNoPost_45 (by decide) ?_
        refine r_bipush X (pc := 46) dX5_whyNoPost_46 (by decide) ?_
        obtain ⟨b24, hk⟩ := hk
        refine r_icmp_ne X (pc := 48) (tgt := 55) dX5_whyNoPost_48 (by decide) ⟨b24, (by decide)⟩ (fun c25 => ?_) (fun c25 => ?_)
        · have hk := hk.2 c25
          refine r_iconst X (pc := 55) dX5_whyNoPost_55 ?_
          exact r_iret X E (pc := 56) dX5_whyNoPost_56 rfl ⟨_, rfl, rfl, rfl, _, rfl, hk⟩
        · have hk := hk.1 c25
          refine r_iconst X (pc := 51) dX5_whyNoPost_51 ?_
          refine r_goto X (pc := 52) (tgt := 56) dX5_whyNoPost_52 (by decide) ?_
          exact r_iret X E (pc := 56) dX5_whyNoPost_56 rfl ⟨_, rfl, rfl, rfl, _, rfl, hk⟩
      · have hk := hk.2 c23
        refine r_iconst X (pc := 36) dX5_whyNoPost_36 ?_
        refine r_goto X (pc := 37) (tgt := 56) dX5_whyNoPost_37 (by decide) ?_
        exact r_iret X E (pc := 56) dX5_whyNoPost_56 rfl ⟨_, rfl, rfl, rfl, _, rfl, hk⟩
    · have hk := hk.2 c19
      refine r_iconst X (pc := 22) dX5_whyNoPost_22 ?_
      refine r_goto X (pc := 23) (tgt := 56) dX5_whyNoPost_23 (by decide) ?_
      exact r_iret X E (pc := 56) dX5_whyNoPost_56 rfl ⟨_, rfl, rfl, rfl, _, rfl, hk⟩
  · have hk := hk.1 c15
    refine r_iconst X (pc := 9) dX5_whyNoPost_9 ?_
    refine r_goto X (pc := 10) (tgt := 56) dX5_whyNoPost_10 (by decide) ?_
    exact r_iret X E (pc := 56) dX5_whyNoPost_56 rfl ⟨_, rfl, rfl, rfl, _, rfl, hk⟩
theorem s_X5_whyNoPost {K : KT} {l : Launch} {t n z : Nat} {h0 : AH} {κ : Int → TS → Prop} (hz : kz K ≤ t) {sg : TS} {x1 : Int} {x2 : Int} (hk : P_X5_whyNoPost κ sg x1 x2) : Ct K l yX5_whyNoPost (ws_ yX5_whyNoPost cX5_whyNoPost 3 (Option.some Jvm.ClassFile.FieldType.int)) 2 45 ([vR (some t), vI x1, vI x2].map cV) (tw t sg h0) n z (tQ t h0 n z κ) noX :=
  ct_of (by decide +kernel) (Nat.le_of_ble_eq_true rfl) (fun Y X E => w_X5_whyNoPost X E hz hk)
set_option maxHeartbeats 4000000 in
theorem w_X5_put {K : KT} {Y : YT} {Qx : QxT} {t n z : Nat} {h0 : AH} {κ : TS → Prop} (X : XY K "TrailMarkersModel" "put" cX5_put (Option.none : Option Jvm.ClassFile.FieldType) [] 4 0 0 Y) (E : YE K Y (tQv t h0 n z κ) Qx) (hz : kz K ≤ t) {sg : TS} {x1 : Int} {x2 : Int} {x3 : Int} (hk : P_X5_put κ sg x1 x2 x3) : G K Y (tw t sg h0) n z 0 (lv_argsA 0 [vR (some t), vI x1, vI x2, vI x3]) [] := by
  show G K Y (tw t sg h0) n z 0 [(0, vR (some t)), (1, vI x1), (2, vI x2), (3, vI x3)] []
  refine r_aload_n X (pc := 0) dX5_put_0 rfl (q := 0) rfl ?_
  refine r_tgR X (pc := 1) (ty := 0) (N := 526) fa_X5_9 rfl (by decide) dX5_put_1 ?_
  refine r_sipush X (pc := 4) dX5_put_4 (by decide) ?_
  refine r_iload_n X (pc := 7) dX5_put_7 rfl (q := 1) rfl ?_
  refine r_iconst X (pc := 8) dX5_put_8 ?_
  refine r_imul X (pc := 9) dX5_put_9 ?_
  refine r_iadd X (pc := 10) dX5_put_10 ?_
  refine r_iload_n X (pc := 11) dX5_put_11 rfl (q := 2) rfl ?_
  refine r_iadd X (pc := 12) dX5_put_12 ?_
  refine r_iload_n X (pc := 13) dX5_put_13 rfl (q := 3) rfl ?_
  obtain ⟨b2, hk⟩ := hk
  refine r_tiast X (pc := 14) hz (N := 526) rfl dX5_put_14 b2 ?_
  exact r_vret X E (pc := 15) dX5_put_15 ⟨rfl, rfl, rfl, _, rfl, hk⟩
theorem s_X5_put {K : KT} {l : Launch} {t n z : Nat} {h0 : AH} {κ : TS → Prop} (hz : kz K ≤ t) {sg : TS} {x1 : Int} {x2 : Int} {x3 : Int} (hk : P_X5_put κ sg x1 x2 x3) : Ct K l yX5_put (ws_ yX5_put cX5_put 4 (Option.none : Option Jvm.ClassFile.FieldType)) 0 0 ([vR (some t), vI x1, vI x2, vI x3].map cV) (tw t sg h0) n z (tQv t h0 n z κ) noX :=
  ct_of (by decide +kernel) (Nat.le_of_ble_eq_true rfl) (fun Y X E => w_X5_put X E hz hk)
set_option maxHeartbeats 4000000 in
theorem w_X5_lay {K : KT} {Y : YT} {Qx : QxT} {t n z : Nat} {h0 : AH} {κ : Int → TS → Prop} (X : XY K "TrailMarkersModel" "lay" cX5_lay (Option.some Jvm.ClassFile.FieldType.int) [] 6 1 23 Y) (E : YE K Y (tQ t h0 n z κ) Qx) (hz : kz K ≤ t) {sg : TS} {x1 : Int} {x2 : Int} {x3 : Int} {x4 : Int} (hk : P_X5_lay κ sg x1 x2 x3 x4) : G K Y (tw t sg h0) n z 0 (lv_argsA 0 [vR (some t), vI x1, vI x2, vI x3, vI x4]) [] := by
  show G K Y (tw t sg h0) n z 0 [(0, vR (some t)), (1, vI x1), (2, vI x2), (3, vI x3), (4, vI x4)] []
  refine r_aload_n X (pc := 0) dX5_lay_0 rfl (q := 0) rfl ?_
  refine r_tgR X (pc := 1) (ty := 0) (N := 526) fa_X5_9 rfl (by decide) dX5_lay_1 ?_
  refine r_iconst X (pc := 4) dX5_lay_4 ?_
  refine r_tiald X (pc := 5) (v := sg.2 0 4) (N := 526) rfl rfl dX5_lay_5 (by decide) ?_
  refine r_istore X (pc := 6) (lv1 := [(5, vI (sg.2 0 4)), (0, vR (some t)), (1, vI x1), (2, vI x2), (3, vI x3), (4, vI x4)]) dX5_lay_6 (by decide) rfl ?_
  refine r_aload_n X (pc := 8) dX5_lay_8 rfl (q := 1) rfl ?_
  refine r_iload X (pc := 9) dX5_lay_9 (q := 0) rfl ?_
  refine r_iconst X (pc := 11) dX5_lay_11 ?_
  refine r_iload_n X (pc := 12) dX5_lay_12 rfl (q := 2) rfl ?_
  refine r_callV X (pc := 13) (As := [vI (sg.2 0 4), vI 0, vI x1]) (st := []) rfl rfl rfl (tw_t t _ h0) m_X5_310 (fun _ => s_X5_put hz hk) ⟨by decide, by decide⟩ (Nat.le_of_ble_eq_true rfl) dX5_lay_13 (fun v9 h9 n9 z9 hq => ?_) (fun _ _ _ _ _ hf => hf.elim)
  obtain ⟨rfl, rfl, rfl, sg6, rfl, hk⟩ := hq
  refine ⟨[], rfl, ?_⟩
  refine r_aload_n X (pc := 16) dX5_lay_16 rfl (q := 1) rfl ?_
  refine r_iload X (pc := 17) dX5_lay_17 (q := 0) rfl ?_
  refine r_iconst X (pc := 19) dX5_lay_19 ?_
  refine r_iload_n X (pc := 20) dX5_lay_20 rfl (q := 3) rfl ?_
  refine r_callV X (pc := 21) (As := [vI (sg.2 0 4), vI 1, vI x2]) (st := []) rfl rfl rfl (tw_t t _ h0) m_X5_310 (fun _ => s_X5_put hz hk) ⟨by decide, by decide⟩ (Nat.le_of_ble_eq_true rfl) dX5_lay_21 (fun v9 h9 n9 z9 hq => ?_) (fun _ _ _ _ _ hf => hf.elim)
  obtain ⟨rfl, rfl, rfl, sg7, rfl, hk⟩ := hq
  refine ⟨[], rfl, ?_⟩
  refine r_aload_n X (pc := 24) dX5_lay_24 rfl (q := 1) rfl ?_
  refine r_iload X (pc := 25) dX5_lay_25 (q := 0) rfl ?_
  refine r_iconst X (pc := 27) dX5_lay_27 ?_
  refine r_iload_n X (pc := 28) dX5_lay_28 rfl (q := 4) rfl ?_
  refine r_callV X (pc := 29) (As := [vI (sg.2 0 4), vI 2, vI x3]) (st := []) rfl rfl rfl (tw_t t _ h0) m_X5_310 (fun _ => s_X5_put hz hk) ⟨by decide, by decide⟩ (Nat.le_of_ble_eq_true rfl) dX5_lay_29 (fun v9 h9 n9 z9 hq => ?_) (fun _ _ _ _ _ hf => hf.elim)
  obtain ⟨rfl, rfl, rfl, sg8, rfl, hk⟩ := hq
  refine ⟨[], rfl, ?_⟩
  refine r_aload_n X (pc := 32) dX5_lay_32 rfl (q := 1) rfl ?_
  refine r_iload X (pc := 33) dX5_lay_33 (q := 0) rfl ?_
  refine r_iconst X (pc := 35) dX5_lay_35 ?_
  refine r_iload X (pc := 36) dX5_lay_36 (q := 5) rfl ?_
  refine r_callV X (pc := 38) (As := [vI (sg.2 0 4), vI 3, vI x4]) (st := []) rfl rfl rfl (tw_t t _ h0) m_X5_310 (fun _ => s_X5_put hz hk) ⟨by decide, by decide⟩ (Nat.le_of_ble_eq_true rfl) dX5_lay_38 (fun v9 h9 n9 z9 hq => ?_) (fun _ _ _ _ _ hf => hf.elim)
  obtain ⟨rfl, rfl, rfl, sg9, rfl, hk⟩ := hq
  refine ⟨[], rfl, ?_⟩
  refine r_aload_n X (pc := 41) dX5_lay_41 rfl (q := 1) rfl ?_
  refine r_iload X (pc := 42) dX5_lay_42 (q := 0) rfl ?_
  refine r_iconst X (pc := 44) dX5_lay_44 ?_
  refine r_iconst X (pc := 45) dX5_lay_45 ?_
  refine r_callV X (pc := 46) (As := [vI (sg.2 0 4), vI 4, vI 0]) (st := []) rfl rfl rfl (tw_t t _ h0) m_X5_310 (fun _ => s_X5_put hz hk) ⟨by decide, by decide⟩ (Nat.le_of_ble_eq_true rfl) dX5_lay_46 (fun v9 h9 n9 z9 hq => ?_) (fun _ _ _ _ _ hf => hf.elim)
  obtain ⟨rfl, rfl, rfl, sg10, rfl, hk⟩ := hq
  refine ⟨[], rfl, ?_⟩
  refine r_aload_n X (pc := 49) dX5_lay_49 rfl (q := 1) rfl ?_
  refine r_tgR X (pc := 50) (ty := 0) (N := 526) fa_X5_9 rfl (by decide) dX5_lay_50 ?_
  refine r_iconst X (pc := 53) dX5_lay_53 ?_
  refine r_dup2 X (pc := 54) dX5_lay_54 rfl rfl ?_
  refine r_tiald X (pc := 55) (v := sg10.2 0 4) (N := 526) rfl rfl dX5_lay_55 (by decide) ?_
  refine r_iconst X (pc := 56) dX5_lay_56 ?_
  refine r_iadd X (pc := 57) dX5_lay_57 ?_
  refine r_tiast X (pc := 58) hz (N := 526) rfl dX5_lay_58 (by decide) ?_
  refine r_iload X (pc := 59) dX5_lay_59 (q := 0) rfl ?_
  exact r_iret X E (pc := 61) dX5_lay_61 rfl ⟨_, rfl, rfl, rfl, _, rfl, hk⟩
theorem s_X5_lay {K : KT} {l : Launch} {t n z : Nat} {h0 : AH} {κ : Int → TS → Prop} (hz : kz K ≤ t) {sg : TS} {x1 : Int} {x2 : Int} {x3 : Int} {x4 : Int} (hk : P_X5_lay κ sg x1 x2 x3 x4) : Ct K l yX5_lay (ws_ yX5_lay cX5_lay 6 (Option.some Jvm.ClassFile.FieldType.int)) 1 23 ([vR (some t), vI x1, vI x2, vI x3, vI x4].map cV) (tw t sg h0) n z (tQ t h0 n z κ) noX :=
  ct_of (by decide +kernel) (Nat.le_of_ble_eq_true rfl) (fun Y X E => w_X5_lay X E hz hk)
set_option maxHeartbeats 4000000 in
theorem w_X5_dx {K : KT} {Y : YT} {Qx : QxT} {h : AH} {n z : Nat} {κ : Int → Prop} (X : XY K "TrailMarkersModel" "dx" cX5_dx (Option.some Jvm.ClassFile.FieldType.int) [] 1 0 0 Y) (E : YE K Y (pQ h n z κ) Qx) {x0 : Int} (hk : P_X5_dx κ x0) : G K Y h n z 0 (lv_argsA 0 [vI x0]) [] := by
  show G K Y h n z 0 [(0, vI x0)] []
  refine r_iload_n X (pc := 0) dX5_dx_0 rfl (q := 0) rfl ?_
  refine r_iconst X (pc := 1) dX5_dx_1 ?_
  obtain ⟨b5, hk⟩ := hk
  refine r_icmp_ne X (pc := 2) (tgt := 9) dX5_dx_2 (by decide) ⟨b5, (by decide)⟩ (fun c6 => ?_) (fun c6 => ?_)
  · have hk := hk.2 c6
    refine r_iload_n X (pc := 9) dX5_dx_9 rfl (q := 0) rfl ?_
    refine r_iconst X (pc := 10) dX5_dx_10 ?_
    refine r_icmp_ne X (pc := 11) (tgt := 18) dX5_dx_11 (by decide) ⟨b5, (by decide)⟩ (fun c7 => ?_) (fun c7 => ?_)
    · have hk := hk.2 c7
      refine r_iconst X (pc := 18) dX5_dx_18 ?_
      exact r_iret X E (pc := 19) dX5_dx_19 rfl ⟨_, rfl, rfl, rfl, rfl, hk⟩
    · have hk := hk.1 c7
      refine r_iconst X (pc := 14) dX5_dx_14 ?_
      refine r_goto X (pc := 15) (tgt := 19) dX5_dx_15 (by decide) ?_
      exact r_iret X E (pc := 19) dX5_dx_19 rfl ⟨_, rfl, rfl, rfl, rfl, hk⟩
  · have hk := hk.1 c6
    refine r_iconst X (pc := 5) dX5_dx_5 ?_
    refine r_goto X (pc := 6) (tgt := 19) dX5_dx_6 (by decide) ?_
    exact r_iret X E (pc := 19) dX5_dx_19 rfl ⟨_, rfl, rfl, rfl, rfl, hk⟩
theorem s_X5_dx {K : KT} {l : Launch} {n z : Nat} {h : AH} {κ : Int → Prop} {x0 : Int} (hk : P_X5_dx κ x0) : Ct K l yX5_dx (ws_ yX5_dx cX5_dx 1 (Option.some Jvm.ClassFile.FieldType.int)) 0 0 ([vI x0].map cV) h n z (pQ h n z κ) noX :=
  ct_of (by decide +kernel) (Nat.le_of_ble_eq_true rfl) (fun Y X E => w_X5_dx X E hk)
set_option maxHeartbeats 4000000 in
theorem w_X5_dy {K : KT} {Y : YT} {Qx : QxT} {h : AH} {n z : Nat} {κ : Int → Prop} (X : XY K "TrailMarkersModel" "dy" cX5_dy (Option.some Jvm.ClassFile.FieldType.int) [] 1 0 0 Y) (E : YE K Y (pQ h n z κ) Qx) {x0 : Int} (hk : P_X5_dy κ x0) : G K Y h n z 0 (lv_argsA 0 [vI x0]) [] := by
  show G K Y h n z 0 [(0, vI x0)] []
  refine r_iload_n X (pc := 0) dX5_dy_0 rfl (q := 0) rfl ?_
  obtain ⟨b5, hk⟩ := hk
  refine r_if_ne X (pc := 1) (tgt := 8) dX5_dy_1 (by decide) b5 (fun c6 => ?_) (fun c6 => ?_)
  · have hk := hk.2 c6
    refine r_iload_n X (pc := 8) dX5_dy_8 rfl (q := 0) rfl ?_
    refine r_iconst X (pc := 9) dX5_dy_9 ?_
    refine r_icmp_ne X (pc := 10) (tgt := 17) dX5_dy_10 (by decide) ⟨b5, (by decide)⟩ (fun c7 => ?_) (fun c7 => ?_)
    · have hk := hk.2 c7
      refine r_iconst X (pc := 17) dX5_dy_17 ?_
      exact r_iret X E (pc := 18) dX5_dy_18 rfl ⟨_, rfl, rfl, rfl, rfl, hk⟩
    · have hk := hk.1 c7
      refine r_iconst X (pc := 13) dX5_dy_13 ?_
      refine r_goto X (pc := 14) (tgt := 18) dX5_dy_14 (by decide) ?_
      exact r_iret X E (pc := 18) dX5_dy_18 rfl ⟨_, rfl, rfl, rfl, rfl, hk⟩
  · have hk := hk.1 c6
    refine r_iconst X (pc := 4) dX5_dy_4 ?_
    refine r_goto X (pc := 5) (tgt := 18) dX5_dy_5 (by decide) ?_
    exact r_iret X E (pc := 18) dX5_dy_18 rfl ⟨_, rfl, rfl, rfl, rfl, hk⟩
theorem s_X5_dy {K : KT} {l : Launch} {n z : Nat} {h : AH} {κ : Int → Prop} {x0 : Int} (hk : P_X5_dy κ x0) : Ct K l yX5_dy (ws_ yX5_dy cX5_dy 1 (Option.some Jvm.ClassFile.FieldType.int)) 0 0 ([vI x0].map cV) h n z (pQ h n z κ) noX :=
  ct_of (by decide +kernel) (Nat.le_of_ble_eq_true rfl) (fun Y X E => w_X5_dy X E hk)
set_option maxHeartbeats 4000000 in
theorem w_X5_layLeg_120 {K : KT} {Y : YT} {Qx : QxT} {t n z : Nat} {h0 : AH} {κ : TS → Prop} (X : XY K "TrailMarkersModel" "layLeg" cX5_layLeg (Option.none : Option Jvm.ClassFile.FieldType) [] 8 3 67 Y) (E : YE K Y (tQv t h0 n z κ) Qx) (hz : kz K ≤ t) : ∀ (sg : TS) (x1 : Int) (x2 : Int) (x3 : Int) (x4 : Int) (s0 : Int) (s1 : Int) (s2 : Int), P_X5_layLeg_120 κ sg x1 x2 x3 x4 s0 s1 s2 → G K Y (tw t sg h0) n z 120 [(0, vR (some t)), (1, vI x1), (2, vI x2), (3, vI x3), (4, vI x4)] [vI s0, vI s1, vI s2, vR (some t)] := by
  intro sg x1 x2 x3 x4 s0 s1 s2 hk
  refine r_callV X (pc := 120) (As := [vI s2, vI s1, vI s0]) (st := []) rfl rfl rfl (tw_t t _ h0) m_X5_310 (fun _ => s_X5_put hz hk) ⟨by decide, by decide⟩ (Nat.le_of_ble_eq_true rfl) dX5_layLeg_120 (fun v9 h9 n9 z9 hq => ?_) (fun _ _ _ _ _ hf => hf.elim)
  obtain ⟨rfl, rfl, rfl, sg17, rfl, hk⟩ := hq
  refine ⟨[], rfl, ?_⟩
  refine r_aload_n X (pc := 123) dX5_layLeg_123 rfl (q := 0) rfl ?_
  refine r_tgR X (pc := 124) (ty := 0) (N := 25) fa_X5_63 rfl (by decide) dX5_layLeg_124 ?_
  refine r_aload_n X (pc := 127) dX5_layLeg_127 rfl (q := 0) rfl ?_
  refine r_tgI X (pc := 128) (v := sg17.1 48) fa_X5_324 (by decide) rfl dX5_layLeg_128 ?_
  refine r_iload_n X (pc := 131) dX5_layLeg_131 rfl (q := 1) rfl ?_
  obtain ⟨b18, hk⟩ := hk
  refine r_tiast X (pc := 132) hz (N := 25) rfl dX5_layLeg_132 b18 ?_
  refine r_aload_n X (pc := 133) dX5_layLeg_133 rfl (q := 0) rfl ?_
  refine r_tgR X (pc := 134) (ty := 0) (N := 25) fa_X5_66 rfl (by decide) dX5_layLeg_134 ?_
  refine r_aload_n X (pc := 137) dX5_layLeg_137 rfl (q := 0) rfl ?_
  refine r_tgI X (pc := 138) (v := sg17.1 48) fa_X5_324 (by decide) rfl dX5_layLeg_138 ?_
  refine r_iload_n X (pc := 141) dX5_layLeg_141 rfl (q := 2) rfl ?_
  refine r_tiast X (pc := 142) hz (N := 25) rfl dX5_layLeg_142 b18 ?_
  refine r_aload_n X (pc := 143) dX5_layLeg_143 rfl (q := 0) rfl ?_
  refine r_tgR X (pc := 144) (ty := 0) (N := 25) fa_X5_69 rfl (by decide) dX5_layLeg_144 ?_
  refine r_aload_n X (pc := 147) dX5_layLeg_147 rfl (q := 0) rfl ?_
  refine r_tgI X (pc := 148) (v := sg17.1 48) fa_X5_324 (by decide) rfl dX5_layLeg_148 ?_
  refine r_iload X (pc := 151) dX5_layLeg_151 (q := 4) rfl ?_
  refine r_tiast X (pc := 153) hz (N := 25) rfl dX5_layLeg_153 b18 ?_
  refine r_aload_n X (pc := 154) dX5_layLeg_154 rfl (q := 0) rfl ?_
  refine r_tgR X (pc := 155) (ty := 2) (N := 25) fa_X5_72 rfl (by decide) dX5_layLeg_155 ?_
  refine r_aload_n X (pc := 158) dX5_layLeg_158 rfl (q := 0) rfl ?_
  refine r_tgI X (pc := 159) (v := sg17.1 48) fa_X5_324 (by decide) rfl dX5_layLeg_159 ?_
  refine r_iload_n X (pc := 162) dX5_layLeg_162 rfl (q := 3) rfl ?_
  obtain ⟨b19, hk⟩ := hk
  refine r_tzast X (pc := 163) hz (N := 25) rfl b19 dX5_layLeg_163 b18 ?_
  refine r_aload_n X (pc := 164) dX5_layLeg_164 rfl (q := 0) rfl ?_
  refine r_dup X (pc := 165) dX5_layLeg_165 rfl ?_
  refine r_tgI X (pc := 166) (v := sg17.1 48) fa_X5_324 (by decide) rfl dX5_layLeg_166 ?_
  refine r_iconst X (pc := 169) dX5_layLeg_169 ?_
  refine r_iadd X (pc := 170) dX5_layLeg_170 ?_
  refine r_tpI X (pc := 171) fp_X5_324 hz (by decide) dX5_layLeg_171 ?_
  exact r_vret X E (pc := 174) dX5_layLeg_174 ⟨rfl, rfl, rfl, _, rfl, hk⟩
set_option maxHeartbeats 4000000 in
theorem w_X5_layLeg_57 {K : KT} {Y : YT} {Qx : QxT} {t n z : Nat} {h0 : AH} {κ : TS → Prop} (X : XY K "TrailMarkersModel" "layLeg" cX5_layLeg (Option.none : Option Jvm.ClassFile.FieldType) [] 8 3 67 Y) (E : YE K Y (tQv t h0 n z κ) Qx) (hz : kz K ≤ t) : ∀ (sg : TS) (x1 : Int) (x2 : Int) (x3 : Int) (x4 : Int) (x5 : Int) (x6 : Int) (x7 : Int) (s0 : Int), P_X5_layLeg_57 κ sg x1 x2 x3 x4 x5 x6 x7 s0 → G K Y (tw t sg h0) n z 57 [(0, vR (some t)), (1, vI x1), (2, vI x2), (3, vI x3), (4, vI x4), (5, vI x5), (6, vI x6), (7, vI x7)] [vI s0, vR (some t)] := by
  intro sg x1 x2 x3 x4 x5 x6 x7 s0 hk
  refine r_iconst X (pc := 57) dX5_layLeg_57 ?_
  refine r_iload X (pc := 58) dX5_layLeg_58 (q := 7) rfl ?_
  refine r_iload X (pc := 60) dX5_layLeg_60 (q := 4) rfl ?_
  refine r_callV X (pc := 62) (As := [vI s0, vI 5, vI x7, vI x4]) (st := []) rfl rfl rfl (tw_t t _ h0) m_X5_284 (fun _ => s_X5_refused hz hk) ⟨by decide, by decide⟩ (Nat.le_of_ble_eq_true rfl) dX5_layLeg_62 (fun v9 h9 n9 z9 hq => ?_) (fun _ _ _ _ _ hf => hf.elim)
  obtain ⟨rfl, rfl, rfl, sg20, rfl, hk⟩ := hq
  refine ⟨[], rfl, ?_⟩
  refine r_aload_n X (pc := 65) dX5_layLeg_65 rfl (q := 0) rfl ?_
  refine r_tgI X (pc := 66) (v := sg20.1 43) fa_X5_288 (by decide) rfl dX5_layLeg_66 ?_
  obtain ⟨b21, hk⟩ := hk
  refine r_if_eq X (pc := 69) (tgt := 73) dX5_layLeg_69 (by decide) b21 (fun c22 => ?_) (fun c22 => ?_)
  · have hk := hk.1 c22
    refine r_aload_n X (pc := 73) dX5_layLeg_73 rfl (q := 0) rfl ?_
    refine r_aload_n X (pc := 74) dX5_layLeg_74 rfl (q := 0) rfl ?_
    refine r_tgI X (pc := 75) (v := sg20.1 50) fa_X5_314 (by decide) rfl dX5_layLeg_75 ?_
    refine r_iconst X (pc := 78) dX5_layLeg_78 ?_
    refine r_iload_n X (pc := 79) dX5_layLeg_79 rfl (q := 2) rfl ?_
    refine r_callV X (pc := 80) (As := [vI (sg20.1 50), vI 3, vI x2]) (st := []) rfl rfl rfl (tw_t t _ h0) m_X5_310 (fun _ => s_X5_put hz hk) ⟨by decide, by decide⟩ (Nat.le_of_ble_eq_true rfl) dX5_layLeg_80 (fun v9 h9 n9 z9 hq => ?_) (fun _ _ _ _ _ hf => hf.elim)
    obtain ⟨rfl, rfl, rfl, sg23, rfl, hk⟩ := hq
    refine ⟨[], rfl, ?_⟩
    refine r_aload_n X (pc := 83) dX5_layLeg_83 rfl (q := 0) rfl ?_
    refine r_aload_n X (pc := 84) dX5_layLeg_84 rfl (q := 0) rfl ?_
    refine r_iload X (pc := 85) dX5_layLeg_85 (q := 5) rfl ?_
    refine r_iload X (pc := 87) dX5_layLeg_87 (q := 6) rfl ?_
    refine r_aload_n X (pc := 89) dX5_layLeg_89 rfl (q := 0) rfl ?_
    refine r_aload_n X (pc := 90) dX5_layLeg_90 rfl (q := 0) rfl ?_
    refine r_tgI X (pc := 91) (v := sg23.1 50) fa_X5_314 (by decide) rfl dX5_layLeg_91 ?_
    refine r_iconst X (pc := 94) dX5_layLeg_94 ?_
    refine r_callV X (pc := 95) (As := [vI (sg23.1 50), vI 2]) (st := [vI x6, vI x5, vR (some t), vR (some t)]) rfl rfl rfl (tw_t t _ h0) m_X5_130 (fun _ => s_X5_of hz hk) ⟨by decide, by decide⟩ (Nat.le_of_ble_eq_true rfl) dX5_layLeg_95 (fun v9 h9 n9 z9 hq => ?_) (fun _ _ _ _ _ hf => hf.elim)
    obtain ⟨r24, rfl, rfl, rfl, sg25, rfl, hk⟩ := hq
    refine ⟨[vI r24], rfl, ?_⟩
    refine r_iconst X (pc := 98) dX5_layLeg_98 ?_
    refine r_callV X (pc := 99) (As := [vI x5, vI x6, vI r24, vI 4]) (st := [vR (some t)]) rfl rfl rfl (tw_t t _ h0) m_X5_320 (fun _ => s_X5_lay hz hk) ⟨by decide, by decide⟩ (Nat.le_of_ble_eq_true rfl) dX5_layLeg_99 (fun v9 h9 n9 z9 hq => ?_) (fun _ _ _ _ _ hf => hf.elim)
    obtain ⟨r26, rfl, rfl, rfl, sg27, rfl, hk⟩ := hq
    refine ⟨[vI r26], rfl, ?_⟩
    refine r_tpI X (pc := 102) fp_X5_314 hz (by decide) dX5_layLeg_102 ?_
    refine r_aload_n X (pc := 105) dX5_layLeg_105 rfl (q := 0) rfl ?_
    refine r_aload_n X (pc := 106) dX5_layLeg_106 rfl (q := 0) rfl ?_
    refine r_tgI X (pc := 107) (v := r26) fa_X5_314 (by decide) rfl dX5_layLeg_107 ?_
    refine r_iconst X (pc := 110) dX5_layLeg_110 ?_
    refine r_iload_n X (pc := 111) dX5_layLeg_111 rfl (q := 3) rfl ?_
    obtain ⟨b28, hk⟩ := hk
    refine r_if_eq X (pc := 112) (tgt := 119) dX5_layLeg_112 (by decide) b28 (fun c29 => ?_) (fun c29 => ?_)
    · have hk := hk.1 c29
      refine r_iconst X (pc := 119) dX5_layLeg_119 ?_
      refine G.sub [0, 1, 2, 3, 4] rfl ?_
      exact w_X5_layLeg_120 X E hz (setS sg27 50 r26) x1 x2 x3 x4 0 4 r26 hk
    · have hk := hk.2 c29
      refine r_iconst X (pc := 115) dX5_layLeg_115 ?_
      refine r_goto X (pc := 116) (tgt := 120) dX5_layLeg_116 (by decide) ?_
      refine G.sub [0, 1, 2, 3, 4] rfl ?_
      exact w_X5_layLeg_120 X E hz (setS sg27 50 r26) x1 x2 x3 x4 1 4 r26 hk
  · have hk := hk.2 c22
    exact r_vret X E (pc := 72) dX5_layLeg_72 ⟨rfl, rfl, rfl, _, rfl, hk⟩
set_option maxHeartbeats 4000000 in
theorem w_X5_layLeg {K : KT} {Y : YT} {Qx : QxT} {t n z : Nat} {h0 : AH} {κ : TS → Prop} (X : XY K "TrailMarkersModel" "layLeg" cX5_layLeg (Option.none : Option Jvm.ClassFile.FieldType) [] 8 3 67 Y) (E : YE K Y (tQv t h0 n z κ) Qx) (hz : kz K ≤ t) {sg : TS} {x1 : Int} {x2 : Int} {x3 : Int} {x4 : Int} (hk : P_X5_layLeg κ sg x1 x2 x3 x4) : G K Y (tw t sg h0) n z 0 (lv_argsA 0 [vR (some t), vI x1, vI x2, vI x3, vI x4]) [] := by
  show G K Y (tw t sg h0) n z 0 [(0, vR (some t)), (1, vI x1), (2, vI x2), (3, vI x3), (4, vI x4)] []
  refine r_aload_n X (pc := 0) dX5_layLeg_0 rfl (q := 0) rfl ?_
  refine r_aload_n X (pc := 1) dX5_layLeg_1 rfl (q := 0) rfl ?_
  refine r_tgI X (pc := 2) (v := sg.1 50) fa_X5_314 (by decide) rfl dX5_layLeg_2 ?_
  refine r_iconst X (pc := 5) dX5_layLeg_5 ?_
  refine r_callV X (pc := 6) (As := [vI (sg.1 50), vI 0]) (st := []) rfl rfl rfl (tw_t t _ h0) m_X5_130 (fun _ => s_X5_of hz hk) ⟨by decide, by decide⟩ (Nat.le_of_ble_eq_true rfl) dX5_layLeg_6 (fun v9 h9 n9 z9 hq => ?_) (fun _ _ _ _ _ hf => hf.elim)
  obtain ⟨r30, rfl, rfl, rfl, sg31, rfl, hk⟩ := hq
  refine ⟨[vI r30], rfl, ?_⟩
  refine r_iload_n X (pc := 9) dX5_layLeg_9 rfl (q := 1) rfl ?_
  refine r_iload_n X (pc := 10) dX5_layLeg_10 rfl (q := 2) rfl ?_
  refine r_callS X (pc := 11) (As := [vI x2]) (st := [vI x1, vI r30]) m_X5_147 (fun _ => s_X5_dx hk) ⟨by decide, by decide⟩ (Nat.le_of_ble_eq_true rfl) dX5_layLeg_11 (fun v9 h9 n9 z9 hq => ?_) (fun _ _ _ _ _ hf => hf.elim)
  obtain ⟨r32, rfl, rfl, rfl, rfl, hk⟩ := hq
  refine ⟨[vI r32], rfl, ?_⟩
  refine r_imul X (pc := 14) dX5_layLeg_14 ?_
  refine r_iadd X (pc := 15) dX5_layLeg_15 ?_
  refine r_istore X (pc := 16) (lv1 := [(5, vI (r30 + (x1 * r32))), (0, vR (some t)), (1, vI x1), (2, vI x2), (3, vI x3), (4, vI x4)]) dX5_layLeg_16 (by decide) rfl ?_
  refine r_aload_n X (pc := 18) dX5_layLeg_18 rfl (q := 1) rfl ?_
  refine r_aload_n X (pc := 19) dX5_layLeg_19 rfl (q := 1) rfl ?_
  refine r_tgI X (pc := 20) (v := sg31.1 50) fa_X5_314 (by decide) rfl dX5_layLeg_20 ?_
  refine r_iconst X (pc := 23) dX5_layLeg_23 ?_
  refine r_callV X (pc := 24) (As := [vI (sg31.1 50), vI 1]) (st := []) rfl rfl rfl (tw_t t _ h0) m_X5_130 (fun _ => s_X5_of hz hk) ⟨by decide, by decide⟩ (Nat.le_of_ble_eq_true rfl) dX5_layLeg_24 (fun v9 h9 n9 z9 hq => ?_) (fun _ _ _ _ _ hf => hf.elim)
  obtain ⟨r33, rfl, rfl, rfl, sg34, rfl, hk⟩ := hq
  refine ⟨[vI r33], rfl, ?_⟩
  refine r_iload_n X (pc := 27) dX5_layLeg_27 rfl (q := 2) rfl ?_
  refine r_iload_n X (pc := 28) dX5_layLeg_28 rfl (q := 3) rfl ?_
  refine r_callS X (pc := 29) (As := [vI x2]) (st := [vI x1, vI r33]) m_X5_151 (fun _ => s_X5_dy hk) ⟨by decide, by decide⟩ (Nat.le_of_ble_eq_true rfl) dX5_layLeg_29 (fun v9 h9 n9 z9 hq => ?_) (fun _ _ _ _ _ hf => hf.elim)
  obtain ⟨r35, rfl, rfl, rfl, rfl, hk⟩ := hq
  refine ⟨[vI r35], rfl, ?_⟩
  refine r_imul X (pc := 32) dX5_layLeg_32 ?_
  refine r_iadd X (pc := 33) dX5_layLeg_33 ?_
  refine r_istore X (pc := 34) (lv1 := [(6, vI (r33 + (x1 * r35))), (5, vI (r30 + (x1 * r32))), (0, vR (some t)), (1, vI x1), (2, vI x2), (3, vI x3), (4, vI x4)]) dX5_layLeg_34 (by decide) rfl ?_
  refine r_aload_n X (pc := 36) dX5_layLeg_36 rfl (q := 2) rfl ?_
  refine r_iload X (pc := 37) dX5_layLeg_37 (q := 1) rfl ?_
  refine r_iload X (pc := 39) dX5_layLeg_39 (q := 0) rfl ?_
  refine r_callV X (pc := 41) (As := [vI (r30 + (x1 * r32)), vI (r33 + (x1 * r35))]) (st := []) rfl rfl rfl (tw_t t _ h0) m_X5_317 (fun _ => s_X5_whyNoPost hz hk) ⟨by decide, by decide⟩ (Nat.le_of_ble_eq_true rfl) dX5_layLeg_41 (fun v9 h9 n9 z9 hq => ?_) (fun _ _ _ _ _ hf => hf.elim)
  obtain ⟨r36, rfl, rfl, rfl, sg37, rfl, hk⟩ := hq
  refine ⟨[vI r36], rfl, ?_⟩
  refine r_istore X (pc := 44) (lv1 := [(7, vI r36), (6, vI (r33 + (x1 * r35))), (5, vI (r30 + (x1 * r32))), (0, vR (some t)), (1, vI x1), (2, vI x2), (3, vI x3), (4, vI x4)]) dX5_layLeg_44 (by decide) rfl ?_
  refine r_aload_n X (pc := 46) dX5_layLeg_46 rfl (q := 3) rfl ?_
  refine r_iload X (pc := 47) dX5_layLeg_47 (q := 0) rfl ?_
  obtain ⟨b38, hk⟩ := hk
  refine r_if_le X (pc := 49) (tgt := 56) dX5_layLeg_49 (by decide) b38 (fun c39 => ?_) (fun c39 => ?_)
  · have hk := hk.2 c39
    refine r_iconst X (pc := 56) dX5_layLeg_56 ?_
    refine G.sub [3, 4, 5, 6, 7, 2, 1, 0] rfl ?_
    exact w_X5_layLeg_57 X E hz sg37 x1 x2 x3 x4 (r30 + (x1 * r32)) (r33 + (x1 * r35)) r36 0 hk
  · have hk := hk.1 c39
    refine r_iconst X (pc := 52) dX5_layLeg_52 ?_
    refine r_goto X (pc := 53) (tgt := 57) dX5_layLeg_53 (by decide) ?_
    refine G.sub [3, 4, 5, 6, 7, 2, 1, 0] rfl ?_
    exact w_X5_layLeg_57 X E hz sg37 x1 x2 x3 x4 (r30 + (x1 * r32)) (r33 + (x1 * r35)) r36 1 hk
theorem s_X5_layLeg {K : KT} {l : Launch} {t n z : Nat} {h0 : AH} {κ : TS → Prop} (hz : kz K ≤ t) {sg : TS} {x1 : Int} {x2 : Int} {x3 : Int} {x4 : Int} (hk : P_X5_layLeg κ sg x1 x2 x3 x4) : Ct K l yX5_layLeg (ws_ yX5_layLeg cX5_layLeg 8 (Option.none : Option Jvm.ClassFile.FieldType)) 3 67 ([vR (some t), vI x1, vI x2, vI x3, vI x4].map cV) (tw t sg h0) n z (tQv t h0 n z κ) noX :=
  ct_of (by decide +kernel) (Nat.le_of_ble_eq_true rfl) (fun Y X E => w_X5_layLeg X E hz hk)
set_option maxHeartbeats 4000000 in
theorem w_X5_block {K : KT} {Y : YT} {Qx : QxT} {t n z : Nat} {h0 : AH} {κ : TS → Prop} (X : XY K "TrailMarkersModel" "block" cX5_block (Option.none : Option Jvm.ClassFile.FieldType) [] 4 0 0 Y) (E : YE K Y (tQv t h0 n z κ) Qx) (hz : kz K ≤ t) {sg : TS} {x1 : Int} {x2 : Int} {x3 : Int} (hk : P_X5_block κ sg x1 x2 x3) : G K Y (tw t sg h0) n z 0 (lv_argsA 0 [vR (some t), vI x1, vI x2, vI x3]) [] := by
  show G K Y (tw t sg h0) n z 0 [(0, vR (some t)), (1, vI x1), (2, vI x2), (3, vI x3)] []
  refine r_aload_n X (pc := 0) dX5_block_0 rfl (q := 0) rfl ?_
  refine r_tgR X (pc := 1) (ty := 0) (N := 526) fa_X5_9 rfl (by decide) dX5_block_1 ?_
  refine r_iconst X (pc := 4) dX5_block_4 ?_
  refine r_dup2 X (pc := 5) dX5_block_5 rfl rfl ?_
  refine r_tiald X (pc := 6) (v := sg.2 0 5) (N := 526) rfl rfl dX5_block_6 (by decide) ?_
  refine r_iload_n X (pc := 7) dX5_block_7 rfl (q := 3) rfl ?_
  refine r_aload_n X (pc := 8) dX5_block_8 rfl (q := 0) rfl ?_
  refine r_tgR X (pc := 9) (ty := 0) (N := 526) fa_X5_9 rfl (by decide) dX5_block_9 ?_
  refine r_bipush X (pc := 12) dX5_block_12 (by decide) ?_
  refine r_bipush X (pc := 14) dX5_block_14 (by decide) ?_
  refine r_iload_n X (pc := 16) dX5_block_16 rfl (q := 2) rfl ?_
  refine r_imul X (pc := 17) dX5_block_17 ?_
  refine r_iadd X (pc := 18) dX5_block_18 ?_
  refine r_iload_n X (pc := 19) dX5_block_19 rfl (q := 1) rfl ?_
  refine r_iadd X (pc := 20) dX5_block_20 ?_
  obtain ⟨b2, hk⟩ := hk
  refine r_tiald X (pc := 21) (v := sg.2 0 ((6 + (20 * x2)) + x1)) (N := 526) rfl rfl dX5_block_21 b2 ?_
  refine r_isub X (pc := 22) dX5_block_22 ?_
  refine r_iadd X (pc := 23) dX5_block_23 ?_
  refine r_tiast X (pc := 24) hz (N := 526) rfl dX5_block_24 (by decide) ?_
  refine r_aload_n X (pc := 25) dX5_block_25 rfl (q := 0) rfl ?_
  refine r_tgR X (pc := 26) (ty := 0) (N := 526) fa_X5_9 rfl (by decide) dX5_block_26 ?_
  refine r_bipush X (pc := 29) dX5_block_29 (by decide) ?_
  refine r_bipush X (pc := 31) dX5_block_31 (by decide) ?_
  refine r_iload_n X (pc := 33) dX5_block_33 rfl (q := 2) rfl ?_
  refine r_imul X (pc := 34) dX5_block_34 ?_
  refine r_iadd X (pc := 35) dX5_block_35 ?_
  refine r_iload_n X (pc := 36) dX5_block_36 rfl (q := 1) rfl ?_
  refine r_iadd X (pc := 37) dX5_block_37 ?_
  refine r_iload_n X (pc := 38) dX5_block_38 rfl (q := 3) rfl ?_
  refine r_tiast X (pc := 39) hz (N := 526) rfl dX5_block_39 b2 ?_
  exact r_vret X E (pc := 40) dX5_block_40 ⟨rfl, rfl, rfl, _, rfl, hk⟩
theorem s_X5_block {K : KT} {l : Launch} {t n z : Nat} {h0 : AH} {κ : TS → Prop} (hz : kz K ≤ t) {sg : TS} {x1 : Int} {x2 : Int} {x3 : Int} (hk : P_X5_block κ sg x1 x2 x3) : Ct K l yX5_block (ws_ yX5_block cX5_block 4 (Option.none : Option Jvm.ClassFile.FieldType)) 0 0 ([vR (some t), vI x1, vI x2, vI x3].map cV) (tw t sg h0) n z (tQv t h0 n z κ) noX :=
  ct_of (by decide +kernel) (Nat.le_of_ble_eq_true rfl) (fun Y X E => w_X5_block X E hz hk)
set_option maxHeartbeats 4000000 in
theorem w_X5_whyNoBlock {K : KT} {Y : YT} {Qx : QxT} {t n z : Nat} {h0 : AH} {κ : Int → TS → Prop} (X : XY K "TrailMarkersModel" "whyNoBlock" cX5_whyNoBlock (Option.some Jvm.ClassFile.FieldType.int) [] 3 2 45 Y) (E : YE K Y (tQ t h0 n z κ) Qx) (hz : kz K ≤ t) {sg : TS} {x1 : Int} {x2 : Int} (hk : P_X5_whyNoBlock κ sg x1 x2) : G K Y (tw t sg h0) n z 0 (lv_argsA 0 [vR (some t), vI x1, vI x2]) [] := by
  show G K Y (tw t sg h0) n z 0 [(0, vR (some t)), (1, vI x1), (2, vI x2)] []
  refine r_aload_n X (pc := 0) dX5_whyNoBlock_0 rfl (q := 0) rfl ?_
  refine r_iload_n X (pc := 1) dX5_whyNoBlock_1 rfl (q := 1) rfl ?_
  refine r_iload_n X (pc := 2) dX5_whyNoBlock_2 rfl (q := 2) rfl ?_
  refine r_callV X (pc := 3) (As := [vI x1, vI x2]) (st := []) rfl rfl rfl (tw_t t _ h0) m_X5_127 (fun _ => s_X5_isBlock hz hk) ⟨by decide, by decide⟩ (Nat.le_of_ble_eq_true rfl) dX5_whyNoBlock_3 (fun v9 h9 n9 z9 hq => ?_) (fun _ _ _ _ _ hf => hf.elim)
  obtain ⟨r9, rfl, rfl, rfl, sg10, rfl, hk⟩ := hq
  refine ⟨[vI r9], rfl, ?_⟩
  obtain ⟨b11, hk⟩ := hk
  refine r_if_eq X (pc := 6) (tgt := 13) dX5_whyNoBlock_6 (by decide) b11 (fun c12 => ?_) (fun c12 => ?_)
  · have hk := hk.1 c12
    refine r_aload_n X (pc := 13) dX5_whyNoBlock_13 rfl (q := 0) rfl ?_
    refine r_iload_n X (pc := 14) dX5_whyNoBlock_14 rfl (q := 1) rfl ?_
    refine r_iload_n X (pc := 15) dX5_whyNoBlock_15 rfl (q := 2) rfl ?_
    refine r_callV X (pc := 16) (As := [vI x1, vI x2]) (st := []) rfl rfl rfl (tw_t t _ h0) m_X5_157 (fun _ => s_X5_postAt hz hk) ⟨by decide, by decide⟩ (Nat.le_of_ble_eq_true rfl) dX5_whyNoBlock_16 (fun v9 h9 n9 z9 hq => ?_) (fun _ _ _ _ _ hf => hf.elim)
    obtain ⟨r13, rfl, rfl, rfl, sg14, rfl, hk⟩ := hq
    refine ⟨[vI r13], rfl, ?_⟩
    refine r_iconst X (pc := 19) dX5_whyNoBlock_19 ?_
    obtain ⟨b15, hk⟩ := hk
    refine r_icmp_eq X (pc := 20) (tgt := 27) dX5_whyNoBlock_20 (by decide) ⟨b15, (by decide)⟩ (fun c16 => ?_) (fun c16 => ?_)
    · have hk := hk.1 c16
      refine r_aload_n X (pc := 27) dX5_whyNoBlock_27 rfl (q := 0) rfl ?_
      refine r_tgR X (pc := 28) (ty := 0) (N := 526) fa_X5_9 rfl (by decide) dX5_whyNoBlock_28 ?_
      refine r_iconst X (pc := 31) dX5_whyNoBlock_31 ?_
      refine r_tiald X (pc := 32) (v := sg14.2 0 5) (N := 526) rfl rfl dX5_whyNoBlock_32 (by decide) ?_
      refine r_bipush X (pc := 33) dX5_whyNoBlock_33 (by decide) ?_
      obtain ⟨b17, hk⟩ := hk
      refine r_icmp_ne X (pc := 35) (tgt := 42) dX5_whyNoBlock_35 (by decide) ⟨b17, (by decide)⟩ (fun c18 => ?_) (fun c18 => ?_)
      · have hk := hk.2 c18
        refine r_iconst X (pc := 42) dX5_whyNoBlock_42 ?_
        exact r_iret X E (pc := 43) dX5_whyNoBlock_43 rfl ⟨_, rfl, rfl, rfl, _, rfl, hk⟩
      · have hk := hk.1 c18
        refine r_iconst X (pc := 38) dX5_whyNoBlock_38 ?_
        refine r_goto X (pc := 39) (tgt := 43) dX5_whyNoBlock_39 (by decide) ?_
        exact r_iret X E (pc := 43) dX5_whyNoBlock_43 rfl ⟨_, rfl, rfl, rfl, _, rfl, hk⟩
    · have hk := hk.2 c16
      refine r_iconst X (pc := 23) dX5_whyNoBlock_23 ?_
      refine r_goto X (pc := 24) (tgt := 43) dX5_whyNoBlock_24 (by decide) ?_
      exact r_iret X E (pc := 43) dX5_whyNoBlock_43 rfl ⟨_, rfl, rfl, rfl, _, rfl, hk⟩
  · have hk := hk.2 c12
    refine r_iconst X (pc := 9) dX5_whyNoBlock_9 ?_
    refine r_goto X (pc := 10) (tgt := 43) dX5_whyNoBlock_10 (by decide) ?_
    exact r_iret X E (pc := 43) dX5_whyNoBlock_43 rfl ⟨_, rfl, rfl, rfl, _, rfl, hk⟩
theorem s_X5_whyNoBlock {K : KT} {l : Launch} {t n z : Nat} {h0 : AH} {κ : Int → TS → Prop} (hz : kz K ≤ t) {sg : TS} {x1 : Int} {x2 : Int} (hk : P_X5_whyNoBlock κ sg x1 x2) : Ct K l yX5_whyNoBlock (ws_ yX5_whyNoBlock cX5_whyNoBlock 3 (Option.some Jvm.ClassFile.FieldType.int)) 2 45 ([vR (some t), vI x1, vI x2].map cV) (tw t sg h0) n z (tQ t h0 n z κ) noX :=
  ct_of (by decide +kernel) (Nat.le_of_ble_eq_true rfl) (fun Y X E => w_X5_whyNoBlock X E hz hk)
set_option maxHeartbeats 4000000 in
theorem w_X5_blocked_83 {K : KT} {Y : YT} {Qx : QxT} {t n z : Nat} {h0 : AH} {κ : TS → Prop} (X : XY K "TrailMarkersModel" "blocked" cX5_blocked (Option.none : Option Jvm.ClassFile.FieldType) [] 5 5 123 Y) (E : YE K Y (tQv t h0 n z κ) Qx) (hz : kz K ≤ t) {k_6 : TS → Int → Prop} {k_100 : TS → Prop} {k_117 : TS → Prop} (H_6 : ∀ (sg : TS) (x1 : Int), k_6 sg x1 → G K Y (tw t sg h0) n z 6 [(0, vR (some t)), (1, vI x1)] []) (H_100 : ∀ (sg : TS), k_100 sg → G K Y (tw t sg h0) n z 100 [(0, vR (some t))] []) (H_117 : ∀ (sg : TS), k_117 sg → G K Y (tw t sg h0) n z 117 [(0, vR (some t))] []) : ∀ (sg : TS) (x2 : Int) (x3 : Int) (x4 : Int) (s0 : Int), P_X5_blocked_83 k_6 k_100 k_117 κ sg x2 x3 x4 s0 → G K Y (tw t sg h0) n z 83 [(0, vR (some t)), (2, vI x2), (3, vI x3), (4, vI x4)] [vI s0, vR (some t)] := by
  intro sg x2 x3 x4 s0 hk
  refine r_iconst X (pc := 83) dX5_blocked_83 ?_
  refine r_iload X (pc := 84) dX5_blocked_84 (q := 3) rfl ?_
  refine r_aload_n X (pc := 86) dX5_blocked_86 rfl (q := 0) rfl ?_
  refine r_tgI X (pc := 87) (v := sg.1 40) fa_X5_265 (by decide) rfl dX5_blocked_87 ?_
  refine r_callV X (pc := 90) (As := [vI s0, vI 5, vI x4, vI (sg.1 40)]) (st := []) rfl rfl rfl (tw_t t _ h0) m_X5_284 (fun _ => s_X5_refused hz hk) ⟨by decide, by decide⟩ (Nat.le_of_ble_eq_true rfl) dX5_blocked_90 (fun v9 h9 n9 z9 hq => ?_) (fun _ _ _ _ _ hf => hf.elim)
  obtain ⟨rfl, rfl, rfl, sg20, rfl, hk⟩ := hq
  refine ⟨[], rfl, ?_⟩
  refine r_aload_n X (pc := 93) dX5_blocked_93 rfl (q := 0) rfl ?_
  refine r_tgI X (pc := 94) (v := sg20.1 43) fa_X5_288 (by decide) rfl dX5_blocked_94 ?_
  obtain ⟨b21, hk⟩ := hk
  refine r_if_eq X (pc := 97) (tgt := 101) dX5_blocked_97 (by decide) b21 (fun c22 => ?_) (fun c22 => ?_)
  · have hk := hk.1 c22
    refine r_aload_n X (pc := 101) dX5_blocked_101 rfl (q := 0) rfl ?_
    refine r_iload_n X (pc := 102) dX5_blocked_102 rfl (q := 1) rfl ?_
    refine r_iload_n X (pc := 103) dX5_blocked_103 rfl (q := 2) rfl ?_
    refine r_iconst X (pc := 104) dX5_blocked_104 ?_
    refine r_callV X (pc := 105) (As := [vI x2, vI x3, vI 1]) (st := []) rfl rfl rfl (tw_t t _ h0) m_X5_373 (fun _ => s_X5_block hz hk) ⟨by decide, by decide⟩ (Nat.le_of_ble_eq_true rfl) dX5_blocked_105 (fun v9 h9 n9 z9 hq => ?_) (fun _ _ _ _ _ hf => hf.elim)
    obtain ⟨rfl, rfl, rfl, sg23, rfl, hk⟩ := hq
    refine ⟨[], rfl, ?_⟩
    refine r_iconst X (pc := 108) dX5_blocked_108 ?_
    refine r_istore_n X (pc := 109) (lv1 := [(1, vI 0), (0, vR (some t)), (2, vI x2), (3, vI x3), (4, vI x4)]) dX5_blocked_109 rfl (by decide) rfl ?_
    refine r_aload_n X (pc := 110) dX5_blocked_110 rfl (q := 1) rfl ?_
    refine r_callV X (pc := 111) (As := []) (st := []) rfl rfl rfl (tw_t t _ h0) m_X5_304 (fun _ => s_X5_go hz hk) ⟨by decide, by decide⟩ (Nat.le_of_ble_eq_true rfl) dX5_blocked_111 (fun v9 h9 n9 z9 hq => ?_) (fun _ _ _ _ _ hf => hf.elim)
    obtain ⟨rfl, rfl, rfl, sg24, rfl, hk⟩ := hq
    refine ⟨[], rfl, ?_⟩
    refine r_goto X (pc := 114) (tgt := 6) dX5_blocked_114 (by decide) ?_
    refine G.sub [1, 0] rfl ?_
    exact H_6 sg24 0 hk
  · have hk := hk.2 c22
    refine G.sub [0] rfl ?_
    exact H_100 sg20 hk
set_option maxHeartbeats 4000000 in
theorem w_X5_blocked_70 {K : KT} {Y : YT} {Qx : QxT} {t n z : Nat} {h0 : AH} {κ : TS → Prop} (X : XY K "TrailMarkersModel" "blocked" cX5_blocked (Option.none : Option Jvm.ClassFile.FieldType) [] 5 5 123 Y) (E : YE K Y (tQv t h0 n z κ) Qx) (hz : kz K ≤ t) {k_6 : TS → Int → Prop} {k_100 : TS → Prop} {k_117 : TS → Prop} (H_6 : ∀ (sg : TS) (x1 : Int), k_6 sg x1 → G K Y (tw t sg h0) n z 6 [(0, vR (some t)), (1, vI x1)] []) (H_100 : ∀ (sg : TS), k_100 sg → G K Y (tw t sg h0) n z 100 [(0, vR (some t))] []) (H_117 : ∀ (sg : TS), k_117 sg → G K Y (tw t sg h0) n z 117 [(0, vR (some t))] []) : ∀ (sg : TS) (x2 : Int) (x3 : Int) (s0 : Int), P_X5_blocked_70 k_6 k_100 k_117 κ sg x2 x3 s0 → G K Y (tw t sg h0) n z 70 [(0, vR (some t)), (2, vI x2), (3, vI x3)] [vI s0] := by
  intro sg x2 x3 s0 hk
  refine r_istore X (pc := 70) (lv1 := [(4, vI s0), (0, vR (some t)), (2, vI x2), (3, vI x3)]) dX5_blocked_70 (by decide) rfl ?_
  refine r_aload_n X (pc := 72) dX5_blocked_72 rfl (q := 1) rfl ?_
  refine r_iload X (pc := 73) dX5_blocked_73 (q := 0) rfl ?_
  obtain ⟨b25, hk⟩ := hk
  refine r_if_le X (pc := 75) (tgt := 82) dX5_blocked_75 (by decide) b25 (fun c26 => ?_) (fun c26 => ?_)
  · have hk := hk.2 c26
    refine r_iconst X (pc := 82) dX5_blocked_82 ?_
    refine G.sub [1, 2, 3, 0] rfl ?_
    exact w_X5_blocked_83 X E hz H_6 H_100 H_117 sg x2 x3 s0 0 hk
  · have hk := hk.1 c26
    refine r_iconst X (pc := 78) dX5_blocked_78 ?_
    refine r_goto X (pc := 79) (tgt := 83) dX5_blocked_79 (by decide) ?_
    refine G.sub [1, 2, 3, 0] rfl ?_
    exact w_X5_blocked_83 X E hz H_6 H_100 H_117 sg x2 x3 s0 1 hk
set_option maxHeartbeats 4000000 in
theorem w_X5_blocked_25 {K : KT} {Y : YT} {Qx : QxT} {t n z : Nat} {h0 : AH} {κ : TS → Prop} (X : XY K "TrailMarkersModel" "blocked" cX5_blocked (Option.none : Option Jvm.ClassFile.FieldType) [] 5 5 123 Y) (E : YE K Y (tQv t h0 n z κ) Qx) (hz : kz K ≤ t) {k_6 : TS → Int → Prop} {k_100 : TS → Prop} {k_117 : TS → Prop} (H_6 : ∀ (sg : TS) (x1 : Int), k_6 sg x1 → G K Y (tw t sg h0) n z 6 [(0, vR (some t)), (1, vI x1)] []) (H_100 : ∀ (sg : TS), k_100 sg → G K Y (tw t sg h0) n z 100 [(0, vR (some t))] []) (H_117 : ∀ (sg : TS), k_117 sg → G K Y (tw t sg h0) n z 117 [(0, vR (some t))] []) : ∀ (sg : TS), P_X5_blocked_25 k_6 k_100 k_117 κ sg → G K Y (tw t sg h0) n z 25 [(0, vR (some t))] [] := by
  intro sg hk
  refine r_aload_n X (pc := 25) dX5_blocked_25 rfl (q := 0) rfl ?_
  refine r_iconst X (pc := 26) dX5_blocked_26 ?_
  refine r_aload_n X (pc := 27) dX5_blocked_27 rfl (q := 0) rfl ?_
  refine r_tgR X (pc := 28) (ty := 0) (N := 526) fa_X5_9 rfl (by decide) dX5_blocked_28 ?_
  refine r_iconst X (pc := 31) dX5_blocked_31 ?_
  refine r_tiald X (pc := 32) (v := sg.2 0 0) (N := 526) rfl rfl dX5_blocked_32 (by decide) ?_
  refine r_iconst X (pc := 33) dX5_blocked_33 ?_
  refine r_isub X (pc := 34) dX5_blocked_34 ?_
  refine r_callV X (pc := 35) (As := [vI 0, vI ((sg.2 0 0) - 1)]) (st := []) rfl rfl rfl (tw_t t _ h0) m_X5_338 (fun _ => s_X5_number hz hk) ⟨by decide, by decide⟩ (Nat.le_of_ble_eq_true rfl) dX5_blocked_35 (fun v9 h9 n9 z9 hq => ?_) (fun _ _ _ _ _ hf => hf.elim)
  obtain ⟨r27, rfl, rfl, rfl, sg28, rfl, hk⟩ := hq
  refine ⟨[vI r27], rfl, ?_⟩
  refine r_istore_n X (pc := 38) (lv1 := [(2, vI r27), (0, vR (some t))]) dX5_blocked_38 rfl (by decide) rfl ?_
  refine r_aload_n X (pc := 39) dX5_blocked_39 rfl (q := 1) rfl ?_
  refine r_iconst X (pc := 40) dX5_blocked_40 ?_
  refine r_aload_n X (pc := 41) dX5_blocked_41 rfl (q := 1) rfl ?_
  refine r_tgR X (pc := 42) (ty := 0) (N := 526) fa_X5_9 rfl (by decide) dX5_blocked_42 ?_
  refine r_iconst X (pc := 45) dX5_blocked_45 ?_
  refine r_tiald X (pc := 46) (v := sg28.2 0 1) (N := 526) rfl rfl dX5_blocked_46 (by decide) ?_
  refine r_iconst X (pc := 47) dX5_blocked_47 ?_
  refine r_isub X (pc := 48) dX5_blocked_48 ?_
  refine r_callV X (pc := 49) (As := [vI 0, vI ((sg28.2 0 1) - 1)]) (st := []) rfl rfl rfl (tw_t t _ h0) m_X5_301 (fun _ => s_X5_here hz hk) ⟨by decide, by decide⟩ (Nat.le_of_ble_eq_true rfl) dX5_blocked_49 (fun v9 h9 n9 z9 hq => ?_) (fun _ _ _ _ _ hf => hf.elim)
  obtain ⟨r29, rfl, rfl, rfl, sg30, rfl, hk⟩ := hq
  refine ⟨[vI r29], rfl, ?_⟩
  refine r_istore_n X (pc := 52) (lv1 := [(3, vI r29), (2, vI r27), (0, vR (some t))]) dX5_blocked_52 rfl (by decide) rfl ?_
  refine r_aload_n X (pc := 53) dX5_blocked_53 rfl (q := 2) rfl ?_
  refine r_tgI X (pc := 54) (v := sg30.1 43) fa_X5_288 (by decide) rfl dX5_blocked_54 ?_
  obtain ⟨b31, hk⟩ := hk
  refine r_if_eq X (pc := 57) (tgt := 64) dX5_blocked_57 (by decide) b31 (fun c32 => ?_) (fun c32 => ?_)
  · have hk := hk.1 c32
    refine r_aload_n X (pc := 64) dX5_blocked_64 rfl (q := 2) rfl ?_
    refine r_iload_n X (pc := 65) dX5_blocked_65 rfl (q := 1) rfl ?_
    refine r_iload_n X (pc := 66) dX5_blocked_66 rfl (q := 0) rfl ?_
    refine r_callV X (pc := 67) (As := [vI r27, vI r29]) (st := []) rfl rfl rfl (tw_t t _ h0) m_X5_370 (fun _ => s_X5_whyNoBlock hz hk) ⟨by decide, by decide⟩ (Nat.le_of_ble_eq_true rfl) dX5_blocked_67 (fun v9 h9 n9 z9 hq => ?_) (fun _ _ _ _ _ hf => hf.elim)
    obtain ⟨r33, rfl, rfl, rfl, sg34, rfl, hk⟩ := hq
    refine ⟨[vI r33], rfl, ?_⟩
    refine G.sub [2, 1, 0] rfl ?_
    exact w_X5_blocked_70 X E hz H_6 H_100 H_117 sg34 r27 r29 r33 hk
  · have hk := hk.2 c32
    refine r_iconst X (pc := 60) dX5_blocked_60 ?_
    refine r_goto X (pc := 61) (tgt := 70) dX5_blocked_61 (by decide) ?_
    refine G.sub [2, 1, 0] rfl ?_
    exact w_X5_blocked_70 X E hz H_6 H_100 H_117 sg30 r27 r29 0 hk
set_option maxHeartbeats 4000000 in
theorem w_X5_blocked_6 {K : KT} {Y : YT} {Qx : QxT} {t n z : Nat} {h0 : AH} {κ : TS → Prop} (X : XY K "TrailMarkersModel" "blocked" cX5_blocked (Option.none : Option Jvm.ClassFile.FieldType) [] 5 5 123 Y) (E : YE K Y (tQv t h0 n z κ) Qx) (hz : kz K ≤ t) {k_100 : TS → Prop} {k_117 : TS → Prop} (H_100 : ∀ (sg : TS), k_100 sg → G K Y (tw t sg h0) n z 100 [(0, vR (some t))] []) (H_117 : ∀ (sg : TS), k_117 sg → G K Y (tw t sg h0) n z 117 [(0, vR (some t))] []) : ∀ (f : Nat) (sg : TS) (x1 : Int), L_X5_blocked_6 k_100 k_117 κ f sg x1 → G K Y (tw t sg h0) n z 6 [(0, vR (some t)), (1, vI x1)] [] := by
  intro f
  induction f with
  | zero => intro sg x1 hk; exact hk.elim
  | succ f ih =>
    intro sg x1 hk
    refine r_aload_n X (pc := 6) dX5_blocked_6 rfl (q := 0) rfl ?_
    refine r_tgI X (pc := 7) (v := sg.1 43) fa_X5_288 (by decide) rfl dX5_blocked_7 ?_
    obtain ⟨b35, hk⟩ := hk
    refine r_if_ne X (pc := 10) (tgt := 117) dX5_blocked_10 (by decide) b35 (fun c36 => ?_) (fun c36 => ?_)
    · have hk := hk.2 c36
      refine G.sub [0] rfl ?_
      exact H_117 sg hk
    · have hk := hk.1 c36
      refine r_iload_n X (pc := 13) dX5_blocked_13 rfl (q := 1) rfl ?_
      obtain ⟨b37, hk⟩ := hk
      refine r_if_ne X (pc := 14) (tgt := 25) dX5_blocked_14 (by decide) b37 (fun c38 => ?_) (fun c38 => ?_)
      · have hk := hk.2 c38
        refine G.sub [0] rfl ?_
        have HH39 : ∀ (sg : TS) (x1 : Int), (L_X5_blocked_6 k_100 k_117 κ f sg x1) → G K Y (tw t sg h0) n z 6 [(0, vR (some t)), (1, vI x1)] [] := by
            intro sg x1 hk
            exact ih sg x1 hk
        exact w_X5_blocked_25 X E hz HH39 H_100 H_117 sg hk
      · have hk := hk.1 c38
        refine r_aload_n X (pc := 17) dX5_blocked_17 rfl (q := 0) rfl ?_
        refine r_tgI X (pc := 18) (v := sg.1 39) fa_X5_268 (by decide) rfl dX5_blocked_18 ?_
        refine r_iconst X (pc := 21) dX5_blocked_21 ?_
        obtain ⟨b40, hk⟩ := hk
        refine r_icmp_ne X (pc := 22) (tgt := 117) dX5_blocked_22 (by decide) ⟨b40, (by decide)⟩ (fun c41 => ?_) (fun c41 => ?_)
        · have hk := hk.2 c41
          refine G.sub [0] rfl ?_
          exact H_117 sg hk
        · have hk := hk.1 c41
          refine G.sub [0] rfl ?_
          have HH42 : ∀ (sg : TS) (x1 : Int), (L_X5_blocked_6 k_100 k_117 κ f sg x1) → G K Y (tw t sg h0) n z 6 [(0, vR (some t)), (1, vI x1)] [] := by
              intro sg x1 hk
              exact ih sg x1 hk
          exact w_X5_blocked_25 X E hz HH42 H_100 H_117 sg hk
set_option maxHeartbeats 4000000 in
theorem w_X5_blocked_100 {K : KT} {Y : YT} {Qx : QxT} {t n z : Nat} {h0 : AH} {κ : TS → Prop} (X : XY K "TrailMarkersModel" "blocked" cX5_blocked (Option.none : Option Jvm.ClassFile.FieldType) [] 5 5 123 Y) (E : YE K Y (tQv t h0 n z κ) Qx) (hz : kz K ≤ t) : ∀ (sg : TS), P_X5_blocked_100 κ sg → G K Y (tw t sg h0) n z 100 [(0, vR (some t))] [] := by
  intro sg hk
  exact r_vret X E (pc := 100) dX5_blocked_100 ⟨rfl, rfl, rfl, _, rfl, hk⟩
set_option maxHeartbeats 4000000 in
theorem w_X5_blocked_117 {K : KT} {Y : YT} {Qx : QxT} {t n z : Nat} {h0 : AH} {κ : TS → Prop} (X : XY K "TrailMarkersModel" "blocked" cX5_blocked (Option.none : Option Jvm.ClassFile.FieldType) [] 5 5 123 Y) (E : YE K Y (tQv t h0 n z κ) Qx) (hz : kz K ≤ t) : ∀ (sg : TS), P_X5_blocked_117 κ sg → G K Y (tw t sg h0) n z 117 [(0, vR (some t))] [] := by
  intro sg hk
  exact r_vret X E (pc := 117) dX5_blocked_117 ⟨rfl, rfl, rfl, _, rfl, hk⟩
set_option maxHeartbeats 4000000 in
theorem w_X5_blocked {K : KT} {Y : YT} {Qx : QxT} {t n z : Nat} {h0 : AH} {κ : TS → Prop} (X : XY K "TrailMarkersModel" "blocked" cX5_blocked (Option.none : Option Jvm.ClassFile.FieldType) [] 5 5 123 Y) (E : YE K Y (tQv t h0 n z κ) Qx) (hz : kz K ≤ t) {sg : TS} (hk : P_X5_blocked κ sg) : G K Y (tw t sg h0) n z 0 (lv_argsA 0 [vR (some t)]) [] := by
  show G K Y (tw t sg h0) n z 0 [(0, vR (some t))] []
  refine r_aload_n X (pc := 0) dX5_blocked_0 rfl (q := 0) rfl ?_
  refine r_callV X (pc := 1) (As := []) (st := []) rfl rfl rfl (tw_t t _ h0) m_X5_304 (fun _ => s_X5_go hz hk) ⟨by decide, by decide⟩ (Nat.le_of_ble_eq_true rfl) dX5_blocked_1 (fun v9 h9 n9 z9 hq => ?_) (fun _ _ _ _ _ hf => hf.elim)
  obtain ⟨rfl, rfl, rfl, sg43, rfl, hk⟩ := hq
  refine ⟨[], rfl, ?_⟩
  refine r_iconst X (pc := 4) dX5_blocked_4 ?_
  refine r_istore_n X (pc := 5) (lv1 := [(1, vI 1), (0, vR (some t))]) dX5_blocked_5 rfl (by decide) rfl ?_
  refine G.sub [1, 0] rfl ?_
  have HH44 : ∀ (sg : TS), (P_X5_blocked_100 κ sg) → G K Y (tw t sg h0) n z 100 [(0, vR (some t))] [] := by
      intro sg hk
      exact w_X5_blocked_100 X E hz sg hk
  have HH45 : ∀ (sg : TS), (P_X5_blocked_117 κ sg) → G K Y (tw t sg h0) n z 117 [(0, vR (some t))] [] := by
      intro sg hk
      exact w_X5_blocked_117 X E hz sg hk
  obtain ⟨f9, hk⟩ := hk
  exact w_X5_blocked_6 X E hz HH44 HH45 f9 sg43 1 hk
theorem s_X5_blocked {K : KT} {l : Launch} {t n z : Nat} {h0 : AH} {κ : TS → Prop} (hz : kz K ≤ t) {sg : TS} (hk : P_X5_blocked κ sg) : Ct K l yX5_blocked (ws_ yX5_blocked cX5_blocked 5 (Option.none : Option Jvm.ClassFile.FieldType)) 5 123 ([vR (some t)].map cV) (tw t sg h0) n z (tQv t h0 n z κ) noX :=
  ct_of (by decide +kernel) (Nat.le_of_ble_eq_true rfl) (fun Y X E => w_X5_blocked X E hz hk)
set_option maxHeartbeats 4000000 in
theorem w_X5_stated_62 {K : KT} {Y : YT} {Qx : QxT} {t n z : Nat} {h0 : AH} {κ : TS → Prop} (X : XY K "TrailMarkersModel" "stated" cX5_stated (Option.none : Option Jvm.ClassFile.FieldType) [] 4 4 100 Y) (E : YE K Y (tQv t h0 n z κ) Qx) (hz : kz K ≤ t) {k_6 : TS → Int → Int → Prop} {k_78 : TS → Prop} {k_95 : TS → Prop} (H_6 : ∀ (sg : TS) (x1 : Int) (x2 : Int), k_6 sg x1 x2 → G K Y (tw t sg h0) n z 6 [(0, vR (some t)), (1, vI x1), (2, vI x2)] []) (H_78 : ∀ (sg : TS), k_78 sg → G K Y (tw t sg h0) n z 78 [(0, vR (some t))] []) (H_95 : ∀ (sg : TS), k_95 sg → G K Y (tw t sg h0) n z 95 [(0, vR (some t))] []) : ∀ (sg : TS) (x1 : Int) (x3 : Int) (s0 : Int), P_X5_stated_62 k_6 k_78 k_95 κ sg x1 x3 s0 → G K Y (tw t sg h0) n z 62 [(0, vR (some t)), (1, vI x1), (3, vI x3)] [vI s0, vR (some t)] := by
  intro sg x1 x3 s0 hk
  refine r_iconst X (pc := 62) dX5_stated_62 ?_
  refine r_iconst X (pc := 63) dX5_stated_63 ?_
  refine r_aload_n X (pc := 64) dX5_stated_64 rfl (q := 0) rfl ?_
  refine r_tgI X (pc := 65) (v := sg.1 40) fa_X5_265 (by decide) rfl dX5_stated_65 ?_
  refine r_callV X (pc := 68) (As := [vI s0, vI 5, vI 5, vI (sg.1 40)]) (st := []) rfl rfl rfl (tw_t t _ h0) m_X5_284 (fun _ => s_X5_refused hz hk) ⟨by decide, by decide⟩ (Nat.le_of_ble_eq_true rfl) dX5_stated_68 (fun v9 h9 n9 z9 hq => ?_) (fun _ _ _ _ _ hf => hf.elim)
  obtain ⟨rfl, rfl, rfl, sg20, rfl, hk⟩ := hq
  refine ⟨[], rfl, ?_⟩
  refine r_aload_n X (pc := 71) dX5_stated_71 rfl (q := 0) rfl ?_
  refine r_tgI X (pc := 72) (v := sg20.1 43) fa_X5_288 (by decide) rfl dX5_stated_72 ?_
  obtain ⟨b21, hk⟩ := hk
  refine r_if_eq X (pc := 75) (tgt := 79) dX5_stated_75 (by decide) b21 (fun c22 => ?_) (fun c22 => ?_)
  · have hk := hk.1 c22
    refine r_aload_n X (pc := 79) dX5_stated_79 rfl (q := 0) rfl ?_
    refine r_iload_n X (pc := 80) dX5_stated_80 rfl (q := 2) rfl ?_
    refine r_iconst X (pc := 81) dX5_stated_81 ?_
    refine r_iload_n X (pc := 82) dX5_stated_82 rfl (q := 1) rfl ?_
    refine r_callV X (pc := 83) (As := [vI x3, vI 4, vI x1]) (st := []) rfl rfl rfl (tw_t t _ h0) m_X5_310 (fun _ => s_X5_put hz hk) ⟨by decide, by decide⟩ (Nat.le_of_ble_eq_true rfl) dX5_stated_83 (fun v9 h9 n9 z9 hq => ?_) (fun _ _ _ _ _ hf => hf.elim)
    obtain ⟨rfl, rfl, rfl, sg23, rfl, hk⟩ := hq
    refine ⟨[], rfl, ?_⟩
    refine r_iconst X (pc := 86) dX5_stated_86 ?_
    refine r_istore_n X (pc := 87) (lv1 := [(2, vI 0), (0, vR (some t)), (1, vI x1), (3, vI x3)]) dX5_stated_87 rfl (by decide) rfl ?_
    refine r_aload_n X (pc := 88) dX5_stated_88 rfl (q := 1) rfl ?_
    refine r_callV X (pc := 89) (As := []) (st := []) rfl rfl rfl (tw_t t _ h0) m_X5_304 (fun _ => s_X5_go hz hk) ⟨by decide, by decide⟩ (Nat.le_of_ble_eq_true rfl) dX5_stated_89 (fun v9 h9 n9 z9 hq => ?_) (fun _ _ _ _ _ hf => hf.elim)
    obtain ⟨rfl, rfl, rfl, sg24, rfl, hk⟩ := hq
    refine ⟨[], rfl, ?_⟩
    refine r_goto X (pc := 92) (tgt := 6) dX5_stated_92 (by decide) ?_
    refine G.sub [1, 2, 0] rfl ?_
    exact H_6 sg24 x1 0 hk
  · have hk := hk.2 c22
    refine G.sub [0] rfl ?_
    exact H_78 sg20 hk
set_option maxHeartbeats 4000000 in
theorem w_X5_stated_25 {K : KT} {Y : YT} {Qx : QxT} {t n z : Nat} {h0 : AH} {κ : TS → Prop} (X : XY K "TrailMarkersModel" "stated" cX5_stated (Option.none : Option Jvm.ClassFile.FieldType) [] 4 4 100 Y) (E : YE K Y (tQv t h0 n z κ) Qx) (hz : kz K ≤ t) {k_6 : TS → Int → Int → Prop} {k_78 : TS → Prop} {k_95 : TS → Prop} (H_6 : ∀ (sg : TS) (x1 : Int) (x2 : Int), k_6 sg x1 x2 → G K Y (tw t sg h0) n z 6 [(0, vR (some t)), (1, vI x1), (2, vI x2)] []) (H_78 : ∀ (sg : TS), k_78 sg → G K Y (tw t sg h0) n z 78 [(0, vR (some t))] []) (H_95 : ∀ (sg : TS), k_95 sg → G K Y (tw t sg h0) n z 95 [(0, vR (some t))] []) : ∀ (sg : TS) (x1 : Int), P_X5_stated_25 k_6 k_78 k_95 κ sg x1 → G K Y (tw t sg h0) n z 25 [(0, vR (some t)), (1, vI x1)] [] := by
  intro sg x1 hk
  refine r_aload_n X (pc := 25) dX5_stated_25 rfl (q := 0) rfl ?_
  refine r_iconst X (pc := 26) dX5_stated_26 ?_
  refine r_aload_n X (pc := 27) dX5_stated_27 rfl (q := 0) rfl ?_
  refine r_tgR X (pc := 28) (ty := 0) (N := 526) fa_X5_9 rfl (by decide) dX5_stated_28 ?_
  refine r_iconst X (pc := 31) dX5_stated_31 ?_
  refine r_tiald X (pc := 32) (v := sg.2 0 4) (N := 526) rfl rfl dX5_stated_32 (by decide) ?_
  refine r_iconst X (pc := 33) dX5_stated_33 ?_
  refine r_isub X (pc := 34) dX5_stated_34 ?_
  refine r_callV X (pc := 35) (As := [vI 0, vI ((sg.2 0 4) - 1)]) (st := []) rfl rfl rfl (tw_t t _ h0) m_X5_301 (fun _ => s_X5_here hz hk) ⟨by decide, by decide⟩ (Nat.le_of_ble_eq_true rfl) dX5_stated_35 (fun v9 h9 n9 z9 hq => ?_) (fun _ _ _ _ _ hf => hf.elim)
  obtain ⟨r25, rfl, rfl, rfl, sg26, rfl, hk⟩ := hq
  refine ⟨[vI r25], rfl, ?_⟩
  refine r_istore_n X (pc := 38) (lv1 := [(3, vI r25), (0, vR (some t)), (1, vI x1)]) dX5_stated_38 rfl (by decide) rfl ?_
  refine r_aload_n X (pc := 39) dX5_stated_39 rfl (q := 1) rfl ?_
  refine r_aload_n X (pc := 40) dX5_stated_40 rfl (q := 1) rfl ?_
  refine r_tgI X (pc := 41) (v := sg26.1 43) fa_X5_288 (by decide) rfl dX5_stated_41 ?_
  obtain ⟨b27, hk⟩ := hk
  refine r_if_ne X (pc := 44) (tgt := 61) dX5_stated_44 (by decide) b27 (fun c28 => ?_) (fun c28 => ?_)
  · have hk := hk.2 c28
    refine r_iconst X (pc := 61) dX5_stated_61 ?_
    refine G.sub [1, 2, 0] rfl ?_
    exact w_X5_stated_62 X E hz H_6 H_78 H_95 sg26 x1 r25 0 hk
  · have hk := hk.1 c28
    refine r_aload_n X (pc := 47) dX5_stated_47 rfl (q := 1) rfl ?_
    refine r_iload_n X (pc := 48) dX5_stated_48 rfl (q := 0) rfl ?_
    refine r_iconst X (pc := 49) dX5_stated_49 ?_
    refine r_callV X (pc := 50) (As := [vI r25, vI 4]) (st := [vR (some t)]) rfl rfl rfl (tw_t t _ h0) m_X5_130 (fun _ => s_X5_of hz hk) ⟨by decide, by decide⟩ (Nat.le_of_ble_eq_true rfl) dX5_stated_50 (fun v9 h9 n9 z9 hq => ?_) (fun _ _ _ _ _ hf => hf.elim)
    obtain ⟨r29, rfl, rfl, rfl, sg30, rfl, hk⟩ := hq
    refine ⟨[vI r29], rfl, ?_⟩
    refine r_iload_n X (pc := 53) dX5_stated_53 rfl (q := 2) rfl ?_
    obtain ⟨b31, b32, hk⟩ := hk
    refine r_icmp_ne X (pc := 54) (tgt := 61) dX5_stated_54 (by decide) ⟨b31, b32⟩ (fun c33 => ?_) (fun c33 => ?_)
    · have hk := hk.2 c33
      refine r_iconst X (pc := 61) dX5_stated_61 ?_
      refine G.sub [1, 2, 0] rfl ?_
      exact w_X5_stated_62 X E hz H_6 H_78 H_95 sg30 x1 r25 0 hk
    · have hk := hk.1 c33
      refine r_iconst X (pc := 57) dX5_stated_57 ?_
      refine r_goto X (pc := 58) (tgt := 62) dX5_stated_58 (by decide) ?_
      refine G.sub [1, 2, 0] rfl ?_
      exact w_X5_stated_62 X E hz H_6 H_78 H_95 sg30 x1 r25 1 hk
set_option maxHeartbeats 4000000 in
theorem w_X5_stated_6 {K : KT} {Y : YT} {Qx : QxT} {t n z : Nat} {h0 : AH} {κ : TS → Prop} (X : XY K "TrailMarkersModel" "stated" cX5_stated (Option.none : Option Jvm.ClassFile.FieldType) [] 4 4 100 Y) (E : YE K Y (tQv t h0 n z κ) Qx) (hz : kz K ≤ t) {k_78 : TS → Prop} {k_95 : TS → Prop} (H_78 : ∀ (sg : TS), k_78 sg → G K Y (tw t sg h0) n z 78 [(0, vR (some t))] []) (H_95 : ∀ (sg : TS), k_95 sg → G K Y (tw t sg h0) n z 95 [(0, vR (some t))] []) : ∀ (f : Nat) (sg : TS) (x1 : Int) (x2 : Int), L_X5_stated_6 k_78 k_95 κ f sg x1 x2 → G K Y (tw t sg h0) n z 6 [(0, vR (some t)), (1, vI x1), (2, vI x2)] [] := by
  intro f
  induction f with
  | zero => intro sg x1 x2 hk; exact hk.elim
  | succ f ih =>
    intro sg x1 x2 hk
    refine r_aload_n X (pc := 6) dX5_stated_6 rfl (q := 0) rfl ?_
    refine r_tgI X (pc := 7) (v := sg.1 43) fa_X5_288 (by decide) rfl dX5_stated_7 ?_
    obtain ⟨b34, hk⟩ := hk
    refine r_if_ne X (pc := 10) (tgt := 95) dX5_stated_10 (by decide) b34 (fun c35 => ?_) (fun c35 => ?_)
    · have hk := hk.2 c35
      refine G.sub [0] rfl ?_
      exact H_95 sg hk
    · have hk := hk.1 c35
      refine r_iload_n X (pc := 13) dX5_stated_13 rfl (q := 2) rfl ?_
      obtain ⟨b36, hk⟩ := hk
      refine r_if_ne X (pc := 14) (tgt := 25) dX5_stated_14 (by decide) b36 (fun c37 => ?_) (fun c37 => ?_)
      · have hk := hk.2 c37
        refine G.sub [0, 1] rfl ?_
        have HH38 : ∀ (sg : TS) (x1 : Int) (x2 : Int), (L_X5_stated_6 k_78 k_95 κ f sg x1 x2) → G K Y (tw t sg h0) n z 6 [(0, vR (some t)), (1, vI x1), (2, vI x2)] [] := by
            intro sg x1 x2 hk
            exact ih sg x1 x2 hk
        exact w_X5_stated_25 X E hz HH38 H_78 H_95 sg x1 hk
      · have hk := hk.1 c37
        refine r_aload_n X (pc := 17) dX5_stated_17 rfl (q := 0) rfl ?_
        refine r_tgI X (pc := 18) (v := sg.1 39) fa_X5_268 (by decide) rfl dX5_stated_18 ?_
        refine r_iconst X (pc := 21) dX5_stated_21 ?_
        obtain ⟨b39, hk⟩ := hk
        refine r_icmp_ne X (pc := 22) (tgt := 95) dX5_stated_22 (by decide) ⟨b39, (by decide)⟩ (fun c40 => ?_) (fun c40 => ?_)
        · have hk := hk.2 c40
          refine G.sub [0] rfl ?_
          exact H_95 sg hk
        · have hk := hk.1 c40
          refine G.sub [0, 1] rfl ?_
          have HH41 : ∀ (sg : TS) (x1 : Int) (x2 : Int), (L_X5_stated_6 k_78 k_95 κ f sg x1 x2) → G K Y (tw t sg h0) n z 6 [(0, vR (some t)), (1, vI x1), (2, vI x2)] [] := by
              intro sg x1 x2 hk
              exact ih sg x1 x2 hk
          exact w_X5_stated_25 X E hz HH41 H_78 H_95 sg x1 hk
set_option maxHeartbeats 4000000 in
theorem w_X5_stated_78 {K : KT} {Y : YT} {Qx : QxT} {t n z : Nat} {h0 : AH} {κ : TS → Prop} (X : XY K "TrailMarkersModel" "stated" cX5_stated (Option.none : Option Jvm.ClassFile.FieldType) [] 4 4 100 Y) (E : YE K Y (tQv t h0 n z κ) Qx) (hz : kz K ≤ t) : ∀ (sg : TS), P_X5_stated_78 κ sg → G K Y (tw t sg h0) n z 78 [(0, vR (some t))] [] := by
  intro sg hk
  exact r_vret X E (pc := 78) dX5_stated_78 ⟨rfl, rfl, rfl, _, rfl, hk⟩
set_option maxHeartbeats 4000000 in
theorem w_X5_stated_95 {K : KT} {Y : YT} {Qx : QxT} {t n z : Nat} {h0 : AH} {κ : TS → Prop} (X : XY K "TrailMarkersModel" "stated" cX5_stated (Option.none : Option Jvm.ClassFile.FieldType) [] 4 4 100 Y) (E : YE K Y (tQv t h0 n z κ) Qx) (hz : kz K ≤ t) : ∀ (sg : TS), P_X5_stated_95 κ sg → G K Y (tw t sg h0) n z 95 [(0, vR (some t))] [] := by
  intro sg hk
  exact r_vret X E (pc := 95) dX5_stated_95 ⟨rfl, rfl, rfl, _, rfl, hk⟩
set_option maxHeartbeats 4000000 in
theorem w_X5_stated {K : KT} {Y : YT} {Qx : QxT} {t n z : Nat} {h0 : AH} {κ : TS → Prop} (X : XY K "TrailMarkersModel" "stated" cX5_stated (Option.none : Option Jvm.ClassFile.FieldType) [] 4 4 100 Y) (E : YE K Y (tQv t h0 n z κ) Qx) (hz : kz K ≤ t) {sg : TS} {x1 : Int} (hk : P_X5_stated κ sg x1) : G K Y (tw t sg h0) n z 0 (lv_argsA 0 [vR (some t), vI x1]) [] := by
  show G K Y (tw t sg h0) n z 0 [(0, vR (some t)), (1, vI x1)] []
  refine r_aload_n X (pc := 0) dX5_stated_0 rfl (q := 0) rfl ?_
  refine r_callV X (pc := 1) (As := []) (st := []) rfl rfl rfl (tw_t t _ h0) m_X5_304 (fun _ => s_X5_go hz hk) ⟨by decide, by decide⟩ (Nat.le_of_ble_eq_true rfl) dX5_stated_1 (fun v9 h9 n9 z9 hq => ?_) (fun _ _ _ _ _ hf => hf.elim)
  obtain ⟨rfl, rfl, rfl, sg42, rfl, hk⟩ := hq
  refine ⟨[], rfl, ?_⟩
  refine r_iconst X (pc := 4) dX5_stated_4 ?_
  refine r_istore_n X (pc := 5) (lv1 := [(2, vI 1), (0, vR (some t)), (1, vI x1)]) dX5_stated_5 rfl (by decide) rfl ?_
  refine G.sub [1, 2, 0] rfl ?_
  have HH43 : ∀ (sg : TS), (P_X5_stated_78 κ sg) → G K Y (tw t sg h0) n z 78 [(0, vR (some t))] [] := by
      intro sg hk
      exact w_X5_stated_78 X E hz sg hk
  have HH44 : ∀ (sg : TS), (P_X5_stated_95 κ sg) → G K Y (tw t sg h0) n z 95 [(0, vR (some t))] [] := by
      intro sg hk
      exact w_X5_stated_95 X E hz sg hk
  obtain ⟨f9, hk⟩ := hk
  exact w_X5_stated_6 X E hz HH43 HH44 f9 sg42 x1 1 hk
theorem s_X5_stated {K : KT} {l : Launch} {t n z : Nat} {h0 : AH} {κ : TS → Prop} (hz : kz K ≤ t) {sg : TS} {x1 : Int} (hk : P_X5_stated κ sg x1) : Ct K l yX5_stated (ws_ yX5_stated cX5_stated 4 (Option.none : Option Jvm.ClassFile.FieldType)) 4 100 ([vR (some t), vI x1].map cV) (tw t sg h0) n z (tQv t h0 n z κ) noX :=
  ct_of (by decide +kernel) (Nat.le_of_ble_eq_true rfl) (fun Y X E => w_X5_stated X E hz hk)
set_option maxHeartbeats 4000000 in
theorem w_X5_remember_37 {K : KT} {Y : YT} {Qx : QxT} {t n z : Nat} {h0 : AH} {κ : TS → Prop} (X : XY K "TrailMarkersModel" "remember" cX5_remember (Option.none : Option Jvm.ClassFile.FieldType) [] 2 2 83 Y) (E : YE K Y (tQv t h0 n z κ) Qx) (hz : kz K ≤ t) : ∀ (sg : TS) (x1 : Nat), P_X5_remember_37 κ sg x1 → G K Y (tw t sg h0) n z 37 [(0, vR (some t)), (1, vR (some (twAd t x1)))] [] := by
  intro sg x1 hk
  refine r_aload_n X (pc := 37) dX5_remember_37 rfl (q := 1) rfl ?_
  refine r_iconst X (pc := 38) dX5_remember_38 ?_
  refine r_aload_n X (pc := 39) dX5_remember_39 rfl (q := 0) rfl ?_
  refine r_tgR X (pc := 40) (ty := 0) (N := 4208) fa_X5_16 rfl (by decide) dX5_remember_40 ?_
  refine r_aload_n X (pc := 43) dX5_remember_43 rfl (q := 0) rfl ?_
  refine r_tgI X (pc := 44) (v := sg.1 6) fa_X5_103 (by decide) rfl dX5_remember_44 ?_
  refine r_sipush X (pc := 47) dX5_remember_47 (by decide) ?_
  refine r_imul X (pc := 50) dX5_remember_50 ?_
  refine r_callS X (pc := 51) (As := [vR (some (twAd t x1)), vI 0, vR (some (twAd t 2)), vI ((sg.1 6) * 526)]) (st := []) m_X5_115 (fun _ => s_X5_copy hz hk) ⟨by decide, by decide⟩ (Nat.le_of_ble_eq_true rfl) dX5_remember_51 (fun v9 h9 n9 z9 hq => ?_) (fun _ _ _ _ _ hf => hf.elim)
  obtain ⟨rfl, rfl, rfl, sg7, rfl, hk⟩ := hq
  refine ⟨[], rfl, ?_⟩
  refine r_aload_n X (pc := 54) dX5_remember_54 rfl (q := 0) rfl ?_
  refine r_dup X (pc := 55) dX5_remember_55 rfl ?_
  refine r_tgI X (pc := 56) (v := sg7.1 6) fa_X5_103 (by decide) rfl dX5_remember_56 ?_
  refine r_iconst X (pc := 59) dX5_remember_59 ?_
  refine r_iadd X (pc := 60) dX5_remember_60 ?_
  refine r_tpI X (pc := 61) fp_X5_103 hz (by decide) dX5_remember_61 ?_
  exact r_vret X E (pc := 64) dX5_remember_64 ⟨rfl, rfl, rfl, _, rfl, hk⟩
set_option maxHeartbeats 4000000 in
theorem w_X5_remember {K : KT} {Y : YT} {Qx : QxT} {t n z : Nat} {h0 : AH} {κ : TS → Prop} (X : XY K "TrailMarkersModel" "remember" cX5_remember (Option.none : Option Jvm.ClassFile.FieldType) [] 2 2 83 Y) (E : YE K Y (tQv t h0 n z κ) Qx) (hz : kz K ≤ t) {sg : TS} {x1 : Nat} (hk : P_X5_remember κ sg x1) : G K Y (tw t sg h0) n z 0 (lv_argsA 0 [vR (some t), vR (some (twAd t x1))]) [] := by
  show G K Y (tw t sg h0) n z 0 [(0, vR (some t)), (1, vR (some (twAd t x1)))] []
  refine r_aload_n X (pc := 0) dX5_remember_0 rfl (q := 0) rfl ?_
  refine r_tgI X (pc := 1) (v := sg.1 6) fa_X5_103 (by decide) rfl dX5_remember_1 ?_
  refine r_bipush X (pc := 4) dX5_remember_4 (by decide) ?_
  obtain ⟨b8, hk⟩ := hk
  refine r_icmp_ne X (pc := 6) (tgt := 37) dX5_remember_6 (by decide) ⟨b8, (by decide)⟩ (fun c9 => ?_) (fun c9 => ?_)
  · have hk := hk.2 c9
    exact w_X5_remember_37 X E hz sg x1 hk
  · have hk := hk.1 c9
    refine r_aload_n X (pc := 9) dX5_remember_9 rfl (q := 0) rfl ?_
    refine r_tgR X (pc := 10) (ty := 0) (N := 4208) fa_X5_16 rfl (by decide) dX5_remember_10 ?_
    refine r_sipush X (pc := 13) dX5_remember_13 (by decide) ?_
    refine r_aload_n X (pc := 16) dX5_remember_16 rfl (q := 0) rfl ?_
    refine r_tgR X (pc := 17) (ty := 0) (N := 4208) fa_X5_16 rfl (by decide) dX5_remember_17 ?_
    refine r_iconst X (pc := 20) dX5_remember_20 ?_
    refine r_sipush X (pc := 21) dX5_remember_21 (by decide) ?_
    obtain ⟨N10, N11, b12, hk⟩ := hk
    refine r_tcopy X (pc := 24) q3045 q585 q584 q151 hz dX5_remember_24 b12 ⟨by decide, Nat.le_of_ble_eq_true rfl⟩ ?_
    refine r_aload_n X (pc := 27) dX5_remember_27 rfl (q := 0) rfl ?_
    refine r_dup X (pc := 28) dX5_remember_28 rfl ?_
    refine r_tgI X (pc := 29) (v := (setA sg 2 (cpI (sg.2 2) (sg.2 2) 526 0 3682)).1 6) fa_X5_103 (by decide) rfl dX5_remember_29 ?_
    refine r_iconst X (pc := 32) dX5_remember_32 ?_
    refine r_isub X (pc := 33) dX5_remember_33 ?_
    refine r_tpI X (pc := 34) fp_X5_103 hz (by decide) dX5_remember_34 ?_
    exact w_X5_remember_37 X E hz (setS (setA sg 2 (cpI (sg.2 2) (sg.2 2) 526 0 3682)) 6 (((setA sg 2 (cpI (sg.2 2) (sg.2 2) 526 0 3682)).1 6) - 1)) x1 hk
theorem s_X5_remember {K : KT} {l : Launch} {t n z : Nat} {h0 : AH} {κ : TS → Prop} (hz : kz K ≤ t) {sg : TS} {x1 : Nat} (hk : P_X5_remember κ sg x1) : Ct K l yX5_remember (ws_ yX5_remember cX5_remember 2 (Option.none : Option Jvm.ClassFile.FieldType)) 2 83 ([vR (some t), vR (some (twAd t x1))].map cV) (tw t sg h0) n z (tQv t h0 n z κ) noX :=
  ct_of (by decide +kernel) (Nat.le_of_ble_eq_true rfl) (fun Y X E => w_X5_remember X E hz hk)
set_option maxHeartbeats 4000000 in
theorem w_X5_thrown {K : KT} {Y : YT} {Qx : QxT} {t n z : Nat} {h0 : AH} {κ : Int → TS → Prop} (X : XY K "TrailMarkersModel" "thrown" cX5_thrown (Option.some Jvm.ClassFile.FieldType.int) [] 1 0 0 Y) (E : YE K Y (tQ t h0 n z κ) Qx) (hz : kz K ≤ t) {sg : TS} (hk : P_X5_thrown κ sg) : G K Y (tw t sg h0) n z 0 (lv_argsA 0 [vR (some t)]) [] := by
  show G K Y (tw t sg h0) n z 0 [(0, vR (some t))] []
  refine r_aload_n X (pc := 0) dX5_thrown_0 rfl (q := 0) rfl ?_
  refine r_tgI X (pc := 1) (v := sg.1 7) fa_X5_106 (by decide) rfl dX5_thrown_1 ?_
  exact r_iret X E (pc := 4) dX5_thrown_4 rfl ⟨_, rfl, rfl, rfl, _, rfl, hk⟩
theorem s_X5_thrown {K : KT} {l : Launch} {t n z : Nat} {h0 : AH} {κ : Int → TS → Prop} (hz : kz K ≤ t) {sg : TS} (hk : P_X5_thrown κ sg) : Ct K l yX5_thrown (ws_ yX5_thrown cX5_thrown 1 (Option.some Jvm.ClassFile.FieldType.int)) 0 0 ([vR (some t)].map cV) (tw t sg h0) n z (tQ t h0 n z κ) noX :=
  ct_of (by decide +kernel) (Nat.le_of_ble_eq_true rfl) (fun Y X E => w_X5_thrown X E hz hk)
set_option maxHeartbeats 4000000 in
theorem w_X5_four_3 {K : KT} {Y : YT} {Qx : QxT} {t n z : Nat} {h0 : AH} {κ : TS → Prop} (X : XY K "TrailMarkersModel" "four" cX5_four (Option.none : Option Jvm.ClassFile.FieldType) [] 3 0 0 Y) (E : YE K Y (tQv t h0 n z κ) Qx) (hz : kz K ≤ t) {k_39 : TS → Prop} (H_39 : ∀ (sg : TS), k_39 sg → G K Y (tw t sg h0) n z 39 [(0, vR (some t))] []) : ∀ (f : Nat) (sg : TS) (x1 : Int) (x2 : Int), L_X5_four_3 k_39 κ f sg x1 x2 → G K Y (tw t sg h0) n z 3 [(0, vR (some t)), (1, vI x1), (2, vI x2)] [] := by
  intro f
  induction f with
  | zero => intro sg x1 x2 hk; exact hk.elim
  | succ f ih =>
    intro sg x1 x2 hk
    refine r_iload_n X (pc := 3) dX5_four_3 rfl (q := 2) rfl ?_
    obtain ⟨b4, hk⟩ := hk
    refine r_if_lt X (pc := 4) (tgt := 39) dX5_four_4 (by decide) b4 (fun c5 => ?_) (fun c5 => ?_)
    · have hk := hk.1 c5
      refine G.sub [0] rfl ?_
      exact H_39 sg hk
    · have hk := hk.2 c5
      refine r_aload_n X (pc := 7) dX5_four_7 rfl (q := 0) rfl ?_
      refine r_tgR X (pc := 8) (ty := 0) (N := 700) fa_X5_29 rfl (by decide) dX5_four_8 ?_
      refine r_aload_n X (pc := 11) dX5_four_11 rfl (q := 0) rfl ?_
      refine r_tgI X (pc := 12) (v := sg.1 10) fa_X5_93 (by decide) rfl dX5_four_12 ?_
      refine r_iload_n X (pc := 15) dX5_four_15 rfl (q := 1) rfl ?_
      refine r_iload_n X (pc := 16) dX5_four_16 rfl (q := 2) rfl ?_
      refine r_ishr X (pc := 17) dX5_four_17 ?_
      refine r_sipush X (pc := 18) dX5_four_18 (by decide) ?_
      refine r_iand X (pc := 21) dX5_four_21 ?_
      obtain ⟨b6, hk⟩ := hk
      refine r_tiast X (pc := 22) hz (N := 700) rfl dX5_four_22 b6 ?_
      refine r_aload_n X (pc := 23) dX5_four_23 rfl (q := 0) rfl ?_
      refine r_dup X (pc := 24) dX5_four_24 rfl ?_
      refine r_tgI X (pc := 25) (v := sg.1 10) fa_X5_93 (by decide) rfl dX5_four_25 ?_
      refine r_iconst X (pc := 28) dX5_four_28 ?_
      refine r_iadd X (pc := 29) dX5_four_29 ?_
      refine r_tpI X (pc := 30) fp_X5_93 hz (by decide) dX5_four_30 ?_
      refine r_iinc X (pc := 33) (q := 2) (lv1 := [(2, vI (x2 + (-8))), (0, vR (some t)), (1, vI x1)]) dX5_four_33 rfl (by decide) rfl ?_
      refine r_goto X (pc := 36) (tgt := 3) dX5_four_36 (by decide) ?_
      refine G.sub [1, 2, 0] rfl ?_
      exact ih (setS (setA sg 8 (uI (sg.2 8) (sg.1 10) (iand (ishr x1 x2) 255))) 10 ((sg.1 10) + 1)) x1 (x2 + (-8)) hk
set_option maxHeartbeats 4000000 in
theorem w_X5_four_39 {K : KT} {Y : YT} {Qx : QxT} {t n z : Nat} {h0 : AH} {κ : TS → Prop} (X : XY K "TrailMarkersModel" "four" cX5_four (Option.none : Option Jvm.ClassFile.FieldType) [] 3 0 0 Y) (E : YE K Y (tQv t h0 n z κ) Qx) (hz : kz K ≤ t) : ∀ (sg : TS), P_X5_four_39 κ sg → G K Y (tw t sg h0) n z 39 [(0, vR (some t))] [] := by
  intro sg hk
  exact r_vret X E (pc := 39) dX5_four_39 ⟨rfl, rfl, rfl, _, rfl, hk⟩
set_option maxHeartbeats 4000000 in
theorem w_X5_four {K : KT} {Y : YT} {Qx : QxT} {t n z : Nat} {h0 : AH} {κ : TS → Prop} (X : XY K "TrailMarkersModel" "four" cX5_four (Option.none : Option Jvm.ClassFile.FieldType) [] 3 0 0 Y) (E : YE K Y (tQv t h0 n z κ) Qx) (hz : kz K ≤ t) {sg : TS} {x1 : Int} (hk : P_X5_four κ sg x1) : G K Y (tw t sg h0) n z 0 (lv_argsA 0 [vR (some t), vI x1]) [] := by
  show G K Y (tw t sg h0) n z 0 [(0, vR (some t)), (1, vI x1)] []
  refine r_bipush X (pc := 0) dX5_four_0 (by decide) ?_
  refine r_istore_n X (pc := 2) (lv1 := [(2, vI 24), (0, vR (some t)), (1, vI x1)]) dX5_four_2 rfl (by decide) rfl ?_
  refine G.sub [1, 2, 0] rfl ?_
  have HH7 : ∀ (sg : TS), (P_X5_four_39 κ sg) → G K Y (tw t sg h0) n z 39 [(0, vR (some t))] [] := by
      intro sg hk
      exact w_X5_four_39 X E hz sg hk
  obtain ⟨f9, hk⟩ := hk
  exact w_X5_four_3 X E hz HH7 f9 sg x1 24 hk
theorem s_X5_four {K : KT} {l : Launch} {t n z : Nat} {h0 : AH} {κ : TS → Prop} (hz : kz K ≤ t) {sg : TS} {x1 : Int} (hk : P_X5_four κ sg x1) : Ct K l yX5_four (ws_ yX5_four cX5_four 3 (Option.none : Option Jvm.ClassFile.FieldType)) 0 0 ([vR (some t), vI x1].map cV) (tw t sg h0) n z (tQv t h0 n z κ) noX :=
  ct_of (by decide +kernel) (Nat.le_of_ble_eq_true rfl) (fun Y X E => w_X5_four X E hz hk)
set_option maxHeartbeats 4000000 in
theorem w_X5_append {K : KT} {Y : YT} {Qx : QxT} {t n z : Nat} {h0 : AH} {κ : Int → TS → Prop} (X : XY K "TrailMarkersModel" "append" cX5_append (Option.some Jvm.ClassFile.FieldType.int) [] 6 1 22 Y) (E : YE K Y (tQ t h0 n z κ) Qx) (hz : kz K ≤ t) {sg : TS} {x1 : Int} {x2 : Int} {x3 : Int} {x4 : Int} {x5 : Int} (hk : P_X5_append κ sg x1 x2 x3 x4 x5) : G K Y (tw t sg h0) n z 0 (lv_argsA 0 [vR (some t), vI x1, vI x2, vI x3, vI x4, vI x5]) [] := by
  show G K Y (tw t sg h0) n z 0 [(0, vR (some t)), (1, vI x1), (2, vI x2), (3, vI x3), (4, vI x4), (5, vI x5)] []
  refine r_aload_n X (pc := 0) dX5_append_0 rfl (q := 0) rfl ?_
  refine r_iconst X (pc := 1) dX5_append_1 ?_
  refine r_tpI X (pc := 2) fp_X5_106 hz (by decide) dX5_append_2 ?_
  refine r_aload_n X (pc := 5) dX5_append_5 rfl (q := 0) rfl ?_
  refine r_tgI X (pc := 6) (v := sg.1 10) fa_X5_93 (by decide) rfl dX5_append_6 ?_
  refine r_bipush X (pc := 9) dX5_append_9 (by decide) ?_
  refine r_iadd X (pc := 11) dX5_append_11 ?_
  refine r_sipush X (pc := 12) dX5_append_12 (by decide) ?_
  obtain ⟨b8, hk⟩ := hk
  refine r_icmp_le X (pc := 15) (tgt := 20) dX5_append_15 (by decide) ⟨b8, (by decide)⟩ (fun c9 => ?_) (fun c9 => ?_)
  · have hk := hk.2 c9
    refine r_aload_n X (pc := 20) dX5_append_20 rfl (q := 0) rfl ?_
    refine r_iload_n X (pc := 21) dX5_append_21 rfl (q := 1) rfl ?_
    refine r_callV X (pc := 22) (As := [vI x1]) (st := []) rfl rfl rfl (tw_t t _ h0) m_X5_255 (fun _ => s_X5_four hz hk) ⟨by decide, by decide⟩ (Nat.le_of_ble_eq_true rfl) dX5_append_22 (fun v9 h9 n9 z9 hq => ?_) (fun _ _ _ _ _ hf => hf.elim)
    obtain ⟨rfl, rfl, rfl, sg10, rfl, hk⟩ := hq
    refine ⟨[], rfl, ?_⟩
    refine r_aload_n X (pc := 25) dX5_append_25 rfl (q := 0) rfl ?_
    refine r_iload_n X (pc := 26) dX5_append_26 rfl (q := 2) rfl ?_
    refine r_callV X (pc := 27) (As := [vI x2]) (st := []) rfl rfl rfl (tw_t t _ h0) m_X5_255 (fun _ => s_X5_four hz hk) ⟨by decide, by decide⟩ (Nat.le_of_ble_eq_true rfl) dX5_append_27 (fun v9 h9 n9 z9 hq => ?_) (fun _ _ _ _ _ hf => hf.elim)
    obtain ⟨rfl, rfl, rfl, sg11, rfl, hk⟩ := hq
    refine ⟨[], rfl, ?_⟩
    refine r_aload_n X (pc := 30) dX5_append_30 rfl (q := 0) rfl ?_
    refine r_iload_n X (pc := 31) dX5_append_31 rfl (q := 3) rfl ?_
    refine r_callV X (pc := 32) (As := [vI x3]) (st := []) rfl rfl rfl (tw_t t _ h0) m_X5_255 (fun _ => s_X5_four hz hk) ⟨by decide, by decide⟩ (Nat.le_of_ble_eq_true rfl) dX5_append_32 (fun v9 h9 n9 z9 hq => ?_) (fun _ _ _ _ _ hf => hf.elim)
    obtain ⟨rfl, rfl, rfl, sg12, rfl, hk⟩ := hq
    refine ⟨[], rfl, ?_⟩
    refine r_aload_n X (pc := 35) dX5_append_35 rfl (q := 0) rfl ?_
    refine r_iload X (pc := 36) dX5_append_36 (q := 4) rfl ?_
    refine r_callV X (pc := 38) (As := [vI x4]) (st := []) rfl rfl rfl (tw_t t _ h0) m_X5_255 (fun _ => s_X5_four hz hk) ⟨by decide, by decide⟩ (Nat.le_of_ble_eq_true rfl) dX5_append_38 (fun v9 h9 n9 z9 hq => ?_) (fun _ _ _ _ _ hf => hf.elim)
    obtain ⟨rfl, rfl, rfl, sg13, rfl, hk⟩ := hq
    refine ⟨[], rfl, ?_⟩
    refine r_aload_n X (pc := 41) dX5_append_41 rfl (q := 0) rfl ?_
    refine r_iload X (pc := 42) dX5_append_42 (q := 5) rfl ?_
    refine r_callV X (pc := 44) (As := [vI x5]) (st := []) rfl rfl rfl (tw_t t _ h0) m_X5_255 (fun _ => s_X5_four hz hk) ⟨by decide, by decide⟩ (Nat.le_of_ble_eq_true rfl) dX5_append_44 (fun v9 h9 n9 z9 hq => ?_) (fun _ _ _ _ _ hf => hf.elim)
    obtain ⟨rfl, rfl, rfl, sg14, rfl, hk⟩ := hq
    refine ⟨[], rfl, ?_⟩
    refine r_aload_n X (pc := 47) dX5_append_47 rfl (q := 0) rfl ?_
    refine r_tgI X (pc := 48) (v := sg14.1 10) fa_X5_93 (by decide) rfl dX5_append_48 ?_
    exact r_iret X E (pc := 51) dX5_append_51 rfl ⟨_, rfl, rfl, rfl, _, rfl, hk⟩
  · have hk := hk.1 c9
    refine r_iconst X (pc := 18) dX5_append_18 ?_
    exact r_iret X E (pc := 19) dX5_append_19 rfl ⟨_, rfl, rfl, rfl, _, rfl, hk⟩
theorem s_X5_append {K : KT} {l : Launch} {t n z : Nat} {h0 : AH} {κ : Int → TS → Prop} (hz : kz K ≤ t) {sg : TS} {x1 : Int} {x2 : Int} {x3 : Int} {x4 : Int} {x5 : Int} (hk : P_X5_append κ sg x1 x2 x3 x4 x5) : Ct K l yX5_append (ws_ yX5_append cX5_append 6 (Option.some Jvm.ClassFile.FieldType.int)) 1 22 ([vR (some t), vI x1, vI x2, vI x3, vI x4, vI x5].map cV) (tw t sg h0) n z (tQ t h0 n z κ) noX :=
  ct_of (by decide +kernel) (Nat.le_of_ble_eq_true rfl) (fun Y X E => w_X5_append X E hz hk)
set_option maxHeartbeats 4000000 in
theorem w_X5_fails_26 {K : KT} {Y : YT} {Qx : QxT} {t n z : Nat} {h0 : AH} {κ : Int → TS → Prop} (X : XY K "TrailMarkersModel" "fails" cX5_fails (Option.some Jvm.ClassFile.FieldType.boolean) [] 4 0 0 Y) (E : YE K Y (tQ t h0 n z κ) Qx) (hz : kz K ≤ t) : ∀ (sg : TS) (s0 : Int), P_X5_fails_26 κ sg s0 → G K Y (tw t sg h0) n z 26 [(0, vR (some t))] [vI s0, vR (some t)] := by
  intro sg s0 hk
  refine r_tpI X (pc := 26) fp_X5_106 hz (by decide) dX5_fails_26 ?_
  refine r_aload_n X (pc := 29) dX5_fails_29 rfl (q := 0) rfl ?_
  refine r_tgI X (pc := 30) (v := s0) fa_X5_106 (by decide) rfl dX5_fails_30 ?_
  obtain ⟨b9, hk⟩ := hk
  refine r_if_le X (pc := 33) (tgt := 40) dX5_fails_33 (by decide) b9 (fun c10 => ?_) (fun c10 => ?_)
  · have hk := hk.2 c10
    refine r_iconst X (pc := 40) dX5_fails_40 ?_
    exact r_iret X E (pc := 41) dX5_fails_41 rfl ⟨_, rfl, rfl, rfl, _, rfl, hk⟩
  · have hk := hk.1 c10
    refine r_iconst X (pc := 36) dX5_fails_36 ?_
    refine r_goto X (pc := 37) (tgt := 41) dX5_fails_37 (by decide) ?_
    exact r_iret X E (pc := 41) dX5_fails_41 rfl ⟨_, rfl, rfl, rfl, _, rfl, hk⟩
set_option maxHeartbeats 4000000 in
theorem w_X5_fails {K : KT} {Y : YT} {Qx : QxT} {t n z : Nat} {h0 : AH} {κ : Int → TS → Prop} (X : XY K "TrailMarkersModel" "fails" cX5_fails (Option.some Jvm.ClassFile.FieldType.boolean) [] 4 0 0 Y) (E : YE K Y (tQ t h0 n z κ) Qx) (hz : kz K ≤ t) {sg : TS} {x1 : Int} {x2 : Int} {x3 : Int} (hk : P_X5_fails κ sg x1 x2 x3) : G K Y (tw t sg h0) n z 0 (lv_argsA 0 [vR (some t), vI x1, vI x2, vI x3]) [] := by
  show G K Y (tw t sg h0) n z 0 [(0, vR (some t)), (1, vI x1), (2, vI x2), (3, vI x3)] []
  refine r_aload_n X (pc := 0) dX5_fails_0 rfl (q := 0) rfl ?_
  refine r_iload_n X (pc := 1) dX5_fails_1 rfl (q := 1) rfl ?_
  obtain ⟨b11, hk⟩ := hk
  refine r_if_eq X (pc := 2) (tgt := 9) dX5_fails_2 (by decide) b11 (fun c12 => ?_) (fun c12 => ?_)
  · have hk := hk.1 c12
    refine r_iload_n X (pc := 9) dX5_fails_9 rfl (q := 2) rfl ?_
    obtain ⟨b13, hk⟩ := hk
    refine r_if_eq X (pc := 10) (tgt := 17) dX5_fails_10 (by decide) b13 (fun c14 => ?_) (fun c14 => ?_)
    · have hk := hk.1 c14
      refine r_iload_n X (pc := 17) dX5_fails_17 rfl (q := 3) rfl ?_
      obtain ⟨b15, hk⟩ := hk
      refine r_if_eq X (pc := 18) (tgt := 25) dX5_fails_18 (by decide) b15 (fun c16 => ?_) (fun c16 => ?_)
      · have hk := hk.1 c16
        refine r_iconst X (pc := 25) dX5_fails_25 ?_
        refine G.sub [0] rfl ?_
        exact w_X5_fails_26 X E hz sg 0 hk
      · have hk := hk.2 c16
        refine r_iconst X (pc := 21) dX5_fails_21 ?_
        refine r_goto X (pc := 22) (tgt := 26) dX5_fails_22 (by decide) ?_
        refine G.sub [0] rfl ?_
        exact w_X5_fails_26 X E hz sg 3 hk
    · have hk := hk.2 c14
      refine r_iconst X (pc := 13) dX5_fails_13 ?_
      refine r_goto X (pc := 14) (tgt := 26) dX5_fails_14 (by decide) ?_
      refine G.sub [0] rfl ?_
      exact w_X5_fails_26 X E hz sg 2 hk
  · have hk := hk.2 c12
    refine r_iconst X (pc := 5) dX5_fails_5 ?_
    refine r_goto X (pc := 6) (tgt := 26) dX5_fails_6 (by decide) ?_
    refine G.sub [0] rfl ?_
    exact w_X5_fails_26 X E hz sg 1 hk
theorem s_X5_fails {K : KT} {l : Launch} {t n z : Nat} {h0 : AH} {κ : Int → TS → Prop} (hz : kz K ≤ t) {sg : TS} {x1 : Int} {x2 : Int} {x3 : Int} (hk : P_X5_fails κ sg x1 x2 x3) : Ct K l yX5_fails (ws_ yX5_fails cX5_fails 4 (Option.some Jvm.ClassFile.FieldType.boolean)) 0 0 ([vR (some t), vI x1, vI x2, vI x3].map cV) (tw t sg h0) n z (tQ t h0 n z κ) noX :=
  ct_of (by decide +kernel) (Nat.le_of_ble_eq_true rfl) (fun Y X E => w_X5_fails X E hz hk)
set_option maxHeartbeats 4000000 in
theorem w_X5_truncate_18 {K : KT} {Y : YT} {Qx : QxT} {t n z : Nat} {h0 : AH} {κ : Int → TS → Prop} (X : XY K "TrailMarkersModel" "truncate" cX5_truncate (Option.some Jvm.ClassFile.FieldType.int) [] 2 1 23 Y) (E : YE K Y (tQ t h0 n z κ) Qx) (hz : kz K ≤ t) : ∀ (sg : TS) (x1 : Int) (s0 : Int), P_X5_truncate_18 κ sg x1 s0 → G K Y (tw t sg h0) n z 18 [(0, vR (some t)), (1, vI x1)] [vI s0, vR (some t)] := by
  intro sg x1 s0 hk
  refine r_iconst X (pc := 18) dX5_truncate_18 ?_
  refine r_iconst X (pc := 19) dX5_truncate_19 ?_
  refine r_callV X (pc := 20) (As := [vI s0, vI 0, vI 0]) (st := []) rfl rfl rfl (tw_t t _ h0) m_X5_258 (fun _ => s_X5_fails hz hk) ⟨by decide, by decide⟩ (Nat.le_of_ble_eq_true rfl) dX5_truncate_20 (fun v9 h9 n9 z9 hq => ?_) (fun _ _ _ _ _ hf => hf.elim)
  obtain ⟨r6, rfl, rfl, rfl, sg7, rfl, hk⟩ := hq
  refine ⟨[vI r6], rfl, ?_⟩
  obtain ⟨b8, hk⟩ := hk
  refine r_if_eq X (pc := 23) (tgt := 28) dX5_truncate_23 (by decide) b8 (fun c9 => ?_) (fun c9 => ?_)
  · have hk := hk.1 c9
    refine r_aload_n X (pc := 28) dX5_truncate_28 rfl (q := 0) rfl ?_
    refine r_iload_n X (pc := 29) dX5_truncate_29 rfl (q := 1) rfl ?_
    refine r_tpI X (pc := 30) fp_X5_93 hz (by decide) dX5_truncate_30 ?_
    refine r_iload_n X (pc := 33) dX5_truncate_33 rfl (q := 1) rfl ?_
    exact r_iret X E (pc := 34) dX5_truncate_34 rfl ⟨_, rfl, rfl, rfl, _, rfl, hk⟩
  · have hk := hk.2 c9
    refine r_iconst X (pc := 26) dX5_truncate_26 ?_
    exact r_iret X E (pc := 27) dX5_truncate_27 rfl ⟨_, rfl, rfl, rfl, _, rfl, hk⟩
set_option maxHeartbeats 4000000 in
theorem w_X5_truncate {K : KT} {Y : YT} {Qx : QxT} {t n z : Nat} {h0 : AH} {κ : Int → TS → Prop} (X : XY K "TrailMarkersModel" "truncate" cX5_truncate (Option.some Jvm.ClassFile.FieldType.int) [] 2 1 23 Y) (E : YE K Y (tQ t h0 n z κ) Qx) (hz : kz K ≤ t) {sg : TS} {x1 : Int} (hk : P_X5_truncate κ sg x1) : G K Y (tw t sg h0) n z 0 (lv_argsA 0 [vR (some t), vI x1]) [] := by
  show G K Y (tw t sg h0) n z 0 [(0, vR (some t)), (1, vI x1)] []
  refine r_aload_n X (pc := 0) dX5_truncate_0 rfl (q := 0) rfl ?_
  refine r_iload_n X (pc := 1) dX5_truncate_1 rfl (q := 1) rfl ?_
  refine r_iconst X (pc := 2) dX5_truncate_2 ?_
  refine r_aload_n X (pc := 3) dX5_truncate_3 rfl (q := 0) rfl ?_
  refine r_tgI X (pc := 4) (v := sg.1 10) fa_X5_93 (by decide) rfl dX5_truncate_4 ?_
  refine r_callS X (pc := 7) (As := [vI x1, vI 0, vI (sg.1 10)]) (st := [vR (some t)]) m_X5_119 (fun _ => s_X5_isIn hk) ⟨by decide, by decide⟩ (Nat.le_of_ble_eq_true rfl) dX5_truncate_7 (fun v9 h9 n9 z9 hq => ?_) (fun _ _ _ _ _ hf => hf.elim)
  obtain ⟨r10, rfl, rfl, rfl, rfl, hk⟩ := hq
  refine ⟨[vI r10], rfl, ?_⟩
  obtain ⟨b11, hk⟩ := hk
  refine r_if_ne X (pc := 10) (tgt := 17) dX5_truncate_10 (by decide) b11 (fun c12 => ?_) (fun c12 => ?_)
  · have hk := hk.2 c12
    refine r_iconst X (pc := 17) dX5_truncate_17 ?_
    exact w_X5_truncate_18 X E hz sg x1 0 hk
  · have hk := hk.1 c12
    refine r_iconst X (pc := 13) dX5_truncate_13 ?_
    refine r_goto X (pc := 14) (tgt := 18) dX5_truncate_14 (by decide) ?_
    exact w_X5_truncate_18 X E hz sg x1 1 hk
theorem s_X5_truncate {K : KT} {l : Launch} {t n z : Nat} {h0 : AH} {κ : Int → TS → Prop} (hz : kz K ≤ t) {sg : TS} {x1 : Int} (hk : P_X5_truncate κ sg x1) : Ct K l yX5_truncate (ws_ yX5_truncate cX5_truncate 2 (Option.some Jvm.ClassFile.FieldType.int)) 1 23 ([vR (some t), vI x1].map cV) (tw t sg h0) n z (tQ t h0 n z κ) noX :=
  ct_of (by decide +kernel) (Nat.le_of_ble_eq_true rfl) (fun Y X E => w_X5_truncate X E hz hk)
set_option maxHeartbeats 4000000 in
theorem w_X5_error_15 {K : KT} {Y : YT} {Qx : QxT} {t n z : Nat} {h0 : AH} {κ : Int → TS → Prop} (X : XY K "TrailMarkersModel" "error" cX5_error (Option.some Jvm.ClassFile.FieldType.int) [] 2 1 23 Y) (E : YE K Y (tQ t h0 n z κ) Qx) (hz : kz K ≤ t) : ∀ (sg : TS) (x1 : Int) (s0 : Int), P_X5_error_15 κ sg x1 s0 → G K Y (tw t sg h0) n z 15 [(0, vR (some t)), (1, vI x1)] [vI s0, vR (some t)] := by
  intro sg x1 s0 hk
  refine r_iconst X (pc := 15) dX5_error_15 ?_
  refine r_iconst X (pc := 16) dX5_error_16 ?_
  refine r_callV X (pc := 17) (As := [vI s0, vI 0, vI 0]) (st := []) rfl rfl rfl (tw_t t _ h0) m_X5_258 (fun _ => s_X5_fails hz hk) ⟨by decide, by decide⟩ (Nat.le_of_ble_eq_true rfl) dX5_error_17 (fun v9 h9 n9 z9 hq => ?_) (fun _ _ _ _ _ hf => hf.elim)
  obtain ⟨r10, rfl, rfl, rfl, sg11, rfl, hk⟩ := hq
  refine ⟨[vI r10], rfl, ?_⟩
  obtain ⟨b12, hk⟩ := hk
  refine r_if_eq X (pc := 20) (tgt := 25) dX5_error_20 (by decide) b12 (fun c13 => ?_) (fun c13 => ?_)
  · have hk := hk.1 c13
    refine r_iload_n X (pc := 25) dX5_error_25 rfl (q := 1) rfl ?_
    obtain ⟨b14, hk⟩ := hk
    refine r_if_ne X (pc := 26) (tgt := 36) dX5_error_26 (by decide) b14 (fun c15 => ?_) (fun c15 => ?_)
    · have hk := hk.2 c15
      refine r_iload_n X (pc := 36) dX5_error_36 rfl (q := 1) rfl ?_
      refine r_iconst X (pc := 37) dX5_error_37 ?_
      refine r_icmp_ne X (pc := 38) (tgt := 48) dX5_error_38 (by decide) ⟨b14, (by decide)⟩ (fun c16 => ?_) (fun c16 => ?_)
      · have hk := hk.2 c16
        refine r_aload_n X (pc := 48) dX5_error_48 rfl (q := 0) rfl ?_
        refine r_tgI X (pc := 49) (v := sg11.1 14) fa_X5_39 (by decide) rfl dX5_error_49 ?_
        exact r_iret X E (pc := 52) dX5_error_52 rfl ⟨_, rfl, rfl, rfl, _, rfl, hk⟩
      · have hk := hk.1 c16
        refine r_aload_n X (pc := 41) dX5_error_41 rfl (q := 0) rfl ?_
        refine r_tgI X (pc := 42) (v := sg11.1 13) fa_X5_35 (by decide) rfl dX5_error_42 ?_
        refine r_goto X (pc := 45) (tgt := 52) dX5_error_45 (by decide) ?_
        exact r_iret X E (pc := 52) dX5_error_52 rfl ⟨_, rfl, rfl, rfl, _, rfl, hk⟩
    · have hk := hk.1 c15
      refine r_aload_n X (pc := 29) dX5_error_29 rfl (q := 0) rfl ?_
      refine r_tgI X (pc := 30) (v := sg11.1 12) fa_X5_292 (by decide) rfl dX5_error_30 ?_
      refine r_goto X (pc := 33) (tgt := 52) dX5_error_33 (by decide) ?_
      exact r_iret X E (pc := 52) dX5_error_52 rfl ⟨_, rfl, rfl, rfl, _, rfl, hk⟩
  · have hk := hk.2 c13
    refine r_iconst X (pc := 23) dX5_error_23 ?_
    exact r_iret X E (pc := 24) dX5_error_24 rfl ⟨_, rfl, rfl, rfl, _, rfl, hk⟩
set_option maxHeartbeats 4000000 in
theorem w_X5_error {K : KT} {Y : YT} {Qx : QxT} {t n z : Nat} {h0 : AH} {κ : Int → TS → Prop} (X : XY K "TrailMarkersModel" "error" cX5_error (Option.some Jvm.ClassFile.FieldType.int) [] 2 1 23 Y) (E : YE K Y (tQ t h0 n z κ) Qx) (hz : kz K ≤ t) {sg : TS} {x1 : Int} (hk : P_X5_error κ sg x1) : G K Y (tw t sg h0) n z 0 (lv_argsA 0 [vR (some t), vI x1]) [] := by
  show G K Y (tw t sg h0) n z 0 [(0, vR (some t)), (1, vI x1)] []
  refine r_aload_n X (pc := 0) dX5_error_0 rfl (q := 0) rfl ?_
  refine r_iload_n X (pc := 1) dX5_error_1 rfl (q := 1) rfl ?_
  refine r_iconst X (pc := 2) dX5_error_2 ?_
  refine r_iconst X (pc := 3) dX5_error_3 ?_
  refine r_callS X (pc := 4) (As := [vI x1, vI 0, vI 2]) (st := [vR (some t)]) m_X5_119 (fun _ => s_X5_isIn hk) ⟨by decide, by decide⟩ (Nat.le_of_ble_eq_true rfl) dX5_error_4 (fun v9 h9 n9 z9 hq => ?_) (fun _ _ _ _ _ hf => hf.elim)
  obtain ⟨r17, rfl, rfl, rfl, rfl, hk⟩ := hq
  refine ⟨[vI r17], rfl, ?_⟩
  obtain ⟨b18, hk⟩ := hk
  refine r_if_ne X (pc := 7) (tgt := 14) dX5_error_7 (by decide) b18 (fun c19 => ?_) (fun c19 => ?_)
  · have hk := hk.2 c19
    refine r_iconst X (pc := 14) dX5_error_14 ?_
    exact w_X5_error_15 X E hz sg x1 0 hk
  · have hk := hk.1 c19
    refine r_iconst X (pc := 10) dX5_error_10 ?_
    refine r_goto X (pc := 11) (tgt := 15) dX5_error_11 (by decide) ?_
    exact w_X5_error_15 X E hz sg x1 1 hk
theorem s_X5_error {K : KT} {l : Launch} {t n z : Nat} {h0 : AH} {κ : Int → TS → Prop} (hz : kz K ≤ t) {sg : TS} {x1 : Int} (hk : P_X5_error κ sg x1) : Ct K l yX5_error (ws_ yX5_error cX5_error 2 (Option.some Jvm.ClassFile.FieldType.int)) 1 23 ([vR (some t), vI x1].map cV) (tw t sg h0) n z (tQ t h0 n z κ) noX :=
  ct_of (by decide +kernel) (Nat.le_of_ble_eq_true rfl) (fun Y X E => w_X5_error X E hz hk)
set_option maxHeartbeats 4000000 in
theorem w_X5_noColour {K : KT} {Y : YT} {Qx : QxT} {h : AH} {n z : Nat} {κ : Int → Prop} (X : XY K "TrailMarkersModel" "noColour" cX5_noColour (Option.some Jvm.ClassFile.FieldType.boolean) [] 1 1 22 Y) (E : YE K Y (pQ h n z κ) Qx) {x0 : Int} (hk : P_X5_noColour κ x0) : G K Y h n z 0 (lv_argsA 0 [vI x0]) [] := by
  show G K Y h n z 0 [(0, vI x0)] []
  refine r_iload_n X (pc := 0) dX5_noColour_0 rfl (q := 0) rfl ?_
  refine r_iconst X (pc := 1) dX5_noColour_1 ?_
  refine r_iconst X (pc := 2) dX5_noColour_2 ?_
  refine r_callS X (pc := 3) (As := [vI x0, vI 0, vI 3]) (st := []) m_X5_119 (fun _ => s_X5_isIn hk) ⟨by decide, by decide⟩ (Nat.le_of_ble_eq_true rfl) dX5_noColour_3 (fun v9 h9 n9 z9 hq => ?_) (fun _ _ _ _ _ hf => hf.elim)
  obtain ⟨r3, rfl, rfl, rfl, rfl, hk⟩ := hq
  refine ⟨[vI r3], rfl, ?_⟩
  obtain ⟨b4, hk⟩ := hk
  refine r_if_ne X (pc := 6) (tgt := 13) dX5_noColour_6 (by decide) b4 (fun c5 => ?_) (fun c5 => ?_)
  · have hk := hk.2 c5
    refine r_iconst X (pc := 13) dX5_noColour_13 ?_
    exact r_iret X E (pc := 14) dX5_noColour_14 rfl ⟨_, rfl, rfl, rfl, rfl, hk⟩
  · have hk := hk.1 c5
    refine r_iconst X (pc := 9) dX5_noColour_9 ?_
    refine r_goto X (pc := 10) (tgt := 14) dX5_noColour_10 (by decide) ?_
    exact r_iret X E (pc := 14) dX5_noColour_14 rfl ⟨_, rfl, rfl, rfl, rfl, hk⟩
theorem s_X5_noColour {K : KT} {l : Launch} {n z : Nat} {h : AH} {κ : Int → Prop} {x0 : Int} (hk : P_X5_noColour κ x0) : Ct K l yX5_noColour (ws_ yX5_noColour cX5_noColour 1 (Option.some Jvm.ClassFile.FieldType.boolean)) 1 22 ([vI x0].map cV) h n z (pQ h n z κ) noX :=
  ct_of (by decide +kernel) (Nat.le_of_ble_eq_true rfl) (fun Y X E => w_X5_noColour X E hk)
set_option maxHeartbeats 4000000 in
theorem w_X5_addPost_52 {K : KT} {Y : YT} {Qx : QxT} {t n z : Nat} {h0 : AH} {κ : Int → TS → Prop} (X : XY K "TrailMarkersModel" "addPost" cX5_addPost (Option.some Jvm.ClassFile.FieldType.int) [] 6 3 104 Y) (E : YE K Y (tQ t h0 n z κ) Qx) (hz : kz K ≤ t) : ∀ (sg : TS) (x1 : Int) (x2 : Int) (x3 : Int) (x4 : Int) (s0 : Int) (s1 : Int) (s2 : Int), P_X5_addPost_52 κ sg x1 x2 x3 x4 s0 s1 s2 → G K Y (tw t sg h0) n z 52 [(0, vR (some t)), (1, vI x1), (2, vI x2), (3, vI x3), (4, vI x4)] [vI s0, vI s1, vI s2, vR (some t)] := by
  intro sg x1 x2 x3 x4 s0 s1 s2 hk
  refine r_callV X (pc := 52) (As := [vI s2, vI s1, vI s0]) (st := []) rfl rfl rfl (tw_t t _ h0) m_X5_258 (fun _ => s_X5_fails hz hk) ⟨by decide, by decide⟩ (Nat.le_of_ble_eq_true rfl) dX5_addPost_52 (fun v9 h9 n9 z9 hq => ?_) (fun _ _ _ _ _ hf => hf.elim)
  obtain ⟨r16, rfl, rfl, rfl, sg17, rfl, hk⟩ := hq
  refine ⟨[vI r16], rfl, ?_⟩
  obtain ⟨b18, hk⟩ := hk
  refine r_if_eq X (pc := 55) (tgt := 60) dX5_addPost_55 (by decide) b18 (fun c19 => ?_) (fun c19 => ?_)
  · have hk := hk.1 c19
    refine r_aload_n X (pc := 60) dX5_addPost_60 rfl (q := 0) rfl ?_
    refine r_aload_n X (pc := 61) dX5_addPost_61 rfl (q := 0) rfl ?_
    refine r_tgR X (pc := 62) (ty := 0) (N := 526) fa_X5_9 rfl (by decide) dX5_addPost_62 ?_
    refine r_callV X (pc := 65) (As := [vR (some (twAd t 0))]) (st := []) rfl rfl rfl (tw_t t _ h0) m_X5_402 (fun _ => s_X5_remember hz hk) ⟨by decide, by decide⟩ (Nat.le_of_ble_eq_true rfl) dX5_addPost_65 (fun v9 h9 n9 z9 hq => ?_) (fun _ _ _ _ _ hf => hf.elim)
    obtain ⟨rfl, rfl, rfl, sg20, rfl, hk⟩ := hq
    refine ⟨[], rfl, ?_⟩
    refine r_aload_n X (pc := 68) dX5_addPost_68 rfl (q := 0) rfl ?_
    refine r_iload_n X (pc := 69) dX5_addPost_69 rfl (q := 1) rfl ?_
    refine r_iload_n X (pc := 70) dX5_addPost_70 rfl (q := 2) rfl ?_
    refine r_iload_n X (pc := 71) dX5_addPost_71 rfl (q := 3) rfl ?_
    refine r_iload X (pc := 72) dX5_addPost_72 (q := 4) rfl ?_
    refine r_callV X (pc := 74) (As := [vI x1, vI x2, vI x3, vI x4]) (st := []) rfl rfl rfl (tw_t t _ h0) m_X5_320 (fun _ => s_X5_lay hz hk) ⟨by decide, by decide⟩ (Nat.le_of_ble_eq_true rfl) dX5_addPost_74 (fun v9 h9 n9 z9 hq => ?_) (fun _ _ _ _ _ hf => hf.elim)
    obtain ⟨r21, rfl, rfl, rfl, sg22, rfl, hk⟩ := hq
    refine ⟨[vI r21], rfl, ?_⟩
    exact r_iret X E (pc := 77) dX5_addPost_77 rfl ⟨_, rfl, rfl, rfl, _, rfl, hk⟩
  · have hk := hk.2 c19
    refine r_iconst X (pc := 58) dX5_addPost_58 ?_
    exact r_iret X E (pc := 59) dX5_addPost_59 rfl ⟨_, rfl, rfl, rfl, _, rfl, hk⟩
set_option maxHeartbeats 4000000 in
theorem w_X5_addPost_24 {K : KT} {Y : YT} {Qx : QxT} {t n z : Nat} {h0 : AH} {κ : Int → TS → Prop} (X : XY K "TrailMarkersModel" "addPost" cX5_addPost (Option.some Jvm.ClassFile.FieldType.int) [] 6 3 104 Y) (E : YE K Y (tQ t h0 n z κ) Qx) (hz : kz K ≤ t) : ∀ (sg : TS) (x1 : Int) (x2 : Int) (x3 : Int) (x4 : Int) (s0 : Int), P_X5_addPost_24 κ sg x1 x2 x3 x4 s0 → G K Y (tw t sg h0) n z 24 [(0, vR (some t)), (1, vI x1), (2, vI x2), (3, vI x3), (4, vI x4)] [vI s0] := by
  intro sg x1 x2 x3 x4 s0 hk
  refine r_istore X (pc := 24) (lv1 := [(5, vI s0), (0, vR (some t)), (1, vI x1), (2, vI x2), (3, vI x3), (4, vI x4)]) dX5_addPost_24 (by decide) rfl ?_
  refine r_aload_n X (pc := 26) dX5_addPost_26 rfl (q := 1) rfl ?_
  refine r_iload_n X (pc := 27) dX5_addPost_27 rfl (q := 4) rfl ?_
  refine r_callS X (pc := 28) (As := [vI x3]) (st := [vR (some t)]) m_X5_414 (fun _ => s_X5_noColour hk) ⟨by decide, by decide⟩ (Nat.le_of_ble_eq_true rfl) dX5_addPost_28 (fun v9 h9 n9 z9 hq => ?_) (fun _ _ _ _ _ hf => hf.elim)
  obtain ⟨r23, rfl, rfl, rfl, rfl, hk⟩ := hq
  refine ⟨[vI r23], rfl, ?_⟩
  refine r_iload X (pc := 31) dX5_addPost_31 (q := 0) rfl ?_
  refine r_iload X (pc := 33) dX5_addPost_33 (q := 0) rfl ?_
  obtain ⟨b24, hk⟩ := hk
  refine r_if_ne X (pc := 35) (tgt := 51) dX5_addPost_35 (by decide) b24 (fun c25 => ?_) (fun c25 => ?_)
  · have hk := hk.2 c25
    refine r_iconst X (pc := 51) dX5_addPost_51 ?_
    refine G.sub [1, 2, 3, 4, 5] rfl ?_
    exact w_X5_addPost_52 X E hz sg x1 x2 x3 x4 0 s0 r23 hk
  · have hk := hk.1 c25
    refine r_aload_n X (pc := 38) dX5_addPost_38 rfl (q := 1) rfl ?_
    refine r_iload_n X (pc := 39) dX5_addPost_39 rfl (q := 2) rfl ?_
    refine r_iload_n X (pc := 40) dX5_addPost_40 rfl (q := 3) rfl ?_
    refine r_callV X (pc := 41) (As := [vI x1, vI x2]) (st := [vI s0, vI r23, vR (some t)]) rfl rfl rfl (tw_t t _ h0) m_X5_317 (fun _ => s_X5_whyNoPost hz hk) ⟨by decide, by decide⟩ (Nat.le_of_ble_eq_true rfl) dX5_addPost_41 (fun v9 h9 n9 z9 hq => ?_) (fun _ _ _ _ _ hf => hf.elim)
    obtain ⟨r26, rfl, rfl, rfl, sg27, rfl, hk⟩ := hq
    refine ⟨[vI r26], rfl, ?_⟩
    obtain ⟨b28, hk⟩ := hk
    refine r_if_le X (pc := 44) (tgt := 51) dX5_addPost_44 (by decide) b28 (fun c29 => ?_) (fun c29 => ?_)
    · have hk := hk.2 c29
      refine r_iconst X (pc := 51) dX5_addPost_51 ?_
      refine G.sub [1, 2, 3, 4, 5] rfl ?_
      exact w_X5_addPost_52 X E hz sg27 x1 x2 x3 x4 0 s0 r23 hk
    · have hk := hk.1 c29
      refine r_iconst X (pc := 47) dX5_addPost_47 ?_
      refine r_goto X (pc := 48) (tgt := 52) dX5_addPost_48 (by decide) ?_
      refine G.sub [1, 2, 3, 4, 5] rfl ?_
      exact w_X5_addPost_52 X E hz sg27 x1 x2 x3 x4 1 s0 r23 hk
set_option maxHeartbeats 4000000 in
theorem w_X5_addPost {K : KT} {Y : YT} {Qx : QxT} {t n z : Nat} {h0 : AH} {κ : Int → TS → Prop} (X : XY K "TrailMarkersModel" "addPost" cX5_addPost (Option.some Jvm.ClassFile.FieldType.int) [] 6 3 104 Y) (E : YE K Y (tQ t h0 n z κ) Qx) (hz : kz K ≤ t) {sg : TS} {x1 : Int} {x2 : Int} {x3 : Int} {x4 : Int} (hk : P_X5_addPost κ sg x1 x2 x3 x4) : G K Y (tw t sg h0) n z 0 (lv_argsA 0 [vR (some t), vI x1, vI x2, vI x3, vI x4]) [] := by
  show G K Y (tw t sg h0) n z 0 [(0, vR (some t)), (1, vI x1), (2, vI x2), (3, vI x3), (4, vI x4)] []
  refine r_aload_n X (pc := 0) dX5_addPost_0 rfl (q := 0) rfl ?_
  refine r_iload_n X (pc := 1) dX5_addPost_1 rfl (q := 1) rfl ?_
  refine r_iload_n X (pc := 2) dX5_addPost_2 rfl (q := 2) rfl ?_
  refine r_callV X (pc := 3) (As := [vI x1, vI x2]) (st := []) rfl rfl rfl (tw_t t _ h0) m_X5_123 (fun _ => s_X5_isOn hz hk) ⟨by decide, by decide⟩ (Nat.le_of_ble_eq_true rfl) dX5_addPost_3 (fun v9 h9 n9 z9 hq => ?_) (fun _ _ _ _ _ hf => hf.elim)
  obtain ⟨r30, rfl, rfl, rfl, sg31, rfl, hk⟩ := hq
  refine ⟨[vI r30], rfl, ?_⟩
  obtain ⟨b32, hk⟩ := hk
  refine r_if_eq X (pc := 6) (tgt := 19) dX5_addPost_6 (by decide) b32 (fun c33 => ?_) (fun c33 => ?_)
  · have hk := hk.1 c33
    refine r_iconst X (pc := 19) dX5_addPost_19 ?_
    refine r_goto X (pc := 20) (tgt := 24) dX5_addPost_20 (by decide) ?_
    exact w_X5_addPost_24 X E hz sg31 x1 x2 x3 x4 1 hk
  · have hk := hk.2 c33
    refine r_iload X (pc := 9) dX5_addPost_9 (q := 4) rfl ?_
    refine r_iconst X (pc := 11) dX5_addPost_11 ?_
    refine r_iconst X (pc := 12) dX5_addPost_12 ?_
    refine r_callS X (pc := 13) (As := [vI x4, vI 0, vI 4]) (st := []) m_X5_119 (fun _ => s_X5_isIn hk) ⟨by decide, by decide⟩ (Nat.le_of_ble_eq_true rfl) dX5_addPost_13 (fun v9 h9 n9 z9 hq => ?_) (fun _ _ _ _ _ hf => hf.elim)
    obtain ⟨r34, rfl, rfl, rfl, rfl, hk⟩ := hq
    refine ⟨[vI r34], rfl, ?_⟩
    obtain ⟨b35, hk⟩ := hk
    refine r_if_ne X (pc := 16) (tgt := 23) dX5_addPost_16 (by decide) b35 (fun c36 => ?_) (fun c36 => ?_)
    · have hk := hk.2 c36
      refine r_iconst X (pc := 23) dX5_addPost_23 ?_
      exact w_X5_addPost_24 X E hz sg31 x1 x2 x3 x4 0 hk
    · have hk := hk.1 c36
      refine r_iconst X (pc := 19) dX5_addPost_19 ?_
      refine r_goto X (pc := 20) (tgt := 24) dX5_addPost_20 (by decide) ?_
      exact w_X5_addPost_24 X E hz sg31 x1 x2 x3 x4 1 hk
theorem s_X5_addPost {K : KT} {l : Launch} {t n z : Nat} {h0 : AH} {κ : Int → TS → Prop} (hz : kz K ≤ t) {sg : TS} {x1 : Int} {x2 : Int} {x3 : Int} {x4 : Int} (hk : P_X5_addPost κ sg x1 x2 x3 x4) : Ct K l yX5_addPost (ws_ yX5_addPost cX5_addPost 6 (Option.some Jvm.ClassFile.FieldType.int)) 3 104 ([vR (some t), vI x1, vI x2, vI x3, vI x4].map cV) (tw t sg h0) n z (tQ t h0 n z κ) noX :=
  ct_of (by decide +kernel) (Nat.le_of_ble_eq_true rfl) (fun Y X E => w_X5_addPost X E hz hk)
set_option maxHeartbeats 4000000 in
theorem w_X5_noPost {K : KT} {Y : YT} {Qx : QxT} {t n z : Nat} {h0 : AH} {κ : Int → TS → Prop} (X : XY K "TrailMarkersModel" "noPost" cX5_noPost (Option.some Jvm.ClassFile.FieldType.boolean) [] 2 1 22 Y) (E : YE K Y (tQ t h0 n z κ) Qx) (hz : kz K ≤ t) {sg : TS} {x1 : Int} (hk : P_X5_noPost κ sg x1) : G K Y (tw t sg h0) n z 0 (lv_argsA 0 [vR (some t), vI x1]) [] := by
  show G K Y (tw t sg h0) n z 0 [(0, vR (some t)), (1, vI x1)] []
  refine r_iload_n X (pc := 0) dX5_noPost_0 rfl (q := 1) rfl ?_
  refine r_iconst X (pc := 1) dX5_noPost_1 ?_
  refine r_aload_n X (pc := 2) dX5_noPost_2 rfl (q := 0) rfl ?_
  refine r_tgR X (pc := 3) (ty := 0) (N := 526) fa_X5_9 rfl (by decide) dX5_noPost_3 ?_
  refine r_iconst X (pc := 6) dX5_noPost_6 ?_
  refine r_tiald X (pc := 7) (v := sg.2 0 4) (N := 526) rfl rfl dX5_noPost_7 (by decide) ?_
  refine r_iconst X (pc := 8) dX5_noPost_8 ?_
  refine r_isub X (pc := 9) dX5_noPost_9 ?_
  refine r_callS X (pc := 10) (As := [vI x1, vI 0, vI ((sg.2 0 4) - 1)]) (st := []) m_X5_119 (fun _ => s_X5_isIn hk) ⟨by decide, by decide⟩ (Nat.le_of_ble_eq_true rfl) dX5_noPost_10 (fun v9 h9 n9 z9 hq => ?_) (fun _ _ _ _ _ hf => hf.elim)
  obtain ⟨r3, rfl, rfl, rfl, rfl, hk⟩ := hq
  refine ⟨[vI r3], rfl, ?_⟩
  obtain ⟨b4, hk⟩ := hk
  refine r_if_ne X (pc := 13) (tgt := 20) dX5_noPost_13 (by decide) b4 (fun c5 => ?_) (fun c5 => ?_)
  · have hk := hk.2 c5
    refine r_iconst X (pc := 20) dX5_noPost_20 ?_
    exact r_iret X E (pc := 21) dX5_noPost_21 rfl ⟨_, rfl, rfl, rfl, _, rfl, hk⟩
  · have hk := hk.1 c5
    refine r_iconst X (pc := 16) dX5_noPost_16 ?_
    refine r_goto X (pc := 17) (tgt := 21) dX5_noPost_17 (by decide) ?_
    exact r_iret X E (pc := 21) dX5_noPost_21 rfl ⟨_, rfl, rfl, rfl, _, rfl, hk⟩
theorem s_X5_noPost {K : KT} {l : Launch} {t n z : Nat} {h0 : AH} {κ : Int → TS → Prop} (hz : kz K ≤ t) {sg : TS} {x1 : Int} (hk : P_X5_noPost κ sg x1) : Ct K l yX5_noPost (ws_ yX5_noPost cX5_noPost 2 (Option.some Jvm.ClassFile.FieldType.boolean)) 1 22 ([vR (some t), vI x1].map cV) (tw t sg h0) n z (tQ t h0 n z κ) noX :=
  ct_of (by decide +kernel) (Nat.le_of_ble_eq_true rfl) (fun Y X E => w_X5_noPost X E hz hk)
set_option maxHeartbeats 4000000 in
theorem w_X5_dropPost_42 {K : KT} {Y : YT} {Qx : QxT} {t n z : Nat} {h0 : AH} {κ : Int → TS → Prop} (X : XY K "TrailMarkersModel" "dropPost" cX5_dropPost (Option.some Jvm.ClassFile.FieldType.int) [] 3 3 104 Y) (E : YE K Y (tQ t h0 n z κ) Qx) (hz : kz K ≤ t) {k_78 : TS → Prop} (H_78 : ∀ (sg : TS), k_78 sg → G K Y (tw t sg h0) n z 78 [(0, vR (some t))] []) : ∀ (f : Nat) (sg : TS) (x2 : Int), L_X5_dropPost_42 k_78 κ f sg x2 → G K Y (tw t sg h0) n z 42 [(0, vR (some t)), (2, vI x2)] [] := by
  intro f
  induction f with
  | zero => intro sg x2 hk; exact hk.elim
  | succ f ih =>
    intro sg x2 hk
    refine r_iload_n X (pc := 42) dX5_dropPost_42 rfl (q := 1) rfl ?_
    refine r_sipush X (pc := 43) dX5_dropPost_43 (by decide) ?_
    refine r_aload_n X (pc := 46) dX5_dropPost_46 rfl (q := 0) rfl ?_
    refine r_tgR X (pc := 47) (ty := 0) (N := 526) fa_X5_9 rfl (by decide) dX5_dropPost_47 ?_
    refine r_iconst X (pc := 50) dX5_dropPost_50 ?_
    refine r_tiald X (pc := 51) (v := sg.2 0 4) (N := 526) rfl rfl dX5_dropPost_51 (by decide) ?_
    refine r_iconst X (pc := 52) dX5_dropPost_52 ?_
    refine r_imul X (pc := 53) dX5_dropPost_53 ?_
    refine r_iadd X (pc := 54) dX5_dropPost_54 ?_
    obtain ⟨b11, b12, hk⟩ := hk
    refine r_icmp_ge X (pc := 55) (tgt := 78) dX5_dropPost_55 (by decide) ⟨b11, b12⟩ (fun c13 => ?_) (fun c13 => ?_)
    · have hk := hk.2 c13
      refine G.sub [0] rfl ?_
      exact H_78 sg hk
    · have hk := hk.1 c13
      refine r_aload_n X (pc := 58) dX5_dropPost_58 rfl (q := 0) rfl ?_
      refine r_tgR X (pc := 59) (ty := 0) (N := 526) fa_X5_9 rfl (by decide) dX5_dropPost_59 ?_
      refine r_iload_n X (pc := 62) dX5_dropPost_62 rfl (q := 1) rfl ?_
      refine r_aload_n X (pc := 63) dX5_dropPost_63 rfl (q := 0) rfl ?_
      refine r_tgR X (pc := 64) (ty := 0) (N := 526) fa_X5_9 rfl (by decide) dX5_dropPost_64 ?_
      refine r_iload_n X (pc := 67) dX5_dropPost_67 rfl (q := 1) rfl ?_
      refine r_iconst X (pc := 68) dX5_dropPost_68 ?_
      refine r_iadd X (pc := 69) dX5_dropPost_69 ?_
      obtain ⟨b14, hk⟩ := hk
      refine r_tiald X (pc := 70) (v := sg.2 0 (x2 + 5)) (N := 526) rfl rfl dX5_dropPost_70 b14 ?_
      obtain ⟨b15, hk⟩ := hk
      refine r_tiast X (pc := 71) hz (N := 526) rfl dX5_dropPost_71 b15 ?_
      refine r_iinc X (pc := 72) (q := 1) (lv1 := [(2, vI (x2 + 1)), (0, vR (some t))]) dX5_dropPost_72 rfl (by decide) rfl ?_
      refine r_goto X (pc := 75) (tgt := 42) dX5_dropPost_75 (by decide) ?_
      refine G.sub [1, 0] rfl ?_
      exact ih (setA sg 0 (uI (sg.2 0) x2 (sg.2 0 (x2 + 5)))) (x2 + 1) hk
set_option maxHeartbeats 4000000 in
theorem w_X5_dropPost_78 {K : KT} {Y : YT} {Qx : QxT} {t n z : Nat} {h0 : AH} {κ : Int → TS → Prop} (X : XY K "TrailMarkersModel" "dropPost" cX5_dropPost (Option.some Jvm.ClassFile.FieldType.int) [] 3 3 104 Y) (E : YE K Y (tQ t h0 n z κ) Qx) (hz : kz K ≤ t) : ∀ (sg : TS), P_X5_dropPost_78 κ sg → G K Y (tw t sg h0) n z 78 [(0, vR (some t))] [] := by
  intro sg hk
  refine r_aload_n X (pc := 78) dX5_dropPost_78 rfl (q := 0) rfl ?_
  refine r_tgR X (pc := 79) (ty := 0) (N := 526) fa_X5_9 rfl (by decide) dX5_dropPost_79 ?_
  refine r_iconst X (pc := 82) dX5_dropPost_82 ?_
  refine r_tiald X (pc := 83) (v := sg.2 0 4) (N := 526) rfl rfl dX5_dropPost_83 (by decide) ?_
  exact r_iret X E (pc := 84) dX5_dropPost_84 rfl ⟨_, rfl, rfl, rfl, _, rfl, hk⟩
set_option maxHeartbeats 4000000 in
theorem w_X5_dropPost {K : KT} {Y : YT} {Qx : QxT} {t n z : Nat} {h0 : AH} {κ : Int → TS → Prop} (X : XY K "TrailMarkersModel" "dropPost" cX5_dropPost (Option.some Jvm.ClassFile.FieldType.int) [] 3 3 104 Y) (E : YE K Y (tQ t h0 n z κ) Qx) (hz : kz K ≤ t) {sg : TS} {x1 : Int} (hk : P_X5_dropPost κ sg x1) : G K Y (tw t sg h0) n z 0 (lv_argsA 0 [vR (some t), vI x1]) [] := by
  show G K Y (tw t sg h0) n z 0 [(0, vR (some t)), (1, vI x1)] []
  refine r_aload_n X (pc := 0) dX5_dropPost_0 rfl (q := 0) rfl ?_
  refine r_aload_n X (pc := 1) dX5_dropPost_1 rfl (q := 0) rfl ?_
  refine r_iload_n X (pc := 2) dX5_dropPost_2 rfl (q := 1) rfl ?_
  refine r_callV X (pc := 3) (As := [vI x1]) (st := [vR (some t)]) rfl rfl rfl (tw_t t _ h0) m_X5_417 (fun _ => s_X5_noPost hz hk) ⟨by decide, by decide⟩ (Nat.le_of_ble_eq_true rfl) dX5_dropPost_3 (fun v9 h9 n9 z9 hq => ?_) (fun _ _ _ _ _ hf => hf.elim)
  obtain ⟨r16, rfl, rfl, rfl, sg17, rfl, hk⟩ := hq
  refine ⟨[vI r16], rfl, ?_⟩
  refine r_iconst X (pc := 6) dX5_dropPost_6 ?_
  refine r_iconst X (pc := 7) dX5_dropPost_7 ?_
  refine r_callV X (pc := 8) (As := [vI r16, vI 0, vI 0]) (st := []) rfl rfl rfl (tw_t t _ h0) m_X5_258 (fun _ => s_X5_fails hz hk) ⟨by decide, by decide⟩ (Nat.le_of_ble_eq_true rfl) dX5_dropPost_8 (fun v9 h9 n9 z9 hq => ?_) (fun _ _ _ _ _ hf => hf.elim)
  obtain ⟨r18, rfl, rfl, rfl, sg19, rfl, hk⟩ := hq
  refine ⟨[vI r18], rfl, ?_⟩
  obtain ⟨b20, hk⟩ := hk
  refine r_if_eq X (pc := 11) (tgt := 16) dX5_dropPost_11 (by decide) b20 (fun c21 => ?_) (fun c21 => ?_)
  · have hk := hk.1 c21
    refine r_aload_n X (pc := 16) dX5_dropPost_16 rfl (q := 0) rfl ?_
    refine r_aload_n X (pc := 17) dX5_dropPost_17 rfl (q := 0) rfl ?_
    refine r_tgR X (pc := 18) (ty := 0) (N := 526) fa_X5_9 rfl (by decide) dX5_dropPost_18 ?_
    refine r_callV X (pc := 21) (As := [vR (some (twAd t 0))]) (st := []) rfl rfl rfl (tw_t t _ h0) m_X5_402 (fun _ => s_X5_remember hz hk) ⟨by decide, by decide⟩ (Nat.le_of_ble_eq_true rfl) dX5_dropPost_21 (fun v9 h9 n9 z9 hq => ?_) (fun _ _ _ _ _ hf => hf.elim)
    obtain ⟨rfl, rfl, rfl, sg22, rfl, hk⟩ := hq
    refine ⟨[], rfl, ?_⟩
    refine r_aload_n X (pc := 24) dX5_dropPost_24 rfl (q := 0) rfl ?_
    refine r_tgR X (pc := 25) (ty := 0) (N := 526) fa_X5_9 rfl (by decide) dX5_dropPost_25 ?_
    refine r_iconst X (pc := 28) dX5_dropPost_28 ?_
    refine r_dup2 X (pc := 29) dX5_dropPost_29 rfl rfl ?_
    refine r_tiald X (pc := 30) (v := sg22.2 0 4) (N := 526) rfl rfl dX5_dropPost_30 (by decide) ?_
    refine r_iconst X (pc := 31) dX5_dropPost_31 ?_
    refine r_isub X (pc := 32) dX5_dropPost_32 ?_
    refine r_tiast X (pc := 33) hz (N := 526) rfl dX5_dropPost_33 (by decide) ?_
    refine r_sipush X (pc := 34) dX5_dropPost_34 (by decide) ?_
    refine r_iload_n X (pc := 37) dX5_dropPost_37 rfl (q := 1) rfl ?_
    refine r_iconst X (pc := 38) dX5_dropPost_38 ?_
    refine r_imul X (pc := 39) dX5_dropPost_39 ?_
    refine r_iadd X (pc := 40) dX5_dropPost_40 ?_
    refine r_istore_n X (pc := 41) (lv1 := [(2, vI (406 + (x1 * 5))), (0, vR (some t)), (1, vI x1)]) dX5_dropPost_41 rfl (by decide) rfl ?_
    refine G.sub [1, 0] rfl ?_
    have HH23 : ∀ (sg : TS), (P_X5_dropPost_78 κ sg) → G K Y (tw t sg h0) n z 78 [(0, vR (some t))] [] := by
        intro sg hk
        exact w_X5_dropPost_78 X E hz sg hk
    obtain ⟨f9, hk⟩ := hk
    exact w_X5_dropPost_42 X E hz HH23 f9 (setA sg22 0 (uI (sg22.2 0) 4 ((sg22.2 0 4) - 1))) (406 + (x1 * 5)) hk
  · have hk := hk.2 c21
    refine r_iconst X (pc := 14) dX5_dropPost_14 ?_
    exact r_iret X E (pc := 15) dX5_dropPost_15 rfl ⟨_, rfl, rfl, rfl, _, rfl, hk⟩
theorem s_X5_dropPost {K : KT} {l : Launch} {t n z : Nat} {h0 : AH} {κ : Int → TS → Prop} (hz : kz K ≤ t) {sg : TS} {x1 : Int} (hk : P_X5_dropPost κ sg x1) : Ct K l yX5_dropPost (ws_ yX5_dropPost cX5_dropPost 3 (Option.some Jvm.ClassFile.FieldType.int)) 3 104 ([vR (some t), vI x1].map cV) (tw t sg h0) n z (tQ t h0 n z κ) noX :=
  ct_of (by decide +kernel) (Nat.le_of_ble_eq_true rfl) (fun Y X E => w_X5_dropPost X E hz hk)
set_option maxHeartbeats 4000000 in
theorem w_X5_turn_20 {K : KT} {Y : YT} {Qx : QxT} {t n z : Nat} {h0 : AH} {κ : Int → TS → Prop} (X : XY K "TrailMarkersModel" "turn" cX5_turn (Option.some Jvm.ClassFile.FieldType.int) [] 4 3 104 Y) (E : YE K Y (tQ t h0 n z κ) Qx) (hz : kz K ≤ t) : ∀ (sg : TS) (x1 : Int) (x2 : Int) (s0 : Int) (s1 : Int), P_X5_turn_20 κ sg x1 x2 s0 s1 → G K Y (tw t sg h0) n z 20 [(0, vR (some t)), (1, vI x1), (2, vI x2)] [vI s0, vI s1, vR (some t)] := by
  intro sg x1 x2 s0 s1 hk
  refine r_iconst X (pc := 20) dX5_turn_20 ?_
  refine r_callV X (pc := 21) (As := [vI s1, vI s0, vI 0]) (st := []) rfl rfl rfl (tw_t t _ h0) m_X5_258 (fun _ => s_X5_fails hz hk) ⟨by decide, by decide⟩ (Nat.le_of_ble_eq_true rfl) dX5_turn_21 (fun v9 h9 n9 z9 hq => ?_) (fun _ _ _ _ _ hf => hf.elim)
  obtain ⟨r10, rfl, rfl, rfl, sg11, rfl, hk⟩ := hq
  refine ⟨[vI r10], rfl, ?_⟩
  obtain ⟨b12, hk⟩ := hk
  refine r_if_eq X (pc := 24) (tgt := 29) dX5_turn_24 (by decide) b12 (fun c13 => ?_) (fun c13 => ?_)
  · have hk := hk.1 c13
    refine r_aload_n X (pc := 29) dX5_turn_29 rfl (q := 0) rfl ?_
    refine r_aload_n X (pc := 30) dX5_turn_30 rfl (q := 0) rfl ?_
    refine r_tgR X (pc := 31) (ty := 0) (N := 526) fa_X5_9 rfl (by decide) dX5_turn_31 ?_
    refine r_callV X (pc := 34) (As := [vR (some (twAd t 0))]) (st := []) rfl rfl rfl (tw_t t _ h0) m_X5_402 (fun _ => s_X5_remember hz hk) ⟨by decide, by decide⟩ (Nat.le_of_ble_eq_true rfl) dX5_turn_34 (fun v9 h9 n9 z9 hq => ?_) (fun _ _ _ _ _ hf => hf.elim)
    obtain ⟨rfl, rfl, rfl, sg14, rfl, hk⟩ := hq
    refine ⟨[], rfl, ?_⟩
    refine r_aload_n X (pc := 37) dX5_turn_37 rfl (q := 0) rfl ?_
    refine r_iload_n X (pc := 38) dX5_turn_38 rfl (q := 1) rfl ?_
    refine r_iconst X (pc := 39) dX5_turn_39 ?_
    refine r_callV X (pc := 40) (As := [vI x1, vI 3]) (st := []) rfl rfl rfl (tw_t t _ h0) m_X5_130 (fun _ => s_X5_of hz hk) ⟨by decide, by decide⟩ (Nat.le_of_ble_eq_true rfl) dX5_turn_40 (fun v9 h9 n9 z9 hq => ?_) (fun _ _ _ _ _ hf => hf.elim)
    obtain ⟨r15, rfl, rfl, rfl, sg16, rfl, hk⟩ := hq
    refine ⟨[vI r15], rfl, ?_⟩
    refine r_istore_n X (pc := 43) (lv1 := [(3, vI r15), (0, vR (some t)), (1, vI x1), (2, vI x2)]) dX5_turn_43 rfl (by decide) rfl ?_
    refine r_aload_n X (pc := 44) dX5_turn_44 rfl (q := 1) rfl ?_
    refine r_iload_n X (pc := 45) dX5_turn_45 rfl (q := 2) rfl ?_
    refine r_iconst X (pc := 46) dX5_turn_46 ?_
    refine r_iload_n X (pc := 47) dX5_turn_47 rfl (q := 3) rfl ?_
    refine r_callV X (pc := 48) (As := [vI x1, vI 3, vI x2]) (st := []) rfl rfl rfl (tw_t t _ h0) m_X5_310 (fun _ => s_X5_put hz hk) ⟨by decide, by decide⟩ (Nat.le_of_ble_eq_true rfl) dX5_turn_48 (fun v9 h9 n9 z9 hq => ?_) (fun _ _ _ _ _ hf => hf.elim)
    obtain ⟨rfl, rfl, rfl, sg17, rfl, hk⟩ := hq
    refine ⟨[], rfl, ?_⟩
    refine r_iload_n X (pc := 51) dX5_turn_51 rfl (q := 0) rfl ?_
    exact r_iret X E (pc := 52) dX5_turn_52 rfl ⟨_, rfl, rfl, rfl, _, rfl, hk⟩
  · have hk := hk.2 c13
    refine r_iconst X (pc := 27) dX5_turn_27 ?_
    exact r_iret X E (pc := 28) dX5_turn_28 rfl ⟨_, rfl, rfl, rfl, _, rfl, hk⟩
set_option maxHeartbeats 4000000 in
theorem w_X5_turn {K : KT} {Y : YT} {Qx : QxT} {t n z : Nat} {h0 : AH} {κ : Int → TS → Prop} (X : XY K "TrailMarkersModel" "turn" cX5_turn (Option.some Jvm.ClassFile.FieldType.int) [] 4 3 104 Y) (E : YE K Y (tQ t h0 n z κ) Qx) (hz : kz K ≤ t) {sg : TS} {x1 : Int} {x2 : Int} (hk : P_X5_turn κ sg x1 x2) : G K Y (tw t sg h0) n z 0 (lv_argsA 0 [vR (some t), vI x1, vI x2]) [] := by
  show G K Y (tw t sg h0) n z 0 [(0, vR (some t)), (1, vI x1), (2, vI x2)] []
  refine r_aload_n X (pc := 0) dX5_turn_0 rfl (q := 0) rfl ?_
  refine r_aload_n X (pc := 1) dX5_turn_1 rfl (q := 0) rfl ?_
  refine r_iload_n X (pc := 2) dX5_turn_2 rfl (q := 1) rfl ?_
  refine r_callV X (pc := 3) (As := [vI x1]) (st := [vR (some t)]) rfl rfl rfl (tw_t t _ h0) m_X5_417 (fun _ => s_X5_noPost hz hk) ⟨by decide, by decide⟩ (Nat.le_of_ble_eq_true rfl) dX5_turn_3 (fun v9 h9 n9 z9 hq => ?_) (fun _ _ _ _ _ hf => hf.elim)
  obtain ⟨r18, rfl, rfl, rfl, sg19, rfl, hk⟩ := hq
  refine ⟨[vI r18], rfl, ?_⟩
  refine r_iload_n X (pc := 6) dX5_turn_6 rfl (q := 2) rfl ?_
  refine r_iconst X (pc := 7) dX5_turn_7 ?_
  refine r_iconst X (pc := 8) dX5_turn_8 ?_
  refine r_callS X (pc := 9) (As := [vI x2, vI 0, vI 4]) (st := [vI r18, vR (some t)]) m_X5_119 (fun _ => s_X5_isIn hk) ⟨by decide, by decide⟩ (Nat.le_of_ble_eq_true rfl) dX5_turn_9 (fun v9 h9 n9 z9 hq => ?_) (fun _ _ _ _ _ hf => hf.elim)
  obtain ⟨r20, rfl, rfl, rfl, rfl, hk⟩ := hq
  refine ⟨[vI r20], rfl, ?_⟩
  obtain ⟨b21, hk⟩ := hk
  refine r_if_ne X (pc := 12) (tgt := 19) dX5_turn_12 (by decide) b21 (fun c22 => ?_) (fun c22 => ?_)
  · have hk := hk.2 c22
    refine r_iconst X (pc := 19) dX5_turn_19 ?_
    exact w_X5_turn_20 X E hz sg19 x1 x2 0 r18 hk
  · have hk := hk.1 c22
    refine r_iconst X (pc := 15) dX5_turn_15 ?_
    refine r_goto X (pc := 16) (tgt := 20) dX5_turn_16 (by decide) ?_
    exact w_X5_turn_20 X E hz sg19 x1 x2 1 r18 hk
theorem s_X5_turn {K : KT} {l : Launch} {t n z : Nat} {h0 : AH} {κ : Int → TS → Prop} (hz : kz K ≤ t) {sg : TS} {x1 : Int} {x2 : Int} (hk : P_X5_turn κ sg x1 x2) : Ct K l yX5_turn (ws_ yX5_turn cX5_turn 4 (Option.some Jvm.ClassFile.FieldType.int)) 3 104 ([vR (some t), vI x1, vI x2].map cV) (tw t sg h0) n z (tQ t h0 n z κ) noX :=
  ct_of (by decide +kernel) (Nat.le_of_ble_eq_true rfl) (fun Y X E => w_X5_turn X E hz hk)
set_option maxHeartbeats 4000000 in
theorem w_X5_stands {K : KT} {Y : YT} {Qx : QxT} {t n z : Nat} {h0 : AH} {κ : Int → TS → Prop} (X : XY K "TrailMarkersModel" "stands" cX5_stands (Option.some Jvm.ClassFile.FieldType.boolean) [] 2 1 22 Y) (E : YE K Y (tQ t h0 n z κ) Qx) (hz : kz K ≤ t) {sg : TS} {x1 : Int} (hk : P_X5_stands κ sg x1) : G K Y (tw t sg h0) n z 0 (lv_argsA 0 [vR (some t), vI x1]) [] := by
  show G K Y (tw t sg h0) n z 0 [(0, vR (some t)), (1, vI x1)] []
  refine r_aload_n X (pc := 0) dX5_stands_0 rfl (q := 0) rfl ?_
  refine r_iload_n X (pc := 1) dX5_stands_1 rfl (q := 1) rfl ?_
  refine r_iconst X (pc := 2) dX5_stands_2 ?_
  refine r_callV X (pc := 3) (As := [vI x1, vI 4]) (st := []) rfl rfl rfl (tw_t t _ h0) m_X5_130 (fun _ => s_X5_of hz hk) ⟨by decide, by decide⟩ (Nat.le_of_ble_eq_true rfl) dX5_stands_3 (fun v9 h9 n9 z9 hq => ?_) (fun _ _ _ _ _ hf => hf.elim)
  obtain ⟨r4, rfl, rfl, rfl, sg5, rfl, hk⟩ := hq
  refine ⟨[vI r4], rfl, ?_⟩
  obtain ⟨b6, hk⟩ := hk
  refine r_if_ne X (pc := 6) (tgt := 13) dX5_stands_6 (by decide) b6 (fun c7 => ?_) (fun c7 => ?_)
  · have hk := hk.2 c7
    refine r_iconst X (pc := 13) dX5_stands_13 ?_
    exact r_iret X E (pc := 14) dX5_stands_14 rfl ⟨_, rfl, rfl, rfl, _, rfl, hk⟩
  · have hk := hk.1 c7
    refine r_iconst X (pc := 9) dX5_stands_9 ?_
    refine r_goto X (pc := 10) (tgt := 14) dX5_stands_10 (by decide) ?_
    exact r_iret X E (pc := 14) dX5_stands_14 rfl ⟨_, rfl, rfl, rfl, _, rfl, hk⟩
theorem s_X5_stands {K : KT} {l : Launch} {t n z : Nat} {h0 : AH} {κ : Int → TS → Prop} (hz : kz K ≤ t) {sg : TS} {x1 : Int} (hk : P_X5_stands κ sg x1) : Ct K l yX5_stands (ws_ yX5_stands cX5_stands 2 (Option.some Jvm.ClassFile.FieldType.boolean)) 1 22 ([vR (some t), vI x1].map cV) (tw t sg h0) n z (tQ t h0 n z κ) noX :=
  ct_of (by decide +kernel) (Nat.le_of_ble_eq_true rfl) (fun Y X E => w_X5_stands X E hz hk)
set_option maxHeartbeats 4000000 in
theorem w_X5_posts_32 {K : KT} {Y : YT} {Qx : QxT} {t n z : Nat} {h0 : AH} {κ : Int → TS → Prop} (X : XY K "TrailMarkersModel" "posts" cX5_posts (Option.some Jvm.ClassFile.FieldType.int) [] 5 2 43 Y) (E : YE K Y (tQ t h0 n z κ) Qx) (hz : kz K ≤ t) {k_5 : TS → Int → Int → Int → Int → Prop} {k_54 : TS → Int → Prop} (H_5 : ∀ (sg : TS) (x1 : Int) (x2 : Int) (x3 : Int) (x4 : Int), k_5 sg x1 x2 x3 x4 → G K Y (tw t sg h0) n z 5 [(0, vR (some t)), (1, vI x1), (2, vI x2), (3, vI x3), (4, vI x4)] []) (H_54 : ∀ (sg : TS) (x3 : Int), k_54 sg x3 → G K Y (tw t sg h0) n z 54 [(0, vR (some t)), (3, vI x3)] []) : ∀ (sg : TS) (x1 : Int) (x2 : Int) (x3 : Int) (x4 : Int), P_X5_posts_32 k_5 k_54 κ sg x1 x2 x3 x4 → G K Y (tw t sg h0) n z 32 [(0, vR (some t)), (1, vI x1), (2, vI x2), (3, vI x3), (4, vI x4)] [] := by
  intro sg x1 x2 x3 x4 hk
  refine r_iload_n X (pc := 32) dX5_posts_32 rfl (q := 2) rfl ?_
  obtain ⟨b15, hk⟩ := hk
  refine r_if_eq X (pc := 33) (tgt := 45) dX5_posts_33 (by decide) b15 (fun c16 => ?_) (fun c16 => ?_)
  · have hk := hk.1 c16
    refine r_iinc X (pc := 45) (q := 3) (lv1 := [(3, vI (x3 + 1)), (0, vR (some t)), (1, vI x1), (2, vI x2), (4, vI x4)]) dX5_posts_45 rfl (by decide) rfl ?_
    refine r_iinc X (pc := 48) (q := 4) (lv1 := [(4, vI (x4 + 1)), (3, vI (x3 + 1)), (0, vR (some t)), (1, vI x1), (2, vI x2)]) dX5_posts_48 rfl (by decide) rfl ?_
    refine r_goto X (pc := 51) (tgt := 5) dX5_posts_51 (by decide) ?_
    refine G.sub [2, 3, 4, 1, 0] rfl ?_
    exact H_5 sg x1 x2 (x3 + 1) (x4 + 1) hk
  · have hk := hk.2 c16
    refine r_aload_n X (pc := 36) dX5_posts_36 rfl (q := 0) rfl ?_
    refine r_iload X (pc := 37) dX5_posts_37 (q := 4) rfl ?_
    refine r_callV X (pc := 39) (As := [vI x4]) (st := []) rfl rfl rfl (tw_t t _ h0) m_X5_134 (fun _ => s_X5_stands hz hk) ⟨by decide, by decide⟩ (Nat.le_of_ble_eq_true rfl) dX5_posts_39 (fun v9 h9 n9 z9 hq => ?_) (fun _ _ _ _ _ hf => hf.elim)
    obtain ⟨r17, rfl, rfl, rfl, sg18, rfl, hk⟩ := hq
    refine ⟨[vI r17], rfl, ?_⟩
    obtain ⟨b19, hk⟩ := hk
    refine r_if_eq X (pc := 42) (tgt := 48) dX5_posts_42 (by decide) b19 (fun c20 => ?_) (fun c20 => ?_)
    · have hk := hk.1 c20
      refine r_iinc X (pc := 48) (q := 4) (lv1 := [(4, vI (x4 + 1)), (0, vR (some t)), (1, vI x1), (2, vI x2), (3, vI x3)]) dX5_posts_48 rfl (by decide) rfl ?_
      refine r_goto X (pc := 51) (tgt := 5) dX5_posts_51 (by decide) ?_
      refine G.sub [1, 2, 3, 4, 0] rfl ?_
      exact H_5 sg18 x1 x2 x3 (x4 + 1) hk
    · have hk := hk.2 c20
      refine r_iinc X (pc := 45) (q := 3) (lv1 := [(3, vI (x3 + 1)), (0, vR (some t)), (1, vI x1), (2, vI x2), (4, vI x4)]) dX5_posts_45 rfl (by decide) rfl ?_
      refine r_iinc X (pc := 48) (q := 4) (lv1 := [(4, vI (x4 + 1)), (3, vI (x3 + 1)), (0, vR (some t)), (1, vI x1), (2, vI x2)]) dX5_posts_48 rfl (by decide) rfl ?_
      refine r_goto X (pc := 51) (tgt := 5) dX5_posts_51 (by decide) ?_
      refine G.sub [2, 3, 4, 1, 0] rfl ?_
      exact H_5 sg18 x1 x2 (x3 + 1) (x4 + 1) hk
set_option maxHeartbeats 4000000 in
theorem w_X5_posts_5 {K : KT} {Y : YT} {Qx : QxT} {t n z : Nat} {h0 : AH} {κ : Int → TS → Prop} (X : XY K "TrailMarkersModel" "posts" cX5_posts (Option.some Jvm.ClassFile.FieldType.int) [] 5 2 43 Y) (E : YE K Y (tQ t h0 n z κ) Qx) (hz : kz K ≤ t) {k_54 : TS → Int → Prop} (H_54 : ∀ (sg : TS) (x3 : Int), k_54 sg x3 → G K Y (tw t sg h0) n z 54 [(0, vR (some t)), (3, vI x3)] []) : ∀ (f : Nat) (sg : TS) (x1 : Int) (x2 : Int) (x3 : Int) (x4 : Int), L_X5_posts_5 k_54 κ f sg x1 x2 x3 x4 → G K Y (tw t sg h0) n z 5 [(0, vR (some t)), (1, vI x1), (2, vI x2), (3, vI x3), (4, vI x4)] [] := by
  intro f
  induction f with
  | zero => intro sg x1 x2 x3 x4 hk; exact hk.elim
  | succ f ih =>
    intro sg x1 x2 x3 x4 hk
    refine r_iload X (pc := 5) dX5_posts_5 (q := 4) rfl ?_
    refine r_aload_n X (pc := 7) dX5_posts_7 rfl (q := 0) rfl ?_
    refine r_tgR X (pc := 8) (ty := 0) (N := 526) fa_X5_9 rfl (by decide) dX5_posts_8 ?_
    refine r_iconst X (pc := 11) dX5_posts_11 ?_
    refine r_tiald X (pc := 12) (v := sg.2 0 4) (N := 526) rfl rfl dX5_posts_12 (by decide) ?_
    obtain ⟨b21, b22, hk⟩ := hk
    refine r_icmp_ge X (pc := 13) (tgt := 54) dX5_posts_13 (by decide) ⟨b21, b22⟩ (fun c23 => ?_) (fun c23 => ?_)
    · have hk := hk.2 c23
      refine G.sub [0, 3] rfl ?_
      exact H_54 sg x3 hk
    · have hk := hk.1 c23
      refine r_iload_n X (pc := 16) dX5_posts_16 rfl (q := 1) rfl ?_
      refine r_iconst X (pc := 17) dX5_posts_17 ?_
      obtain ⟨b24, hk⟩ := hk
      refine r_icmp_eq X (pc := 18) (tgt := 32) dX5_posts_18 (by decide) ⟨b24, (by decide)⟩ (fun c25 => ?_) (fun c25 => ?_)
      · have hk := hk.1 c25
        have HH26 : ∀ (sg : TS) (x1 : Int) (x2 : Int) (x3 : Int) (x4 : Int), (L_X5_posts_5 k_54 κ f sg x1 x2 x3 x4) → G K Y (tw t sg h0) n z 5 [(0, vR (some t)), (1, vI x1), (2, vI x2), (3, vI x3), (4, vI x4)] [] := by
            intro sg x1 x2 x3 x4 hk
            exact ih sg x1 x2 x3 x4 hk
        exact w_X5_posts_32 X E hz HH26 H_54 sg x1 x2 x3 x4 hk
      · have hk := hk.2 c25
        refine r_aload_n X (pc := 21) dX5_posts_21 rfl (q := 0) rfl ?_
        refine r_iload X (pc := 22) dX5_posts_22 (q := 4) rfl ?_
        refine r_iconst X (pc := 24) dX5_posts_24 ?_
        refine r_callV X (pc := 25) (As := [vI x4, vI 2]) (st := []) rfl rfl rfl (tw_t t _ h0) m_X5_130 (fun _ => s_X5_of hz hk) ⟨by decide, by decide⟩ (Nat.le_of_ble_eq_true rfl) dX5_posts_25 (fun v9 h9 n9 z9 hq => ?_) (fun _ _ _ _ _ hf => hf.elim)
        obtain ⟨r27, rfl, rfl, rfl, sg28, rfl, hk⟩ := hq
        refine ⟨[vI r27], rfl, ?_⟩
        refine r_iload_n X (pc := 28) dX5_posts_28 rfl (q := 1) rfl ?_
        obtain ⟨b29, hk⟩ := hk
        refine r_icmp_ne X (pc := 29) (tgt := 48) dX5_posts_29 (by decide) ⟨b29, b24⟩ (fun c30 => ?_) (fun c30 => ?_)
        · have hk := hk.2 c30
          refine r_iinc X (pc := 48) (q := 4) (lv1 := [(4, vI (x4 + 1)), (0, vR (some t)), (1, vI x1), (2, vI x2), (3, vI x3)]) dX5_posts_48 rfl (by decide) rfl ?_
          refine r_goto X (pc := 51) (tgt := 5) dX5_posts_51 (by decide) ?_
          refine G.sub [1, 2, 3, 4, 0] rfl ?_
          exact ih sg28 x1 x2 x3 (x4 + 1) hk
        · have hk := hk.1 c30
          have HH31 : ∀ (sg : TS) (x1 : Int) (x2 : Int) (x3 : Int) (x4 : Int), (L_X5_posts_5 k_54 κ f sg x1 x2 x3 x4) → G K Y (tw t sg h0) n z 5 [(0, vR (some t)), (1, vI x1), (2, vI x2), (3, vI x3), (4, vI x4)] [] := by
              intro sg x1 x2 x3 x4 hk
              exact ih sg x1 x2 x3 x4 hk
          exact w_X5_posts_32 X E hz HH31 H_54 sg28 x1 x2 x3 x4 hk
set_option maxHeartbeats 4000000 in
theorem w_X5_posts_54 {K : KT} {Y : YT} {Qx : QxT} {t n z : Nat} {h0 : AH} {κ : Int → TS → Prop} (X : XY K "TrailMarkersModel" "posts" cX5_posts (Option.some Jvm.ClassFile.FieldType.int) [] 5 2 43 Y) (E : YE K Y (tQ t h0 n z κ) Qx) (hz : kz K ≤ t) : ∀ (sg : TS) (x3 : Int), P_X5_posts_54 κ sg x3 → G K Y (tw t sg h0) n z 54 [(0, vR (some t)), (3, vI x3)] [] := by
  intro sg x3 hk
  refine r_iload_n X (pc := 54) dX5_posts_54 rfl (q := 1) rfl ?_
  exact r_iret X E (pc := 55) dX5_posts_55 rfl ⟨_, rfl, rfl, rfl, _, rfl, hk⟩
set_option maxHeartbeats 4000000 in
theorem w_X5_posts {K : KT} {Y : YT} {Qx : QxT} {t n z : Nat} {h0 : AH} {κ : Int → TS → Prop} (X : XY K "TrailMarkersModel" "posts" cX5_posts (Option.some Jvm.ClassFile.FieldType.int) [] 5 2 43 Y) (E : YE K Y (tQ t h0 n z κ) Qx) (hz : kz K ≤ t) {sg : TS} {x1 : Int} {x2 : Int} (hk : P_X5_posts κ sg x1 x2) : G K Y (tw t sg h0) n z 0 (lv_argsA 0 [vR (some t), vI x1, vI x2]) [] := by
  show G K Y (tw t sg h0) n z 0 [(0, vR (some t)), (1, vI x1), (2, vI x2)] []
  refine r_iconst X (pc := 0) dX5_posts_0 ?_
  refine r_istore_n X (pc := 1) (lv1 := [(3, vI 0), (0, vR (some t)), (1, vI x1), (2, vI x2)]) dX5_posts_1 rfl (by decide) rfl ?_
  refine r_iconst X (pc := 2) dX5_posts_2 ?_
  refine r_istore X (pc := 3) (lv1 := [(4, vI 0), (3, vI 0), (0, vR (some t)), (1, vI x1), (2, vI x2)]) dX5_posts_3 (by decide) rfl ?_
  refine G.sub [2, 3, 4, 1, 0] rfl ?_
  have HH32 : ∀ (sg : TS) (x3 : Int), (P_X5_posts_54 κ sg x3) → G K Y (tw t sg h0) n z 54 [(0, vR (some t)), (3, vI x3)] [] := by
      intro sg x3 hk
      exact w_X5_posts_54 X E hz sg x3 hk
  obtain ⟨f9, hk⟩ := hk
  exact w_X5_posts_5 X E hz HH32 f9 sg x1 x2 0 0 hk
theorem s_X5_posts {K : KT} {l : Launch} {t n z : Nat} {h0 : AH} {κ : Int → TS → Prop} (hz : kz K ≤ t) {sg : TS} {x1 : Int} {x2 : Int} (hk : P_X5_posts κ sg x1 x2) : Ct K l yX5_posts (ws_ yX5_posts cX5_posts 5 (Option.some Jvm.ClassFile.FieldType.int)) 2 43 ([vR (some t), vI x1, vI x2].map cV) (tw t sg h0) n z (tQ t h0 n z κ) noX :=
  ct_of (by decide +kernel) (Nat.le_of_ble_eq_true rfl) (fun Y X E => w_X5_posts X E hz hk)
set_option maxHeartbeats 4000000 in
theorem w_X5_states_27 {K : KT} {Y : YT} {Qx : QxT} {t n z : Nat} {h0 : AH} {κ : Int → TS → Prop} (X : XY K "TrailMarkersModel" "states" cX5_states (Option.some Jvm.ClassFile.FieldType.int) [] 4 3 104 Y) (E : YE K Y (tQ t h0 n z κ) Qx) (hz : kz K ≤ t) : ∀ (sg : TS) (x1 : Int) (x2 : Int) (s0 : Int) (s1 : Int), P_X5_states_27 κ sg x1 x2 s0 s1 → G K Y (tw t sg h0) n z 27 [(0, vR (some t)), (1, vI x1), (2, vI x2)] [vI s0, vI s1, vR (some t)] := by
  intro sg x1 x2 s0 s1 hk
  refine r_iconst X (pc := 27) dX5_states_27 ?_
  refine r_callV X (pc := 28) (As := [vI s1, vI s0, vI 0]) (st := []) rfl rfl rfl (tw_t t _ h0) m_X5_258 (fun _ => s_X5_fails hz hk) ⟨by decide, by decide⟩ (Nat.le_of_ble_eq_true rfl) dX5_states_28 (fun v9 h9 n9 z9 hq => ?_) (fun _ _ _ _ _ hf => hf.elim)
  obtain ⟨r15, rfl, rfl, rfl, sg16, rfl, hk⟩ := hq
  refine ⟨[vI r15], rfl, ?_⟩
  obtain ⟨b17, hk⟩ := hk
  refine r_if_eq X (pc := 31) (tgt := 36) dX5_states_31 (by decide) b17 (fun c18 => ?_) (fun c18 => ?_)
  · have hk := hk.1 c18
    refine r_aload_n X (pc := 36) dX5_states_36 rfl (q := 0) rfl ?_
    refine r_aload_n X (pc := 37) dX5_states_37 rfl (q := 0) rfl ?_
    refine r_tgR X (pc := 38) (ty := 0) (N := 526) fa_X5_9 rfl (by decide) dX5_states_38 ?_
    refine r_callV X (pc := 41) (As := [vR (some (twAd t 0))]) (st := []) rfl rfl rfl (tw_t t _ h0) m_X5_402 (fun _ => s_X5_remember hz hk) ⟨by decide, by decide⟩ (Nat.le_of_ble_eq_true rfl) dX5_states_41 (fun v9 h9 n9 z9 hq => ?_) (fun _ _ _ _ _ hf => hf.elim)
    obtain ⟨rfl, rfl, rfl, sg19, rfl, hk⟩ := hq
    refine ⟨[], rfl, ?_⟩
    refine r_aload_n X (pc := 44) dX5_states_44 rfl (q := 0) rfl ?_
    refine r_iload_n X (pc := 45) dX5_states_45 rfl (q := 1) rfl ?_
    refine r_iconst X (pc := 46) dX5_states_46 ?_
    refine r_iload_n X (pc := 47) dX5_states_47 rfl (q := 2) rfl ?_
    refine r_callV X (pc := 48) (As := [vI x1, vI 4, vI x2]) (st := []) rfl rfl rfl (tw_t t _ h0) m_X5_310 (fun _ => s_X5_put hz hk) ⟨by decide, by decide⟩ (Nat.le_of_ble_eq_true rfl) dX5_states_48 (fun v9 h9 n9 z9 hq => ?_) (fun _ _ _ _ _ hf => hf.elim)
    obtain ⟨rfl, rfl, rfl, sg20, rfl, hk⟩ := hq
    refine ⟨[], rfl, ?_⟩
    refine r_aload_n X (pc := 51) dX5_states_51 rfl (q := 0) rfl ?_
    refine r_aload_n X (pc := 52) dX5_states_52 rfl (q := 0) rfl ?_
    refine r_iload_n X (pc := 53) dX5_states_53 rfl (q := 1) rfl ?_
    refine r_iconst X (pc := 54) dX5_states_54 ?_
    refine r_callV X (pc := 55) (As := [vI x1, vI 2]) (st := [vR (some t)]) rfl rfl rfl (tw_t t _ h0) m_X5_130 (fun _ => s_X5_of hz hk) ⟨by decide, by decide⟩ (Nat.le_of_ble_eq_true rfl) dX5_states_55 (fun v9 h9 n9 z9 hq => ?_) (fun _ _ _ _ _ hf => hf.elim)
    obtain ⟨r21, rfl, rfl, rfl, sg22, rfl, hk⟩ := hq
    refine ⟨[vI r21], rfl, ?_⟩
    refine r_iconst X (pc := 58) dX5_states_58 ?_
    refine r_callV X (pc := 59) (As := [vI r21, vI 1]) (st := []) rfl rfl rfl (tw_t t _ h0) m_X5_236 (fun _ => s_X5_posts hz hk) ⟨by decide, by decide⟩ (Nat.le_of_ble_eq_true rfl) dX5_states_59 (fun v9 h9 n9 z9 hq => ?_) (fun _ _ _ _ _ hf => hf.elim)
    obtain ⟨r23, rfl, rfl, rfl, sg24, rfl, hk⟩ := hq
    refine ⟨[vI r23], rfl, ?_⟩
    exact r_iret X E (pc := 62) dX5_states_62 rfl ⟨_, rfl, rfl, rfl, _, rfl, hk⟩
  · have hk := hk.2 c18
    refine r_iconst X (pc := 34) dX5_states_34 ?_
    exact r_iret X E (pc := 35) dX5_states_35 rfl ⟨_, rfl, rfl, rfl, _, rfl, hk⟩
set_option maxHeartbeats 4000000 in
theorem w_X5_states {K : KT} {Y : YT} {Qx : QxT} {t n z : Nat} {h0 : AH} {κ : Int → TS → Prop} (X : XY K "TrailMarkersModel" "states" cX5_states (Option.some Jvm.ClassFile.FieldType.int) [] 4 3 104 Y) (E : YE K Y (tQ t h0 n z κ) Qx) (hz : kz K ≤ t) {sg : TS} {x1 : Int} {x2 : Int} (hk : P_X5_states κ sg x1 x2) : G K Y (tw t sg h0) n z 0 (lv_argsA 0 [vR (some t), vI x1, vI x2]) [] := by
  show G K Y (tw t sg h0) n z 0 [(0, vR (some t)), (1, vI x1), (2, vI x2)] []
  refine r_aload_n X (pc := 0) dX5_states_0 rfl (q := 0) rfl ?_
  refine r_iload_n X (pc := 1) dX5_states_1 rfl (q := 1) rfl ?_
  refine r_callV X (pc := 2) (As := [vI x1]) (st := []) rfl rfl rfl (tw_t t _ h0) m_X5_417 (fun _ => s_X5_noPost hz hk) ⟨by decide, by decide⟩ (Nat.le_of_ble_eq_true rfl) dX5_states_2 (fun v9 h9 n9 z9 hq => ?_) (fun _ _ _ _ _ hf => hf.elim)
  obtain ⟨r25, rfl, rfl, rfl, sg26, rfl, hk⟩ := hq
  refine ⟨[vI r25], rfl, ?_⟩
  refine r_istore_n X (pc := 5) (lv1 := [(3, vI r25), (0, vR (some t)), (1, vI x1), (2, vI x2)]) dX5_states_5 rfl (by decide) rfl ?_
  refine r_aload_n X (pc := 6) dX5_states_6 rfl (q := 1) rfl ?_
  refine r_iload_n X (pc := 7) dX5_states_7 rfl (q := 0) rfl ?_
  refine r_iload_n X (pc := 8) dX5_states_8 rfl (q := 0) rfl ?_
  obtain ⟨b27, hk⟩ := hk
  refine r_if_ne X (pc := 9) (tgt := 26) dX5_states_9 (by decide) b27 (fun c28 => ?_) (fun c28 => ?_)
  · have hk := hk.2 c28
    refine r_iconst X (pc := 26) dX5_states_26 ?_
    refine G.sub [1, 2, 3] rfl ?_
    exact w_X5_states_27 X E hz sg26 x1 x2 0 r25 hk
  · have hk := hk.1 c28
    refine r_aload_n X (pc := 12) dX5_states_12 rfl (q := 1) rfl ?_
    refine r_iload_n X (pc := 13) dX5_states_13 rfl (q := 2) rfl ?_
    refine r_iconst X (pc := 14) dX5_states_14 ?_
    refine r_callV X (pc := 15) (As := [vI x1, vI 4]) (st := [vI r25, vR (some t)]) rfl rfl rfl (tw_t t _ h0) m_X5_130 (fun _ => s_X5_of hz hk) ⟨by decide, by decide⟩ (Nat.le_of_ble_eq_true rfl) dX5_states_15 (fun v9 h9 n9 z9 hq => ?_) (fun _ _ _ _ _ hf => hf.elim)
    obtain ⟨r29, rfl, rfl, rfl, sg30, rfl, hk⟩ := hq
    refine ⟨[vI r29], rfl, ?_⟩
    refine r_iload_n X (pc := 18) dX5_states_18 rfl (q := 3) rfl ?_
    obtain ⟨b31, b32, hk⟩ := hk
    refine r_icmp_ne X (pc := 19) (tgt := 26) dX5_states_19 (by decide) ⟨b31, b32⟩ (fun c33 => ?_) (fun c33 => ?_)
    · have hk := hk.2 c33
      refine r_iconst X (pc := 26) dX5_states_26 ?_
      refine G.sub [1, 2, 3] rfl ?_
      exact w_X5_states_27 X E hz sg30 x1 x2 0 r25 hk
    · have hk := hk.1 c33
      refine r_iconst X (pc := 22) dX5_states_22 ?_
      refine r_goto X (pc := 23) (tgt := 27) dX5_states_23 (by decide) ?_
      refine G.sub [1, 2, 3] rfl ?_
      exact w_X5_states_27 X E hz sg30 x1 x2 1 r25 hk
theorem s_X5_states {K : KT} {l : Launch} {t n z : Nat} {h0 : AH} {κ : Int → TS → Prop} (hz : kz K ≤ t) {sg : TS} {x1 : Int} {x2 : Int} (hk : P_X5_states κ sg x1 x2) : Ct K l yX5_states (ws_ yX5_states cX5_states 4 (Option.some Jvm.ClassFile.FieldType.int)) 3 104 ([vR (some t), vI x1, vI x2].map cV) (tw t sg h0) n z (tQ t h0 n z κ) noX :=
  ct_of (by decide +kernel) (Nat.le_of_ble_eq_true rfl) (fun Y X E => w_X5_states X E hz hk)
set_option maxHeartbeats 4000000 in
theorem w_X5_lose {K : KT} {Y : YT} {Qx : QxT} {t n z : Nat} {h0 : AH} {κ : Int → TS → Prop} (X : XY K "TrailMarkersModel" "lose" cX5_lose (Option.some Jvm.ClassFile.FieldType.int) [] 2 4 127 Y) (E : YE K Y (tQ t h0 n z κ) Qx) (hz : kz K ≤ t) {sg : TS} {x1 : Int} (hk : P_X5_lose κ sg x1) : G K Y (tw t sg h0) n z 0 (lv_argsA 0 [vR (some t), vI x1]) [] := by
  show G K Y (tw t sg h0) n z 0 [(0, vR (some t)), (1, vI x1)] []
  refine r_aload_n X (pc := 0) dX5_lose_0 rfl (q := 0) rfl ?_
  refine r_iload_n X (pc := 1) dX5_lose_1 rfl (q := 1) rfl ?_
  refine r_iconst X (pc := 2) dX5_lose_2 ?_
  refine r_callV X (pc := 3) (As := [vI x1, vI 1]) (st := []) rfl rfl rfl (tw_t t _ h0) m_X5_420 (fun _ => s_X5_states hz hk) ⟨by decide, by decide⟩ (Nat.le_of_ble_eq_true rfl) dX5_lose_3 (fun v9 h9 n9 z9 hq => ?_) (fun _ _ _ _ _ hf => hf.elim)
  obtain ⟨r2, rfl, rfl, rfl, sg3, rfl, hk⟩ := hq
  refine ⟨[vI r2], rfl, ?_⟩
  exact r_iret X E (pc := 6) dX5_lose_6 rfl ⟨_, rfl, rfl, rfl, _, rfl, hk⟩
theorem s_X5_lose {K : KT} {l : Launch} {t n z : Nat} {h0 : AH} {κ : Int → TS → Prop} (hz : kz K ≤ t) {sg : TS} {x1 : Int} (hk : P_X5_lose κ sg x1) : Ct K l yX5_lose (ws_ yX5_lose cX5_lose 2 (Option.some Jvm.ClassFile.FieldType.int)) 4 127 ([vR (some t), vI x1].map cV) (tw t sg h0) n z (tQ t h0 n z κ) noX :=
  ct_of (by decide +kernel) (Nat.le_of_ble_eq_true rfl) (fun Y X E => w_X5_lose X E hz hk)
set_option maxHeartbeats 4000000 in
theorem w_X5_mend {K : KT} {Y : YT} {Qx : QxT} {t n z : Nat} {h0 : AH} {κ : Int → TS → Prop} (X : XY K "TrailMarkersModel" "mend" cX5_mend (Option.some Jvm.ClassFile.FieldType.int) [] 2 4 127 Y) (E : YE K Y (tQ t h0 n z κ) Qx) (hz : kz K ≤ t) {sg : TS} {x1 : Int} (hk : P_X5_mend κ sg x1) : G K Y (tw t sg h0) n z 0 (lv_argsA 0 [vR (some t), vI x1]) [] := by
  show G K Y (tw t sg h0) n z 0 [(0, vR (some t)), (1, vI x1)] []
  refine r_aload_n X (pc := 0) dX5_mend_0 rfl (q := 0) rfl ?_
  refine r_iload_n X (pc := 1) dX5_mend_1 rfl (q := 1) rfl ?_
  refine r_iconst X (pc := 2) dX5_mend_2 ?_
  refine r_callV X (pc := 3) (As := [vI x1, vI 0]) (st := []) rfl rfl rfl (tw_t t _ h0) m_X5_420 (fun _ => s_X5_states hz hk) ⟨by decide, by decide⟩ (Nat.le_of_ble_eq_true rfl) dX5_mend_3 (fun v9 h9 n9 z9 hq => ?_) (fun _ _ _ _ _ hf => hf.elim)
  obtain ⟨r2, rfl, rfl, rfl, sg3, rfl, hk⟩ := hq
  refine ⟨[vI r2], rfl, ?_⟩
  exact r_iret X E (pc := 6) dX5_mend_6 rfl ⟨_, rfl, rfl, rfl, _, rfl, hk⟩
theorem s_X5_mend {K : KT} {l : Launch} {t n z : Nat} {h0 : AH} {κ : Int → TS → Prop} (hz : kz K ≤ t) {sg : TS} {x1 : Int} (hk : P_X5_mend κ sg x1) : Ct K l yX5_mend (ws_ yX5_mend cX5_mend 2 (Option.some Jvm.ClassFile.FieldType.int)) 4 127 ([vR (some t), vI x1].map cV) (tw t sg h0) n z (tQ t h0 n z κ) noX :=
  ct_of (by decide +kernel) (Nat.le_of_ble_eq_true rfl) (fun Y X E => w_X5_mend X E hz hk)
set_option maxHeartbeats 4000000 in
theorem w_X5_setBlock_83 {K : KT} {Y : YT} {Qx : QxT} {t n z : Nat} {h0 : AH} {κ : Int → TS → Prop} (X : XY K "TrailMarkersModel" "setBlock" cX5_setBlock (Option.some Jvm.ClassFile.FieldType.int) [] 5 3 104 Y) (E : YE K Y (tQ t h0 n z κ) Qx) (hz : kz K ≤ t) : ∀ (sg : TS) (s0 : Int) (s1 : Int) (s2 : Int), P_X5_setBlock_83 κ sg s0 s1 s2 → G K Y (tw t sg h0) n z 83 [(0, vR (some t))] [vI s0, vI s1, vI s2, vR (some t)] := by
  intro sg s0 s1 s2 hk
  refine r_callV X (pc := 83) (As := [vI s2, vI s1, vI s0]) (st := []) rfl rfl rfl (tw_t t _ h0) m_X5_373 (fun _ => s_X5_block hz hk) ⟨by decide, by decide⟩ (Nat.le_of_ble_eq_true rfl) dX5_setBlock_83 (fun v9 h9 n9 z9 hq => ?_) (fun _ _ _ _ _ hf => hf.elim)
  obtain ⟨rfl, rfl, rfl, sg21, rfl, hk⟩ := hq
  refine ⟨[], rfl, ?_⟩
  refine r_aload_n X (pc := 86) dX5_setBlock_86 rfl (q := 0) rfl ?_
  refine r_tgR X (pc := 87) (ty := 0) (N := 526) fa_X5_9 rfl (by decide) dX5_setBlock_87 ?_
  refine r_iconst X (pc := 90) dX5_setBlock_90 ?_
  refine r_tiald X (pc := 91) (v := sg21.2 0 5) (N := 526) rfl rfl dX5_setBlock_91 (by decide) ?_
  exact r_iret X E (pc := 92) dX5_setBlock_92 rfl ⟨_, rfl, rfl, rfl, _, rfl, hk⟩
set_option maxHeartbeats 4000000 in
theorem w_X5_setBlock_54 {K : KT} {Y : YT} {Qx : QxT} {t n z : Nat} {h0 : AH} {κ : Int → TS → Prop} (X : XY K "TrailMarkersModel" "setBlock" cX5_setBlock (Option.some Jvm.ClassFile.FieldType.int) [] 5 3 104 Y) (E : YE K Y (tQ t h0 n z κ) Qx) (hz : kz K ≤ t) : ∀ (sg : TS) (x1 : Int) (x2 : Int) (x3 : Int) (s0 : Int) (s1 : Int), P_X5_setBlock_54 κ sg x1 x2 x3 s0 s1 → G K Y (tw t sg h0) n z 54 [(0, vR (some t)), (1, vI x1), (2, vI x2), (3, vI x3)] [vI s0, vI s1, vR (some t)] := by
  intro sg x1 x2 x3 s0 s1 hk
  refine r_iconst X (pc := 54) dX5_setBlock_54 ?_
  refine r_callV X (pc := 55) (As := [vI s1, vI s0, vI 0]) (st := []) rfl rfl rfl (tw_t t _ h0) m_X5_258 (fun _ => s_X5_fails hz hk) ⟨by decide, by decide⟩ (Nat.le_of_ble_eq_true rfl) dX5_setBlock_55 (fun v9 h9 n9 z9 hq => ?_) (fun _ _ _ _ _ hf => hf.elim)
  obtain ⟨r22, rfl, rfl, rfl, sg23, rfl, hk⟩ := hq
  refine ⟨[vI r22], rfl, ?_⟩
  obtain ⟨b24, hk⟩ := hk
  refine r_if_eq X (pc := 58) (tgt := 63) dX5_setBlock_58 (by decide) b24 (fun c25 => ?_) (fun c25 => ?_)
  · have hk := hk.1 c25
    refine r_aload_n X (pc := 63) dX5_setBlock_63 rfl (q := 0) rfl ?_
    refine r_aload_n X (pc := 64) dX5_setBlock_64 rfl (q := 0) rfl ?_
    refine r_tgR X (pc := 65) (ty := 0) (N := 526) fa_X5_9 rfl (by decide) dX5_setBlock_65 ?_
    refine r_callV X (pc := 68) (As := [vR (some (twAd t 0))]) (st := []) rfl rfl rfl (tw_t t _ h0) m_X5_402 (fun _ => s_X5_remember hz hk) ⟨by decide, by decide⟩ (Nat.le_of_ble_eq_true rfl) dX5_setBlock_68 (fun v9 h9 n9 z9 hq => ?_) (fun _ _ _ _ _ hf => hf.elim)
    obtain ⟨rfl, rfl, rfl, sg26, rfl, hk⟩ := hq
    refine ⟨[], rfl, ?_⟩
    refine r_aload_n X (pc := 71) dX5_setBlock_71 rfl (q := 0) rfl ?_
    refine r_iload_n X (pc := 72) dX5_setBlock_72 rfl (q := 1) rfl ?_
    refine r_iload_n X (pc := 73) dX5_setBlock_73 rfl (q := 2) rfl ?_
    refine r_iload_n X (pc := 74) dX5_setBlock_74 rfl (q := 3) rfl ?_
    obtain ⟨b27, hk⟩ := hk
    refine r_if_eq X (pc := 75) (tgt := 82) dX5_setBlock_75 (by decide) b27 (fun c28 => ?_) (fun c28 => ?_)
    · have hk := hk.1 c28
      refine r_iconst X (pc := 82) dX5_setBlock_82 ?_
      refine G.sub [0] rfl ?_
      exact w_X5_setBlock_83 X E hz sg26 0 x2 x1 hk
    · have hk := hk.2 c28
      refine r_iconst X (pc := 78) dX5_setBlock_78 ?_
      refine r_goto X (pc := 79) (tgt := 83) dX5_setBlock_79 (by decide) ?_
      refine G.sub [0] rfl ?_
      exact w_X5_setBlock_83 X E hz sg26 1 x2 x1 hk
  · have hk := hk.2 c25
    refine r_iconst X (pc := 61) dX5_setBlock_61 ?_
    exact r_iret X E (pc := 62) dX5_setBlock_62 rfl ⟨_, rfl, rfl, rfl, _, rfl, hk⟩
set_option maxHeartbeats 4000000 in
theorem w_X5_setBlock_14 {K : KT} {Y : YT} {Qx : QxT} {t n z : Nat} {h0 : AH} {κ : Int → TS → Prop} (X : XY K "TrailMarkersModel" "setBlock" cX5_setBlock (Option.some Jvm.ClassFile.FieldType.int) [] 5 3 104 Y) (E : YE K Y (tQ t h0 n z κ) Qx) (hz : kz K ≤ t) : ∀ (sg : TS) (x1 : Int) (x2 : Int) (x3 : Int) (s0 : Int), P_X5_setBlock_14 κ sg x1 x2 x3 s0 → G K Y (tw t sg h0) n z 14 [(0, vR (some t)), (1, vI x1), (2, vI x2), (3, vI x3)] [vI s0] := by
  intro sg x1 x2 x3 s0 hk
  refine r_istore X (pc := 14) (lv1 := [(4, vI s0), (0, vR (some t)), (1, vI x1), (2, vI x2), (3, vI x3)]) dX5_setBlock_14 (by decide) rfl ?_
  refine r_aload_n X (pc := 16) dX5_setBlock_16 rfl (q := 1) rfl ?_
  refine r_iload X (pc := 17) dX5_setBlock_17 (q := 0) rfl ?_
  refine r_iload X (pc := 19) dX5_setBlock_19 (q := 0) rfl ?_
  obtain ⟨b29, hk⟩ := hk
  refine r_if_ne X (pc := 21) (tgt := 53) dX5_setBlock_21 (by decide) b29 (fun c30 => ?_) (fun c30 => ?_)
  · have hk := hk.2 c30
    refine r_iconst X (pc := 53) dX5_setBlock_53 ?_
    refine G.sub [1, 2, 3, 4] rfl ?_
    exact w_X5_setBlock_54 X E hz sg x1 x2 x3 0 s0 hk
  · have hk := hk.1 c30
    refine r_iload_n X (pc := 24) dX5_setBlock_24 rfl (q := 4) rfl ?_
    obtain ⟨b31, hk⟩ := hk
    refine r_if_eq X (pc := 25) (tgt := 40) dX5_setBlock_25 (by decide) b31 (fun c32 => ?_) (fun c32 => ?_)
    · have hk := hk.1 c32
      refine r_aload_n X (pc := 40) dX5_setBlock_40 rfl (q := 1) rfl ?_
      refine r_iload_n X (pc := 41) dX5_setBlock_41 rfl (q := 2) rfl ?_
      refine r_iload_n X (pc := 42) dX5_setBlock_42 rfl (q := 3) rfl ?_
      refine r_callV X (pc := 43) (As := [vI x1, vI x2]) (st := [vI s0, vR (some t)]) rfl rfl rfl (tw_t t _ h0) m_X5_127 (fun _ => s_X5_isBlock hz hk) ⟨by decide, by decide⟩ (Nat.le_of_ble_eq_true rfl) dX5_setBlock_43 (fun v9 h9 n9 z9 hq => ?_) (fun _ _ _ _ _ hf => hf.elim)
      obtain ⟨r33, rfl, rfl, rfl, sg34, rfl, hk⟩ := hq
      refine ⟨[vI r33], rfl, ?_⟩
      obtain ⟨b35, hk⟩ := hk
      refine r_if_ne X (pc := 46) (tgt := 53) dX5_setBlock_46 (by decide) b35 (fun c36 => ?_) (fun c36 => ?_)
      · have hk := hk.2 c36
        refine r_iconst X (pc := 53) dX5_setBlock_53 ?_
        refine G.sub [1, 2, 3, 4] rfl ?_
        exact w_X5_setBlock_54 X E hz sg34 x1 x2 x3 0 s0 hk
      · have hk := hk.1 c36
        refine r_iconst X (pc := 49) dX5_setBlock_49 ?_
        refine r_goto X (pc := 50) (tgt := 54) dX5_setBlock_50 (by decide) ?_
        refine G.sub [1, 2, 3, 4] rfl ?_
        exact w_X5_setBlock_54 X E hz sg34 x1 x2 x3 1 s0 hk
    · have hk := hk.2 c32
      refine r_aload_n X (pc := 28) dX5_setBlock_28 rfl (q := 1) rfl ?_
      refine r_iload_n X (pc := 29) dX5_setBlock_29 rfl (q := 2) rfl ?_
      refine r_iload_n X (pc := 30) dX5_setBlock_30 rfl (q := 3) rfl ?_
      refine r_callV X (pc := 31) (As := [vI x1, vI x2]) (st := [vI s0, vR (some t)]) rfl rfl rfl (tw_t t _ h0) m_X5_370 (fun _ => s_X5_whyNoBlock hz hk) ⟨by decide, by decide⟩ (Nat.le_of_ble_eq_true rfl) dX5_setBlock_31 (fun v9 h9 n9 z9 hq => ?_) (fun _ _ _ _ _ hf => hf.elim)
      obtain ⟨r37, rfl, rfl, rfl, sg38, rfl, hk⟩ := hq
      refine ⟨[vI r37], rfl, ?_⟩
      obtain ⟨b39, hk⟩ := hk
      refine r_if_le X (pc := 34) (tgt := 53) dX5_setBlock_34 (by decide) b39 (fun c40 => ?_) (fun c40 => ?_)
      · have hk := hk.2 c40
        refine r_iconst X (pc := 53) dX5_setBlock_53 ?_
        refine G.sub [1, 2, 3, 4] rfl ?_
        exact w_X5_setBlock_54 X E hz sg38 x1 x2 x3 0 s0 hk
      · have hk := hk.1 c40
        refine r_goto X (pc := 37) (tgt := 49) dX5_setBlock_37 (by decide) ?_
        refine r_iconst X (pc := 49) dX5_setBlock_49 ?_
        refine r_goto X (pc := 50) (tgt := 54) dX5_setBlock_50 (by decide) ?_
        refine G.sub [1, 2, 3, 4] rfl ?_
        exact w_X5_setBlock_54 X E hz sg38 x1 x2 x3 1 s0 hk
set_option maxHeartbeats 4000000 in
theorem w_X5_setBlock {K : KT} {Y : YT} {Qx : QxT} {t n z : Nat} {h0 : AH} {κ : Int → TS → Prop} (X : XY K "TrailMarkersModel" "setBlock" cX5_setBlock (Option.some Jvm.ClassFile.FieldType.int) [] 5 3 104 Y) (E : YE K Y (tQ t h0 n z κ) Qx) (hz : kz K ≤ t) {sg : TS} {x1 : Int} {x2 : Int} {x3 : Int} (hk : P_X5_setBlock κ sg x1 x2 x3) : G K Y (tw t sg h0) n z 0 (lv_argsA 0 [vR (some t), vI x1, vI x2, vI x3]) [] := by
  show G K Y (tw t sg h0) n z 0 [(0, vR (some t)), (1, vI x1), (2, vI x2), (3, vI x3)] []
  refine r_aload_n X (pc := 0) dX5_setBlock_0 rfl (q := 0) rfl ?_
  refine r_iload_n X (pc := 1) dX5_setBlock_1 rfl (q := 1) rfl ?_
  refine r_iload_n X (pc := 2) dX5_setBlock_2 rfl (q := 2) rfl ?_
  refine r_callV X (pc := 3) (As := [vI x1, vI x2]) (st := []) rfl rfl rfl (tw_t t _ h0) m_X5_123 (fun _ => s_X5_isOn hz hk) ⟨by decide, by decide⟩ (Nat.le_of_ble_eq_true rfl) dX5_setBlock_3 (fun v9 h9 n9 z9 hq => ?_) (fun _ _ _ _ _ hf => hf.elim)
  obtain ⟨r41, rfl, rfl, rfl, sg42, rfl, hk⟩ := hq
  refine ⟨[vI r41], rfl, ?_⟩
  obtain ⟨b43, hk⟩ := hk
  refine r_if_ne X (pc := 6) (tgt := 13) dX5_setBlock_6 (by decide) b43 (fun c44 => ?_) (fun c44 => ?_)
  · have hk := hk.2 c44
    refine r_iconst X (pc := 13) dX5_setBlock_13 ?_
    exact w_X5_setBlock_14 X E hz sg42 x1 x2 x3 0 hk
  · have hk := hk.1 c44
    refine r_iconst X (pc := 9) dX5_setBlock_9 ?_
    refine r_goto X (pc := 10) (tgt := 14) dX5_setBlock_10 (by decide) ?_
    exact w_X5_setBlock_14 X E hz sg42 x1 x2 x3 1 hk
theorem s_X5_setBlock {K : KT} {l : Launch} {t n z : Nat} {h0 : AH} {κ : Int → TS → Prop} (hz : kz K ≤ t) {sg : TS} {x1 : Int} {x2 : Int} {x3 : Int} (hk : P_X5_setBlock κ sg x1 x2 x3) : Ct K l yX5_setBlock (ws_ yX5_setBlock cX5_setBlock 5 (Option.some Jvm.ClassFile.FieldType.int)) 3 104 ([vR (some t), vI x1, vI x2, vI x3].map cV) (tw t sg h0) n z (tQ t h0 n z κ) noX :=
  ct_of (by decide +kernel) (Nat.le_of_ble_eq_true rfl) (fun Y X E => w_X5_setBlock X E hz hk)
set_option maxHeartbeats 4000000 in
theorem w_X5_noSetting {K : KT} {Y : YT} {Qx : QxT} {h : AH} {n z : Nat} {κ : Int → Prop} (X : XY K "TrailMarkersModel" "noSetting" cX5_noSetting (Option.some Jvm.ClassFile.FieldType.boolean) [] 2 1 22 Y) (E : YE K Y (pQ h n z κ) Qx) {x0 : Int} {x1 : Int} (hk : P_X5_noSetting κ x0 x1) : G K Y h n z 0 (lv_argsA 0 [vI x0, vI x1]) [] := by
  show G K Y h n z 0 [(0, vI x0), (1, vI x1)] []
  refine r_iload_n X (pc := 0) dX5_noSetting_0 rfl (q := 0) rfl ?_
  refine r_iconst X (pc := 1) dX5_noSetting_1 ?_
  refine r_iconst X (pc := 2) dX5_noSetting_2 ?_
  refine r_callS X (pc := 3) (As := [vI x0, vI 0, vI 1]) (st := []) m_X5_119 (fun _ => s_X5_isIn hk) ⟨by decide, by decide⟩ (Nat.le_of_ble_eq_true rfl) dX5_noSetting_3 (fun v9 h9 n9 z9 hq => ?_) (fun _ _ _ _ _ hf => hf.elim)
  obtain ⟨r9, rfl, rfl, rfl, rfl, hk⟩ := hq
  refine ⟨[vI r9], rfl, ?_⟩
  obtain ⟨b10, hk⟩ := hk
  refine r_if_eq X (pc := 6) (tgt := 35) dX5_noSetting_6 (by decide) b10 (fun c11 => ?_) (fun c11 => ?_)
  · have hk := hk.1 c11
    refine r_iconst X (pc := 35) dX5_noSetting_35 ?_
    refine r_goto X (pc := 36) (tgt := 40) dX5_noSetting_36 (by decide) ?_
    exact r_iret X E (pc := 40) dX5_noSetting_40 rfl ⟨_, rfl, rfl, rfl, rfl, hk⟩
  · have hk := hk.2 c11
    refine r_iload_n X (pc := 9) dX5_noSetting_9 rfl (q := 0) rfl ?_
    obtain ⟨b12, hk⟩ := hk
    refine r_if_ne X (pc := 10) (tgt := 26) dX5_noSetting_10 (by decide) b12 (fun c13 => ?_) (fun c13 => ?_)
    · have hk := hk.2 c13
      refine r_iload_n X (pc := 26) dX5_noSetting_26 rfl (q := 1) rfl ?_
      refine r_iconst X (pc := 27) dX5_noSetting_27 ?_
      refine r_iconst X (pc := 28) dX5_noSetting_28 ?_
      refine r_callS X (pc := 29) (As := [vI x1, vI 0, vI 2]) (st := []) m_X5_119 (fun _ => s_X5_isIn hk) ⟨by decide, by decide⟩ (Nat.le_of_ble_eq_true rfl) dX5_noSetting_29 (fun v9 h9 n9 z9 hq => ?_) (fun _ _ _ _ _ hf => hf.elim)
      obtain ⟨r14, rfl, rfl, rfl, rfl, hk⟩ := hq
      refine ⟨[vI r14], rfl, ?_⟩
      obtain ⟨b15, hk⟩ := hk
      refine r_if_ne X (pc := 32) (tgt := 39) dX5_noSetting_32 (by decide) b15 (fun c16 => ?_) (fun c16 => ?_)
      · have hk := hk.2 c16
        refine r_iconst X (pc := 39) dX5_noSetting_39 ?_
        exact r_iret X E (pc := 40) dX5_noSetting_40 rfl ⟨_, rfl, rfl, rfl, rfl, hk⟩
      · have hk := hk.1 c16
        refine r_iconst X (pc := 35) dX5_noSetting_35 ?_
        refine r_goto X (pc := 36) (tgt := 40) dX5_noSetting_36 (by decide) ?_
        exact r_iret X E (pc := 40) dX5_noSetting_40 rfl ⟨_, rfl, rfl, rfl, rfl, hk⟩
    · have hk := hk.1 c13
      refine r_iload_n X (pc := 13) dX5_noSetting_13 rfl (q := 1) rfl ?_
      refine r_iconst X (pc := 14) dX5_noSetting_14 ?_
      refine r_bipush X (pc := 15) dX5_noSetting_15 (by decide) ?_
      refine r_callS X (pc := 17) (As := [vI x1, vI 1, vI 12]) (st := []) m_X5_119 (fun _ => s_X5_isIn hk) ⟨by decide, by decide⟩ (Nat.le_of_ble_eq_true rfl) dX5_noSetting_17 (fun v9 h9 n9 z9 hq => ?_) (fun _ _ _ _ _ hf => hf.elim)
      obtain ⟨r17, rfl, rfl, rfl, rfl, hk⟩ := hq
      refine ⟨[vI r17], rfl, ?_⟩
      obtain ⟨b18, hk⟩ := hk
      refine r_if_eq X (pc := 20) (tgt := 35) dX5_noSetting_20 (by decide) b18 (fun c19 => ?_) (fun c19 => ?_)
      · have hk := hk.1 c19
        refine r_iconst X (pc := 35) dX5_noSetting_35 ?_
        refine r_goto X (pc := 36) (tgt := 40) dX5_noSetting_36 (by decide) ?_
        exact r_iret X E (pc := 40) dX5_noSetting_40 rfl ⟨_, rfl, rfl, rfl, rfl, hk⟩
      · have hk := hk.2 c19
        refine r_goto X (pc := 23) (tgt := 39) dX5_noSetting_23 (by decide) ?_
        refine r_iconst X (pc := 39) dX5_noSetting_39 ?_
        exact r_iret X E (pc := 40) dX5_noSetting_40 rfl ⟨_, rfl, rfl, rfl, rfl, hk⟩
theorem s_X5_noSetting {K : KT} {l : Launch} {n z : Nat} {h : AH} {κ : Int → Prop} {x0 : Int} {x1 : Int} (hk : P_X5_noSetting κ x0 x1) : Ct K l yX5_noSetting (ws_ yX5_noSetting cX5_noSetting 2 (Option.some Jvm.ClassFile.FieldType.boolean)) 1 22 ([vI x0, vI x1].map cV) h n z (pQ h n z κ) noX :=
  ct_of (by decide +kernel) (Nat.le_of_ble_eq_true rfl) (fun Y X E => w_X5_noSetting X E hk)
set_option maxHeartbeats 4000000 in
theorem w_X5_set {K : KT} {Y : YT} {Qx : QxT} {t n z : Nat} {h0 : AH} {κ : Int → TS → Prop} (X : XY K "TrailMarkersModel" "set" cX5_set (Option.some Jvm.ClassFile.FieldType.int) [] 4 3 104 Y) (E : YE K Y (tQ t h0 n z κ) Qx) (hz : kz K ≤ t) {sg : TS} {x1 : Int} {x2 : Int} (hk : P_X5_set κ sg x1 x2) : G K Y (tw t sg h0) n z 0 (lv_argsA 0 [vR (some t), vI x1, vI x2]) [] := by
  show G K Y (tw t sg h0) n z 0 [(0, vR (some t)), (1, vI x1), (2, vI x2)] []
  refine r_aload_n X (pc := 0) dX5_set_0 rfl (q := 0) rfl ?_
  refine r_iload_n X (pc := 1) dX5_set_1 rfl (q := 1) rfl ?_
  refine r_iload_n X (pc := 2) dX5_set_2 rfl (q := 2) rfl ?_
  refine r_callS X (pc := 3) (As := [vI x1, vI x2]) (st := [vR (some t)]) m_X5_423 (fun _ => s_X5_noSetting hk) ⟨by decide, by decide⟩ (Nat.le_of_ble_eq_true rfl) dX5_set_3 (fun v9 h9 n9 z9 hq => ?_) (fun _ _ _ _ _ hf => hf.elim)
  obtain ⟨r6, rfl, rfl, rfl, rfl, hk⟩ := hq
  refine ⟨[vI r6], rfl, ?_⟩
  refine r_iconst X (pc := 6) dX5_set_6 ?_
  refine r_iconst X (pc := 7) dX5_set_7 ?_
  refine r_callV X (pc := 8) (As := [vI r6, vI 0, vI 0]) (st := []) rfl rfl rfl (tw_t t _ h0) m_X5_258 (fun _ => s_X5_fails hz hk) ⟨by decide, by decide⟩ (Nat.le_of_ble_eq_true rfl) dX5_set_8 (fun v9 h9 n9 z9 hq => ?_) (fun _ _ _ _ _ hf => hf.elim)
  obtain ⟨r7, rfl, rfl, rfl, sg8, rfl, hk⟩ := hq
  refine ⟨[vI r7], rfl, ?_⟩
  obtain ⟨b9, hk⟩ := hk
  refine r_if_eq X (pc := 11) (tgt := 16) dX5_set_11 (by decide) b9 (fun c10 => ?_) (fun c10 => ?_)
  · have hk := hk.1 c10
    refine r_aload_n X (pc := 16) dX5_set_16 rfl (q := 0) rfl ?_
    refine r_aload_n X (pc := 17) dX5_set_17 rfl (q := 0) rfl ?_
    refine r_tgR X (pc := 18) (ty := 0) (N := 526) fa_X5_9 rfl (by decide) dX5_set_18 ?_
    refine r_callV X (pc := 21) (As := [vR (some (twAd t 0))]) (st := []) rfl rfl rfl (tw_t t _ h0) m_X5_402 (fun _ => s_X5_remember hz hk) ⟨by decide, by decide⟩ (Nat.le_of_ble_eq_true rfl) dX5_set_21 (fun v9 h9 n9 z9 hq => ?_) (fun _ _ _ _ _ hf => hf.elim)
    obtain ⟨rfl, rfl, rfl, sg11, rfl, hk⟩ := hq
    refine ⟨[], rfl, ?_⟩
    refine r_aload_n X (pc := 24) dX5_set_24 rfl (q := 0) rfl ?_
    refine r_tgR X (pc := 25) (ty := 0) (N := 526) fa_X5_9 rfl (by decide) dX5_set_25 ?_
    refine r_iconst X (pc := 28) dX5_set_28 ?_
    refine r_iload_n X (pc := 29) dX5_set_29 rfl (q := 1) rfl ?_
    refine r_iadd X (pc := 30) dX5_set_30 ?_
    obtain ⟨b12, hk⟩ := hk
    refine r_tiald X (pc := 31) (v := sg11.2 0 (2 + x1)) (N := 526) rfl rfl dX5_set_31 b12 ?_
    refine r_istore_n X (pc := 32) (lv1 := [(3, vI (sg11.2 0 (2 + x1))), (0, vR (some t)), (1, vI x1), (2, vI x2)]) dX5_set_32 rfl (by decide) rfl ?_
    refine r_aload_n X (pc := 33) dX5_set_33 rfl (q := 1) rfl ?_
    refine r_tgR X (pc := 34) (ty := 0) (N := 526) fa_X5_9 rfl (by decide) dX5_set_34 ?_
    refine r_iconst X (pc := 37) dX5_set_37 ?_
    refine r_iload_n X (pc := 38) dX5_set_38 rfl (q := 2) rfl ?_
    refine r_iadd X (pc := 39) dX5_set_39 ?_
    refine r_iload_n X (pc := 40) dX5_set_40 rfl (q := 3) rfl ?_
    refine r_tiast X (pc := 41) hz (N := 526) rfl dX5_set_41 b12 ?_
    refine r_iload_n X (pc := 42) dX5_set_42 rfl (q := 0) rfl ?_
    exact r_iret X E (pc := 43) dX5_set_43 rfl ⟨_, rfl, rfl, rfl, _, rfl, hk⟩
  · have hk := hk.2 c10
    refine r_iconst X (pc := 14) dX5_set_14 ?_
    exact r_iret X E (pc := 15) dX5_set_15 rfl ⟨_, rfl, rfl, rfl, _, rfl, hk⟩
theorem s_X5_set {K : KT} {l : Launch} {t n z : Nat} {h0 : AH} {κ : Int → TS → Prop} (hz : kz K ≤ t) {sg : TS} {x1 : Int} {x2 : Int} (hk : P_X5_set κ sg x1 x2) : Ct K l yX5_set (ws_ yX5_set cX5_set 4 (Option.some Jvm.ClassFile.FieldType.int)) 3 104 ([vR (some t), vI x1, vI x2].map cV) (tw t sg h0) n z (tQ t h0 n z κ) noX :=
  ct_of (by decide +kernel) (Nat.le_of_ble_eq_true rfl) (fun Y X E => w_X5_set X E hz hk)
set_option maxHeartbeats 4000000 in
theorem w_X5_undo_13 {K : KT} {Y : YT} {Qx : QxT} {t n z : Nat} {h0 : AH} {κ : Int → TS → Prop} (X : XY K "TrailMarkersModel" "undo" cX5_undo (Option.some Jvm.ClassFile.FieldType.int) [] 1 2 83 Y) (E : YE K Y (tQ t h0 n z κ) Qx) (hz : kz K ≤ t) : ∀ (sg : TS) (s0 : Int), P_X5_undo_13 κ sg s0 → G K Y (tw t sg h0) n z 13 [(0, vR (some t))] [vI s0, vR (some t)] := by
  intro sg s0 hk
  refine r_iconst X (pc := 13) dX5_undo_13 ?_
  refine r_iconst X (pc := 14) dX5_undo_14 ?_
  refine r_callV X (pc := 15) (As := [vI s0, vI 0, vI 0]) (st := []) rfl rfl rfl (tw_t t _ h0) m_X5_258 (fun _ => s_X5_fails hz hk) ⟨by decide, by decide⟩ (Nat.le_of_ble_eq_true rfl) dX5_undo_15 (fun v9 h9 n9 z9 hq => ?_) (fun _ _ _ _ _ hf => hf.elim)
  obtain ⟨r7, rfl, rfl, rfl, sg8, rfl, hk⟩ := hq
  refine ⟨[vI r7], rfl, ?_⟩
  obtain ⟨b9, hk⟩ := hk
  refine r_if_eq X (pc := 18) (tgt := 23) dX5_undo_18 (by decide) b9 (fun c10 => ?_) (fun c10 => ?_)
  · have hk := hk.1 c10
    refine r_aload_n X (pc := 23) dX5_undo_23 rfl (q := 0) rfl ?_
    refine r_dup X (pc := 24) dX5_undo_24 rfl ?_
    refine r_tgI X (pc := 25) (v := sg8.1 6) fa_X5_103 (by decide) rfl dX5_undo_25 ?_
    refine r_iconst X (pc := 28) dX5_undo_28 ?_
    refine r_isub X (pc := 29) dX5_undo_29 ?_
    refine r_tpI X (pc := 30) fp_X5_103 hz (by decide) dX5_undo_30 ?_
    refine r_aload_n X (pc := 33) dX5_undo_33 rfl (q := 0) rfl ?_
    refine r_tgR X (pc := 34) (ty := 0) (N := 4208) fa_X5_16 rfl (by decide) dX5_undo_34 ?_
    refine r_aload_n X (pc := 37) dX5_undo_37 rfl (q := 0) rfl ?_
    refine r_tgI X (pc := 38) (v := (sg8.1 6) - 1) fa_X5_103 (by decide) rfl dX5_undo_38 ?_
    refine r_sipush X (pc := 41) dX5_undo_41 (by decide) ?_
    refine r_imul X (pc := 44) dX5_undo_44 ?_
    refine r_aload_n X (pc := 45) dX5_undo_45 rfl (q := 0) rfl ?_
    refine r_tgR X (pc := 46) (ty := 0) (N := 526) fa_X5_9 rfl (by decide) dX5_undo_46 ?_
    refine r_iconst X (pc := 49) dX5_undo_49 ?_
    refine r_callS X (pc := 50) (As := [vR (some (twAd t 2)), vI (((sg8.1 6) - 1) * 526), vR (some (twAd t 0)), vI 0]) (st := []) m_X5_115 (fun _ => s_X5_copy hz hk) ⟨by decide, by decide⟩ (Nat.le_of_ble_eq_true rfl) dX5_undo_50 (fun v9 h9 n9 z9 hq => ?_) (fun _ _ _ _ _ hf => hf.elim)
    obtain ⟨rfl, rfl, rfl, sg11, rfl, hk⟩ := hq
    refine ⟨[], rfl, ?_⟩
    refine r_aload_n X (pc := 53) dX5_undo_53 rfl (q := 0) rfl ?_
    refine r_tgI X (pc := 54) (v := sg11.1 6) fa_X5_103 (by decide) rfl dX5_undo_54 ?_
    exact r_iret X E (pc := 57) dX5_undo_57 rfl ⟨_, rfl, rfl, rfl, _, rfl, hk⟩
  · have hk := hk.2 c10
    refine r_iconst X (pc := 21) dX5_undo_21 ?_
    exact r_iret X E (pc := 22) dX5_undo_22 rfl ⟨_, rfl, rfl, rfl, _, rfl, hk⟩
set_option maxHeartbeats 4000000 in
theorem w_X5_undo {K : KT} {Y : YT} {Qx : QxT} {t n z : Nat} {h0 : AH} {κ : Int → TS → Prop} (X : XY K "TrailMarkersModel" "undo" cX5_undo (Option.some Jvm.ClassFile.FieldType.int) [] 1 2 83 Y) (E : YE K Y (tQ t h0 n z κ) Qx) (hz : kz K ≤ t) {sg : TS} (hk : P_X5_undo κ sg) : G K Y (tw t sg h0) n z 0 (lv_argsA 0 [vR (some t)]) [] := by
  show G K Y (tw t sg h0) n z 0 [(0, vR (some t))] []
  refine r_aload_n X (pc := 0) dX5_undo_0 rfl (q := 0) rfl ?_
  refine r_aload_n X (pc := 1) dX5_undo_1 rfl (q := 0) rfl ?_
  refine r_tgI X (pc := 2) (v := sg.1 6) fa_X5_103 (by decide) rfl dX5_undo_2 ?_
  obtain ⟨b12, hk⟩ := hk
  refine r_if_ne X (pc := 5) (tgt := 12) dX5_undo_5 (by decide) b12 (fun c13 => ?_) (fun c13 => ?_)
  · have hk := hk.2 c13
    refine r_iconst X (pc := 12) dX5_undo_12 ?_
    exact w_X5_undo_13 X E hz sg 0 hk
  · have hk := hk.1 c13
    refine r_iconst X (pc := 8) dX5_undo_8 ?_
    refine r_goto X (pc := 9) (tgt := 13) dX5_undo_9 (by decide) ?_
    exact w_X5_undo_13 X E hz sg 1 hk
theorem s_X5_undo {K : KT} {l : Launch} {t n z : Nat} {h0 : AH} {κ : Int → TS → Prop} (hz : kz K ≤ t) {sg : TS} (hk : P_X5_undo κ sg) : Ct K l yX5_undo (ws_ yX5_undo cX5_undo 1 (Option.some Jvm.ClassFile.FieldType.int)) 2 83 ([vR (some t)].map cV) (tw t sg h0) n z (tQ t h0 n z κ) noX :=
  ct_of (by decide +kernel) (Nat.le_of_ble_eq_true rfl) (fun Y X E => w_X5_undo X E hz hk)
set_option maxHeartbeats 4000000 in
theorem w_X5_save_15 {K : KT} {Y : YT} {Qx : QxT} {t n z : Nat} {h0 : AH} {κ : Int → TS → Prop} (X : XY K "TrailMarkersModel" "save" cX5_save (Option.some Jvm.ClassFile.FieldType.int) [] 2 2 83 Y) (E : YE K Y (tQ t h0 n z κ) Qx) (hz : kz K ≤ t) : ∀ (sg : TS) (x1 : Int) (s0 : Int), P_X5_save_15 κ sg x1 s0 → G K Y (tw t sg h0) n z 15 [(0, vR (some t)), (1, vI x1)] [vI s0, vR (some t)] := by
  intro sg x1 s0 hk
  refine r_iconst X (pc := 15) dX5_save_15 ?_
  refine r_iconst X (pc := 16) dX5_save_16 ?_
  refine r_callV X (pc := 17) (As := [vI s0, vI 0, vI 0]) (st := []) rfl rfl rfl (tw_t t _ h0) m_X5_258 (fun _ => s_X5_fails hz hk) ⟨by decide, by decide⟩ (Nat.le_of_ble_eq_true rfl) dX5_save_17 (fun v9 h9 n9 z9 hq => ?_) (fun _ _ _ _ _ hf => hf.elim)
  obtain ⟨r8, rfl, rfl, rfl, sg9, rfl, hk⟩ := hq
  refine ⟨[vI r8], rfl, ?_⟩
  obtain ⟨b10, hk⟩ := hk
  refine r_if_eq X (pc := 20) (tgt := 25) dX5_save_20 (by decide) b10 (fun c11 => ?_) (fun c11 => ?_)
  · have hk := hk.1 c11
    refine r_aload_n X (pc := 25) dX5_save_25 rfl (q := 0) rfl ?_
    refine r_tgR X (pc := 26) (ty := 0) (N := 526) fa_X5_9 rfl (by decide) dX5_save_26 ?_
    refine r_iconst X (pc := 29) dX5_save_29 ?_
    refine r_aload_n X (pc := 30) dX5_save_30 rfl (q := 0) rfl ?_
    refine r_tgR X (pc := 31) (ty := 0) (N := 1052) fa_X5_19 rfl (by decide) dX5_save_31 ?_
    refine r_iload_n X (pc := 34) dX5_save_34 rfl (q := 1) rfl ?_
    refine r_sipush X (pc := 35) dX5_save_35 (by decide) ?_
    refine r_imul X (pc := 38) dX5_save_38 ?_
    refine r_callS X (pc := 39) (As := [vR (some (twAd t 0)), vI 0, vR (some (twAd t 3)), vI (x1 * 526)]) (st := []) m_X5_115 (fun _ => s_X5_copy hz hk) ⟨by decide, by decide⟩ (Nat.le_of_ble_eq_true rfl) dX5_save_39 (fun v9 h9 n9 z9 hq => ?_) (fun _ _ _ _ _ hf => hf.elim)
    obtain ⟨rfl, rfl, rfl, sg12, rfl, hk⟩ := hq
    refine ⟨[], rfl, ?_⟩
    refine r_aload_n X (pc := 42) dX5_save_42 rfl (q := 0) rfl ?_
    refine r_tgR X (pc := 43) (ty := 2) (N := 2) fa_X5_25 rfl (by decide) dX5_save_43 ?_
    refine r_iload_n X (pc := 46) dX5_save_46 rfl (q := 1) rfl ?_
    refine r_iconst X (pc := 47) dX5_save_47 ?_
    obtain ⟨b13, hk⟩ := hk
    refine r_tzast X (pc := 48) hz (N := 2) rfl (Or.inr rfl) dX5_save_48 b13 ?_
    refine r_aload_n X (pc := 49) dX5_save_49 rfl (q := 0) rfl ?_
    refine r_tgR X (pc := 50) (ty := 0) (N := 526) fa_X5_9 rfl (by decide) dX5_save_50 ?_
    refine r_iconst X (pc := 53) dX5_save_53 ?_
    refine r_tiald X (pc := 54) (v := ((setA sg12 5 (uI (sg12.2 5) x1 1)).2 0) 4) (N := 526) rfl rfl dX5_save_54 (by decide) ?_
    exact r_iret X E (pc := 55) dX5_save_55 rfl ⟨_, rfl, rfl, rfl, _, rfl, hk⟩
  · have hk := hk.2 c11
    refine r_iconst X (pc := 23) dX5_save_23 ?_
    exact r_iret X E (pc := 24) dX5_save_24 rfl ⟨_, rfl, rfl, rfl, _, rfl, hk⟩
set_option maxHeartbeats 4000000 in
theorem w_X5_save {K : KT} {Y : YT} {Qx : QxT} {t n z : Nat} {h0 : AH} {κ : Int → TS → Prop} (X : XY K "TrailMarkersModel" "save" cX5_save (Option.some Jvm.ClassFile.FieldType.int) [] 2 2 83 Y) (E : YE K Y (tQ t h0 n z κ) Qx) (hz : kz K ≤ t) {sg : TS} {x1 : Int} (hk : P_X5_save κ sg x1) : G K Y (tw t sg h0) n z 0 (lv_argsA 0 [vR (some t), vI x1]) [] := by
  show G K Y (tw t sg h0) n z 0 [(0, vR (some t)), (1, vI x1)] []
  refine r_aload_n X (pc := 0) dX5_save_0 rfl (q := 0) rfl ?_
  refine r_iload_n X (pc := 1) dX5_save_1 rfl (q := 1) rfl ?_
  refine r_iconst X (pc := 2) dX5_save_2 ?_
  refine r_iconst X (pc := 3) dX5_save_3 ?_
  refine r_callS X (pc := 4) (As := [vI x1, vI 0, vI 1]) (st := [vR (some t)]) m_X5_119 (fun _ => s_X5_isIn hk) ⟨by decide, by decide⟩ (Nat.le_of_ble_eq_true rfl) dX5_save_4 (fun v9 h9 n9 z9 hq => ?_) (fun _ _ _ _ _ hf => hf.elim)
  obtain ⟨r14, rfl, rfl, rfl, rfl, hk⟩ := hq
  refine ⟨[vI r14], rfl, ?_⟩
  obtain ⟨b15, hk⟩ := hk
  refine r_if_ne X (pc := 7) (tgt := 14) dX5_save_7 (by decide) b15 (fun c16 => ?_) (fun c16 => ?_)
  · have hk := hk.2 c16
    refine r_iconst X (pc := 14) dX5_save_14 ?_
    exact w_X5_save_15 X E hz sg x1 0 hk
  · have hk := hk.1 c16
    refine r_iconst X (pc := 10) dX5_save_10 ?_
    refine r_goto X (pc := 11) (tgt := 15) dX5_save_11 (by decide) ?_
    exact w_X5_save_15 X E hz sg x1 1 hk
theorem s_X5_save {K : KT} {l : Launch} {t n z : Nat} {h0 : AH} {κ : Int → TS → Prop} (hz : kz K ≤ t) {sg : TS} {x1 : Int} (hk : P_X5_save κ sg x1) : Ct K l yX5_save (ws_ yX5_save cX5_save 2 (Option.some Jvm.ClassFile.FieldType.int)) 2 83 ([vR (some t), vI x1].map cV) (tw t sg h0) n z (tQ t h0 n z κ) noX :=
  ct_of (by decide +kernel) (Nat.le_of_ble_eq_true rfl) (fun Y X E => w_X5_save X E hz hk)
set_option maxHeartbeats 4000000 in
theorem w_X5_restore_35 {K : KT} {Y : YT} {Qx : QxT} {t n z : Nat} {h0 : AH} {κ : Int → TS → Prop} (X : XY K "TrailMarkersModel" "restore" cX5_restore (Option.some Jvm.ClassFile.FieldType.int) [] 3 3 104 Y) (E : YE K Y (tQ t h0 n z κ) Qx) (hz : kz K ≤ t) : ∀ (sg : TS) (x1 : Int) (s0 : Int) (s1 : Int), P_X5_restore_35 κ sg x1 s0 s1 → G K Y (tw t sg h0) n z 35 [(0, vR (some t)), (1, vI x1)] [vI s0, vI s1, vR (some t)] := by
  intro sg x1 s0 s1 hk
  refine r_iconst X (pc := 35) dX5_restore_35 ?_
  refine r_callV X (pc := 36) (As := [vI s1, vI s0, vI 0]) (st := []) rfl rfl rfl (tw_t t _ h0) m_X5_258 (fun _ => s_X5_fails hz hk) ⟨by decide, by decide⟩ (Nat.le_of_ble_eq_true rfl) dX5_restore_36 (fun v9 h9 n9 z9 hq => ?_) (fun _ _ _ _ _ hf => hf.elim)
  obtain ⟨r13, rfl, rfl, rfl, sg14, rfl, hk⟩ := hq
  refine ⟨[vI r13], rfl, ?_⟩
  obtain ⟨b15, hk⟩ := hk
  refine r_if_eq X (pc := 39) (tgt := 44) dX5_restore_39 (by decide) b15 (fun c16 => ?_) (fun c16 => ?_)
  · have hk := hk.1 c16
    refine r_aload_n X (pc := 44) dX5_restore_44 rfl (q := 0) rfl ?_
    refine r_aload_n X (pc := 45) dX5_restore_45 rfl (q := 0) rfl ?_
    refine r_tgR X (pc := 46) (ty := 0) (N := 526) fa_X5_9 rfl (by decide) dX5_restore_46 ?_
    refine r_callV X (pc := 49) (As := [vR (some (twAd t 0))]) (st := []) rfl rfl rfl (tw_t t _ h0) m_X5_402 (fun _ => s_X5_remember hz hk) ⟨by decide, by decide⟩ (Nat.le_of_ble_eq_true rfl) dX5_restore_49 (fun v9 h9 n9 z9 hq => ?_) (fun _ _ _ _ _ hf => hf.elim)
    obtain ⟨rfl, rfl, rfl, sg17, rfl, hk⟩ := hq
    refine ⟨[], rfl, ?_⟩
    refine r_aload_n X (pc := 52) dX5_restore_52 rfl (q := 0) rfl ?_
    refine r_tgR X (pc := 53) (ty := 0) (N := 1052) fa_X5_19 rfl (by decide) dX5_restore_53 ?_
    refine r_iload_n X (pc := 56) dX5_restore_56 rfl (q := 1) rfl ?_
    refine r_sipush X (pc := 57) dX5_restore_57 (by decide) ?_
    refine r_imul X (pc := 60) dX5_restore_60 ?_
    refine r_aload_n X (pc := 61) dX5_restore_61 rfl (q := 0) rfl ?_
    refine r_tgR X (pc := 62) (ty := 0) (N := 526) fa_X5_9 rfl (by decide) dX5_restore_62 ?_
    refine r_iconst X (pc := 65) dX5_restore_65 ?_
    refine r_callS X (pc := 66) (As := [vR (some (twAd t 3)), vI (x1 * 526), vR (some (twAd t 0)), vI 0]) (st := []) m_X5_115 (fun _ => s_X5_copy hz hk) ⟨by decide, by decide⟩ (Nat.le_of_ble_eq_true rfl) dX5_restore_66 (fun v9 h9 n9 z9 hq => ?_) (fun _ _ _ _ _ hf => hf.elim)
    obtain ⟨rfl, rfl, rfl, sg18, rfl, hk⟩ := hq
    refine ⟨[], rfl, ?_⟩
    refine r_aload_n X (pc := 69) dX5_restore_69 rfl (q := 0) rfl ?_
    refine r_tgR X (pc := 70) (ty := 0) (N := 526) fa_X5_9 rfl (by decide) dX5_restore_70 ?_
    refine r_iconst X (pc := 73) dX5_restore_73 ?_
    refine r_tiald X (pc := 74) (v := sg18.2 0 4) (N := 526) rfl rfl dX5_restore_74 (by decide) ?_
    exact r_iret X E (pc := 75) dX5_restore_75 rfl ⟨_, rfl, rfl, rfl, _, rfl, hk⟩
  · have hk := hk.2 c16
    refine r_iconst X (pc := 42) dX5_restore_42 ?_
    exact r_iret X E (pc := 43) dX5_restore_43 rfl ⟨_, rfl, rfl, rfl, _, rfl, hk⟩
set_option maxHeartbeats 4000000 in
theorem w_X5_restore_14 {K : KT} {Y : YT} {Qx : QxT} {t n z : Nat} {h0 : AH} {κ : Int → TS → Prop} (X : XY K "TrailMarkersModel" "restore" cX5_restore (Option.some Jvm.ClassFile.FieldType.int) [] 3 3 104 Y) (E : YE K Y (tQ t h0 n z κ) Qx) (hz : kz K ≤ t) : ∀ (sg : TS) (x1 : Int) (s0 : Int), P_X5_restore_14 κ sg x1 s0 → G K Y (tw t sg h0) n z 14 [(0, vR (some t)), (1, vI x1)] [vI s0] := by
  intro sg x1 s0 hk
  refine r_istore_n X (pc := 14) (lv1 := [(2, vI s0), (0, vR (some t)), (1, vI x1)]) dX5_restore_14 rfl (by decide) rfl ?_
  refine r_aload_n X (pc := 15) dX5_restore_15 rfl (q := 1) rfl ?_
  refine r_iload_n X (pc := 16) dX5_restore_16 rfl (q := 0) rfl ?_
  refine r_iload_n X (pc := 17) dX5_restore_17 rfl (q := 0) rfl ?_
  obtain ⟨b19, hk⟩ := hk
  refine r_if_ne X (pc := 18) (tgt := 34) dX5_restore_18 (by decide) b19 (fun c20 => ?_) (fun c20 => ?_)
  · have hk := hk.2 c20
    refine r_iconst X (pc := 34) dX5_restore_34 ?_
    refine G.sub [1, 2] rfl ?_
    exact w_X5_restore_35 X E hz sg x1 0 s0 hk
  · have hk := hk.1 c20
    refine r_aload_n X (pc := 21) dX5_restore_21 rfl (q := 1) rfl ?_
    refine r_tgR X (pc := 22) (ty := 2) (N := 2) fa_X5_25 rfl (by decide) dX5_restore_22 ?_
    refine r_iload_n X (pc := 25) dX5_restore_25 rfl (q := 2) rfl ?_
    obtain ⟨b21, hk⟩ := hk
    refine r_tzald X (pc := 26) (v := sg.2 5 x1) (N := 2) rfl rfl dX5_restore_26 b21 ?_
    obtain ⟨b22, hk⟩ := hk
    refine r_if_ne X (pc := 27) (tgt := 34) dX5_restore_27 (by decide) b22 (fun c23 => ?_) (fun c23 => ?_)
    · have hk := hk.2 c23
      refine r_iconst X (pc := 34) dX5_restore_34 ?_
      refine G.sub [1, 2] rfl ?_
      exact w_X5_restore_35 X E hz sg x1 0 s0 hk
    · have hk := hk.1 c23
      refine r_iconst X (pc := 30) dX5_restore_30 ?_
      refine r_goto X (pc := 31) (tgt := 35) dX5_restore_31 (by decide) ?_
      refine G.sub [1, 2] rfl ?_
      exact w_X5_restore_35 X E hz sg x1 1 s0 hk
set_option maxHeartbeats 4000000 in
theorem w_X5_restore {K : KT} {Y : YT} {Qx : QxT} {t n z : Nat} {h0 : AH} {κ : Int → TS → Prop} (X : XY K "TrailMarkersModel" "restore" cX5_restore (Option.some Jvm.ClassFile.FieldType.int) [] 3 3 104 Y) (E : YE K Y (tQ t h0 n z κ) Qx) (hz : kz K ≤ t) {sg : TS} {x1 : Int} (hk : P_X5_restore κ sg x1) : G K Y (tw t sg h0) n z 0 (lv_argsA 0 [vR (some t), vI x1]) [] := by
  show G K Y (tw t sg h0) n z 0 [(0, vR (some t)), (1, vI x1)] []
  refine r_iload_n X (pc := 0) dX5_restore_0 rfl (q := 1) rfl ?_
  refine r_iconst X (pc := 1) dX5_restore_1 ?_
  refine r_iconst X (pc := 2) dX5_restore_2 ?_
  refine r_callS X (pc := 3) (As := [vI x1, vI 0, vI 1]) (st := []) m_X5_119 (fun _ => s_X5_isIn hk) ⟨by decide, by decide⟩ (Nat.le_of_ble_eq_true rfl) dX5_restore_3 (fun v9 h9 n9 z9 hq => ?_) (fun _ _ _ _ _ hf => hf.elim)
  obtain ⟨r24, rfl, rfl, rfl, rfl, hk⟩ := hq
  refine ⟨[vI r24], rfl, ?_⟩
  obtain ⟨b25, hk⟩ := hk
  refine r_if_ne X (pc := 6) (tgt := 13) dX5_restore_6 (by decide) b25 (fun c26 => ?_) (fun c26 => ?_)
  · have hk := hk.2 c26
    refine r_iconst X (pc := 13) dX5_restore_13 ?_
    exact w_X5_restore_14 X E hz sg x1 0 hk
  · have hk := hk.1 c26
    refine r_iconst X (pc := 9) dX5_restore_9 ?_
    refine r_goto X (pc := 10) (tgt := 14) dX5_restore_10 (by decide) ?_
    exact w_X5_restore_14 X E hz sg x1 1 hk
theorem s_X5_restore {K : KT} {l : Launch} {t n z : Nat} {h0 : AH} {κ : Int → TS → Prop} (hz : kz K ≤ t) {sg : TS} {x1 : Int} (hk : P_X5_restore κ sg x1) : Ct K l yX5_restore (ws_ yX5_restore cX5_restore 3 (Option.some Jvm.ClassFile.FieldType.int)) 3 104 ([vR (some t), vI x1].map cV) (tw t sg h0) n z (tQ t h0 n z κ) noX :=
  ct_of (by decide +kernel) (Nat.le_of_ble_eq_true rfl) (fun Y X E => w_X5_restore X E hz hk)
set_option maxHeartbeats 4000000 in
theorem w_X5_begin_2 {K : KT} {Y : YT} {Qx : QxT} {t n z : Nat} {h0 : AH} {κ : Int → TS → Prop} (X : XY K "TrailMarkersModel" "begin" cX5_begin (Option.some Jvm.ClassFile.FieldType.int) [] 3 2 43 Y) (E : YE K Y (tQ t h0 n z κ) Qx) (hz : kz K ≤ t) {k_30 : TS → Int → Prop} {k_38 : TS → Prop} (H_30 : ∀ (sg : TS) (x2 : Int), k_30 sg x2 → G K Y (tw t sg h0) n z 30 [(0, vR (some t)), (2, vI x2)] []) (H_38 : ∀ (sg : TS), k_38 sg → G K Y (tw t sg h0) n z 38 [(0, vR (some t))] []) : ∀ (f : Nat) (sg : TS) (x1 : Int) (x2 : Int), L_X5_begin_2 k_30 k_38 κ f sg x1 x2 → G K Y (tw t sg h0) n z 2 [(0, vR (some t)), (1, vI x1), (2, vI x2)] [] := by
  intro f
  induction f with
  | zero => intro sg x1 x2 hk; exact hk.elim
  | succ f ih =>
    intro sg x1 x2 hk
    refine r_iload_n X (pc := 2) dX5_begin_2 rfl (q := 2) rfl ?_
    refine r_aload_n X (pc := 3) dX5_begin_3 rfl (q := 0) rfl ?_
    refine r_tgR X (pc := 4) (ty := 0) (N := 526) fa_X5_9 rfl (by decide) dX5_begin_4 ?_
    refine r_iconst X (pc := 7) dX5_begin_7 ?_
    refine r_tiald X (pc := 8) (v := sg.2 0 4) (N := 526) rfl rfl dX5_begin_8 (by decide) ?_
    obtain ⟨b11, b12, hk⟩ := hk
    refine r_icmp_ge X (pc := 9) (tgt := 38) dX5_begin_9 (by decide) ⟨b11, b12⟩ (fun c13 => ?_) (fun c13 => ?_)
    · have hk := hk.2 c13
      refine G.sub [0] rfl ?_
      exact H_38 sg hk
    · have hk := hk.1 c13
      refine r_aload_n X (pc := 12) dX5_begin_12 rfl (q := 0) rfl ?_
      refine r_iload_n X (pc := 13) dX5_begin_13 rfl (q := 2) rfl ?_
      refine r_iconst X (pc := 14) dX5_begin_14 ?_
      refine r_callV X (pc := 15) (As := [vI x2, vI 2]) (st := []) rfl rfl rfl (tw_t t _ h0) m_X5_130 (fun _ => s_X5_of hz hk) ⟨by decide, by decide⟩ (Nat.le_of_ble_eq_true rfl) dX5_begin_15 (fun v9 h9 n9 z9 hq => ?_) (fun _ _ _ _ _ hf => hf.elim)
      obtain ⟨r14, rfl, rfl, rfl, sg15, rfl, hk⟩ := hq
      refine ⟨[vI r14], rfl, ?_⟩
      refine r_iload_n X (pc := 18) dX5_begin_18 rfl (q := 1) rfl ?_
      obtain ⟨b16, b17, hk⟩ := hk
      refine r_icmp_ne X (pc := 19) (tgt := 32) dX5_begin_19 (by decide) ⟨b16, b17⟩ (fun c18 => ?_) (fun c18 => ?_)
      · have hk := hk.2 c18
        refine r_iinc X (pc := 32) (q := 2) (lv1 := [(2, vI (x2 + 1)), (0, vR (some t)), (1, vI x1)]) dX5_begin_32 rfl (by decide) rfl ?_
        refine r_goto X (pc := 35) (tgt := 2) dX5_begin_35 (by decide) ?_
        refine G.sub [1, 2, 0] rfl ?_
        exact ih sg15 x1 (x2 + 1) hk
      · have hk := hk.1 c18
        refine r_aload_n X (pc := 22) dX5_begin_22 rfl (q := 0) rfl ?_
        refine r_iload_n X (pc := 23) dX5_begin_23 rfl (q := 2) rfl ?_
        refine r_callV X (pc := 24) (As := [vI x2]) (st := []) rfl rfl rfl (tw_t t _ h0) m_X5_134 (fun _ => s_X5_stands hz hk) ⟨by decide, by decide⟩ (Nat.le_of_ble_eq_true rfl) dX5_begin_24 (fun v9 h9 n9 z9 hq => ?_) (fun _ _ _ _ _ hf => hf.elim)
        obtain ⟨r19, rfl, rfl, rfl, sg20, rfl, hk⟩ := hq
        refine ⟨[vI r19], rfl, ?_⟩
        obtain ⟨b21, hk⟩ := hk
        refine r_if_eq X (pc := 27) (tgt := 32) dX5_begin_27 (by decide) b21 (fun c22 => ?_) (fun c22 => ?_)
        · have hk := hk.1 c22
          refine r_iinc X (pc := 32) (q := 2) (lv1 := [(2, vI (x2 + 1)), (0, vR (some t)), (1, vI x1)]) dX5_begin_32 rfl (by decide) rfl ?_
          refine r_goto X (pc := 35) (tgt := 2) dX5_begin_35 (by decide) ?_
          refine G.sub [1, 2, 0] rfl ?_
          exact ih sg20 x1 (x2 + 1) hk
        · have hk := hk.2 c22
          refine G.sub [0, 2] rfl ?_
          exact H_30 sg20 x2 hk
set_option maxHeartbeats 4000000 in
theorem w_X5_begin_30 {K : KT} {Y : YT} {Qx : QxT} {t n z : Nat} {h0 : AH} {κ : Int → TS → Prop} (X : XY K "TrailMarkersModel" "begin" cX5_begin (Option.some Jvm.ClassFile.FieldType.int) [] 3 2 43 Y) (E : YE K Y (tQ t h0 n z κ) Qx) (hz : kz K ≤ t) : ∀ (sg : TS) (x2 : Int), P_X5_begin_30 κ sg x2 → G K Y (tw t sg h0) n z 30 [(0, vR (some t)), (2, vI x2)] [] := by
  intro sg x2 hk
  refine r_iload_n X (pc := 30) dX5_begin_30 rfl (q := 1) rfl ?_
  exact r_iret X E (pc := 31) dX5_begin_31 rfl ⟨_, rfl, rfl, rfl, _, rfl, hk⟩
set_option maxHeartbeats 4000000 in
theorem w_X5_begin_38 {K : KT} {Y : YT} {Qx : QxT} {t n z : Nat} {h0 : AH} {κ : Int → TS → Prop} (X : XY K "TrailMarkersModel" "begin" cX5_begin (Option.some Jvm.ClassFile.FieldType.int) [] 3 2 43 Y) (E : YE K Y (tQ t h0 n z κ) Qx) (hz : kz K ≤ t) : ∀ (sg : TS), P_X5_begin_38 κ sg → G K Y (tw t sg h0) n z 38 [(0, vR (some t))] [] := by
  intro sg hk
  refine r_iconst X (pc := 38) dX5_begin_38 ?_
  exact r_iret X E (pc := 39) dX5_begin_39 rfl ⟨_, rfl, rfl, rfl, _, rfl, hk⟩
set_option maxHeartbeats 4000000 in
theorem w_X5_begin {K : KT} {Y : YT} {Qx : QxT} {t n z : Nat} {h0 : AH} {κ : Int → TS → Prop} (X : XY K "TrailMarkersModel" "begin" cX5_begin (Option.some Jvm.ClassFile.FieldType.int) [] 3 2 43 Y) (E : YE K Y (tQ t h0 n z κ) Qx) (hz : kz K ≤ t) {sg : TS} {x1 : Int} (hk : P_X5_begin κ sg x1) : G K Y (tw t sg h0) n z 0 (lv_argsA 0 [vR (some t), vI x1]) [] := by
  show G K Y (tw t sg h0) n z 0 [(0, vR (some t)), (1, vI x1)] []
  refine r_iconst X (pc := 0) dX5_begin_0 ?_
  refine r_istore_n X (pc := 1) (lv1 := [(2, vI 0), (0, vR (some t)), (1, vI x1)]) dX5_begin_1 rfl (by decide) rfl ?_
  refine G.sub [1, 2, 0] rfl ?_
  have HH23 : ∀ (sg : TS) (x2 : Int), (P_X5_begin_30 κ sg x2) → G K Y (tw t sg h0) n z 30 [(0, vR (some t)), (2, vI x2)] [] := by
      intro sg x2 hk
      exact w_X5_begin_30 X E hz sg x2 hk
  have HH24 : ∀ (sg : TS), (P_X5_begin_38 κ sg) → G K Y (tw t sg h0) n z 38 [(0, vR (some t))] [] := by
      intro sg hk
      exact w_X5_begin_38 X E hz sg hk
  obtain ⟨f9, hk⟩ := hk
  exact w_X5_begin_2 X E hz HH23 HH24 f9 sg x1 0 hk
theorem s_X5_begin {K : KT} {l : Launch} {t n z : Nat} {h0 : AH} {κ : Int → TS → Prop} (hz : kz K ≤ t) {sg : TS} {x1 : Int} (hk : P_X5_begin κ sg x1) : Ct K l yX5_begin (ws_ yX5_begin cX5_begin 3 (Option.some Jvm.ClassFile.FieldType.int)) 2 43 ([vR (some t), vI x1].map cV) (tw t sg h0) n z (tQ t h0 n z κ) noX :=
  ct_of (by decide +kernel) (Nat.le_of_ble_eq_true rfl) (fun Y X E => w_X5_begin X E hz hk)
set_option maxHeartbeats 4000000 in
theorem w_X5_begins_37 {K : KT} {Y : YT} {Qx : QxT} {t n z : Nat} {h0 : AH} {κ : TS → Prop} (X : XY K "TrailMarkersModel" "begins" cX5_begins (Option.none : Option Jvm.ClassFile.FieldType) [] 3 2 43 Y) (E : YE K Y (tQv t h0 n z κ) Qx) (hz : kz K ≤ t) {k_56 : TS → Int → Prop} (H_56 : ∀ (sg : TS) (x1 : Int), k_56 sg x1 → G K Y (tw t sg h0) n z 56 [(0, vR (some t)), (1, vI x1)] []) : ∀ (f : Nat) (sg : TS) (x1 : Int) (x2 : Int), L_X5_begins_37 k_56 κ f sg x1 x2 → G K Y (tw t sg h0) n z 37 [(0, vR (some t)), (1, vI x1), (2, vI x2)] [] := by
  intro f
  induction f with
  | zero => intro sg x1 x2 hk; exact hk.elim
  | succ f ih =>
    intro sg x1 x2 hk
    refine r_iload_n X (pc := 37) dX5_begins_37 rfl (q := 2) rfl ?_
    refine r_bipush X (pc := 38) dX5_begins_38 (by decide) ?_
    obtain ⟨b11, hk⟩ := hk
    refine r_icmp_ge X (pc := 40) (tgt := 56) dX5_begins_40 (by decide) ⟨b11, (by decide)⟩ (fun c12 => ?_) (fun c12 => ?_)
    · have hk := hk.2 c12
      refine G.sub [0, 1] rfl ?_
      exact H_56 sg x1 hk
    · have hk := hk.1 c12
      refine r_aload_n X (pc := 43) dX5_begins_43 rfl (q := 0) rfl ?_
      refine r_tgR X (pc := 44) (ty := 2) (N := 24) fa_X5_60 rfl (by decide) dX5_begins_44 ?_
      refine r_iload_n X (pc := 47) dX5_begins_47 rfl (q := 2) rfl ?_
      refine r_iconst X (pc := 48) dX5_begins_48 ?_
      obtain ⟨b13, hk⟩ := hk
      refine r_tzast X (pc := 49) hz (N := 24) rfl (Or.inl rfl) dX5_begins_49 b13 ?_
      refine r_iinc X (pc := 50) (q := 2) (lv1 := [(2, vI (x2 + 1)), (0, vR (some t)), (1, vI x1)]) dX5_begins_50 rfl (by decide) rfl ?_
      refine r_goto X (pc := 53) (tgt := 37) dX5_begins_53 (by decide) ?_
      refine G.sub [1, 2, 0] rfl ?_
      exact ih (setA sg 31 (uI (sg.2 31) x2 0)) x1 (x2 + 1) hk
set_option maxHeartbeats 4000000 in
theorem w_X5_begins_56 {K : KT} {Y : YT} {Qx : QxT} {t n z : Nat} {h0 : AH} {κ : TS → Prop} (X : XY K "TrailMarkersModel" "begins" cX5_begins (Option.none : Option Jvm.ClassFile.FieldType) [] 3 2 43 Y) (E : YE K Y (tQv t h0 n z κ) Qx) (hz : kz K ≤ t) : ∀ (sg : TS) (x1 : Int), P_X5_begins_56 κ sg x1 → G K Y (tw t sg h0) n z 56 [(0, vR (some t)), (1, vI x1)] [] := by
  intro sg x1 hk
  refine r_iload_n X (pc := 56) dX5_begins_56 rfl (q := 1) rfl ?_
  refine r_iconst X (pc := 57) dX5_begins_57 ?_
  obtain ⟨b14, hk⟩ := hk
  refine r_icmp_eq X (pc := 58) (tgt := 69) dX5_begins_58 (by decide) ⟨b14, (by decide)⟩ (fun c15 => ?_) (fun c15 => ?_)
  · have hk := hk.1 c15
    exact r_vret X E (pc := 69) dX5_begins_69 ⟨rfl, rfl, rfl, _, rfl, hk⟩
  · have hk := hk.2 c15
    refine r_aload_n X (pc := 61) dX5_begins_61 rfl (q := 0) rfl ?_
    refine r_iload_n X (pc := 62) dX5_begins_62 rfl (q := 1) rfl ?_
    refine r_callV X (pc := 63) (As := [vI x1]) (st := []) rfl rfl rfl (tw_t t _ h0) m_X5_134 (fun _ => s_X5_stands hz hk) ⟨by decide, by decide⟩ (Nat.le_of_ble_eq_true rfl) dX5_begins_63 (fun v9 h9 n9 z9 hq => ?_) (fun _ _ _ _ _ hf => hf.elim)
    obtain ⟨r16, rfl, rfl, rfl, sg17, rfl, hk⟩ := hq
    refine ⟨[vI r16], rfl, ?_⟩
    obtain ⟨b18, hk⟩ := hk
    refine r_if_ne X (pc := 66) (tgt := 70) dX5_begins_66 (by decide) b18 (fun c19 => ?_) (fun c19 => ?_)
    · have hk := hk.2 c19
      refine r_aload_n X (pc := 70) dX5_begins_70 rfl (q := 0) rfl ?_
      refine r_tgR X (pc := 71) (ty := 0) (N := 1000) fa_X5_45 rfl (by decide) dX5_begins_71 ?_
      refine r_iconst X (pc := 74) dX5_begins_74 ?_
      refine r_bipush X (pc := 75) dX5_begins_75 (by decide) ?_
      refine r_aload_n X (pc := 77) dX5_begins_77 rfl (q := 0) rfl ?_
      refine r_iload_n X (pc := 78) dX5_begins_78 rfl (q := 1) rfl ?_
      refine r_iconst X (pc := 79) dX5_begins_79 ?_
      refine r_callV X (pc := 80) (As := [vI x1, vI 0]) (st := [vI 100, vI 0, vR (some (twAd t 26))]) rfl rfl rfl (tw_t t _ h0) m_X5_130 (fun _ => s_X5_of hz hk) ⟨by decide, by decide⟩ (Nat.le_of_ble_eq_true rfl) dX5_begins_80 (fun v9 h9 n9 z9 hq => ?_) (fun _ _ _ _ _ hf => hf.elim)
      obtain ⟨r20, rfl, rfl, rfl, sg21, rfl, hk⟩ := hq
      refine ⟨[vI r20], rfl, ?_⟩
      refine r_imul X (pc := 83) dX5_begins_83 ?_
      refine r_aload_n X (pc := 84) dX5_begins_84 rfl (q := 0) rfl ?_
      refine r_iload_n X (pc := 85) dX5_begins_85 rfl (q := 1) rfl ?_
      refine r_iconst X (pc := 86) dX5_begins_86 ?_
      refine r_callV X (pc := 87) (As := [vI x1, vI 1]) (st := [vI (100 * r20), vI 0, vR (some (twAd t 26))]) rfl rfl rfl (tw_t t _ h0) m_X5_130 (fun _ => s_X5_of hz hk) ⟨by decide, by decide⟩ (Nat.le_of_ble_eq_true rfl) dX5_begins_87 (fun v9 h9 n9 z9 hq => ?_) (fun _ _ _ _ _ hf => hf.elim)
      obtain ⟨r22, rfl, rfl, rfl, sg23, rfl, hk⟩ := hq
      refine ⟨[vI r22], rfl, ?_⟩
      refine r_iadd X (pc := 90) dX5_begins_90 ?_
      refine r_tiast X (pc := 91) hz (N := 1000) rfl dX5_begins_91 (by decide) ?_
      refine r_aload_n X (pc := 92) dX5_begins_92 rfl (q := 0) rfl ?_
      refine r_iconst X (pc := 93) dX5_begins_93 ?_
      refine r_tpI X (pc := 94) fp_X5_199 hz (by decide) dX5_begins_94 ?_
      exact r_vret X E (pc := 97) dX5_begins_97 ⟨rfl, rfl, rfl, _, rfl, hk⟩
    · have hk := hk.1 c19
      exact r_vret X E (pc := 69) dX5_begins_69 ⟨rfl, rfl, rfl, _, rfl, hk⟩
set_option maxHeartbeats 4000000 in
theorem w_X5_begins {K : KT} {Y : YT} {Qx : QxT} {t n z : Nat} {h0 : AH} {κ : TS → Prop} (X : XY K "TrailMarkersModel" "begins" cX5_begins (Option.none : Option Jvm.ClassFile.FieldType) [] 3 2 43 Y) (E : YE K Y (tQv t h0 n z κ) Qx) (hz : kz K ≤ t) {sg : TS} {x1 : Int} (hk : P_X5_begins κ sg x1) : G K Y (tw t sg h0) n z 0 (lv_argsA 0 [vR (some t), vI x1]) [] := by
  show G K Y (tw t sg h0) n z 0 [(0, vR (some t)), (1, vI x1)] []
  refine r_aload_n X (pc := 0) dX5_begins_0 rfl (q := 0) rfl ?_
  refine r_iconst X (pc := 1) dX5_begins_1 ?_
  refine r_tpI X (pc := 2) fp_X5_208 hz (by decide) dX5_begins_2 ?_
  refine r_aload_n X (pc := 5) dX5_begins_5 rfl (q := 0) rfl ?_
  refine r_iconst X (pc := 6) dX5_begins_6 ?_
  refine r_tpI X (pc := 7) fp_X5_199 hz (by decide) dX5_begins_7 ?_
  refine r_aload_n X (pc := 10) dX5_begins_10 rfl (q := 0) rfl ?_
  refine r_iconst X (pc := 11) dX5_begins_11 ?_
  refine r_tpI X (pc := 12) fp_X5_202 hz (by decide) dX5_begins_12 ?_
  refine r_aload_n X (pc := 15) dX5_begins_15 rfl (q := 0) rfl ?_
  refine r_iconst X (pc := 16) dX5_begins_16 ?_
  refine r_tpI X (pc := 17) fp_X5_205 hz (by decide) dX5_begins_17 ?_
  refine r_aload_n X (pc := 20) dX5_begins_20 rfl (q := 0) rfl ?_
  refine r_iconst X (pc := 21) dX5_begins_21 ?_
  refine r_tpI X (pc := 22) fp_X5_211 hz (by decide) dX5_begins_22 ?_
  refine r_aload_n X (pc := 25) dX5_begins_25 rfl (q := 0) rfl ?_
  refine r_iconst X (pc := 26) dX5_begins_26 ?_
  refine r_tpI X (pc := 27) fp_X5_214 hz (by decide) dX5_begins_27 ?_
  refine r_aload_n X (pc := 30) dX5_begins_30 rfl (q := 0) rfl ?_
  refine r_iconst X (pc := 31) dX5_begins_31 ?_
  refine r_tpI X (pc := 32) fp_X5_217 hz (by decide) dX5_begins_32 ?_
  refine r_iconst X (pc := 35) dX5_begins_35 ?_
  refine r_istore_n X (pc := 36) (lv1 := [(2, vI 0), (0, vR (some t)), (1, vI x1)]) dX5_begins_36 rfl (by decide) rfl ?_
  refine G.sub [1, 2, 0] rfl ?_
  have HH24 : ∀ (sg : TS) (x1 : Int), (P_X5_begins_56 κ sg x1) → G K Y (tw t sg h0) n z 56 [(0, vR (some t)), (1, vI x1)] [] := by
      intro sg x1 hk
      exact w_X5_begins_56 X E hz sg x1 hk
  obtain ⟨f9, hk⟩ := hk
  exact w_X5_begins_37 X E hz HH24 f9 (setS (setS (setS (setS (setS (setS (setS sg 32 0) 33 0) 34 0) 35 0) 38 0) 36 1) 37 (-1)) x1 0 hk
theorem s_X5_begins {K : KT} {l : Launch} {t n z : Nat} {h0 : AH} {κ : TS → Prop} (hz : kz K ≤ t) {sg : TS} {x1 : Int} (hk : P_X5_begins κ sg x1) : Ct K l yX5_begins (ws_ yX5_begins cX5_begins 3 (Option.none : Option Jvm.ClassFile.FieldType)) 2 43 ([vR (some t), vI x1].map cV) (tw t sg h0) n z (tQv t h0 n z κ) noX :=
  ct_of (by decide +kernel) (Nat.le_of_ble_eq_true rfl) (fun Y X E => w_X5_begins X E hz hk)
set_option maxHeartbeats 4000000 in
theorem w_X5_isFree {K : KT} {Y : YT} {Qx : QxT} {t n z : Nat} {h0 : AH} {κ : Int → TS → Prop} (X : XY K "TrailMarkersModel" "isFree" cX5_isFree (Option.some Jvm.ClassFile.FieldType.boolean) [] 3 2 44 Y) (E : YE K Y (tQ t h0 n z κ) Qx) (hz : kz K ≤ t) {sg : TS} {x1 : Int} {x2 : Int} (hk : P_X5_isFree κ sg x1 x2) : G K Y (tw t sg h0) n z 0 (lv_argsA 0 [vR (some t), vI x1, vI x2]) [] := by
  show G K Y (tw t sg h0) n z 0 [(0, vR (some t)), (1, vI x1), (2, vI x2)] []
  refine r_aload_n X (pc := 0) dX5_isFree_0 rfl (q := 0) rfl ?_
  refine r_iload_n X (pc := 1) dX5_isFree_1 rfl (q := 1) rfl ?_
  refine r_iload_n X (pc := 2) dX5_isFree_2 rfl (q := 2) rfl ?_
  refine r_callV X (pc := 3) (As := [vI x1, vI x2]) (st := []) rfl rfl rfl (tw_t t _ h0) m_X5_123 (fun _ => s_X5_isOn hz hk) ⟨by decide, by decide⟩ (Nat.le_of_ble_eq_true rfl) dX5_isFree_3 (fun v9 h9 n9 z9 hq => ?_) (fun _ _ _ _ _ hf => hf.elim)
  obtain ⟨r7, rfl, rfl, rfl, sg8, rfl, hk⟩ := hq
  refine ⟨[vI r7], rfl, ?_⟩
  obtain ⟨b9, hk⟩ := hk
  refine r_if_eq X (pc := 6) (tgt := 22) dX5_isFree_6 (by decide) b9 (fun c10 => ?_) (fun c10 => ?_)
  · have hk := hk.1 c10
    refine r_iconst X (pc := 22) dX5_isFree_22 ?_
    exact r_iret X E (pc := 23) dX5_isFree_23 rfl ⟨_, rfl, rfl, rfl, _, rfl, hk⟩
  · have hk := hk.2 c10
    refine r_aload_n X (pc := 9) dX5_isFree_9 rfl (q := 0) rfl ?_
    refine r_iload_n X (pc := 10) dX5_isFree_10 rfl (q := 1) rfl ?_
    refine r_iload_n X (pc := 11) dX5_isFree_11 rfl (q := 2) rfl ?_
    refine r_callV X (pc := 12) (As := [vI x1, vI x2]) (st := []) rfl rfl rfl (tw_t t _ h0) m_X5_127 (fun _ => s_X5_isBlock hz hk) ⟨by decide, by decide⟩ (Nat.le_of_ble_eq_true rfl) dX5_isFree_12 (fun v9 h9 n9 z9 hq => ?_) (fun _ _ _ _ _ hf => hf.elim)
    obtain ⟨r11, rfl, rfl, rfl, sg12, rfl, hk⟩ := hq
    refine ⟨[vI r11], rfl, ?_⟩
    obtain ⟨b13, hk⟩ := hk
    refine r_if_ne X (pc := 15) (tgt := 22) dX5_isFree_15 (by decide) b13 (fun c14 => ?_) (fun c14 => ?_)
    · have hk := hk.2 c14
      refine r_iconst X (pc := 22) dX5_isFree_22 ?_
      exact r_iret X E (pc := 23) dX5_isFree_23 rfl ⟨_, rfl, rfl, rfl, _, rfl, hk⟩
    · have hk := hk.1 c14
      refine r_iconst X (pc := 18) dX5_isFree_18 ?_
      refine r_goto X (pc := 19) (tgt := 23) dX5_isFree_19 (by decide) ?_
      exact r_iret X E (pc := 23) dX5_isFree_23 rfl ⟨_, rfl, rfl, rfl, _, rfl, hk⟩
theorem s_X5_isFree {K : KT} {l : Launch} {t n z : Nat} {h0 : AH} {κ : Int → TS → Prop} (hz : kz K ≤ t) {sg : TS} {x1 : Int} {x2 : Int} (hk : P_X5_isFree κ sg x1 x2) : Ct K l yX5_isFree (ws_ yX5_isFree cX5_isFree 3 (Option.some Jvm.ClassFile.FieldType.boolean)) 2 44 ([vR (some t), vI x1, vI x2].map cV) (tw t sg h0) n z (tQ t h0 n z κ) noX :=
  ct_of (by decide +kernel) (Nat.le_of_ble_eq_true rfl) (fun Y X E => w_X5_isFree X E hz hk)
set_option maxHeartbeats 4000000 in
theorem w_X5_leg_21 {K : KT} {Y : YT} {Qx : QxT} {t n z : Nat} {h0 : AH} {κ : TS → Prop} (X : XY K "TrailMarkersModel" "leg" cX5_leg (Option.none : Option Jvm.ClassFile.FieldType) [] 8 3 66 Y) (E : YE K Y (tQv t h0 n z κ) Qx) (hz : kz K ≤ t) {k_157 : TS → Prop} (H_157 : ∀ (sg : TS), k_157 sg → G K Y (tw t sg h0) n z 157 [(0, vR (some t))] []) : ∀ (f : Nat) (sg : TS) (x3 : Int) (x4 : Int) (x5 : Int) (x6 : Int), L_X5_leg_21 k_157 κ f sg x3 x4 x5 x6 → G K Y (tw t sg h0) n z 21 [(0, vR (some t)), (3, vI x3), (4, vI x4), (5, vI x5), (6, vI x6)] [] := by
  intro f
  induction f with
  | zero => intro sg x3 x4 x5 x6 hk; exact hk.elim
  | succ f ih =>
    intro sg x3 x4 x5 x6 hk
    refine r_aload_n X (pc := 21) dX5_leg_21 rfl (q := 0) rfl ?_
    refine r_tgI X (pc := 22) (v := sg.1 15) fa_X5_138 (by decide) rfl dX5_leg_22 ?_
    refine r_aload_n X (pc := 25) dX5_leg_25 rfl (q := 0) rfl ?_
    refine r_tgR X (pc := 26) (ty := 0) (N := 526) fa_X5_9 rfl (by decide) dX5_leg_26 ?_
    refine r_iconst X (pc := 29) dX5_leg_29 ?_
    refine r_tiald X (pc := 30) (v := sg.2 0 2) (N := 526) rfl rfl dX5_leg_30 (by decide) ?_
    obtain ⟨b22, b23, hk⟩ := hk
    refine r_icmp_ge X (pc := 31) (tgt := 157) dX5_leg_31 (by decide) ⟨b22, b23⟩ (fun c24 => ?_) (fun c24 => ?_)
    · have hk := hk.2 c24
      refine G.sub [0] rfl ?_
      exact H_157 sg hk
    · have hk := hk.1 c24
      refine r_aload_n X (pc := 34) dX5_leg_34 rfl (q := 0) rfl ?_
      refine r_iload X (pc := 35) dX5_leg_35 (q := 3) rfl ?_
      refine r_iload_n X (pc := 37) dX5_leg_37 rfl (q := 1) rfl ?_
      refine r_callS X (pc := 38) (As := [vI x3]) (st := [vI x5, vR (some t)]) m_X5_147 (fun _ => s_X5_dx hk) ⟨by decide, by decide⟩ (Nat.le_of_ble_eq_true rfl) dX5_leg_38 (fun v9 h9 n9 z9 hq => ?_) (fun _ _ _ _ _ hf => hf.elim)
      obtain ⟨r25, rfl, rfl, rfl, rfl, hk⟩ := hq
      refine ⟨[vI r25], rfl, ?_⟩
      refine r_iadd X (pc := 41) dX5_leg_41 ?_
      refine r_iload X (pc := 42) dX5_leg_42 (q := 4) rfl ?_
      refine r_iload_n X (pc := 44) dX5_leg_44 rfl (q := 1) rfl ?_
      refine r_callS X (pc := 45) (As := [vI x3]) (st := [vI x6, vI (x5 + r25), vR (some t)]) m_X5_151 (fun _ => s_X5_dy hk) ⟨by decide, by decide⟩ (Nat.le_of_ble_eq_true rfl) dX5_leg_45 (fun v9 h9 n9 z9 hq => ?_) (fun _ _ _ _ _ hf => hf.elim)
      obtain ⟨r26, rfl, rfl, rfl, rfl, hk⟩ := hq
      refine ⟨[vI r26], rfl, ?_⟩
      refine r_iadd X (pc := 48) dX5_leg_48 ?_
      refine r_callV X (pc := 49) (As := [vI (x5 + r25), vI (x6 + r26)]) (st := []) rfl rfl rfl (tw_t t _ h0) m_X5_154 (fun _ => s_X5_isFree hz hk) ⟨by decide, by decide⟩ (Nat.le_of_ble_eq_true rfl) dX5_leg_49 (fun v9 h9 n9 z9 hq => ?_) (fun _ _ _ _ _ hf => hf.elim)
      obtain ⟨r27, rfl, rfl, rfl, sg28, rfl, hk⟩ := hq
      refine ⟨[vI r27], rfl, ?_⟩
      obtain ⟨b29, hk⟩ := hk
      refine r_if_eq X (pc := 52) (tgt := 157) dX5_leg_52 (by decide) b29 (fun c30 => ?_) (fun c30 => ?_)
      · have hk := hk.1 c30
        refine G.sub [0] rfl ?_
        exact H_157 sg28 hk
      · have hk := hk.2 c30
        refine r_iload X (pc := 55) dX5_leg_55 (q := 3) rfl ?_
        refine r_iload_n X (pc := 57) dX5_leg_57 rfl (q := 1) rfl ?_
        refine r_callS X (pc := 58) (As := [vI x3]) (st := [vI x5]) m_X5_147 (fun _ => s_X5_dx hk) ⟨by decide, by decide⟩ (Nat.le_of_ble_eq_true rfl) dX5_leg_58 (fun v9 h9 n9 z9 hq => ?_) (fun _ _ _ _ _ hf => hf.elim)
        obtain ⟨r31, rfl, rfl, rfl, rfl, hk⟩ := hq
        refine ⟨[vI r31], rfl, ?_⟩
        refine r_iadd X (pc := 61) dX5_leg_61 ?_
        refine r_istore X (pc := 62) (lv1 := [(5, vI (x5 + r31)), (0, vR (some t)), (3, vI x3), (4, vI x4), (6, vI x6)]) dX5_leg_62 (by decide) rfl ?_
        refine r_iload X (pc := 64) dX5_leg_64 (q := 4) rfl ?_
        refine r_iload_n X (pc := 66) dX5_leg_66 rfl (q := 2) rfl ?_
        refine r_callS X (pc := 67) (As := [vI x3]) (st := [vI x6]) m_X5_151 (fun _ => s_X5_dy hk) ⟨by decide, by decide⟩ (Nat.le_of_ble_eq_true rfl) dX5_leg_67 (fun v9 h9 n9 z9 hq => ?_) (fun _ _ _ _ _ hf => hf.elim)
        obtain ⟨r32, rfl, rfl, rfl, rfl, hk⟩ := hq
        refine ⟨[vI r32], rfl, ?_⟩
        refine r_iadd X (pc := 70) dX5_leg_70 ?_
        refine r_istore X (pc := 71) (lv1 := [(6, vI (x6 + r32)), (5, vI (x5 + r31)), (0, vR (some t)), (3, vI x3), (4, vI x4)]) dX5_leg_71 (by decide) rfl ?_
        refine r_aload_n X (pc := 73) dX5_leg_73 rfl (q := 2) rfl ?_
        refine r_dup X (pc := 74) dX5_leg_74 rfl ?_
        refine r_tgI X (pc := 75) (v := sg28.1 15) fa_X5_138 (by decide) rfl dX5_leg_75 ?_
        refine r_iconst X (pc := 78) dX5_leg_78 ?_
        refine r_iadd X (pc := 79) dX5_leg_79 ?_
        refine r_tpI X (pc := 80) fp_X5_138 hz (by decide) dX5_leg_80 ?_
        refine r_aload_n X (pc := 83) dX5_leg_83 rfl (q := 2) rfl ?_
        refine r_iload X (pc := 84) dX5_leg_84 (q := 1) rfl ?_
        refine r_iload X (pc := 86) dX5_leg_86 (q := 0) rfl ?_
        refine r_callV X (pc := 88) (As := [vI (x5 + r31), vI (x6 + r32)]) (st := []) rfl rfl rfl (tw_t t _ h0) m_X5_157 (fun _ => s_X5_postAt hz hk) ⟨by decide, by decide⟩ (Nat.le_of_ble_eq_true rfl) dX5_leg_88 (fun v9 h9 n9 z9 hq => ?_) (fun _ _ _ _ _ hf => hf.elim)
        obtain ⟨r33, rfl, rfl, rfl, sg34, rfl, hk⟩ := hq
        refine ⟨[vI r33], rfl, ?_⟩
        refine r_istore X (pc := 91) (lv1 := [(7, vI r33), (6, vI (x6 + r32)), (5, vI (x5 + r31)), (0, vR (some t)), (3, vI x3), (4, vI x4)]) dX5_leg_91 (by decide) rfl ?_
        refine r_aload_n X (pc := 93) dX5_leg_93 rfl (q := 3) rfl ?_
        refine r_tgI X (pc := 94) (v := sg34.1 16) fa_X5_141 (by decide) rfl dX5_leg_94 ?_
        refine r_iconst X (pc := 97) dX5_leg_97 ?_
        obtain ⟨b35, hk⟩ := hk
        refine r_icmp_ne X (pc := 98) (tgt := 154) dX5_leg_98 (by decide) ⟨b35, (by decide)⟩ (fun c36 => ?_) (fun c36 => ?_)
        · have hk := hk.2 c36
          refine r_goto X (pc := 154) (tgt := 21) dX5_leg_154 (by decide) ?_
          refine G.sub [3, 4, 5, 2, 1] rfl ?_
          exact ih sg34 x3 x4 (x5 + r31) (x6 + r32) hk
        · have hk := hk.1 c36
          refine r_iload X (pc := 101) dX5_leg_101 (q := 0) rfl ?_
          refine r_iconst X (pc := 103) dX5_leg_103 ?_
          obtain ⟨b37, hk⟩ := hk
          refine r_icmp_eq X (pc := 104) (tgt := 154) dX5_leg_104 (by decide) ⟨b37, (by decide)⟩ (fun c38 => ?_) (fun c38 => ?_)
          · have hk := hk.1 c38
            refine r_goto X (pc := 154) (tgt := 21) dX5_leg_154 (by decide) ?_
            refine G.sub [3, 4, 5, 2, 1] rfl ?_
            exact ih sg34 x3 x4 (x5 + r31) (x6 + r32) hk
          · have hk := hk.2 c38
            refine r_iload X (pc := 107) dX5_leg_107 (q := 0) rfl ?_
            refine r_iload X (pc := 109) dX5_leg_109 (q := 5) rfl ?_
            obtain ⟨b39, hk⟩ := hk
            refine r_icmp_eq X (pc := 111) (tgt := 154) dX5_leg_111 (by decide) ⟨b37, b39⟩ (fun c40 => ?_) (fun c40 => ?_)
            · have hk := hk.1 c40
              refine r_goto X (pc := 154) (tgt := 21) dX5_leg_154 (by decide) ?_
              refine G.sub [3, 4, 5, 2, 1] rfl ?_
              exact ih sg34 x3 x4 (x5 + r31) (x6 + r32) hk
            · have hk := hk.2 c40
              refine r_aload_n X (pc := 114) dX5_leg_114 rfl (q := 3) rfl ?_
              refine r_iload X (pc := 115) dX5_leg_115 (q := 0) rfl ?_
              refine r_callV X (pc := 117) (As := [vI r33]) (st := []) rfl rfl rfl (tw_t t _ h0) m_X5_134 (fun _ => s_X5_stands hz hk) ⟨by decide, by decide⟩ (Nat.le_of_ble_eq_true rfl) dX5_leg_117 (fun v9 h9 n9 z9 hq => ?_) (fun _ _ _ _ _ hf => hf.elim)
              obtain ⟨r41, rfl, rfl, rfl, sg42, rfl, hk⟩ := hq
              refine ⟨[vI r41], rfl, ?_⟩
              obtain ⟨b43, hk⟩ := hk
              refine r_if_eq X (pc := 120) (tgt := 154) dX5_leg_120 (by decide) b43 (fun c44 => ?_) (fun c44 => ?_)
              · have hk := hk.1 c44
                refine r_goto X (pc := 154) (tgt := 21) dX5_leg_154 (by decide) ?_
                refine G.sub [3, 4, 5, 2, 1] rfl ?_
                exact ih sg42 x3 x4 (x5 + r31) (x6 + r32) hk
              · have hk := hk.2 c44
                refine r_aload_n X (pc := 123) dX5_leg_123 rfl (q := 3) rfl ?_
                refine r_iload X (pc := 124) dX5_leg_124 (q := 0) rfl ?_
                refine r_iconst X (pc := 126) dX5_leg_126 ?_
                refine r_callV X (pc := 127) (As := [vI r33, vI 2]) (st := []) rfl rfl rfl (tw_t t _ h0) m_X5_130 (fun _ => s_X5_of hz hk) ⟨by decide, by decide⟩ (Nat.le_of_ble_eq_true rfl) dX5_leg_127 (fun v9 h9 n9 z9 hq => ?_) (fun _ _ _ _ _ hf => hf.elim)
                obtain ⟨r45, rfl, rfl, rfl, sg46, rfl, hk⟩ := hq
                refine ⟨[vI r45], rfl, ?_⟩
                refine r_aload_n X (pc := 130) dX5_leg_130 rfl (q := 3) rfl ?_
                refine r_iload X (pc := 131) dX5_leg_131 (q := 5) rfl ?_
                refine r_iconst X (pc := 133) dX5_leg_133 ?_
                refine r_callV X (pc := 134) (As := [vI x4, vI 2]) (st := [vI r45]) rfl rfl rfl (tw_t t _ h0) m_X5_130 (fun _ => s_X5_of hz hk) ⟨by decide, by decide⟩ (Nat.le_of_ble_eq_true rfl) dX5_leg_134 (fun v9 h9 n9 z9 hq => ?_) (fun _ _ _ _ _ hf => hf.elim)
                obtain ⟨r47, rfl, rfl, rfl, sg48, rfl, hk⟩ := hq
                refine ⟨[vI r47], rfl, ?_⟩
                obtain ⟨b49, b50, hk⟩ := hk
                refine r_icmp_ne X (pc := 137) (tgt := 154) dX5_leg_137 (by decide) ⟨b49, b50⟩ (fun c51 => ?_) (fun c51 => ?_)
                · have hk := hk.2 c51
                  refine r_goto X (pc := 154) (tgt := 21) dX5_leg_154 (by decide) ?_
                  refine G.sub [3, 4, 5, 2, 1] rfl ?_
                  exact ih sg48 x3 x4 (x5 + r31) (x6 + r32) hk
                · have hk := hk.1 c51
                  refine r_aload_n X (pc := 140) dX5_leg_140 rfl (q := 3) rfl ?_
                  refine r_iload X (pc := 141) dX5_leg_141 (q := 0) rfl ?_
                  refine r_tpI X (pc := 143) fp_X5_141 hz (by decide) dX5_leg_143 ?_
                  refine r_aload_n X (pc := 146) dX5_leg_146 rfl (q := 3) rfl ?_
                  refine r_aload_n X (pc := 147) dX5_leg_147 rfl (q := 3) rfl ?_
                  refine r_tgI X (pc := 148) (v := sg48.1 15) fa_X5_138 (by decide) rfl dX5_leg_148 ?_
                  refine r_tpI X (pc := 151) fp_X5_144 hz (by decide) dX5_leg_151 ?_
                  refine r_goto X (pc := 154) (tgt := 21) dX5_leg_154 (by decide) ?_
                  refine G.sub [3, 4, 5, 2, 1] rfl ?_
                  exact ih (setS (setS sg48 16 r33) 17 (sg48.1 15)) x3 x4 (x5 + r31) (x6 + r32) hk
set_option maxHeartbeats 4000000 in
theorem w_X5_leg_157 {K : KT} {Y : YT} {Qx : QxT} {t n z : Nat} {h0 : AH} {κ : TS → Prop} (X : XY K "TrailMarkersModel" "leg" cX5_leg (Option.none : Option Jvm.ClassFile.FieldType) [] 8 3 66 Y) (E : YE K Y (tQv t h0 n z κ) Qx) (hz : kz K ≤ t) : ∀ (sg : TS), P_X5_leg_157 κ sg → G K Y (tw t sg h0) n z 157 [(0, vR (some t))] [] := by
  intro sg hk
  exact r_vret X E (pc := 157) dX5_leg_157 ⟨rfl, rfl, rfl, _, rfl, hk⟩
set_option maxHeartbeats 4000000 in
theorem w_X5_leg {K : KT} {Y : YT} {Qx : QxT} {t n z : Nat} {h0 : AH} {κ : TS → Prop} (X : XY K "TrailMarkersModel" "leg" cX5_leg (Option.none : Option Jvm.ClassFile.FieldType) [] 8 3 66 Y) (E : YE K Y (tQv t h0 n z κ) Qx) (hz : kz K ≤ t) {sg : TS} {x1 : Int} {x2 : Int} {x3 : Int} {x4 : Int} (hk : P_X5_leg κ sg x1 x2 x3 x4) : G K Y (tw t sg h0) n z 0 (lv_argsA 0 [vR (some t), vI x1, vI x2, vI x3, vI x4]) [] := by
  show G K Y (tw t sg h0) n z 0 [(0, vR (some t)), (1, vI x1), (2, vI x2), (3, vI x3), (4, vI x4)] []
  refine r_aload_n X (pc := 0) dX5_leg_0 rfl (q := 0) rfl ?_
  refine r_iconst X (pc := 1) dX5_leg_1 ?_
  refine r_tpI X (pc := 2) fp_X5_138 hz (by decide) dX5_leg_2 ?_
  refine r_aload_n X (pc := 5) dX5_leg_5 rfl (q := 0) rfl ?_
  refine r_iconst X (pc := 6) dX5_leg_6 ?_
  refine r_tpI X (pc := 7) fp_X5_141 hz (by decide) dX5_leg_7 ?_
  refine r_aload_n X (pc := 10) dX5_leg_10 rfl (q := 0) rfl ?_
  refine r_iconst X (pc := 11) dX5_leg_11 ?_
  refine r_tpI X (pc := 12) fp_X5_144 hz (by decide) dX5_leg_12 ?_
  refine r_iload_n X (pc := 15) dX5_leg_15 rfl (q := 1) rfl ?_
  refine r_istore X (pc := 16) (lv1 := [(5, vI x1), (0, vR (some t)), (1, vI x1), (2, vI x2), (3, vI x3), (4, vI x4)]) dX5_leg_16 (by decide) rfl ?_
  refine r_iload_n X (pc := 18) dX5_leg_18 rfl (q := 3) rfl ?_
  refine r_istore X (pc := 19) (lv1 := [(6, vI x2), (5, vI x1), (0, vR (some t)), (1, vI x1), (2, vI x2), (3, vI x3), (4, vI x4)]) dX5_leg_19 (by decide) rfl ?_
  refine G.sub [2, 5, 6, 1, 0] rfl ?_
  have HH52 : ∀ (sg : TS), (P_X5_leg_157 κ sg) → G K Y (tw t sg h0) n z 157 [(0, vR (some t))] [] := by
      intro sg hk
      exact w_X5_leg_157 X E hz sg hk
  obtain ⟨f9, hk⟩ := hk
  exact w_X5_leg_21 X E hz HH52 f9 (setS (setS (setS sg 15 0) 16 (-1)) 17 0) x3 x4 x1 x2 hk
theorem s_X5_leg {K : KT} {l : Launch} {t n z : Nat} {h0 : AH} {κ : TS → Prop} (hz : kz K ≤ t) {sg : TS} {x1 : Int} {x2 : Int} {x3 : Int} {x4 : Int} (hk : P_X5_leg κ sg x1 x2 x3 x4) : Ct K l yX5_leg (ws_ yX5_leg cX5_leg 8 (Option.none : Option Jvm.ClassFile.FieldType)) 3 66 ([vR (some t), vI x1, vI x2, vI x3, vI x4].map cV) (tw t sg h0) n z (tQv t h0 n z κ) noX :=
  ct_of (by decide +kernel) (Nat.le_of_ble_eq_true rfl) (fun Y X E => w_X5_leg X E hz hk)
set_option maxHeartbeats 4000000 in
theorem w_X5_steps {K : KT} {Y : YT} {Qx : QxT} {t n z : Nat} {h0 : AH} {κ : Int → TS → Prop} (X : XY K "TrailMarkersModel" "steps" cX5_steps (Option.some Jvm.ClassFile.FieldType.int) [] 1 0 0 Y) (E : YE K Y (tQ t h0 n z κ) Qx) (hz : kz K ≤ t) {sg : TS} (hk : P_X5_steps κ sg) : G K Y (tw t sg h0) n z 0 (lv_argsA 0 [vR (some t)]) [] := by
  show G K Y (tw t sg h0) n z 0 [(0, vR (some t))] []
  refine r_aload_n X (pc := 0) dX5_steps_0 rfl (q := 0) rfl ?_
  refine r_tgI X (pc := 1) (v := sg.1 20) fa_X5_160 (by decide) rfl dX5_steps_1 ?_
  refine r_aload_n X (pc := 4) dX5_steps_4 rfl (q := 0) rfl ?_
  refine r_tgI X (pc := 5) (v := sg.1 22) fa_X5_163 (by decide) rfl dX5_steps_5 ?_
  refine r_iadd X (pc := 8) dX5_steps_8 ?_
  refine r_aload_n X (pc := 9) dX5_steps_9 rfl (q := 0) rfl ?_
  refine r_tgI X (pc := 10) (v := sg.1 24) fa_X5_166 (by decide) rfl dX5_steps_10 ?_
  refine r_iadd X (pc := 13) dX5_steps_13 ?_
  exact r_iret X E (pc := 14) dX5_steps_14 rfl ⟨_, rfl, rfl, rfl, _, rfl, hk⟩
theorem s_X5_steps {K : KT} {l : Launch} {t n z : Nat} {h0 : AH} {κ : Int → TS → Prop} (hz : kz K ≤ t) {sg : TS} (hk : P_X5_steps κ sg) : Ct K l yX5_steps (ws_ yX5_steps cX5_steps 1 (Option.some Jvm.ClassFile.FieldType.int)) 0 0 ([vR (some t)].map cV) (tw t sg h0) n z (tQ t h0 n z κ) noX :=
  ct_of (by decide +kernel) (Nat.le_of_ble_eq_true rfl) (fun Y X E => w_X5_steps X E hz hk)
set_option maxHeartbeats 4000000 in
theorem w_X5_found_23 {K : KT} {Y : YT} {Qx : QxT} {t n z : Nat} {h0 : AH} {κ : TS → Prop} (X : XY K "TrailMarkersModel" "found" cX5_found (Option.none : Option Jvm.ClassFile.FieldType) [] 8 1 20 Y) (E : YE K Y (tQv t h0 n z κ) Qx) (hz : kz K ≤ t) : ∀ (sg : TS) (x1 : Int) (x2 : Int) (x3 : Int) (x4 : Int) (x5 : Int) (x6 : Int) (x7 : Int), P_X5_found_23 κ sg x1 x2 x3 x4 x5 x6 x7 → G K Y (tw t sg h0) n z 23 [(0, vR (some t)), (1, vI x1), (2, vI x2), (3, vI x3), (4, vI x4), (5, vI x5), (6, vI x6), (7, vI x7)] [] := by
  intro sg x1 x2 x3 x4 x5 x6 x7 hk
  refine r_aload_n X (pc := 23) dX5_found_23 rfl (q := 0) rfl ?_
  refine r_iload_n X (pc := 24) dX5_found_24 rfl (q := 1) rfl ?_
  refine r_tpI X (pc := 25) fp_X5_169 hz (by decide) dX5_found_25 ?_
  refine r_aload_n X (pc := 28) dX5_found_28 rfl (q := 0) rfl ?_
  refine r_iload_n X (pc := 29) dX5_found_29 rfl (q := 2) rfl ?_
  refine r_tpI X (pc := 30) fp_X5_175 hz (by decide) dX5_found_30 ?_
  refine r_aload_n X (pc := 33) dX5_found_33 rfl (q := 0) rfl ?_
  refine r_iload_n X (pc := 34) dX5_found_34 rfl (q := 3) rfl ?_
  refine r_tpI X (pc := 35) fp_X5_160 hz (by decide) dX5_found_35 ?_
  refine r_aload_n X (pc := 38) dX5_found_38 rfl (q := 0) rfl ?_
  refine r_iload X (pc := 39) dX5_found_39 (q := 4) rfl ?_
  refine r_tpI X (pc := 41) fp_X5_178 hz (by decide) dX5_found_41 ?_
  refine r_aload_n X (pc := 44) dX5_found_44 rfl (q := 0) rfl ?_
  refine r_iload X (pc := 45) dX5_found_45 (q := 5) rfl ?_
  refine r_tpI X (pc := 47) fp_X5_163 hz (by decide) dX5_found_47 ?_
  refine r_aload_n X (pc := 50) dX5_found_50 rfl (q := 0) rfl ?_
  refine r_iload X (pc := 51) dX5_found_51 (q := 6) rfl ?_
  refine r_tpI X (pc := 53) fp_X5_181 hz (by decide) dX5_found_53 ?_
  refine r_aload_n X (pc := 56) dX5_found_56 rfl (q := 0) rfl ?_
  refine r_iload X (pc := 57) dX5_found_57 (q := 7) rfl ?_
  refine r_tpI X (pc := 59) fp_X5_166 hz (by decide) dX5_found_59 ?_
  exact r_vret X E (pc := 62) dX5_found_62 ⟨rfl, rfl, rfl, _, rfl, hk⟩
set_option maxHeartbeats 4000000 in
theorem w_X5_found {K : KT} {Y : YT} {Qx : QxT} {t n z : Nat} {h0 : AH} {κ : TS → Prop} (X : XY K "TrailMarkersModel" "found" cX5_found (Option.none : Option Jvm.ClassFile.FieldType) [] 8 1 20 Y) (E : YE K Y (tQv t h0 n z κ) Qx) (hz : kz K ≤ t) {sg : TS} {x1 : Int} {x2 : Int} {x3 : Int} {x4 : Int} {x5 : Int} {x6 : Int} {x7 : Int} (hk : P_X5_found κ sg x1 x2 x3 x4 x5 x6 x7) : G K Y (tw t sg h0) n z 0 (lv_argsA 0 [vR (some t), vI x1, vI x2, vI x3, vI x4, vI x5, vI x6, vI x7]) [] := by
  show G K Y (tw t sg h0) n z 0 [(0, vR (some t)), (1, vI x1), (2, vI x2), (3, vI x3), (4, vI x4), (5, vI x5), (6, vI x6), (7, vI x7)] []
  refine r_aload_n X (pc := 0) dX5_found_0 rfl (q := 0) rfl ?_
  refine r_tgI X (pc := 1) (v := sg.1 18) fa_X5_169 (by decide) rfl dX5_found_1 ?_
  refine r_iconst X (pc := 4) dX5_found_4 ?_
  obtain ⟨b7, hk⟩ := hk
  refine r_icmp_eq X (pc := 5) (tgt := 23) dX5_found_5 (by decide) ⟨b7, (by decide)⟩ (fun c8 => ?_) (fun c8 => ?_)
  · have hk := hk.1 c8
    exact w_X5_found_23 X E hz sg x1 x2 x3 x4 x5 x6 x7 hk
  · have hk := hk.2 c8
    refine r_iload_n X (pc := 8) dX5_found_8 rfl (q := 3) rfl ?_
    refine r_iload X (pc := 9) dX5_found_9 (q := 5) rfl ?_
    refine r_iadd X (pc := 11) dX5_found_11 ?_
    refine r_iload X (pc := 12) dX5_found_12 (q := 7) rfl ?_
    refine r_iadd X (pc := 14) dX5_found_14 ?_
    refine r_aload_n X (pc := 15) dX5_found_15 rfl (q := 0) rfl ?_
    refine r_callV X (pc := 16) (As := []) (st := [vI ((x3 + x5) + x7)]) rfl rfl rfl (tw_t t _ h0) m_X5_172 (fun _ => s_X5_steps hz hk) ⟨by decide, by decide⟩ (Nat.le_of_ble_eq_true rfl) dX5_found_16 (fun v9 h9 n9 z9 hq => ?_) (fun _ _ _ _ _ hf => hf.elim)
    obtain ⟨r9, rfl, rfl, rfl, sg10, rfl, hk⟩ := hq
    refine ⟨[vI r9], rfl, ?_⟩
    obtain ⟨b11, b12, hk⟩ := hk
    refine r_icmp_lt X (pc := 19) (tgt := 23) dX5_found_19 (by decide) ⟨b11, b12⟩ (fun c13 => ?_) (fun c13 => ?_)
    · have hk := hk.1 c13
      exact w_X5_found_23 X E hz sg10 x1 x2 x3 x4 x5 x6 x7 hk
    · have hk := hk.2 c13
      exact r_vret X E (pc := 22) dX5_found_22 ⟨rfl, rfl, rfl, _, rfl, hk⟩
theorem s_X5_found {K : KT} {l : Launch} {t n z : Nat} {h0 : AH} {κ : TS → Prop} (hz : kz K ≤ t) {sg : TS} {x1 : Int} {x2 : Int} {x3 : Int} {x4 : Int} {x5 : Int} {x6 : Int} {x7 : Int} (hk : P_X5_found κ sg x1 x2 x3 x4 x5 x6 x7) : Ct K l yX5_found (ws_ yX5_found cX5_found 8 (Option.none : Option Jvm.ClassFile.FieldType)) 1 20 ([vR (some t), vI x1, vI x2, vI x3, vI x4, vI x5, vI x6, vI x7].map cV) (tw t sg h0) n z (tQv t h0 n z κ) noX :=
  ct_of (by decide +kernel) (Nat.le_of_ble_eq_true rfl) (fun Y X E => w_X5_found X E hz hk)
set_option maxHeartbeats 4000000 in
theorem w_X5_turns_21 {K : KT} {Y : YT} {Qx : QxT} {t n z : Nat} {h0 : AH} {κ : TS → Prop} (X : XY K "TrailMarkersModel" "turns" cX5_turns (Option.none : Option Jvm.ClassFile.FieldType) [] 10 4 93 Y) (E : YE K Y (tQv t h0 n z κ) Qx) (hz : kz K ≤ t) {k_115 : TS → Prop} (H_115 : ∀ (sg : TS), k_115 sg → G K Y (tw t sg h0) n z 115 [(0, vR (some t))] []) : ∀ (f : Nat) (sg : TS) (x1 : Int) (x2 : Int) (x3 : Int) (x4 : Int) (x5 : Int) (x6 : Int) (x7 : Int) (x8 : Int) (x9 : Int), L_X5_turns_21 k_115 κ f sg x1 x2 x3 x4 x5 x6 x7 x8 x9 → G K Y (tw t sg h0) n z 21 [(0, vR (some t)), (1, vI x1), (2, vI x2), (3, vI x3), (4, vI x4), (5, vI x5), (6, vI x6), (7, vI x7), (8, vI x8), (9, vI x9)] [] := by
  intro f
  induction f with
  | zero => intro sg x1 x2 x3 x4 x5 x6 x7 x8 x9 hk; exact hk.elim
  | succ f ih =>
    intro sg x1 x2 x3 x4 x5 x6 x7 x8 x9 hk
    refine r_iload X (pc := 21) dX5_turns_21 (q := 9) rfl ?_
    refine r_iconst X (pc := 23) dX5_turns_23 ?_
    obtain ⟨b18, hk⟩ := hk
    refine r_icmp_ge X (pc := 24) (tgt := 115) dX5_turns_24 (by decide) ⟨b18, (by decide)⟩ (fun c19 => ?_) (fun c19 => ?_)
    · have hk := hk.2 c19
      refine G.sub [0] rfl ?_
      exact H_115 sg hk
    · have hk := hk.1 c19
      refine r_iload X (pc := 27) dX5_turns_27 (q := 9) rfl ?_
      refine r_iconst X (pc := 29) dX5_turns_29 ?_
      refine r_irem X (pc := 30) dX5_turns_30 ⟨⟨b18, (by decide)⟩, (by decide)⟩ ?_
      refine r_iload X (pc := 31) dX5_turns_31 (q := 8) rfl ?_
      refine r_iconst X (pc := 33) dX5_turns_33 ?_
      obtain ⟨b20, hk⟩ := hk
      refine r_irem X (pc := 34) dX5_turns_34 ⟨⟨b20, (by decide)⟩, (by decide)⟩ ?_
      obtain ⟨b21, b22, hk⟩ := hk
      refine r_icmp_ne X (pc := 35) (tgt := 41) dX5_turns_35 (by decide) ⟨b21, b22⟩ (fun c23 => ?_) (fun c23 => ?_)
      · have hk := hk.2 c23
        refine r_aload_n X (pc := 41) dX5_turns_41 rfl (q := 0) rfl ?_
        refine r_iload X (pc := 42) dX5_turns_42 (q := 5) rfl ?_
        refine r_iload X (pc := 44) dX5_turns_44 (q := 6) rfl ?_
        refine r_iload X (pc := 46) dX5_turns_46 (q := 9) rfl ?_
        refine r_iload_n X (pc := 48) dX5_turns_48 rfl (q := 1) rfl ?_
        refine r_callV X (pc := 49) (As := [vI x5, vI x6, vI x9, vI x1]) (st := []) rfl rfl rfl (tw_t t _ h0) m_X5_184 (fun _ => s_X5_leg hz hk) ⟨by decide, by decide⟩ (Nat.le_of_ble_eq_true rfl) dX5_turns_49 (fun v9 h9 n9 z9 hq => ?_) (fun _ _ _ _ _ hf => hf.elim)
        obtain ⟨rfl, rfl, rfl, sg24, rfl, hk⟩ := hq
        refine ⟨[], rfl, ?_⟩
        refine r_aload_n X (pc := 52) dX5_turns_52 rfl (q := 0) rfl ?_
        refine r_tgI X (pc := 53) (v := sg24.1 16) fa_X5_141 (by decide) rfl dX5_turns_53 ?_
        refine r_iconst X (pc := 56) dX5_turns_56 ?_
        obtain ⟨b25, hk⟩ := hk
        refine r_icmp_ne X (pc := 57) (tgt := 63) dX5_turns_57 (by decide) ⟨b25, (by decide)⟩ (fun c26 => ?_) (fun c26 => ?_)
        · have hk := hk.2 c26
          refine r_iload_n X (pc := 63) dX5_turns_63 rfl (q := 2) rfl ?_
          refine r_iconst X (pc := 64) dX5_turns_64 ?_
          obtain ⟨b27, hk⟩ := hk
          refine r_icmp_ne X (pc := 65) (tgt := 89) dX5_turns_65 (by decide) ⟨b27, (by decide)⟩ (fun c28 => ?_) (fun c28 => ?_)
          · have hk := hk.2 c28
            refine r_aload_n X (pc := 89) dX5_turns_89 rfl (q := 0) rfl ?_
            refine r_aload_n X (pc := 90) dX5_turns_90 rfl (q := 0) rfl ?_
            refine r_tgI X (pc := 91) (v := sg24.1 16) fa_X5_141 (by decide) rfl dX5_turns_91 ?_
            refine r_iconst X (pc := 94) dX5_turns_94 ?_
            refine r_iload_n X (pc := 95) dX5_turns_95 rfl (q := 3) rfl ?_
            refine r_iload X (pc := 96) dX5_turns_96 (q := 4) rfl ?_
            refine r_iload X (pc := 98) dX5_turns_98 (q := 7) rfl ?_
            refine r_iload X (pc := 100) dX5_turns_100 (q := 9) rfl ?_
            refine r_aload_n X (pc := 102) dX5_turns_102 rfl (q := 0) rfl ?_
            refine r_tgI X (pc := 103) (v := sg24.1 17) fa_X5_144 (by decide) rfl dX5_turns_103 ?_
            refine r_callV X (pc := 106) (As := [vI (sg24.1 16), vI 2, vI x3, vI x4, vI x7, vI x9, vI (sg24.1 17)]) (st := []) rfl rfl rfl (tw_t t _ h0) m_X5_188 (fun _ => s_X5_found hz hk) ⟨by decide, by decide⟩ (Nat.le_of_ble_eq_true rfl) dX5_turns_106 (fun v9 h9 n9 z9 hq => ?_) (fun _ _ _ _ _ hf => hf.elim)
            obtain ⟨rfl, rfl, rfl, sg29, rfl, hk⟩ := hq
            refine ⟨[], rfl, ?_⟩
            refine r_iinc X (pc := 109) (q := 9) (lv1 := [(9, vI (x9 + 1)), (0, vR (some t)), (1, vI x1), (2, vI x2), (3, vI x3), (4, vI x4), (5, vI x5), (6, vI x6), (7, vI x7), (8, vI x8)]) dX5_turns_109 rfl (by decide) rfl ?_
            refine r_goto X (pc := 112) (tgt := 21) dX5_turns_112 (by decide) ?_
            refine G.sub [1, 2, 3, 4, 5, 6, 7, 8, 9, 0] rfl ?_
            exact ih sg29 x1 x2 x3 x4 x5 x6 x7 x8 (x9 + 1) hk
          · have hk := hk.1 c28
            refine r_aload_n X (pc := 68) dX5_turns_68 rfl (q := 0) rfl ?_
            refine r_aload_n X (pc := 69) dX5_turns_69 rfl (q := 0) rfl ?_
            refine r_tgI X (pc := 70) (v := sg24.1 16) fa_X5_141 (by decide) rfl dX5_turns_70 ?_
            refine r_iconst X (pc := 73) dX5_turns_73 ?_
            refine r_iload_n X (pc := 74) dX5_turns_74 rfl (q := 3) rfl ?_
            refine r_iload X (pc := 75) dX5_turns_75 (q := 9) rfl ?_
            refine r_iconst X (pc := 77) dX5_turns_77 ?_
            refine r_iconst X (pc := 78) dX5_turns_78 ?_
            refine r_aload_n X (pc := 79) dX5_turns_79 rfl (q := 0) rfl ?_
            refine r_tgI X (pc := 80) (v := sg24.1 17) fa_X5_144 (by decide) rfl dX5_turns_80 ?_
            refine r_callV X (pc := 83) (As := [vI (sg24.1 16), vI 1, vI x3, vI x9, vI 0, vI 0, vI (sg24.1 17)]) (st := []) rfl rfl rfl (tw_t t _ h0) m_X5_188 (fun _ => s_X5_found hz hk) ⟨by decide, by decide⟩ (Nat.le_of_ble_eq_true rfl) dX5_turns_83 (fun v9 h9 n9 z9 hq => ?_) (fun _ _ _ _ _ hf => hf.elim)
            obtain ⟨rfl, rfl, rfl, sg30, rfl, hk⟩ := hq
            refine ⟨[], rfl, ?_⟩
            refine r_goto X (pc := 86) (tgt := 109) dX5_turns_86 (by decide) ?_
            refine r_iinc X (pc := 109) (q := 9) (lv1 := [(9, vI (x9 + 1)), (0, vR (some t)), (1, vI x1), (2, vI x2), (3, vI x3), (4, vI x4), (5, vI x5), (6, vI x6), (7, vI x7), (8, vI x8)]) dX5_turns_109 rfl (by decide) rfl ?_
            refine r_goto X (pc := 112) (tgt := 21) dX5_turns_112 (by decide) ?_
            refine G.sub [1, 2, 3, 4, 5, 6, 7, 8, 9, 0] rfl ?_
            exact ih sg30 x1 x2 x3 x4 x5 x6 x7 x8 (x9 + 1) hk
        · have hk := hk.1 c26
          refine r_goto X (pc := 60) (tgt := 109) dX5_turns_60 (by decide) ?_
          refine r_iinc X (pc := 109) (q := 9) (lv1 := [(9, vI (x9 + 1)), (0, vR (some t)), (1, vI x1), (2, vI x2), (3, vI x3), (4, vI x4), (5, vI x5), (6, vI x6), (7, vI x7), (8, vI x8)]) dX5_turns_109 rfl (by decide) rfl ?_
          refine r_goto X (pc := 112) (tgt := 21) dX5_turns_112 (by decide) ?_
          refine G.sub [1, 2, 3, 4, 5, 6, 7, 8, 9, 0] rfl ?_
          exact ih sg24 x1 x2 x3 x4 x5 x6 x7 x8 (x9 + 1) hk
      · have hk := hk.1 c23
        refine r_goto X (pc := 38) (tgt := 109) dX5_turns_38 (by decide) ?_
        refine r_iinc X (pc := 109) (q := 9) (lv1 := [(9, vI (x9 + 1)), (0, vR (some t)), (1, vI x1), (2, vI x2), (3, vI x3), (4, vI x4), (5, vI x5), (6, vI x6), (7, vI x7), (8, vI x8)]) dX5_turns_109 rfl (by decide) rfl ?_
        refine r_goto X (pc := 112) (tgt := 21) dX5_turns_112 (by decide) ?_
        refine G.sub [1, 2, 3, 4, 5, 6, 7, 8, 9, 0] rfl ?_
        exact ih sg x1 x2 x3 x4 x5 x6 x7 x8 (x9 + 1) hk
set_option maxHeartbeats 4000000 in
theorem w_X5_turns_115 {K : KT} {Y : YT} {Qx : QxT} {t n z : Nat} {h0 : AH} {κ : TS → Prop} (X : XY K "TrailMarkersModel" "turns" cX5_turns (Option.none : Option Jvm.ClassFile.FieldType) [] 10 4 93 Y) (E : YE K Y (tQv t h0 n z κ) Qx) (hz : kz K ≤ t) : ∀ (sg : TS), P_X5_turns_115 κ sg → G K Y (tw t sg h0) n z 115 [(0, vR (some t))] [] := by
  intro sg hk
  exact r_vret X E (pc := 115) dX5_turns_115 ⟨rfl, rfl, rfl, _, rfl, hk⟩
set_option maxHeartbeats 4000000 in
theorem w_X5_turns {K : KT} {Y : YT} {Qx : QxT} {t n z : Nat} {h0 : AH} {κ : TS → Prop} (X : XY K "TrailMarkersModel" "turns" cX5_turns (Option.none : Option Jvm.ClassFile.FieldType) [] 10 4 93 Y) (E : YE K Y (tQv t h0 n z κ) Qx) (hz : kz K ≤ t) {sg : TS} {x1 : Int} {x2 : Int} {x3 : Int} {x4 : Int} {x5 : Int} {x6 : Int} {x7 : Int} (hk : P_X5_turns κ sg x1 x2 x3 x4 x5 x6 x7) : G K Y (tw t sg h0) n z 0 (lv_argsA 0 [vR (some t), vI x1, vI x2, vI x3, vI x4, vI x5, vI x6, vI x7]) [] := by
  show G K Y (tw t sg h0) n z 0 [(0, vR (some t)), (1, vI x1), (2, vI x2), (3, vI x3), (4, vI x4), (5, vI x5), (6, vI x6), (7, vI x7)] []
  refine r_iload_n X (pc := 0) dX5_turns_0 rfl (q := 2) rfl ?_
  refine r_iconst X (pc := 1) dX5_turns_1 ?_
  obtain ⟨b31, hk⟩ := hk
  refine r_icmp_ne X (pc := 2) (tgt := 14) dX5_turns_2 (by decide) ⟨b31, (by decide)⟩ (fun c32 => ?_) (fun c32 => ?_)
  · have hk := hk.2 c32
    refine r_iload X (pc := 14) dX5_turns_14 (q := 4) rfl ?_
    refine r_istore X (pc := 16) (lv1 := [(8, vI x4), (0, vR (some t)), (1, vI x1), (2, vI x2), (3, vI x3), (4, vI x4), (5, vI x5), (6, vI x6), (7, vI x7)]) dX5_turns_16 (by decide) rfl ?_
    refine r_iconst X (pc := 18) dX5_turns_18 ?_
    refine r_istore X (pc := 19) (lv1 := [(9, vI 0), (8, vI x4), (0, vR (some t)), (1, vI x1), (2, vI x2), (3, vI x3), (4, vI x4), (5, vI x5), (6, vI x6), (7, vI x7)]) dX5_turns_19 (by decide) rfl ?_
    refine G.sub [2, 3, 4, 5, 6, 7, 8, 9, 1, 0] rfl ?_
    have HH33 : ∀ (sg : TS), (P_X5_turns_115 κ sg) → G K Y (tw t sg h0) n z 115 [(0, vR (some t))] [] := by
        intro sg hk
        exact w_X5_turns_115 X E hz sg hk
    obtain ⟨f9, hk⟩ := hk
    exact w_X5_turns_21 X E hz HH33 f9 sg x1 x2 x3 x4 x5 x6 x7 x4 0 hk
  · have hk := hk.1 c32
    refine r_aload_n X (pc := 5) dX5_turns_5 rfl (q := 0) rfl ?_
    refine r_iload_n X (pc := 6) dX5_turns_6 rfl (q := 1) rfl ?_
    refine r_iconst X (pc := 7) dX5_turns_7 ?_
    refine r_callV X (pc := 8) (As := [vI x1, vI 3]) (st := []) rfl rfl rfl (tw_t t _ h0) m_X5_130 (fun _ => s_X5_of hz hk) ⟨by decide, by decide⟩ (Nat.le_of_ble_eq_true rfl) dX5_turns_8 (fun v9 h9 n9 z9 hq => ?_) (fun _ _ _ _ _ hf => hf.elim)
    obtain ⟨r34, rfl, rfl, rfl, sg35, rfl, hk⟩ := hq
    refine ⟨[vI r34], rfl, ?_⟩
    refine r_goto X (pc := 11) (tgt := 16) dX5_turns_11 (by decide) ?_
    refine r_istore X (pc := 16) (lv1 := [(8, vI r34), (0, vR (some t)), (1, vI x1), (2, vI x2), (3, vI x3), (4, vI x4), (5, vI x5), (6, vI x6), (7, vI x7)]) dX5_turns_16 (by decide) rfl ?_
    refine r_iconst X (pc := 18) dX5_turns_18 ?_
    refine r_istore X (pc := 19) (lv1 := [(9, vI 0), (8, vI r34), (0, vR (some t)), (1, vI x1), (2, vI x2), (3, vI x3), (4, vI x4), (5, vI x5), (6, vI x6), (7, vI x7)]) dX5_turns_19 (by decide) rfl ?_
    refine G.sub [2, 3, 4, 5, 6, 7, 8, 9, 1, 0] rfl ?_
    have HH36 : ∀ (sg : TS), (P_X5_turns_115 κ sg) → G K Y (tw t sg h0) n z 115 [(0, vR (some t))] [] := by
        intro sg hk
        exact w_X5_turns_115 X E hz sg hk
    obtain ⟨f9, hk⟩ := hk
    exact w_X5_turns_21 X E hz HH36 f9 sg35 x1 x2 x3 x4 x5 x6 x7 r34 0 hk
theorem s_X5_turns {K : KT} {l : Launch} {t n z : Nat} {h0 : AH} {κ : TS → Prop} (hz : kz K ≤ t) {sg : TS} {x1 : Int} {x2 : Int} {x3 : Int} {x4 : Int} {x5 : Int} {x6 : Int} {x7 : Int} (hk : P_X5_turns κ sg x1 x2 x3 x4 x5 x6 x7) : Ct K l yX5_turns (ws_ yX5_turns cX5_turns 10 (Option.none : Option Jvm.ClassFile.FieldType)) 4 93 ([vR (some t), vI x1, vI x2, vI x3, vI x4, vI x5, vI x6, vI x7].map cV) (tw t sg h0) n z (tQv t h0 n z κ) noX :=
  ct_of (by decide +kernel) (Nat.le_of_ble_eq_true rfl) (fun Y X E => w_X5_turns X E hz hk)
set_option maxHeartbeats 4000000 in
theorem w_X5_twice_19 {K : KT} {Y : YT} {Qx : QxT} {t n z : Nat} {h0 : AH} {κ : TS → Prop} (X : XY K "TrailMarkersModel" "twice" cX5_twice (Option.none : Option Jvm.ClassFile.FieldType) [] 8 5 122 Y) (E : YE K Y (tQv t h0 n z κ) Qx) (hz : kz K ≤ t) {k_62 : TS → Prop} (H_62 : ∀ (sg : TS), k_62 sg → G K Y (tw t sg h0) n z 62 [(0, vR (some t))] []) : ∀ (f : Nat) (sg : TS) (x1 : Int) (x2 : Int) (x3 : Int) (x4 : Int) (x5 : Int) (x6 : Int) (x7 : Int), L_X5_twice_19 k_62 κ f sg x1 x2 x3 x4 x5 x6 x7 → G K Y (tw t sg h0) n z 19 [(0, vR (some t)), (1, vI x1), (2, vI x2), (3, vI x3), (4, vI x4), (5, vI x5), (6, vI x6), (7, vI x7)] [] := by
  intro f
  induction f with
  | zero => intro sg x1 x2 x3 x4 x5 x6 x7 hk; exact hk.elim
  | succ f ih =>
    intro sg x1 x2 x3 x4 x5 x6 x7 hk
    refine r_iload X (pc := 19) dX5_twice_19 (q := 7) rfl ?_
    refine r_iload X (pc := 21) dX5_twice_21 (q := 6) rfl ?_
    obtain ⟨b6, b7, hk⟩ := hk
    refine r_icmp_gt X (pc := 23) (tgt := 62) dX5_twice_23 (by decide) ⟨b6, b7⟩ (fun c8 => ?_) (fun c8 => ?_)
    · have hk := hk.1 c8
      refine G.sub [0] rfl ?_
      exact H_62 sg hk
    · have hk := hk.2 c8
      refine r_aload_n X (pc := 26) dX5_twice_26 rfl (q := 0) rfl ?_
      refine r_iload_n X (pc := 27) dX5_twice_27 rfl (q := 1) rfl ?_
      refine r_iconst X (pc := 28) dX5_twice_28 ?_
      refine r_iload_n X (pc := 29) dX5_twice_29 rfl (q := 2) rfl ?_
      refine r_iload_n X (pc := 30) dX5_twice_30 rfl (q := 3) rfl ?_
      refine r_iload X (pc := 31) dX5_twice_31 (q := 4) rfl ?_
      refine r_iload X (pc := 33) dX5_twice_33 (q := 7) rfl ?_
      refine r_iload_n X (pc := 35) dX5_twice_35 rfl (q := 3) rfl ?_
      refine r_callS X (pc := 36) (As := [vI x3]) (st := [vI x7, vI x4, vI x3, vI x2, vI 2, vI x1, vR (some t)]) m_X5_147 (fun _ => s_X5_dx hk) ⟨by decide, by decide⟩ (Nat.le_of_ble_eq_true rfl) dX5_twice_36 (fun v9 h9 n9 z9 hq => ?_) (fun _ _ _ _ _ hf => hf.elim)
      obtain ⟨r9, rfl, rfl, rfl, rfl, hk⟩ := hq
      refine ⟨[vI r9], rfl, ?_⟩
      refine r_imul X (pc := 39) dX5_twice_39 ?_
      refine r_iadd X (pc := 40) dX5_twice_40 ?_
      refine r_iload X (pc := 41) dX5_twice_41 (q := 5) rfl ?_
      refine r_iload X (pc := 43) dX5_twice_43 (q := 7) rfl ?_
      refine r_iload_n X (pc := 45) dX5_twice_45 rfl (q := 3) rfl ?_
      refine r_callS X (pc := 46) (As := [vI x3]) (st := [vI x7, vI x5, vI (x4 + (x7 * r9)), vI x3, vI x2, vI 2, vI x1, vR (some t)]) m_X5_151 (fun _ => s_X5_dy hk) ⟨by decide, by decide⟩ (Nat.le_of_ble_eq_true rfl) dX5_twice_46 (fun v9 h9 n9 z9 hq => ?_) (fun _ _ _ _ _ hf => hf.elim)
      obtain ⟨r10, rfl, rfl, rfl, rfl, hk⟩ := hq
      refine ⟨[vI r10], rfl, ?_⟩
      refine r_imul X (pc := 49) dX5_twice_49 ?_
      refine r_iadd X (pc := 50) dX5_twice_50 ?_
      refine r_iload X (pc := 51) dX5_twice_51 (q := 7) rfl ?_
      refine r_callV X (pc := 53) (As := [vI x1, vI 2, vI x2, vI x3, vI (x4 + (x7 * r9)), vI (x5 + (x7 * r10)), vI x7]) (st := []) rfl rfl rfl (tw_t t _ h0) m_X5_192 (fun _ => s_X5_turns hz hk) ⟨by decide, by decide⟩ (Nat.le_of_ble_eq_true rfl) dX5_twice_53 (fun v9 h9 n9 z9 hq => ?_) (fun _ _ _ _ _ hf => hf.elim)
      obtain ⟨rfl, rfl, rfl, sg11, rfl, hk⟩ := hq
      refine ⟨[], rfl, ?_⟩
      refine r_iinc X (pc := 56) (q := 7) (lv1 := [(7, vI (x7 + 1)), (0, vR (some t)), (1, vI x1), (2, vI x2), (3, vI x3), (4, vI x4), (5, vI x5), (6, vI x6)]) dX5_twice_56 rfl (by decide) rfl ?_
      refine r_goto X (pc := 59) (tgt := 19) dX5_twice_59 (by decide) ?_
      refine G.sub [1, 2, 3, 4, 5, 6, 7, 0] rfl ?_
      exact ih sg11 x1 x2 x3 x4 x5 x6 (x7 + 1) hk
set_option maxHeartbeats 4000000 in
theorem w_X5_twice_62 {K : KT} {Y : YT} {Qx : QxT} {t n z : Nat} {h0 : AH} {κ : TS → Prop} (X : XY K "TrailMarkersModel" "twice" cX5_twice (Option.none : Option Jvm.ClassFile.FieldType) [] 8 5 122 Y) (E : YE K Y (tQv t h0 n z κ) Qx) (hz : kz K ≤ t) : ∀ (sg : TS), P_X5_twice_62 κ sg → G K Y (tw t sg h0) n z 62 [(0, vR (some t))] [] := by
  intro sg hk
  exact r_vret X E (pc := 62) dX5_twice_62 ⟨rfl, rfl, rfl, _, rfl, hk⟩
set_option maxHeartbeats 4000000 in
theorem w_X5_twice {K : KT} {Y : YT} {Qx : QxT} {t n z : Nat} {h0 : AH} {κ : TS → Prop} (X : XY K "TrailMarkersModel" "twice" cX5_twice (Option.none : Option Jvm.ClassFile.FieldType) [] 8 5 122 Y) (E : YE K Y (tQv t h0 n z κ) Qx) (hz : kz K ≤ t) {sg : TS} {x1 : Int} {x2 : Int} {x3 : Int} {x4 : Int} {x5 : Int} (hk : P_X5_twice κ sg x1 x2 x3 x4 x5) : G K Y (tw t sg h0) n z 0 (lv_argsA 0 [vR (some t), vI x1, vI x2, vI x3, vI x4, vI x5]) [] := by
  show G K Y (tw t sg h0) n z 0 [(0, vR (some t)), (1, vI x1), (2, vI x2), (3, vI x3), (4, vI x4), (5, vI x5)] []
  refine r_aload_n X (pc := 0) dX5_twice_0 rfl (q := 0) rfl ?_
  refine r_iload X (pc := 1) dX5_twice_1 (q := 4) rfl ?_
  refine r_iload X (pc := 3) dX5_twice_3 (q := 5) rfl ?_
  refine r_iload_n X (pc := 5) dX5_twice_5 rfl (q := 3) rfl ?_
  refine r_iload_n X (pc := 6) dX5_twice_6 rfl (q := 1) rfl ?_
  refine r_callV X (pc := 7) (As := [vI x4, vI x5, vI x3, vI x1]) (st := []) rfl rfl rfl (tw_t t _ h0) m_X5_184 (fun _ => s_X5_leg hz hk) ⟨by decide, by decide⟩ (Nat.le_of_ble_eq_true rfl) dX5_twice_7 (fun v9 h9 n9 z9 hq => ?_) (fun _ _ _ _ _ hf => hf.elim)
  obtain ⟨rfl, rfl, rfl, sg12, rfl, hk⟩ := hq
  refine ⟨[], rfl, ?_⟩
  refine r_aload_n X (pc := 10) dX5_twice_10 rfl (q := 0) rfl ?_
  refine r_tgI X (pc := 11) (v := sg12.1 15) fa_X5_138 (by decide) rfl dX5_twice_11 ?_
  refine r_istore X (pc := 14) (lv1 := [(6, vI (sg12.1 15)), (0, vR (some t)), (1, vI x1), (2, vI x2), (3, vI x3), (4, vI x4), (5, vI x5)]) dX5_twice_14 (by decide) rfl ?_
  refine r_iconst X (pc := 16) dX5_twice_16 ?_
  refine r_istore X (pc := 17) (lv1 := [(7, vI 1), (6, vI (sg12.1 15)), (0, vR (some t)), (1, vI x1), (2, vI x2), (3, vI x3), (4, vI x4), (5, vI x5)]) dX5_twice_17 (by decide) rfl ?_
  refine G.sub [2, 3, 4, 5, 6, 7, 1, 0] rfl ?_
  have HH13 : ∀ (sg : TS), (P_X5_twice_62 κ sg) → G K Y (tw t sg h0) n z 62 [(0, vR (some t))] [] := by
      intro sg hk
      exact w_X5_twice_62 X E hz sg hk
  obtain ⟨f9, hk⟩ := hk
  exact w_X5_twice_19 X E hz HH13 f9 sg12 x1 x2 x3 x4 x5 (sg12.1 15) 1 hk
theorem s_X5_twice {K : KT} {l : Launch} {t n z : Nat} {h0 : AH} {κ : TS → Prop} (hz : kz K ≤ t) {sg : TS} {x1 : Int} {x2 : Int} {x3 : Int} {x4 : Int} {x5 : Int} (hk : P_X5_twice κ sg x1 x2 x3 x4 x5) : Ct K l yX5_twice (ws_ yX5_twice cX5_twice 8 (Option.none : Option Jvm.ClassFile.FieldType)) 5 122 ([vR (some t), vI x1, vI x2, vI x3, vI x4, vI x5].map cV) (tw t sg h0) n z (tQv t h0 n z κ) noX :=
  ct_of (by decide +kernel) (Nat.le_of_ble_eq_true rfl) (fun Y X E => w_X5_twice X E hz hk)
set_option maxHeartbeats 4000000 in
theorem w_X5_find_187 {K : KT} {Y : YT} {Qx : QxT} {t n z : Nat} {h0 : AH} {κ : TS → Prop} (X : XY K "TrailMarkersModel" "find" cX5_find (Option.none : Option Jvm.ClassFile.FieldType) [] 8 6 149 Y) (E : YE K Y (tQv t h0 n z κ) Qx) (hz : kz K ≤ t) {k_237 : TS → Int → Int → Int → Int → Int → Int → Prop} (H_237 : ∀ (sg : TS) (x1 : Int) (x2 : Int) (x3 : Int) (x4 : Int) (x5 : Int) (x6 : Int), k_237 sg x1 x2 x3 x4 x5 x6 → G K Y (tw t sg h0) n z 237 [(0, vR (some t)), (1, vI x1), (2, vI x2), (3, vI x3), (4, vI x4), (5, vI x5), (6, vI x6)] []) : ∀ (f : Nat) (sg : TS) (x1 : Int) (x2 : Int) (x3 : Int) (x4 : Int) (x5 : Int) (x6 : Int) (x7 : Int), L_X5_find_187 k_237 κ f sg x1 x2 x3 x4 x5 x6 x7 → G K Y (tw t sg h0) n z 187 [(0, vR (some t)), (1, vI x1), (2, vI x2), (3, vI x3), (4, vI x4), (5, vI x5), (6, vI x6), (7, vI x7)] [] := by
  intro f
  induction f with
  | zero => intro sg x1 x2 x3 x4 x5 x6 x7 hk; exact hk.elim
  | succ f ih =>
    intro sg x1 x2 x3 x4 x5 x6 x7 hk
    refine r_iload X (pc := 187) dX5_find_187 (q := 7) rfl ?_
    refine r_iconst X (pc := 189) dX5_find_189 ?_
    obtain ⟨b33, hk⟩ := hk
    refine r_icmp_ge X (pc := 190) (tgt := 237) dX5_find_190 (by decide) ⟨b33, (by decide)⟩ (fun c34 => ?_) (fun c34 => ?_)
    · have hk := hk.2 c34
      refine G.sub [0, 1, 2, 3, 4, 5, 6] rfl ?_
      exact H_237 sg x1 x2 x3 x4 x5 x6 hk
    · have hk := hk.1 c34
      refine r_iload X (pc := 193) dX5_find_193 (q := 7) rfl ?_
      refine r_iconst X (pc := 195) dX5_find_195 ?_
      refine r_irem X (pc := 196) dX5_find_196 ⟨⟨b33, (by decide)⟩, (by decide)⟩ ?_
      refine r_iload_n X (pc := 197) dX5_find_197 rfl (q := 2) rfl ?_
      refine r_iconst X (pc := 198) dX5_find_198 ?_
      obtain ⟨b35, hk⟩ := hk
      refine r_irem X (pc := 199) dX5_find_199 ⟨⟨b35, (by decide)⟩, (by decide)⟩ ?_
      obtain ⟨b36, b37, hk⟩ := hk
      refine r_icmp_eq X (pc := 200) (tgt := 231) dX5_find_200 (by decide) ⟨b36, b37⟩ (fun c38 => ?_) (fun c38 => ?_)
      · have hk := hk.1 c38
        refine r_iinc X (pc := 231) (q := 7) (lv1 := [(7, vI (x7 + 1)), (0, vR (some t)), (1, vI x1), (2, vI x2), (3, vI x3), (4, vI x4), (5, vI x5), (6, vI x6)]) dX5_find_231 rfl (by decide) rfl ?_
        refine r_goto X (pc := 234) (tgt := 187) dX5_find_234 (by decide) ?_
        refine G.sub [1, 2, 3, 4, 5, 6, 7, 0] rfl ?_
        exact ih sg x1 x2 x3 x4 x5 x6 (x7 + 1) hk
      · have hk := hk.2 c38
        refine r_aload_n X (pc := 203) dX5_find_203 rfl (q := 0) rfl ?_
        refine r_iload_n X (pc := 204) dX5_find_204 rfl (q := 1) rfl ?_
        refine r_iload X (pc := 205) dX5_find_205 (q := 6) rfl ?_
        refine r_iload X (pc := 207) dX5_find_207 (q := 7) rfl ?_
        refine r_iload_n X (pc := 209) dX5_find_209 rfl (q := 3) rfl ?_
        refine r_iload X (pc := 210) dX5_find_210 (q := 6) rfl ?_
        refine r_iload_n X (pc := 212) dX5_find_212 rfl (q := 2) rfl ?_
        refine r_callS X (pc := 213) (As := [vI x2]) (st := [vI x6, vI x3, vI x7, vI x6, vI x1, vR (some t)]) m_X5_147 (fun _ => s_X5_dx hk) ⟨by decide, by decide⟩ (Nat.le_of_ble_eq_true rfl) dX5_find_213 (fun v9 h9 n9 z9 hq => ?_) (fun _ _ _ _ _ hf => hf.elim)
        obtain ⟨r39, rfl, rfl, rfl, rfl, hk⟩ := hq
        refine ⟨[vI r39], rfl, ?_⟩
        refine r_imul X (pc := 216) dX5_find_216 ?_
        refine r_iadd X (pc := 217) dX5_find_217 ?_
        refine r_iload X (pc := 218) dX5_find_218 (q := 4) rfl ?_
        refine r_iload X (pc := 220) dX5_find_220 (q := 6) rfl ?_
        refine r_iload_n X (pc := 222) dX5_find_222 rfl (q := 2) rfl ?_
        refine r_callS X (pc := 223) (As := [vI x2]) (st := [vI x6, vI x4, vI (x3 + (x6 * r39)), vI x7, vI x6, vI x1, vR (some t)]) m_X5_151 (fun _ => s_X5_dy hk) ⟨by decide, by decide⟩ (Nat.le_of_ble_eq_true rfl) dX5_find_223 (fun v9 h9 n9 z9 hq => ?_) (fun _ _ _ _ _ hf => hf.elim)
        obtain ⟨r40, rfl, rfl, rfl, rfl, hk⟩ := hq
        refine ⟨[vI r40], rfl, ?_⟩
        refine r_imul X (pc := 226) dX5_find_226 ?_
        refine r_iadd X (pc := 227) dX5_find_227 ?_
        refine r_callV X (pc := 228) (As := [vI x1, vI x6, vI x7, vI (x3 + (x6 * r39)), vI (x4 + (x6 * r40))]) (st := []) rfl rfl rfl (tw_t t _ h0) m_X5_195 (fun _ => s_X5_twice hz hk) ⟨by decide, by decide⟩ (Nat.le_of_ble_eq_true rfl) dX5_find_228 (fun v9 h9 n9 z9 hq => ?_) (fun _ _ _ _ _ hf => hf.elim)
        obtain ⟨rfl, rfl, rfl, sg41, rfl, hk⟩ := hq
        refine ⟨[], rfl, ?_⟩
        refine r_iinc X (pc := 231) (q := 7) (lv1 := [(7, vI (x7 + 1)), (0, vR (some t)), (1, vI x1), (2, vI x2), (3, vI x3), (4, vI x4), (5, vI x5), (6, vI x6)]) dX5_find_231 rfl (by decide) rfl ?_
        refine r_goto X (pc := 234) (tgt := 187) dX5_find_234 (by decide) ?_
        refine G.sub [1, 2, 3, 4, 5, 6, 7, 0] rfl ?_
        exact ih sg41 x1 x2 x3 x4 x5 x6 (x7 + 1) hk
set_option maxHeartbeats 4000000 in
theorem w_X5_find_237 {K : KT} {Y : YT} {Qx : QxT} {t n z : Nat} {h0 : AH} {κ : TS → Prop} (X : XY K "TrailMarkersModel" "find" cX5_find (Option.none : Option Jvm.ClassFile.FieldType) [] 8 6 149 Y) (E : YE K Y (tQv t h0 n z κ) Qx) (hz : kz K ≤ t) {k_177 : TS → Int → Int → Int → Int → Int → Int → Prop} {k_243 : TS → Prop} (H_177 : ∀ (sg : TS) (x1 : Int) (x2 : Int) (x3 : Int) (x4 : Int) (x5 : Int) (x6 : Int), k_177 sg x1 x2 x3 x4 x5 x6 → G K Y (tw t sg h0) n z 177 [(0, vR (some t)), (1, vI x1), (2, vI x2), (3, vI x3), (4, vI x4), (5, vI x5), (6, vI x6)] []) (H_243 : ∀ (sg : TS), k_243 sg → G K Y (tw t sg h0) n z 243 [(0, vR (some t))] []) : ∀ (sg : TS) (x1 : Int) (x2 : Int) (x3 : Int) (x4 : Int) (x5 : Int) (x6 : Int), P_X5_find_237 k_177 k_243 κ sg x1 x2 x3 x4 x5 x6 → G K Y (tw t sg h0) n z 237 [(0, vR (some t)), (1, vI x1), (2, vI x2), (3, vI x3), (4, vI x4), (5, vI x5), (6, vI x6)] [] := by
  intro sg x1 x2 x3 x4 x5 x6 hk
  refine r_iinc X (pc := 237) (q := 6) (lv1 := [(6, vI (x6 + 1)), (0, vR (some t)), (1, vI x1), (2, vI x2), (3, vI x3), (4, vI x4), (5, vI x5)]) dX5_find_237 rfl (by decide) rfl ?_
  refine r_goto X (pc := 240) (tgt := 177) dX5_find_240 (by decide) ?_
  refine G.sub [1, 2, 3, 4, 5, 6, 0] rfl ?_
  exact H_177 sg x1 x2 x3 x4 x5 (x6 + 1) hk
set_option maxHeartbeats 4000000 in
theorem w_X5_find_177 {K : KT} {Y : YT} {Qx : QxT} {t n z : Nat} {h0 : AH} {κ : TS → Prop} (X : XY K "TrailMarkersModel" "find" cX5_find (Option.none : Option Jvm.ClassFile.FieldType) [] 8 6 149 Y) (E : YE K Y (tQv t h0 n z κ) Qx) (hz : kz K ≤ t) {k_243 : TS → Prop} (H_243 : ∀ (sg : TS), k_243 sg → G K Y (tw t sg h0) n z 243 [(0, vR (some t))] []) : ∀ (f : Nat) (sg : TS) (x1 : Int) (x2 : Int) (x3 : Int) (x4 : Int) (x5 : Int) (x6 : Int), L_X5_find_177 k_243 κ f sg x1 x2 x3 x4 x5 x6 → G K Y (tw t sg h0) n z 177 [(0, vR (some t)), (1, vI x1), (2, vI x2), (3, vI x3), (4, vI x4), (5, vI x5), (6, vI x6)] [] := by
  intro f
  induction f with
  | zero => intro sg x1 x2 x3 x4 x5 x6 hk; exact hk.elim
  | succ f ih =>
    intro sg x1 x2 x3 x4 x5 x6 hk
    refine r_iload X (pc := 177) dX5_find_177 (q := 6) rfl ?_
    refine r_iload X (pc := 179) dX5_find_179 (q := 5) rfl ?_
    obtain ⟨b42, b43, hk⟩ := hk
    refine r_icmp_gt X (pc := 181) (tgt := 243) dX5_find_181 (by decide) ⟨b42, b43⟩ (fun c44 => ?_) (fun c44 => ?_)
    · have hk := hk.1 c44
      refine G.sub [0] rfl ?_
      exact H_243 sg hk
    · have hk := hk.2 c44
      refine r_iconst X (pc := 184) dX5_find_184 ?_
      refine r_istore X (pc := 185) (lv1 := [(7, vI 0), (0, vR (some t)), (1, vI x1), (2, vI x2), (3, vI x3), (4, vI x4), (5, vI x5), (6, vI x6)]) dX5_find_185 (by decide) rfl ?_
      refine G.sub [1, 2, 3, 4, 5, 6, 7, 0] rfl ?_
      have HH47 : ∀ (sg : TS) (x1 : Int) (x2 : Int) (x3 : Int) (x4 : Int) (x5 : Int) (x6 : Int), (P_X5_find_237 (fun sg x1 x2 x3 x4 x5 x6 => L_X5_find_177 k_243 κ f sg x1 x2 x3 x4 x5 x6) k_243 κ sg x1 x2 x3 x4 x5 x6) → G K Y (tw t sg h0) n z 237 [(0, vR (some t)), (1, vI x1), (2, vI x2), (3, vI x3), (4, vI x4), (5, vI x5), (6, vI x6)] [] := by
          intro sg x1 x2 x3 x4 x5 x6 hk
          have HH46 : ∀ (sg : TS) (x1 : Int) (x2 : Int) (x3 : Int) (x4 : Int) (x5 : Int) (x6 : Int), (L_X5_find_177 k_243 κ f sg x1 x2 x3 x4 x5 x6) → G K Y (tw t sg h0) n z 177 [(0, vR (some t)), (1, vI x1), (2, vI x2), (3, vI x3), (4, vI x4), (5, vI x5), (6, vI x6)] [] := by
              intro sg x1 x2 x3 x4 x5 x6 hk
              exact ih sg x1 x2 x3 x4 x5 x6 hk
          exact w_X5_find_237 X E hz HH46 H_243 sg x1 x2 x3 x4 x5 x6 hk
      obtain ⟨f9, hk⟩ := hk
      exact w_X5_find_187 X E hz HH47 f9 sg x1 x2 x3 x4 x5 x6 0 hk
set_option maxHeartbeats 4000000 in
theorem w_X5_find_243 {K : KT} {Y : YT} {Qx : QxT} {t n z : Nat} {h0 : AH} {κ : TS → Prop} (X : XY K "TrailMarkersModel" "find" cX5_find (Option.none : Option Jvm.ClassFile.FieldType) [] 8 6 149 Y) (E : YE K Y (tQv t h0 n z κ) Qx) (hz : kz K ≤ t) : ∀ (sg : TS), P_X5_find_243 κ sg → G K Y (tw t sg h0) n z 243 [(0, vR (some t))] [] := by
  intro sg hk
  exact r_vret X E (pc := 243) dX5_find_243 ⟨rfl, rfl, rfl, _, rfl, hk⟩
set_option maxHeartbeats 4000000 in
theorem w_X5_find_155 {K : KT} {Y : YT} {Qx : QxT} {t n z : Nat} {h0 : AH} {κ : TS → Prop} (X : XY K "TrailMarkersModel" "find" cX5_find (Option.none : Option Jvm.ClassFile.FieldType) [] 8 6 149 Y) (E : YE K Y (tQv t h0 n z κ) Qx) (hz : kz K ≤ t) : ∀ (sg : TS) (x1 : Int) (x2 : Int) (x3 : Int) (x4 : Int) (x5 : Int), P_X5_find_155 κ sg x1 x2 x3 x4 x5 → G K Y (tw t sg h0) n z 155 [(0, vR (some t)), (1, vI x1), (2, vI x2), (3, vI x3), (4, vI x4), (5, vI x5)] [] := by
  intro sg x1 x2 x3 x4 x5 hk
  refine r_aload_n X (pc := 155) dX5_find_155 rfl (q := 0) rfl ?_
  refine r_tgI X (pc := 156) (v := sg.1 18) fa_X5_169 (by decide) rfl dX5_find_156 ?_
  refine r_iconst X (pc := 159) dX5_find_159 ?_
  obtain ⟨b48, hk⟩ := hk
  refine r_icmp_ne X (pc := 160) (tgt := 173) dX5_find_160 (by decide) ⟨b48, (by decide)⟩ (fun c49 => ?_) (fun c49 => ?_)
  · have hk := hk.2 c49
    exact r_vret X E (pc := 173) dX5_find_173 ⟨rfl, rfl, rfl, _, rfl, hk⟩
  · have hk := hk.1 c49
    refine r_aload_n X (pc := 163) dX5_find_163 rfl (q := 0) rfl ?_
    refine r_tgR X (pc := 164) (ty := 0) (N := 526) fa_X5_9 rfl (by decide) dX5_find_164 ?_
    refine r_iconst X (pc := 167) dX5_find_167 ?_
    refine r_tiald X (pc := 168) (v := sg.2 0 3) (N := 526) rfl rfl dX5_find_168 (by decide) ?_
    refine r_iconst X (pc := 169) dX5_find_169 ?_
    obtain ⟨b50, hk⟩ := hk
    refine r_icmp_ge X (pc := 170) (tgt := 174) dX5_find_170 (by decide) ⟨b50, (by decide)⟩ (fun c51 => ?_) (fun c51 => ?_)
    · have hk := hk.2 c51
      refine r_iconst X (pc := 174) dX5_find_174 ?_
      refine r_istore X (pc := 175) (lv1 := [(6, vI 1), (0, vR (some t)), (1, vI x1), (2, vI x2), (3, vI x3), (4, vI x4), (5, vI x5)]) dX5_find_175 (by decide) rfl ?_
      refine G.sub [1, 2, 3, 4, 5, 6, 0] rfl ?_
      have HH52 : ∀ (sg : TS), (P_X5_find_243 κ sg) → G K Y (tw t sg h0) n z 243 [(0, vR (some t))] [] := by
          intro sg hk
          exact w_X5_find_243 X E hz sg hk
      obtain ⟨f9, hk⟩ := hk
      exact w_X5_find_177 X E hz HH52 f9 sg x1 x2 x3 x4 x5 1 hk
    · have hk := hk.1 c51
      exact r_vret X E (pc := 173) dX5_find_173 ⟨rfl, rfl, rfl, _, rfl, hk⟩
set_option maxHeartbeats 4000000 in
theorem w_X5_find_113 {K : KT} {Y : YT} {Qx : QxT} {t n z : Nat} {h0 : AH} {κ : TS → Prop} (X : XY K "TrailMarkersModel" "find" cX5_find (Option.none : Option Jvm.ClassFile.FieldType) [] 8 6 149 Y) (E : YE K Y (tQv t h0 n z κ) Qx) (hz : kz K ≤ t) {k_155 : TS → Int → Int → Int → Int → Int → Prop} (H_155 : ∀ (sg : TS) (x1 : Int) (x2 : Int) (x3 : Int) (x4 : Int) (x5 : Int), k_155 sg x1 x2 x3 x4 x5 → G K Y (tw t sg h0) n z 155 [(0, vR (some t)), (1, vI x1), (2, vI x2), (3, vI x3), (4, vI x4), (5, vI x5)] []) : ∀ (f : Nat) (sg : TS) (x1 : Int) (x2 : Int) (x3 : Int) (x4 : Int) (x5 : Int) (x6 : Int), L_X5_find_113 k_155 κ f sg x1 x2 x3 x4 x5 x6 → G K Y (tw t sg h0) n z 113 [(0, vR (some t)), (1, vI x1), (2, vI x2), (3, vI x3), (4, vI x4), (5, vI x5), (6, vI x6)] [] := by
  intro f
  induction f with
  | zero => intro sg x1 x2 x3 x4 x5 x6 hk; exact hk.elim
  | succ f ih =>
    intro sg x1 x2 x3 x4 x5 x6 hk
    refine r_iload X (pc := 113) dX5_find_113 (q := 6) rfl ?_
    refine r_iload X (pc := 115) dX5_find_115 (q := 5) rfl ?_
    obtain ⟨b53, b54, hk⟩ := hk
    refine r_icmp_gt X (pc := 117) (tgt := 155) dX5_find_117 (by decide) ⟨b53, b54⟩ (fun c55 => ?_) (fun c55 => ?_)
    · have hk := hk.1 c55
      refine G.sub [0, 1, 2, 3, 4, 5] rfl ?_
      exact H_155 sg x1 x2 x3 x4 x5 hk
    · have hk := hk.2 c55
      refine r_aload_n X (pc := 120) dX5_find_120 rfl (q := 0) rfl ?_
      refine r_iload_n X (pc := 121) dX5_find_121 rfl (q := 1) rfl ?_
      refine r_iconst X (pc := 122) dX5_find_122 ?_
      refine r_iload X (pc := 123) dX5_find_123 (q := 6) rfl ?_
      refine r_iconst X (pc := 125) dX5_find_125 ?_
      refine r_iload_n X (pc := 126) dX5_find_126 rfl (q := 3) rfl ?_
      refine r_iload X (pc := 127) dX5_find_127 (q := 6) rfl ?_
      refine r_iload_n X (pc := 129) dX5_find_129 rfl (q := 2) rfl ?_
      refine r_callS X (pc := 130) (As := [vI x2]) (st := [vI x6, vI x3, vI (-1), vI x6, vI 1, vI x1, vR (some t)]) m_X5_147 (fun _ => s_X5_dx hk) ⟨by decide, by decide⟩ (Nat.le_of_ble_eq_true rfl) dX5_find_130 (fun v9 h9 n9 z9 hq => ?_) (fun _ _ _ _ _ hf => hf.elim)
      obtain ⟨r56, rfl, rfl, rfl, rfl, hk⟩ := hq
      refine ⟨[vI r56], rfl, ?_⟩
      refine r_imul X (pc := 133) dX5_find_133 ?_
      refine r_iadd X (pc := 134) dX5_find_134 ?_
      refine r_iload X (pc := 135) dX5_find_135 (q := 4) rfl ?_
      refine r_iload X (pc := 137) dX5_find_137 (q := 6) rfl ?_
      refine r_iload_n X (pc := 139) dX5_find_139 rfl (q := 2) rfl ?_
      refine r_callS X (pc := 140) (As := [vI x2]) (st := [vI x6, vI x4, vI (x3 + (x6 * r56)), vI (-1), vI x6, vI 1, vI x1, vR (some t)]) m_X5_151 (fun _ => s_X5_dy hk) ⟨by decide, by decide⟩ (Nat.le_of_ble_eq_true rfl) dX5_find_140 (fun v9 h9 n9 z9 hq => ?_) (fun _ _ _ _ _ hf => hf.elim)
      obtain ⟨r57, rfl, rfl, rfl, rfl, hk⟩ := hq
      refine ⟨[vI r57], rfl, ?_⟩
      refine r_imul X (pc := 143) dX5_find_143 ?_
      refine r_iadd X (pc := 144) dX5_find_144 ?_
      refine r_iconst X (pc := 145) dX5_find_145 ?_
      refine r_callV X (pc := 146) (As := [vI x1, vI 1, vI x6, vI (-1), vI (x3 + (x6 * r56)), vI (x4 + (x6 * r57)), vI 0]) (st := []) rfl rfl rfl (tw_t t _ h0) m_X5_192 (fun _ => s_X5_turns hz hk) ⟨by decide, by decide⟩ (Nat.le_of_ble_eq_true rfl) dX5_find_146 (fun v9 h9 n9 z9 hq => ?_) (fun _ _ _ _ _ hf => hf.elim)
      obtain ⟨rfl, rfl, rfl, sg58, rfl, hk⟩ := hq
      refine ⟨[], rfl, ?_⟩
      refine r_iinc X (pc := 149) (q := 6) (lv1 := [(6, vI (x6 + 1)), (0, vR (some t)), (1, vI x1), (2, vI x2), (3, vI x3), (4, vI x4), (5, vI x5)]) dX5_find_149 rfl (by decide) rfl ?_
      refine r_goto X (pc := 152) (tgt := 113) dX5_find_152 (by decide) ?_
      refine G.sub [1, 2, 3, 4, 5, 6, 0] rfl ?_
      exact ih sg58 x1 x2 x3 x4 x5 (x6 + 1) hk
set_option maxHeartbeats 4000000 in
theorem w_X5_find {K : KT} {Y : YT} {Qx : QxT} {t n z : Nat} {h0 : AH} {κ : TS → Prop} (X : XY K "TrailMarkersModel" "find" cX5_find (Option.none : Option Jvm.ClassFile.FieldType) [] 8 6 149 Y) (E : YE K Y (tQv t h0 n z κ) Qx) (hz : kz K ≤ t) {sg : TS} {x1 : Int} (hk : P_X5_find κ sg x1) : G K Y (tw t sg h0) n z 0 (lv_argsA 0 [vR (some t), vI x1]) [] := by
  show G K Y (tw t sg h0) n z 0 [(0, vR (some t)), (1, vI x1)] []
  refine r_aload_n X (pc := 0) dX5_find_0 rfl (q := 0) rfl ?_
  refine r_iconst X (pc := 1) dX5_find_1 ?_
  refine r_tpI X (pc := 2) fp_X5_169 hz (by decide) dX5_find_2 ?_
  refine r_aload_n X (pc := 5) dX5_find_5 rfl (q := 0) rfl ?_
  refine r_iconst X (pc := 6) dX5_find_6 ?_
  refine r_tpI X (pc := 7) fp_X5_175 hz (by decide) dX5_find_7 ?_
  refine r_aload_n X (pc := 10) dX5_find_10 rfl (q := 0) rfl ?_
  refine r_iconst X (pc := 11) dX5_find_11 ?_
  refine r_tpI X (pc := 12) fp_X5_160 hz (by decide) dX5_find_12 ?_
  refine r_aload_n X (pc := 15) dX5_find_15 rfl (q := 0) rfl ?_
  refine r_iconst X (pc := 16) dX5_find_16 ?_
  refine r_tpI X (pc := 17) fp_X5_163 hz (by decide) dX5_find_17 ?_
  refine r_aload_n X (pc := 20) dX5_find_20 rfl (q := 0) rfl ?_
  refine r_iconst X (pc := 21) dX5_find_21 ?_
  refine r_tpI X (pc := 22) fp_X5_166 hz (by decide) dX5_find_22 ?_
  refine r_aload_n X (pc := 25) dX5_find_25 rfl (q := 0) rfl ?_
  refine r_iload_n X (pc := 26) dX5_find_26 rfl (q := 1) rfl ?_
  refine r_iconst X (pc := 27) dX5_find_27 ?_
  refine r_callV X (pc := 28) (As := [vI x1, vI 3]) (st := []) rfl rfl rfl (tw_t t _ h0) m_X5_130 (fun _ => s_X5_of hz hk) ⟨by decide, by decide⟩ (Nat.le_of_ble_eq_true rfl) dX5_find_28 (fun v9 h9 n9 z9 hq => ?_) (fun _ _ _ _ _ hf => hf.elim)
  obtain ⟨r59, rfl, rfl, rfl, sg60, rfl, hk⟩ := hq
  refine ⟨[vI r59], rfl, ?_⟩
  refine r_istore_n X (pc := 31) (lv1 := [(2, vI r59), (0, vR (some t)), (1, vI x1)]) dX5_find_31 rfl (by decide) rfl ?_
  refine r_aload_n X (pc := 32) dX5_find_32 rfl (q := 1) rfl ?_
  refine r_iload_n X (pc := 33) dX5_find_33 rfl (q := 2) rfl ?_
  refine r_callV X (pc := 34) (As := [vI x1]) (st := []) rfl rfl rfl (tw_t t _ h0) m_X5_134 (fun _ => s_X5_stands hz hk) ⟨by decide, by decide⟩ (Nat.le_of_ble_eq_true rfl) dX5_find_34 (fun v9 h9 n9 z9 hq => ?_) (fun _ _ _ _ _ hf => hf.elim)
  obtain ⟨r61, rfl, rfl, rfl, sg62, rfl, hk⟩ := hq
  refine ⟨[vI r61], rfl, ?_⟩
  obtain ⟨b63, hk⟩ := hk
  refine r_if_eq X (pc := 37) (tgt := 45) dX5_find_37 (by decide) b63 (fun c64 => ?_) (fun c64 => ?_)
  · have hk := hk.1 c64
    exact r_vret X E (pc := 45) dX5_find_45 ⟨rfl, rfl, rfl, _, rfl, hk⟩
  · have hk := hk.2 c64
    refine r_iload_n X (pc := 40) dX5_find_40 rfl (q := 0) rfl ?_
    refine r_iconst X (pc := 41) dX5_find_41 ?_
    obtain ⟨b65, hk⟩ := hk
    refine r_icmp_ne X (pc := 42) (tgt := 46) dX5_find_42 (by decide) ⟨b65, (by decide)⟩ (fun c66 => ?_) (fun c66 => ?_)
    · have hk := hk.2 c66
      refine r_aload_n X (pc := 46) dX5_find_46 rfl (q := 1) rfl ?_
      refine r_iload_n X (pc := 47) dX5_find_47 rfl (q := 2) rfl ?_
      refine r_iconst X (pc := 48) dX5_find_48 ?_
      refine r_callV X (pc := 49) (As := [vI x1, vI 0]) (st := []) rfl rfl rfl (tw_t t _ h0) m_X5_130 (fun _ => s_X5_of hz hk) ⟨by decide, by decide⟩ (Nat.le_of_ble_eq_true rfl) dX5_find_49 (fun v9 h9 n9 z9 hq => ?_) (fun _ _ _ _ _ hf => hf.elim)
      obtain ⟨r67, rfl, rfl, rfl, sg68, rfl, hk⟩ := hq
      refine ⟨[vI r67], rfl, ?_⟩
      refine r_istore_n X (pc := 52) (lv1 := [(3, vI r67), (2, vI r59), (0, vR (some t)), (1, vI x1)]) dX5_find_52 rfl (by decide) rfl ?_
      refine r_aload_n X (pc := 53) dX5_find_53 rfl (q := 2) rfl ?_
      refine r_iload_n X (pc := 54) dX5_find_54 rfl (q := 3) rfl ?_
      refine r_iconst X (pc := 55) dX5_find_55 ?_
      refine r_callV X (pc := 56) (As := [vI x1, vI 1]) (st := []) rfl rfl rfl (tw_t t _ h0) m_X5_130 (fun _ => s_X5_of hz hk) ⟨by decide, by decide⟩ (Nat.le_of_ble_eq_true rfl) dX5_find_56 (fun v9 h9 n9 z9 hq => ?_) (fun _ _ _ _ _ hf => hf.elim)
      obtain ⟨r69, rfl, rfl, rfl, sg70, rfl, hk⟩ := hq
      refine ⟨[vI r69], rfl, ?_⟩
      refine r_istore X (pc := 59) (lv1 := [(4, vI r69), (3, vI r67), (2, vI r59), (0, vR (some t)), (1, vI x1)]) dX5_find_59 (by decide) rfl ?_
      refine r_aload_n X (pc := 61) dX5_find_61 rfl (q := 3) rfl ?_
      refine r_iload_n X (pc := 62) dX5_find_62 rfl (q := 1) rfl ?_
      refine r_iload X (pc := 63) dX5_find_63 (q := 0) rfl ?_
      refine r_iload_n X (pc := 65) dX5_find_65 rfl (q := 2) rfl ?_
      refine r_iload_n X (pc := 66) dX5_find_66 rfl (q := 4) rfl ?_
      refine r_callV X (pc := 67) (As := [vI r67, vI r69, vI r59, vI x1]) (st := []) rfl rfl rfl (tw_t t _ h0) m_X5_184 (fun _ => s_X5_leg hz hk) ⟨by decide, by decide⟩ (Nat.le_of_ble_eq_true rfl) dX5_find_67 (fun v9 h9 n9 z9 hq => ?_) (fun _ _ _ _ _ hf => hf.elim)
      obtain ⟨rfl, rfl, rfl, sg71, rfl, hk⟩ := hq
      refine ⟨[], rfl, ?_⟩
      refine r_aload_n X (pc := 70) dX5_find_70 rfl (q := 3) rfl ?_
      refine r_tgI X (pc := 71) (v := sg71.1 16) fa_X5_141 (by decide) rfl dX5_find_71 ?_
      refine r_iconst X (pc := 74) dX5_find_74 ?_
      obtain ⟨b72, hk⟩ := hk
      refine r_icmp_eq X (pc := 75) (tgt := 95) dX5_find_75 (by decide) ⟨b72, (by decide)⟩ (fun c73 => ?_) (fun c73 => ?_)
      · have hk := hk.1 c73
        refine r_aload_n X (pc := 95) dX5_find_95 rfl (q := 3) rfl ?_
        refine r_tgI X (pc := 96) (v := sg71.1 15) fa_X5_138 (by decide) rfl dX5_find_96 ?_
        refine r_istore X (pc := 99) (lv1 := [(5, vI (sg71.1 15)), (4, vI r69), (3, vI r67), (2, vI r59), (0, vR (some t)), (1, vI x1)]) dX5_find_99 (by decide) rfl ?_
        refine r_aload_n X (pc := 101) dX5_find_101 rfl (q := 4) rfl ?_
        refine r_tgR X (pc := 102) (ty := 0) (N := 526) fa_X5_9 rfl (by decide) dX5_find_102 ?_
        refine r_iconst X (pc := 105) dX5_find_105 ?_
        refine r_tiald X (pc := 106) (v := sg71.2 0 3) (N := 526) rfl rfl dX5_find_106 (by decide) ?_
        obtain ⟨b74, hk⟩ := hk
        refine r_if_le X (pc := 107) (tgt := 155) dX5_find_107 (by decide) b74 (fun c75 => ?_) (fun c75 => ?_)
        · have hk := hk.2 c75
          refine G.sub [4, 5, 3, 2, 1, 0] rfl ?_
          exact w_X5_find_155 X E hz sg71 x1 r59 r67 r69 (sg71.1 15) hk
        · have hk := hk.1 c75
          refine r_iconst X (pc := 110) dX5_find_110 ?_
          refine r_istore X (pc := 111) (lv1 := [(6, vI 1), (5, vI (sg71.1 15)), (4, vI r69), (3, vI r67), (2, vI r59), (0, vR (some t)), (1, vI x1)]) dX5_find_111 (by decide) rfl ?_
          refine G.sub [5, 6, 4, 3, 2, 1, 0] rfl ?_
          have HH76 : ∀ (sg : TS) (x1 : Int) (x2 : Int) (x3 : Int) (x4 : Int) (x5 : Int), (P_X5_find_155 κ sg x1 x2 x3 x4 x5) → G K Y (tw t sg h0) n z 155 [(0, vR (some t)), (1, vI x1), (2, vI x2), (3, vI x3), (4, vI x4), (5, vI x5)] [] := by
              intro sg x1 x2 x3 x4 x5 hk
              exact w_X5_find_155 X E hz sg x1 x2 x3 x4 x5 hk
          obtain ⟨f9, hk⟩ := hk
          exact w_X5_find_113 X E hz HH76 f9 sg71 x1 r59 r67 r69 (sg71.1 15) 1 hk
      · have hk := hk.2 c73
        refine r_aload_n X (pc := 78) dX5_find_78 rfl (q := 3) rfl ?_
        refine r_aload_n X (pc := 79) dX5_find_79 rfl (q := 3) rfl ?_
        refine r_tgI X (pc := 80) (v := sg71.1 16) fa_X5_141 (by decide) rfl dX5_find_80 ?_
        refine r_tpI X (pc := 83) fp_X5_169 hz (by decide) dX5_find_83 ?_
        refine r_aload_n X (pc := 86) dX5_find_86 rfl (q := 3) rfl ?_
        refine r_aload_n X (pc := 87) dX5_find_87 rfl (q := 3) rfl ?_
        refine r_tgI X (pc := 88) (v := sg71.1 17) fa_X5_144 (by decide) rfl dX5_find_88 ?_
        refine r_tpI X (pc := 91) fp_X5_166 hz (by decide) dX5_find_91 ?_
        exact r_vret X E (pc := 94) dX5_find_94 ⟨rfl, rfl, rfl, _, rfl, hk⟩
    · have hk := hk.1 c66
      exact r_vret X E (pc := 45) dX5_find_45 ⟨rfl, rfl, rfl, _, rfl, hk⟩
theorem s_X5_find {K : KT} {l : Launch} {t n z : Nat} {h0 : AH} {κ : TS → Prop} (hz : kz K ≤ t) {sg : TS} {x1 : Int} (hk : P_X5_find κ sg x1) : Ct K l yX5_find (ws_ yX5_find cX5_find 8 (Option.none : Option Jvm.ClassFile.FieldType)) 6 149 ([vR (some t), vI x1].map cV) (tw t sg h0) n z (tQv t h0 n z κ) noX :=
  ct_of (by decide +kernel) (Nat.le_of_ble_eq_true rfl) (fun Y X E => w_X5_find X E hz hk)
set_option maxHeartbeats 4000000 in
theorem w_X5_goes_16 {K : KT} {Y : YT} {Qx : QxT} {t n z : Nat} {h0 : AH} {κ : TS → Prop} (X : XY K "TrailMarkersModel" "goes" cX5_goes (Option.none : Option Jvm.ClassFile.FieldType) [] 6 1 20 Y) (E : YE K Y (tQv t h0 n z κ) Qx) (hz : kz K ≤ t) {k_66 : TS → Int → Int → Int → Int → Prop} (H_66 : ∀ (sg : TS) (x1 : Int) (x2 : Int) (x3 : Int) (x4 : Int), k_66 sg x1 x2 x3 x4 → G K Y (tw t sg h0) n z 66 [(0, vR (some t)), (1, vI x1), (2, vI x2), (3, vI x3), (4, vI x4)] []) : ∀ (f : Nat) (sg : TS) (x1 : Int) (x2 : Int) (x3 : Int) (x4 : Int) (x5 : Int), L_X5_goes_16 k_66 κ f sg x1 x2 x3 x4 x5 → G K Y (tw t sg h0) n z 16 [(0, vR (some t)), (1, vI x1), (2, vI x2), (3, vI x3), (4, vI x4), (5, vI x5)] [] := by
  intro f
  induction f with
  | zero => intro sg x1 x2 x3 x4 x5 hk; exact hk.elim
  | succ f ih =>
    intro sg x1 x2 x3 x4 x5 hk
    refine r_iload X (pc := 16) dX5_goes_16 (q := 5) rfl ?_
    refine r_iload_n X (pc := 18) dX5_goes_18 rfl (q := 1) rfl ?_
    obtain ⟨b11, b12, hk⟩ := hk
    refine r_icmp_ge X (pc := 19) (tgt := 66) dX5_goes_19 (by decide) ⟨b11, b12⟩ (fun c13 => ?_) (fun c13 => ?_)
    · have hk := hk.2 c13
      refine G.sub [0, 1, 2, 3, 4] rfl ?_
      exact H_66 sg x1 x2 x3 x4 hk
    · have hk := hk.1 c13
      refine r_iload X (pc := 22) dX5_goes_22 (q := 4) rfl ?_
      refine r_bipush X (pc := 24) dX5_goes_24 (by decide) ?_
      refine r_iload_n X (pc := 26) dX5_goes_26 rfl (q := 2) rfl ?_
      refine r_callS X (pc := 27) (As := [vI x2]) (st := [vI 100, vI x4]) m_X5_147 (fun _ => s_X5_dx hk) ⟨by decide, by decide⟩ (Nat.le_of_ble_eq_true rfl) dX5_goes_27 (fun v9 h9 n9 z9 hq => ?_) (fun _ _ _ _ _ hf => hf.elim)
      obtain ⟨r14, rfl, rfl, rfl, rfl, hk⟩ := hq
      refine ⟨[vI r14], rfl, ?_⟩
      refine r_imul X (pc := 30) dX5_goes_30 ?_
      refine r_iload_n X (pc := 31) dX5_goes_31 rfl (q := 2) rfl ?_
      refine r_callS X (pc := 32) (As := [vI x2]) (st := [vI (100 * r14), vI x4]) m_X5_151 (fun _ => s_X5_dy hk) ⟨by decide, by decide⟩ (Nat.le_of_ble_eq_true rfl) dX5_goes_32 (fun v9 h9 n9 z9 hq => ?_) (fun _ _ _ _ _ hf => hf.elim)
      obtain ⟨r15, rfl, rfl, rfl, rfl, hk⟩ := hq
      refine ⟨[vI r15], rfl, ?_⟩
      refine r_iadd X (pc := 35) dX5_goes_35 ?_
      refine r_iadd X (pc := 36) dX5_goes_36 ?_
      refine r_istore X (pc := 37) (lv1 := [(4, vI (x4 + ((100 * r14) + r15))), (0, vR (some t)), (1, vI x1), (2, vI x2), (3, vI x3), (5, vI x5)]) dX5_goes_37 (by decide) rfl ?_
      refine r_aload_n X (pc := 39) dX5_goes_39 rfl (q := 1) rfl ?_
      refine r_tgR X (pc := 40) (ty := 0) (N := 1000) fa_X5_45 rfl (by decide) dX5_goes_40 ?_
      refine r_aload_n X (pc := 43) dX5_goes_43 rfl (q := 1) rfl ?_
      refine r_tgI X (pc := 44) (v := sg.1 33) fa_X5_199 (by decide) rfl dX5_goes_44 ?_
      refine r_iload X (pc := 47) dX5_goes_47 (q := 0) rfl ?_
      obtain ⟨b16, hk⟩ := hk
      refine r_tiast X (pc := 49) hz (N := 1000) rfl dX5_goes_49 b16 ?_
      refine r_aload_n X (pc := 50) dX5_goes_50 rfl (q := 1) rfl ?_
      refine r_dup X (pc := 51) dX5_goes_51 rfl ?_
      refine r_tgI X (pc := 52) (v := sg.1 33) fa_X5_199 (by decide) rfl dX5_goes_52 ?_
      refine r_iconst X (pc := 55) dX5_goes_55 ?_
      refine r_iadd X (pc := 56) dX5_goes_56 ?_
      refine r_tpI X (pc := 57) fp_X5_199 hz (by decide) dX5_goes_57 ?_
      refine r_iinc X (pc := 60) (q := 5) (lv1 := [(5, vI (x5 + 1)), (4, vI (x4 + ((100 * r14) + r15))), (0, vR (some t)), (1, vI x1), (2, vI x2), (3, vI x3)]) dX5_goes_60 rfl (by decide) rfl ?_
      refine r_goto X (pc := 63) (tgt := 16) dX5_goes_63 (by decide) ?_
      refine G.sub [2, 3, 4, 5, 1, 0] rfl ?_
      exact ih (setS (setA sg 26 (uI (sg.2 26) (sg.1 33) (x4 + ((100 * r14) + r15)))) 33 ((sg.1 33) + 1)) x1 x2 x3 (x4 + ((100 * r14) + r15)) (x5 + 1) hk
set_option maxHeartbeats 4000000 in
theorem w_X5_goes_66 {K : KT} {Y : YT} {Qx : QxT} {t n z : Nat} {h0 : AH} {κ : TS → Prop} (X : XY K "TrailMarkersModel" "goes" cX5_goes (Option.none : Option Jvm.ClassFile.FieldType) [] 6 1 20 Y) (E : YE K Y (tQv t h0 n z κ) Qx) (hz : kz K ≤ t) : ∀ (sg : TS) (x1 : Int) (x2 : Int) (x3 : Int) (x4 : Int), P_X5_goes_66 κ sg x1 x2 x3 x4 → G K Y (tw t sg h0) n z 66 [(0, vR (some t)), (1, vI x1), (2, vI x2), (3, vI x3), (4, vI x4)] [] := by
  intro sg x1 x2 x3 x4 hk
  refine r_aload_n X (pc := 66) dX5_goes_66 rfl (q := 0) rfl ?_
  refine r_tgR X (pc := 67) (ty := 0) (N := 100) fa_X5_48 rfl (by decide) dX5_goes_67 ?_
  refine r_aload_n X (pc := 70) dX5_goes_70 rfl (q := 0) rfl ?_
  refine r_tgI X (pc := 71) (v := sg.1 34) fa_X5_202 (by decide) rfl dX5_goes_71 ?_
  refine r_iload_n X (pc := 74) dX5_goes_74 rfl (q := 1) rfl ?_
  obtain ⟨b17, hk⟩ := hk
  refine r_tiast X (pc := 75) hz (N := 100) rfl dX5_goes_75 b17 ?_
  refine r_aload_n X (pc := 76) dX5_goes_76 rfl (q := 0) rfl ?_
  refine r_tgR X (pc := 77) (ty := 0) (N := 100) fa_X5_51 rfl (by decide) dX5_goes_77 ?_
  refine r_aload_n X (pc := 80) dX5_goes_80 rfl (q := 0) rfl ?_
  refine r_tgI X (pc := 81) (v := sg.1 34) fa_X5_202 (by decide) rfl dX5_goes_81 ?_
  refine r_iload_n X (pc := 84) dX5_goes_84 rfl (q := 2) rfl ?_
  refine r_tiast X (pc := 85) hz (N := 100) rfl dX5_goes_85 b17 ?_
  refine r_aload_n X (pc := 86) dX5_goes_86 rfl (q := 0) rfl ?_
  refine r_tgR X (pc := 87) (ty := 2) (N := 100) fa_X5_57 rfl (by decide) dX5_goes_87 ?_
  refine r_aload_n X (pc := 90) dX5_goes_90 rfl (q := 0) rfl ?_
  refine r_tgI X (pc := 91) (v := sg.1 34) fa_X5_202 (by decide) rfl dX5_goes_91 ?_
  refine r_iload_n X (pc := 94) dX5_goes_94 rfl (q := 3) rfl ?_
  obtain ⟨b18, hk⟩ := hk
  refine r_tzast X (pc := 95) hz (N := 100) rfl b18 dX5_goes_95 b17 ?_
  refine r_aload_n X (pc := 96) dX5_goes_96 rfl (q := 0) rfl ?_
  refine r_dup X (pc := 97) dX5_goes_97 rfl ?_
  refine r_tgI X (pc := 98) (v := sg.1 34) fa_X5_202 (by decide) rfl dX5_goes_98 ?_
  refine r_iconst X (pc := 101) dX5_goes_101 ?_
  refine r_iadd X (pc := 102) dX5_goes_102 ?_
  refine r_tpI X (pc := 103) fp_X5_202 hz (by decide) dX5_goes_103 ?_
  refine r_iload_n X (pc := 106) dX5_goes_106 rfl (q := 3) rfl ?_
  obtain ⟨b19, hk⟩ := hk
  refine r_if_ne X (pc := 107) (tgt := 111) dX5_goes_107 (by decide) b19 (fun c20 => ?_) (fun c20 => ?_)
  · have hk := hk.2 c20
    refine r_aload_n X (pc := 111) dX5_goes_111 rfl (q := 0) rfl ?_
    refine r_tgR X (pc := 112) (ty := 0) (N := 60) fa_X5_54 rfl (by decide) dX5_goes_112 ?_
    refine r_aload_n X (pc := 115) dX5_goes_115 rfl (q := 0) rfl ?_
    refine r_tgI X (pc := 116) (v := sg.1 35) fa_X5_205 (by decide) rfl dX5_goes_116 ?_
    refine r_iload X (pc := 119) dX5_goes_119 (q := 4) rfl ?_
    obtain ⟨b21, hk⟩ := hk
    refine r_tiast X (pc := 121) hz (N := 60) rfl dX5_goes_121 b21 ?_
    refine r_aload_n X (pc := 122) dX5_goes_122 rfl (q := 0) rfl ?_
    refine r_dup X (pc := 123) dX5_goes_123 rfl ?_
    refine r_tgI X (pc := 124) (v := sg.1 35) fa_X5_205 (by decide) rfl dX5_goes_124 ?_
    refine r_iconst X (pc := 127) dX5_goes_127 ?_
    refine r_iadd X (pc := 128) dX5_goes_128 ?_
    refine r_tpI X (pc := 129) fp_X5_205 hz (by decide) dX5_goes_129 ?_
    exact r_vret X E (pc := 132) dX5_goes_132 ⟨rfl, rfl, rfl, _, rfl, hk⟩
  · have hk := hk.1 c20
    exact r_vret X E (pc := 110) dX5_goes_110 ⟨rfl, rfl, rfl, _, rfl, hk⟩
set_option maxHeartbeats 4000000 in
theorem w_X5_goes {K : KT} {Y : YT} {Qx : QxT} {t n z : Nat} {h0 : AH} {κ : TS → Prop} (X : XY K "TrailMarkersModel" "goes" cX5_goes (Option.none : Option Jvm.ClassFile.FieldType) [] 6 1 20 Y) (E : YE K Y (tQv t h0 n z κ) Qx) (hz : kz K ≤ t) {sg : TS} {x1 : Int} {x2 : Int} {x3 : Int} (hk : P_X5_goes κ sg x1 x2 x3) : G K Y (tw t sg h0) n z 0 (lv_argsA 0 [vR (some t), vI x1, vI x2, vI x3]) [] := by
  show G K Y (tw t sg h0) n z 0 [(0, vR (some t)), (1, vI x1), (2, vI x2), (3, vI x3)] []
  refine r_aload_n X (pc := 0) dX5_goes_0 rfl (q := 0) rfl ?_
  refine r_tgR X (pc := 1) (ty := 0) (N := 1000) fa_X5_45 rfl (by decide) dX5_goes_1 ?_
  refine r_aload_n X (pc := 4) dX5_goes_4 rfl (q := 0) rfl ?_
  refine r_tgI X (pc := 5) (v := sg.1 33) fa_X5_199 (by decide) rfl dX5_goes_5 ?_
  refine r_iconst X (pc := 8) dX5_goes_8 ?_
  refine r_isub X (pc := 9) dX5_goes_9 ?_
  obtain ⟨b22, hk⟩ := hk
  refine r_tiald X (pc := 10) (v := sg.2 26 ((sg.1 33) - 1)) (N := 1000) rfl rfl dX5_goes_10 b22 ?_
  refine r_istore X (pc := 11) (lv1 := [(4, vI (sg.2 26 ((sg.1 33) - 1))), (0, vR (some t)), (1, vI x1), (2, vI x2), (3, vI x3)]) dX5_goes_11 (by decide) rfl ?_
  refine r_iconst X (pc := 13) dX5_goes_13 ?_
  refine r_istore X (pc := 14) (lv1 := [(5, vI 0), (4, vI (sg.2 26 ((sg.1 33) - 1))), (0, vR (some t)), (1, vI x1), (2, vI x2), (3, vI x3)]) dX5_goes_14 (by decide) rfl ?_
  refine G.sub [2, 3, 4, 5, 1, 0] rfl ?_
  have HH23 : ∀ (sg : TS) (x1 : Int) (x2 : Int) (x3 : Int) (x4 : Int), (P_X5_goes_66 κ sg x1 x2 x3 x4) → G K Y (tw t sg h0) n z 66 [(0, vR (some t)), (1, vI x1), (2, vI x2), (3, vI x3), (4, vI x4)] [] := by
      intro sg x1 x2 x3 x4 hk
      exact w_X5_goes_66 X E hz sg x1 x2 x3 x4 hk
  obtain ⟨f9, hk⟩ := hk
  exact w_X5_goes_16 X E hz HH23 f9 sg x1 x2 x3 (sg.2 26 ((sg.1 33) - 1)) 0 hk
theorem s_X5_goes {K : KT} {l : Launch} {t n z : Nat} {h0 : AH} {κ : TS → Prop} (hz : kz K ≤ t) {sg : TS} {x1 : Int} {x2 : Int} {x3 : Int} (hk : P_X5_goes κ sg x1 x2 x3) : Ct K l yX5_goes (ws_ yX5_goes cX5_goes 6 (Option.none : Option Jvm.ClassFile.FieldType)) 1 20 ([vR (some t), vI x1, vI x2, vI x3].map cV) (tw t sg h0) n z (tQv t h0 n z κ) noX :=
  ct_of (by decide +kernel) (Nat.le_of_ble_eq_true rfl) (fun Y X E => w_X5_goes X E hz hk)
set_option maxHeartbeats 4000000 in
theorem w_X5_walk_184 {K : KT} {Y : YT} {Qx : QxT} {t n z : Nat} {h0 : AH} {κ : TS → Prop} (X : XY K "TrailMarkersModel" "walk" cX5_walk (Option.none : Option Jvm.ClassFile.FieldType) [] 4 7 176 Y) (E : YE K Y (tQv t h0 n z κ) Qx) (hz : kz K ≤ t) {k_15 : TS → Int → Prop} {k_69 : TS → Int → Prop} {k_196 : TS → Int → Prop} (H_15 : ∀ (sg : TS) (x2 : Int), k_15 sg x2 → G K Y (tw t sg h0) n z 15 [(0, vR (some t)), (2, vI x2)] []) (H_69 : ∀ (sg : TS) (x2 : Int), k_69 sg x2 → G K Y (tw t sg h0) n z 69 [(0, vR (some t)), (2, vI x2)] []) (H_196 : ∀ (sg : TS) (x2 : Int), k_196 sg x2 → G K Y (tw t sg h0) n z 196 [(0, vR (some t)), (2, vI x2)] []) : ∀ (sg : TS) (s0 : Int) (s1 : Int), P_X5_walk_184 k_15 k_69 k_196 κ sg s0 s1 → G K Y (tw t sg h0) n z 184 [(0, vR (some t))] [vI s0, vI s1, vR (some t)] := by
  intro sg s0 s1 hk
  refine r_iconst X (pc := 184) dX5_walk_184 ?_
  refine r_callV X (pc := 185) (As := [vI s1, vI s0, vI 0]) (st := []) rfl rfl rfl (tw_t t _ h0) m_X5_232 (fun _ => s_X5_goes hz hk) ⟨by decide, by decide⟩ (Nat.le_of_ble_eq_true rfl) dX5_walk_185 (fun v9 h9 n9 z9 hq => ?_) (fun _ _ _ _ _ hf => hf.elim)
  obtain ⟨rfl, rfl, rfl, sg30, rfl, hk⟩ := hq
  refine ⟨[], rfl, ?_⟩
  refine r_aload_n X (pc := 188) dX5_walk_188 rfl (q := 0) rfl ?_
  refine r_tgI X (pc := 189) (v := sg30.1 18) fa_X5_169 (by decide) rfl dX5_walk_189 ?_
  refine r_istore_n X (pc := 192) (lv1 := [(2, vI (sg30.1 18)), (0, vR (some t))]) dX5_walk_192 rfl (by decide) rfl ?_
  refine r_goto X (pc := 193) (tgt := 15) dX5_walk_193 (by decide) ?_
  refine G.sub [1, 0] rfl ?_
  exact H_15 sg30 (sg30.1 18) hk
set_option maxHeartbeats 4000000 in
theorem w_X5_walk_149 {K : KT} {Y : YT} {Qx : QxT} {t n z : Nat} {h0 : AH} {κ : TS → Prop} (X : XY K "TrailMarkersModel" "walk" cX5_walk (Option.none : Option Jvm.ClassFile.FieldType) [] 4 7 176 Y) (E : YE K Y (tQv t h0 n z κ) Qx) (hz : kz K ≤ t) {k_15 : TS → Int → Prop} {k_69 : TS → Int → Prop} {k_196 : TS → Int → Prop} (H_15 : ∀ (sg : TS) (x2 : Int), k_15 sg x2 → G K Y (tw t sg h0) n z 15 [(0, vR (some t)), (2, vI x2)] []) (H_69 : ∀ (sg : TS) (x2 : Int), k_69 sg x2 → G K Y (tw t sg h0) n z 69 [(0, vR (some t)), (2, vI x2)] []) (H_196 : ∀ (sg : TS) (x2 : Int), k_196 sg x2 → G K Y (tw t sg h0) n z 196 [(0, vR (some t)), (2, vI x2)] []) : ∀ (sg : TS) (x3 : Int), P_X5_walk_149 k_15 k_69 k_196 κ sg x3 → G K Y (tw t sg h0) n z 149 [(0, vR (some t)), (3, vI x3)] [] := by
  intro sg x3 hk
  refine r_aload_n X (pc := 149) dX5_walk_149 rfl (q := 0) rfl ?_
  refine r_aload_n X (pc := 150) dX5_walk_150 rfl (q := 0) rfl ?_
  refine r_tgI X (pc := 151) (v := sg.1 24) fa_X5_166 (by decide) rfl dX5_walk_151 ?_
  refine r_aload_n X (pc := 154) dX5_walk_154 rfl (q := 0) rfl ?_
  refine r_tgI X (pc := 155) (v := sg.1 19) fa_X5_175 (by decide) rfl dX5_walk_155 ?_
  obtain ⟨b31, hk⟩ := hk
  refine r_if_ne X (pc := 158) (tgt := 165) dX5_walk_158 (by decide) b31 (fun c32 => ?_) (fun c32 => ?_)
  · have hk := hk.2 c32
    refine r_aload_n X (pc := 165) dX5_walk_165 rfl (q := 0) rfl ?_
    refine r_tgI X (pc := 166) (v := sg.1 19) fa_X5_175 (by decide) rfl dX5_walk_166 ?_
    refine r_iconst X (pc := 169) dX5_walk_169 ?_
    refine r_icmp_ne X (pc := 170) (tgt := 180) dX5_walk_170 (by decide) ⟨b31, (by decide)⟩ (fun c33 => ?_) (fun c33 => ?_)
    · have hk := hk.2 c33
      refine r_aload_n X (pc := 180) dX5_walk_180 rfl (q := 0) rfl ?_
      refine r_tgI X (pc := 181) (v := sg.1 23) fa_X5_181 (by decide) rfl dX5_walk_181 ?_
      refine G.sub [0] rfl ?_
      exact w_X5_walk_184 X E hz H_15 H_69 H_196 sg (sg.1 23) (sg.1 24) hk
    · have hk := hk.1 c33
      refine r_aload_n X (pc := 173) dX5_walk_173 rfl (q := 0) rfl ?_
      refine r_tgI X (pc := 174) (v := sg.1 21) fa_X5_178 (by decide) rfl dX5_walk_174 ?_
      refine r_goto X (pc := 177) (tgt := 184) dX5_walk_177 (by decide) ?_
      refine G.sub [0] rfl ?_
      exact w_X5_walk_184 X E hz H_15 H_69 H_196 sg (sg.1 21) (sg.1 24) hk
  · have hk := hk.1 c32
    refine r_iload_n X (pc := 161) dX5_walk_161 rfl (q := 1) rfl ?_
    refine r_goto X (pc := 162) (tgt := 184) dX5_walk_162 (by decide) ?_
    refine G.sub [0] rfl ?_
    exact w_X5_walk_184 X E hz H_15 H_69 H_196 sg x3 (sg.1 24) hk
set_option maxHeartbeats 4000000 in
theorem w_X5_walk_128 {K : KT} {Y : YT} {Qx : QxT} {t n z : Nat} {h0 : AH} {κ : TS → Prop} (X : XY K "TrailMarkersModel" "walk" cX5_walk (Option.none : Option Jvm.ClassFile.FieldType) [] 4 7 176 Y) (E : YE K Y (tQv t h0 n z κ) Qx) (hz : kz K ≤ t) {k_15 : TS → Int → Prop} {k_69 : TS → Int → Prop} {k_196 : TS → Int → Prop} (H_15 : ∀ (sg : TS) (x2 : Int), k_15 sg x2 → G K Y (tw t sg h0) n z 15 [(0, vR (some t)), (2, vI x2)] []) (H_69 : ∀ (sg : TS) (x2 : Int), k_69 sg x2 → G K Y (tw t sg h0) n z 69 [(0, vR (some t)), (2, vI x2)] []) (H_196 : ∀ (sg : TS) (x2 : Int), k_196 sg x2 → G K Y (tw t sg h0) n z 196 [(0, vR (some t)), (2, vI x2)] []) : ∀ (sg : TS) (x3 : Int), P_X5_walk_128 k_15 k_69 k_196 κ sg x3 → G K Y (tw t sg h0) n z 128 [(0, vR (some t)), (3, vI x3)] [] := by
  intro sg x3 hk
  refine r_aload_n X (pc := 128) dX5_walk_128 rfl (q := 0) rfl ?_
  refine r_tgI X (pc := 129) (v := sg.1 19) fa_X5_175 (by decide) rfl dX5_walk_129 ?_
  refine r_iconst X (pc := 132) dX5_walk_132 ?_
  obtain ⟨b34, hk⟩ := hk
  refine r_icmp_ne X (pc := 133) (tgt := 149) dX5_walk_133 (by decide) ⟨b34, (by decide)⟩ (fun c35 => ?_) (fun c35 => ?_)
  · have hk := hk.2 c35
    exact w_X5_walk_149 X E hz H_15 H_69 H_196 sg x3 hk
  · have hk := hk.1 c35
    refine r_aload_n X (pc := 136) dX5_walk_136 rfl (q := 0) rfl ?_
    refine r_aload_n X (pc := 137) dX5_walk_137 rfl (q := 0) rfl ?_
    refine r_tgI X (pc := 138) (v := sg.1 22) fa_X5_163 (by decide) rfl dX5_walk_138 ?_
    refine r_aload_n X (pc := 141) dX5_walk_141 rfl (q := 0) rfl ?_
    refine r_tgI X (pc := 142) (v := sg.1 21) fa_X5_178 (by decide) rfl dX5_walk_142 ?_
    refine r_iconst X (pc := 145) dX5_walk_145 ?_
    refine r_callV X (pc := 146) (As := [vI (sg.1 22), vI (sg.1 21), vI 1]) (st := []) rfl rfl rfl (tw_t t _ h0) m_X5_232 (fun _ => s_X5_goes hz hk) ⟨by decide, by decide⟩ (Nat.le_of_ble_eq_true rfl) dX5_walk_146 (fun v9 h9 n9 z9 hq => ?_) (fun _ _ _ _ _ hf => hf.elim)
    obtain ⟨rfl, rfl, rfl, sg36, rfl, hk⟩ := hq
    refine ⟨[], rfl, ?_⟩
    exact w_X5_walk_149 X E hz H_15 H_69 H_196 sg36 x3 hk
set_option maxHeartbeats 4000000 in
theorem w_X5_walk_15 {K : KT} {Y : YT} {Qx : QxT} {t n z : Nat} {h0 : AH} {κ : TS → Prop} (X : XY K "TrailMarkersModel" "walk" cX5_walk (Option.none : Option Jvm.ClassFile.FieldType) [] 4 7 176 Y) (E : YE K Y (tQv t h0 n z κ) Qx) (hz : kz K ≤ t) {k_69 : TS → Int → Prop} {k_196 : TS → Int → Prop} (H_69 : ∀ (sg : TS) (x2 : Int), k_69 sg x2 → G K Y (tw t sg h0) n z 69 [(0, vR (some t)), (2, vI x2)] []) (H_196 : ∀ (sg : TS) (x2 : Int), k_196 sg x2 → G K Y (tw t sg h0) n z 196 [(0, vR (some t)), (2, vI x2)] []) : ∀ (f : Nat) (sg : TS) (x2 : Int), L_X5_walk_15 k_69 k_196 κ f sg x2 → G K Y (tw t sg h0) n z 15 [(0, vR (some t)), (2, vI x2)] [] := by
  intro f
  induction f with
  | zero => intro sg x2 hk; exact hk.elim
  | succ f ih =>
    intro sg x2 hk
    refine r_aload_n X (pc := 15) dX5_walk_15 rfl (q := 0) rfl ?_
    refine r_tgR X (pc := 16) (ty := 2) (N := 24) fa_X5_60 rfl (by decide) dX5_walk_16 ?_
    refine r_iload_n X (pc := 19) dX5_walk_19 rfl (q := 1) rfl ?_
    obtain ⟨b37, hk⟩ := hk
    refine r_tzald X (pc := 20) (v := sg.2 31 x2) (N := 24) rfl rfl dX5_walk_20 b37 ?_
    obtain ⟨b38, hk⟩ := hk
    refine r_if_ne X (pc := 21) (tgt := 196) dX5_walk_21 (by decide) b38 (fun c39 => ?_) (fun c39 => ?_)
    · have hk := hk.2 c39
      exact H_196 sg x2 hk
    · have hk := hk.1 c39
      refine r_aload_n X (pc := 24) dX5_walk_24 rfl (q := 0) rfl ?_
      refine r_tgR X (pc := 25) (ty := 2) (N := 24) fa_X5_60 rfl (by decide) dX5_walk_25 ?_
      refine r_iload_n X (pc := 28) dX5_walk_28 rfl (q := 1) rfl ?_
      refine r_iconst X (pc := 29) dX5_walk_29 ?_
      refine r_tzast X (pc := 30) hz (N := 24) rfl (Or.inr rfl) dX5_walk_30 b37 ?_
      refine r_aload_n X (pc := 31) dX5_walk_31 rfl (q := 0) rfl ?_
      refine r_tgR X (pc := 32) (ty := 0) (N := 25) fa_X5_42 rfl (by decide) dX5_walk_32 ?_
      refine r_aload_n X (pc := 35) dX5_walk_35 rfl (q := 0) rfl ?_
      refine r_tgI X (pc := 36) (v := sg.1 32) fa_X5_208 (by decide) rfl dX5_walk_36 ?_
      refine r_iload_n X (pc := 39) dX5_walk_39 rfl (q := 1) rfl ?_
      obtain ⟨b40, hk⟩ := hk
      refine r_tiast X (pc := 40) hz (N := 25) rfl dX5_walk_40 b40 ?_
      refine r_aload_n X (pc := 41) dX5_walk_41 rfl (q := 0) rfl ?_
      refine r_dup X (pc := 42) dX5_walk_42 rfl ?_
      refine r_tgI X (pc := 43) (v := sg.1 32) fa_X5_208 (by decide) rfl dX5_walk_43 ?_
      refine r_iconst X (pc := 46) dX5_walk_46 ?_
      refine r_iadd X (pc := 47) dX5_walk_47 ?_
      refine r_tpI X (pc := 48) fp_X5_208 hz (by decide) dX5_walk_48 ?_
      refine r_aload_n X (pc := 51) dX5_walk_51 rfl (q := 0) rfl ?_
      refine r_iload_n X (pc := 52) dX5_walk_52 rfl (q := 1) rfl ?_
      refine r_tpI X (pc := 53) fp_X5_217 hz (by decide) dX5_walk_53 ?_
      refine r_aload_n X (pc := 56) dX5_walk_56 rfl (q := 0) rfl ?_
      refine r_iload_n X (pc := 57) dX5_walk_57 rfl (q := 1) rfl ?_
      refine r_callV X (pc := 58) (As := [vI x2]) (st := []) rfl rfl rfl (tw_t t _ h0) m_X5_224 (fun _ => s_X5_find hz hk) ⟨by decide, by decide⟩ (Nat.le_of_ble_eq_true rfl) dX5_walk_58 (fun v9 h9 n9 z9 hq => ?_) (fun _ _ _ _ _ hf => hf.elim)
      obtain ⟨rfl, rfl, rfl, sg41, rfl, hk⟩ := hq
      refine ⟨[], rfl, ?_⟩
      refine r_aload_n X (pc := 61) dX5_walk_61 rfl (q := 0) rfl ?_
      refine r_tgI X (pc := 62) (v := sg41.1 18) fa_X5_169 (by decide) rfl dX5_walk_62 ?_
      refine r_iconst X (pc := 65) dX5_walk_65 ?_
      obtain ⟨b42, hk⟩ := hk
      refine r_icmp_ne X (pc := 66) (tgt := 89) dX5_walk_66 (by decide) ⟨b42, (by decide)⟩ (fun c43 => ?_) (fun c43 => ?_)
      · have hk := hk.2 c43
        refine r_aload_n X (pc := 89) dX5_walk_89 rfl (q := 0) rfl ?_
        refine r_aload_n X (pc := 90) dX5_walk_90 rfl (q := 0) rfl ?_
        refine r_tgI X (pc := 91) (v := sg41.1 38) fa_X5_211 (by decide) rfl dX5_walk_91 ?_
        refine r_aload_n X (pc := 94) dX5_walk_94 rfl (q := 0) rfl ?_
        refine r_callV X (pc := 95) (As := []) (st := [vI (sg41.1 38), vR (some t)]) rfl rfl rfl (tw_t t _ h0) m_X5_172 (fun _ => s_X5_steps hz hk) ⟨by decide, by decide⟩ (Nat.le_of_ble_eq_true rfl) dX5_walk_95 (fun v9 h9 n9 z9 hq => ?_) (fun _ _ _ _ _ hf => hf.elim)
        obtain ⟨r44, rfl, rfl, rfl, sg45, rfl, hk⟩ := hq
        refine ⟨[vI r44], rfl, ?_⟩
        obtain ⟨b46, b47, hk⟩ := hk
        refine r_mmax X (pc := 98) q3505 q565 q152 q566 b46 b47 ⟨by decide, Nat.le_of_ble_eq_true rfl⟩ dX5_walk_98 ?_
        refine r_tpI X (pc := 101) fp_X5_211 hz (by decide) dX5_walk_101 ?_
        refine r_aload_n X (pc := 104) dX5_walk_104 rfl (q := 0) rfl ?_
        refine r_iload_n X (pc := 105) dX5_walk_105 rfl (q := 1) rfl ?_
        refine r_iconst X (pc := 106) dX5_walk_106 ?_
        refine r_callV X (pc := 107) (As := [vI x2, vI 3]) (st := []) rfl rfl rfl (tw_t t _ h0) m_X5_130 (fun _ => s_X5_of hz hk) ⟨by decide, by decide⟩ (Nat.le_of_ble_eq_true rfl) dX5_walk_107 (fun v9 h9 n9 z9 hq => ?_) (fun _ _ _ _ _ hf => hf.elim)
        obtain ⟨r48, rfl, rfl, rfl, sg49, rfl, hk⟩ := hq
        refine ⟨[vI r48], rfl, ?_⟩
        refine r_istore_n X (pc := 110) (lv1 := [(3, vI r48), (0, vR (some t)), (2, vI x2)]) dX5_walk_110 rfl (by decide) rfl ?_
        refine r_aload_n X (pc := 111) dX5_walk_111 rfl (q := 1) rfl ?_
        refine r_tgI X (pc := 112) (v := sg49.1 19) fa_X5_175 (by decide) rfl dX5_walk_112 ?_
        obtain ⟨b50, hk⟩ := hk
        refine r_if_le X (pc := 115) (tgt := 128) dX5_walk_115 (by decide) b50 (fun c51 => ?_) (fun c51 => ?_)
        · have hk := hk.2 c51
          refine G.sub [1, 0] rfl ?_
          have HH52 : ∀ (sg : TS) (x2 : Int), (L_X5_walk_15 k_69 k_196 κ f sg x2) → G K Y (tw t sg h0) n z 15 [(0, vR (some t)), (2, vI x2)] [] := by
              intro sg x2 hk
              exact ih sg x2 hk
          exact w_X5_walk_128 X E hz HH52 H_69 H_196 sg49 r48 hk
        · have hk := hk.1 c51
          refine r_aload_n X (pc := 118) dX5_walk_118 rfl (q := 1) rfl ?_
          refine r_aload_n X (pc := 119) dX5_walk_119 rfl (q := 1) rfl ?_
          refine r_tgI X (pc := 120) (v := sg49.1 20) fa_X5_160 (by decide) rfl dX5_walk_120 ?_
          refine r_iload_n X (pc := 123) dX5_walk_123 rfl (q := 0) rfl ?_
          refine r_iconst X (pc := 124) dX5_walk_124 ?_
          refine r_callV X (pc := 125) (As := [vI (sg49.1 20), vI r48, vI 1]) (st := []) rfl rfl rfl (tw_t t _ h0) m_X5_232 (fun _ => s_X5_goes hz hk) ⟨by decide, by decide⟩ (Nat.le_of_ble_eq_true rfl) dX5_walk_125 (fun v9 h9 n9 z9 hq => ?_) (fun _ _ _ _ _ hf => hf.elim)
          obtain ⟨rfl, rfl, rfl, sg53, rfl, hk⟩ := hq
          refine ⟨[], rfl, ?_⟩
          refine G.sub [1, 0] rfl ?_
          have HH54 : ∀ (sg : TS) (x2 : Int), (L_X5_walk_15 k_69 k_196 κ f sg x2) → G K Y (tw t sg h0) n z 15 [(0, vR (some t)), (2, vI x2)] [] := by
              intro sg x2 hk
              exact ih sg x2 hk
          exact w_X5_walk_128 X E hz HH54 H_69 H_196 sg53 r48 hk
      · have hk := hk.1 c43
        exact H_69 sg41 x2 hk
set_option maxHeartbeats 4000000 in
theorem w_X5_walk_69 {K : KT} {Y : YT} {Qx : QxT} {t n z : Nat} {h0 : AH} {κ : TS → Prop} (X : XY K "TrailMarkersModel" "walk" cX5_walk (Option.none : Option Jvm.ClassFile.FieldType) [] 4 7 176 Y) (E : YE K Y (tQv t h0 n z κ) Qx) (hz : kz K ≤ t) : ∀ (sg : TS) (x2 : Int), P_X5_walk_69 κ sg x2 → G K Y (tw t sg h0) n z 69 [(0, vR (some t)), (2, vI x2)] [] := by
  intro sg x2 hk
  refine r_aload_n X (pc := 69) dX5_walk_69 rfl (q := 0) rfl ?_
  refine r_aload_n X (pc := 70) dX5_walk_70 rfl (q := 0) rfl ?_
  refine r_iload_n X (pc := 71) dX5_walk_71 rfl (q := 1) rfl ?_
  refine r_iconst X (pc := 72) dX5_walk_72 ?_
  refine r_callV X (pc := 73) (As := [vI x2, vI 3]) (st := [vR (some t)]) rfl rfl rfl (tw_t t _ h0) m_X5_130 (fun _ => s_X5_of hz hk) ⟨by decide, by decide⟩ (Nat.le_of_ble_eq_true rfl) dX5_walk_73 (fun v9 h9 n9 z9 hq => ?_) (fun _ _ _ _ _ hf => hf.elim)
  obtain ⟨r55, rfl, rfl, rfl, sg56, rfl, hk⟩ := hq
  refine ⟨[vI r55], rfl, ?_⟩
  refine r_iconst X (pc := 76) dX5_walk_76 ?_
  obtain ⟨b57, hk⟩ := hk
  refine r_icmp_ne X (pc := 77) (tgt := 84) dX5_walk_77 (by decide) ⟨b57, (by decide)⟩ (fun c58 => ?_) (fun c58 => ?_)
  · have hk := hk.2 c58
    refine r_iconst X (pc := 84) dX5_walk_84 ?_
    refine r_tpI X (pc := 85) fp_X5_214 hz (by decide) dX5_walk_85 ?_
    exact r_vret X E (pc := 88) dX5_walk_88 ⟨rfl, rfl, rfl, _, rfl, hk⟩
  · have hk := hk.1 c58
    refine r_iconst X (pc := 80) dX5_walk_80 ?_
    refine r_goto X (pc := 81) (tgt := 85) dX5_walk_81 (by decide) ?_
    refine r_tpI X (pc := 85) fp_X5_214 hz (by decide) dX5_walk_85 ?_
    exact r_vret X E (pc := 88) dX5_walk_88 ⟨rfl, rfl, rfl, _, rfl, hk⟩
set_option maxHeartbeats 4000000 in
theorem w_X5_walk_196 {K : KT} {Y : YT} {Qx : QxT} {t n z : Nat} {h0 : AH} {κ : TS → Prop} (X : XY K "TrailMarkersModel" "walk" cX5_walk (Option.none : Option Jvm.ClassFile.FieldType) [] 4 7 176 Y) (E : YE K Y (tQv t h0 n z κ) Qx) (hz : kz K ≤ t) : ∀ (sg : TS) (x2 : Int), P_X5_walk_196 κ sg x2 → G K Y (tw t sg h0) n z 196 [(0, vR (some t)), (2, vI x2)] [] := by
  intro sg x2 hk
  refine r_aload_n X (pc := 196) dX5_walk_196 rfl (q := 0) rfl ?_
  refine r_iconst X (pc := 197) dX5_walk_197 ?_
  refine r_tpI X (pc := 198) fp_X5_214 hz (by decide) dX5_walk_198 ?_
  refine r_aload_n X (pc := 201) dX5_walk_201 rfl (q := 0) rfl ?_
  refine r_iload_n X (pc := 202) dX5_walk_202 rfl (q := 1) rfl ?_
  refine r_tpI X (pc := 203) fp_X5_217 hz (by decide) dX5_walk_203 ?_
  exact r_vret X E (pc := 206) dX5_walk_206 ⟨rfl, rfl, rfl, _, rfl, hk⟩
set_option maxHeartbeats 4000000 in
theorem w_X5_walk {K : KT} {Y : YT} {Qx : QxT} {t n z : Nat} {h0 : AH} {κ : TS → Prop} (X : XY K "TrailMarkersModel" "walk" cX5_walk (Option.none : Option Jvm.ClassFile.FieldType) [] 4 7 176 Y) (E : YE K Y (tQv t h0 n z κ) Qx) (hz : kz K ≤ t) {sg : TS} {x1 : Int} (hk : P_X5_walk κ sg x1) : G K Y (tw t sg h0) n z 0 (lv_argsA 0 [vR (some t), vI x1]) [] := by
  show G K Y (tw t sg h0) n z 0 [(0, vR (some t)), (1, vI x1)] []
  refine r_aload_n X (pc := 0) dX5_walk_0 rfl (q := 0) rfl ?_
  refine r_iload_n X (pc := 1) dX5_walk_1 rfl (q := 1) rfl ?_
  refine r_callV X (pc := 2) (As := [vI x1]) (st := []) rfl rfl rfl (tw_t t _ h0) m_X5_220 (fun _ => s_X5_begins hz hk) ⟨by decide, by decide⟩ (Nat.le_of_ble_eq_true rfl) dX5_walk_2 (fun v9 h9 n9 z9 hq => ?_) (fun _ _ _ _ _ hf => hf.elim)
  obtain ⟨rfl, rfl, rfl, sg59, rfl, hk⟩ := hq
  refine ⟨[], rfl, ?_⟩
  refine r_aload_n X (pc := 5) dX5_walk_5 rfl (q := 0) rfl ?_
  refine r_tgI X (pc := 6) (v := sg59.1 33) fa_X5_199 (by decide) rfl dX5_walk_6 ?_
  obtain ⟨b60, hk⟩ := hk
  refine r_if_ne X (pc := 9) (tgt := 13) dX5_walk_9 (by decide) b60 (fun c61 => ?_) (fun c61 => ?_)
  · have hk := hk.2 c61
    refine r_iload_n X (pc := 13) dX5_walk_13 rfl (q := 1) rfl ?_
    refine r_istore_n X (pc := 14) (lv1 := [(2, vI x1), (0, vR (some t)), (1, vI x1)]) dX5_walk_14 rfl (by decide) rfl ?_
    refine G.sub [1, 0] rfl ?_
    have HH62 : ∀ (sg : TS) (x2 : Int), (P_X5_walk_69 κ sg x2) → G K Y (tw t sg h0) n z 69 [(0, vR (some t)), (2, vI x2)] [] := by
        intro sg x2 hk
        exact w_X5_walk_69 X E hz sg x2 hk
    have HH63 : ∀ (sg : TS) (x2 : Int), (P_X5_walk_196 κ sg x2) → G K Y (tw t sg h0) n z 196 [(0, vR (some t)), (2, vI x2)] [] := by
        intro sg x2 hk
        exact w_X5_walk_196 X E hz sg x2 hk
    obtain ⟨f9, hk⟩ := hk
    exact w_X5_walk_15 X E hz HH62 HH63 f9 sg59 x1 hk
  · have hk := hk.1 c61
    exact r_vret X E (pc := 12) dX5_walk_12 ⟨rfl, rfl, rfl, _, rfl, hk⟩
theorem s_X5_walk {K : KT} {l : Launch} {t n z : Nat} {h0 : AH} {κ : TS → Prop} (hz : kz K ≤ t) {sg : TS} {x1 : Int} (hk : P_X5_walk κ sg x1) : Ct K l yX5_walk (ws_ yX5_walk cX5_walk 4 (Option.none : Option Jvm.ClassFile.FieldType)) 7 176 ([vR (some t), vI x1].map cV) (tw t sg h0) n z (tQv t h0 n z κ) noX :=
  ct_of (by decide +kernel) (Nat.le_of_ble_eq_true rfl) (fun Y X E => w_X5_walk X E hz hk)
set_option maxHeartbeats 4000000 in
theorem w_X5_metBy {K : KT} {Y : YT} {Qx : QxT} {t n z : Nat} {h0 : AH} {κ : Int → TS → Prop} (X : XY K "TrailMarkersModel" "metBy" cX5_metBy (Option.some Jvm.ClassFile.FieldType.int) [] 2 8 199 Y) (E : YE K Y (tQ t h0 n z κ) Qx) (hz : kz K ≤ t) {sg : TS} {x1 : Int} (hk : P_X5_metBy κ sg x1) : G K Y (tw t sg h0) n z 0 (lv_argsA 0 [vR (some t), vI x1]) [] := by
  show G K Y (tw t sg h0) n z 0 [(0, vR (some t)), (1, vI x1)] []
  refine r_aload_n X (pc := 0) dX5_metBy_0 rfl (q := 0) rfl ?_
  refine r_aload_n X (pc := 1) dX5_metBy_1 rfl (q := 0) rfl ?_
  refine r_iload_n X (pc := 2) dX5_metBy_2 rfl (q := 1) rfl ?_
  refine r_callV X (pc := 3) (As := [vI x1]) (st := [vR (some t)]) rfl rfl rfl (tw_t t _ h0) m_X5_249 (fun _ => s_X5_begin hz hk) ⟨by decide, by decide⟩ (Nat.le_of_ble_eq_true rfl) dX5_metBy_3 (fun v9 h9 n9 z9 hq => ?_) (fun _ _ _ _ _ hf => hf.elim)
  obtain ⟨r3, rfl, rfl, rfl, sg4, rfl, hk⟩ := hq
  refine ⟨[vI r3], rfl, ?_⟩
  refine r_callV X (pc := 6) (As := [vI r3]) (st := []) rfl rfl rfl (tw_t t _ h0) m_X5_243 (fun _ => s_X5_walk hz hk) ⟨by decide, by decide⟩ (Nat.le_of_ble_eq_true rfl) dX5_metBy_6 (fun v9 h9 n9 z9 hq => ?_) (fun _ _ _ _ _ hf => hf.elim)
  obtain ⟨rfl, rfl, rfl, sg5, rfl, hk⟩ := hq
  refine ⟨[], rfl, ?_⟩
  refine r_aload_n X (pc := 9) dX5_metBy_9 rfl (q := 0) rfl ?_
  refine r_tgI X (pc := 10) (v := sg5.1 32) fa_X5_208 (by decide) rfl dX5_metBy_10 ?_
  exact r_iret X E (pc := 13) dX5_metBy_13 rfl ⟨_, rfl, rfl, rfl, _, rfl, hk⟩
theorem s_X5_metBy {K : KT} {l : Launch} {t n z : Nat} {h0 : AH} {κ : Int → TS → Prop} (hz : kz K ≤ t) {sg : TS} {x1 : Int} (hk : P_X5_metBy κ sg x1) : Ct K l yX5_metBy (ws_ yX5_metBy cX5_metBy 2 (Option.some Jvm.ClassFile.FieldType.int)) 8 199 ([vR (some t), vI x1].map cV) (tw t sg h0) n z (tQ t h0 n z κ) noX :=
  ct_of (by decide +kernel) (Nat.le_of_ble_eq_true rfl) (fun Y X E => w_X5_metBy X E hz hk)
set_option maxHeartbeats 4000000 in
theorem w_X5_isComplete {K : KT} {Y : YT} {Qx : QxT} {t n z : Nat} {h0 : AH} {κ : Int → TS → Prop} (X : XY K "TrailMarkersModel" "isComplete" cX5_isComplete (Option.some Jvm.ClassFile.FieldType.boolean) [] 3 9 220 Y) (E : YE K Y (tQ t h0 n z κ) Qx) (hz : kz K ≤ t) {sg : TS} {x1 : Int} (hk : P_X5_isComplete κ sg x1) : G K Y (tw t sg h0) n z 0 (lv_argsA 0 [vR (some t), vI x1]) [] := by
  show G K Y (tw t sg h0) n z 0 [(0, vR (some t)), (1, vI x1)] []
  refine r_aload_n X (pc := 0) dX5_isComplete_0 rfl (q := 0) rfl ?_
  refine r_iload_n X (pc := 1) dX5_isComplete_1 rfl (q := 1) rfl ?_
  refine r_iconst X (pc := 2) dX5_isComplete_2 ?_
  refine r_callV X (pc := 3) (As := [vI x1, vI 1]) (st := []) rfl rfl rfl (tw_t t _ h0) m_X5_236 (fun _ => s_X5_posts hz hk) ⟨by decide, by decide⟩ (Nat.le_of_ble_eq_true rfl) dX5_isComplete_3 (fun v9 h9 n9 z9 hq => ?_) (fun _ _ _ _ _ hf => hf.elim)
  obtain ⟨r8, rfl, rfl, rfl, sg9, rfl, hk⟩ := hq
  refine ⟨[vI r8], rfl, ?_⟩
  refine r_istore_n X (pc := 6) (lv1 := [(2, vI r8), (0, vR (some t)), (1, vI x1)]) dX5_isComplete_6 rfl (by decide) rfl ?_
  refine r_iload_n X (pc := 7) dX5_isComplete_7 rfl (q := 0) rfl ?_
  obtain ⟨b10, hk⟩ := hk
  refine r_if_le X (pc := 8) (tgt := 24) dX5_isComplete_8 (by decide) b10 (fun c11 => ?_) (fun c11 => ?_)
  · have hk := hk.2 c11
    refine r_iconst X (pc := 24) dX5_isComplete_24 ?_
    exact r_iret X E (pc := 25) dX5_isComplete_25 rfl ⟨_, rfl, rfl, rfl, _, rfl, hk⟩
  · have hk := hk.1 c11
    refine r_aload_n X (pc := 11) dX5_isComplete_11 rfl (q := 1) rfl ?_
    refine r_iload_n X (pc := 12) dX5_isComplete_12 rfl (q := 2) rfl ?_
    refine r_callV X (pc := 13) (As := [vI x1]) (st := []) rfl rfl rfl (tw_t t _ h0) m_X5_252 (fun _ => s_X5_metBy hz hk) ⟨by decide, by decide⟩ (Nat.le_of_ble_eq_true rfl) dX5_isComplete_13 (fun v9 h9 n9 z9 hq => ?_) (fun _ _ _ _ _ hf => hf.elim)
    obtain ⟨r12, rfl, rfl, rfl, sg13, rfl, hk⟩ := hq
    refine ⟨[vI r12], rfl, ?_⟩
    refine r_iload_n X (pc := 16) dX5_isComplete_16 rfl (q := 0) rfl ?_
    obtain ⟨b14, hk⟩ := hk
    refine r_icmp_ne X (pc := 17) (tgt := 24) dX5_isComplete_17 (by decide) ⟨b14, b10⟩ (fun c15 => ?_) (fun c15 => ?_)
    · have hk := hk.2 c15
      refine r_iconst X (pc := 24) dX5_isComplete_24 ?_
      exact r_iret X E (pc := 25) dX5_isComplete_25 rfl ⟨_, rfl, rfl, rfl, _, rfl, hk⟩
    · have hk := hk.1 c15
      refine r_iconst X (pc := 20) dX5_isComplete_20 ?_
      refine r_goto X (pc := 21) (tgt := 25) dX5_isComplete_21 (by decide) ?_
      exact r_iret X E (pc := 25) dX5_isComplete_25 rfl ⟨_, rfl, rfl, rfl, _, rfl, hk⟩
theorem s_X5_isComplete {K : KT} {l : Launch} {t n z : Nat} {h0 : AH} {κ : Int → TS → Prop} (hz : kz K ≤ t) {sg : TS} {x1 : Int} (hk : P_X5_isComplete κ sg x1) : Ct K l yX5_isComplete (ws_ yX5_isComplete cX5_isComplete 3 (Option.some Jvm.ClassFile.FieldType.boolean)) 9 220 ([vR (some t), vI x1].map cV) (tw t sg h0) n z (tQ t h0 n z κ) noX :=
  ct_of (by decide +kernel) (Nat.le_of_ble_eq_true rfl) (fun Y X E => w_X5_isComplete X E hz hk)
set_option maxHeartbeats 4000000 in
theorem w_X5_completeOnes_4 {K : KT} {Y : YT} {Qx : QxT} {t n z : Nat} {h0 : AH} {κ : Int → TS → Prop} (X : XY K "TrailMarkersModel" "completeOnes" cX5_completeOnes (Option.some Jvm.ClassFile.FieldType.int) [] 3 10 242 Y) (E : YE K Y (tQ t h0 n z κ) Qx) (hz : kz K ≤ t) {k_26 : TS → Int → Prop} (H_26 : ∀ (sg : TS) (x1 : Int), k_26 sg x1 → G K Y (tw t sg h0) n z 26 [(0, vR (some t)), (1, vI x1)] []) : ∀ (f : Nat) (sg : TS) (x1 : Int) (x2 : Int), L_X5_completeOnes_4 k_26 κ f sg x1 x2 → G K Y (tw t sg h0) n z 4 [(0, vR (some t)), (1, vI x1), (2, vI x2)] [] := by
  intro f
  induction f with
  | zero => intro sg x1 x2 hk; exact hk.elim
  | succ f ih =>
    intro sg x1 x2 hk
    refine r_iload_n X (pc := 4) dX5_completeOnes_4 rfl (q := 2) rfl ?_
    refine r_iconst X (pc := 5) dX5_completeOnes_5 ?_
    obtain ⟨b6, hk⟩ := hk
    refine r_icmp_ge X (pc := 6) (tgt := 26) dX5_completeOnes_6 (by decide) ⟨b6, (by decide)⟩ (fun c7 => ?_) (fun c7 => ?_)
    · have hk := hk.2 c7
      refine G.sub [0, 1] rfl ?_
      exact H_26 sg x1 hk
    · have hk := hk.1 c7
      refine r_aload_n X (pc := 9) dX5_completeOnes_9 rfl (q := 0) rfl ?_
      refine r_iload_n X (pc := 10) dX5_completeOnes_10 rfl (q := 2) rfl ?_
      refine r_callV X (pc := 11) (As := [vI x2]) (st := []) rfl rfl rfl (tw_t t _ h0) m_X5_426 (fun _ => s_X5_isComplete hz hk) ⟨by decide, by decide⟩ (Nat.le_of_ble_eq_true rfl) dX5_completeOnes_11 (fun v9 h9 n9 z9 hq => ?_) (fun _ _ _ _ _ hf => hf.elim)
      obtain ⟨r8, rfl, rfl, rfl, sg9, rfl, hk⟩ := hq
      refine ⟨[vI r8], rfl, ?_⟩
      obtain ⟨b10, hk⟩ := hk
      refine r_if_eq X (pc := 14) (tgt := 20) dX5_completeOnes_14 (by decide) b10 (fun c11 => ?_) (fun c11 => ?_)
      · have hk := hk.1 c11
        refine r_iinc X (pc := 20) (q := 2) (lv1 := [(2, vI (x2 + 1)), (0, vR (some t)), (1, vI x1)]) dX5_completeOnes_20 rfl (by decide) rfl ?_
        refine r_goto X (pc := 23) (tgt := 4) dX5_completeOnes_23 (by decide) ?_
        refine G.sub [1, 2, 0] rfl ?_
        exact ih sg9 x1 (x2 + 1) hk
      · have hk := hk.2 c11
        refine r_iinc X (pc := 17) (q := 1) (lv1 := [(1, vI (x1 + 1)), (0, vR (some t)), (2, vI x2)]) dX5_completeOnes_17 rfl (by decide) rfl ?_
        refine r_iinc X (pc := 20) (q := 2) (lv1 := [(2, vI (x2 + 1)), (1, vI (x1 + 1)), (0, vR (some t))]) dX5_completeOnes_20 rfl (by decide) rfl ?_
        refine r_goto X (pc := 23) (tgt := 4) dX5_completeOnes_23 (by decide) ?_
        refine G.sub [2, 1, 0] rfl ?_
        exact ih sg9 (x1 + 1) (x2 + 1) hk
set_option maxHeartbeats 4000000 in
theorem w_X5_completeOnes_26 {K : KT} {Y : YT} {Qx : QxT} {t n z : Nat} {h0 : AH} {κ : Int → TS → Prop} (X : XY K "TrailMarkersModel" "completeOnes" cX5_completeOnes (Option.some Jvm.ClassFile.FieldType.int) [] 3 10 242 Y) (E : YE K Y (tQ t h0 n z κ) Qx) (hz : kz K ≤ t) : ∀ (sg : TS) (x1 : Int), P_X5_completeOnes_26 κ sg x1 → G K Y (tw t sg h0) n z 26 [(0, vR (some t)), (1, vI x1)] [] := by
  intro sg x1 hk
  refine r_iload_n X (pc := 26) dX5_completeOnes_26 rfl (q := 1) rfl ?_
  exact r_iret X E (pc := 27) dX5_completeOnes_27 rfl ⟨_, rfl, rfl, rfl, _, rfl, hk⟩
set_option maxHeartbeats 4000000 in
theorem w_X5_completeOnes {K : KT} {Y : YT} {Qx : QxT} {t n z : Nat} {h0 : AH} {κ : Int → TS → Prop} (X : XY K "TrailMarkersModel" "completeOnes" cX5_completeOnes (Option.some Jvm.ClassFile.FieldType.int) [] 3 10 242 Y) (E : YE K Y (tQ t h0 n z κ) Qx) (hz : kz K ≤ t) {sg : TS} (hk : P_X5_completeOnes κ sg) : G K Y (tw t sg h0) n z 0 (lv_argsA 0 [vR (some t)]) [] := by
  show G K Y (tw t sg h0) n z 0 [(0, vR (some t))] []
  refine r_iconst X (pc := 0) dX5_completeOnes_0 ?_
  refine r_istore_n X (pc := 1) (lv1 := [(1, vI 0), (0, vR (some t))]) dX5_completeOnes_1 rfl (by decide) rfl ?_
  refine r_iconst X (pc := 2) dX5_completeOnes_2 ?_
  refine r_istore_n X (pc := 3) (lv1 := [(2, vI 0), (1, vI 0), (0, vR (some t))]) dX5_completeOnes_3 rfl (by decide) rfl ?_
  refine G.sub [2, 1, 0] rfl ?_
  have HH12 : ∀ (sg : TS) (x1 : Int), (P_X5_completeOnes_26 κ sg x1) → G K Y (tw t sg h0) n z 26 [(0, vR (some t)), (1, vI x1)] [] := by
      intro sg x1 hk
      exact w_X5_completeOnes_26 X E hz sg x1 hk
  obtain ⟨f9, hk⟩ := hk
  exact w_X5_completeOnes_4 X E hz HH12 f9 sg 0 0 hk
theorem s_X5_completeOnes {K : KT} {l : Launch} {t n z : Nat} {h0 : AH} {κ : Int → TS → Prop} (hz : kz K ≤ t) {sg : TS} (hk : P_X5_completeOnes κ sg) : Ct K l yX5_completeOnes (ws_ yX5_completeOnes cX5_completeOnes 3 (Option.some Jvm.ClassFile.FieldType.int)) 10 242 ([vR (some t)].map cV) (tw t sg h0) n z (tQ t h0 n z κ) noX :=
  ct_of (by decide +kernel) (Nat.le_of_ble_eq_true rfl) (fun Y X E => w_X5_completeOnes X E hz hk)
set_option maxHeartbeats 4000000 in
theorem w_X5_count_16 {K : KT} {Y : YT} {Qx : QxT} {t n z : Nat} {h0 : AH} {κ : Int → TS → Prop} (X : XY K "TrailMarkersModel" "count" cX5_count (Option.some Jvm.ClassFile.FieldType.int) [] 2 11 264 Y) (E : YE K Y (tQ t h0 n z κ) Qx) (hz : kz K ≤ t) : ∀ (sg : TS) (x1 : Int) (s0 : Int), P_X5_count_16 κ sg x1 s0 → G K Y (tw t sg h0) n z 16 [(0, vR (some t)), (1, vI x1)] [vI s0, vR (some t)] := by
  intro sg x1 s0 hk
  refine r_iconst X (pc := 16) dX5_count_16 ?_
  refine r_iconst X (pc := 17) dX5_count_17 ?_
  refine r_callV X (pc := 18) (As := [vI s0, vI 0, vI 0]) (st := []) rfl rfl rfl (tw_t t _ h0) m_X5_258 (fun _ => s_X5_fails hz hk) ⟨by decide, by decide⟩ (Nat.le_of_ble_eq_true rfl) dX5_count_18 (fun v9 h9 n9 z9 hq => ?_) (fun _ _ _ _ _ hf => hf.elim)
  obtain ⟨r8, rfl, rfl, rfl, sg9, rfl, hk⟩ := hq
  refine ⟨[vI r8], rfl, ?_⟩
  obtain ⟨b10, hk⟩ := hk
  refine r_if_eq X (pc := 21) (tgt := 26) dX5_count_21 (by decide) b10 (fun c11 => ?_) (fun c11 => ?_)
  · have hk := hk.1 c11
    refine r_iload_n X (pc := 26) dX5_count_26 rfl (q := 1) rfl ?_
    obtain ⟨b12, hk⟩ := hk
    by_cases c13 : x1 = 0
    · have hk := hk.1 c13
      refine r_tswIn X (pc := 27) (j := 0) (tgt := 76) dX5_count_27 b12 (by omega) (by decide) rfl (by decide) ?_
      refine r_aload_n X (pc := 76) dX5_count_76 rfl (q := 0) rfl ?_
      refine r_tgR X (pc := 77) (ty := 0) (N := 526) fa_X5_9 rfl (by decide) dX5_count_77 ?_
      refine r_iconst X (pc := 80) dX5_count_80 ?_
      refine r_tiald X (pc := 81) (v := sg9.2 0 0) (N := 526) rfl rfl dX5_count_81 (by decide) ?_
      exact r_iret X E (pc := 82) dX5_count_82 rfl ⟨_, rfl, rfl, rfl, _, rfl, hk⟩
    · have hk := hk.2 c13
      by_cases c14 : x1 = 1
      · have hk := hk.1 c14
        refine r_tswIn X (pc := 27) (j := 1) (tgt := 83) dX5_count_27 b12 (by omega) (by decide) rfl (by decide) ?_
        refine r_aload_n X (pc := 83) dX5_count_83 rfl (q := 0) rfl ?_
        refine r_tgR X (pc := 84) (ty := 0) (N := 526) fa_X5_9 rfl (by decide) dX5_count_84 ?_
        refine r_iconst X (pc := 87) dX5_count_87 ?_
        refine r_tiald X (pc := 88) (v := sg9.2 0 1) (N := 526) rfl rfl dX5_count_88 (by decide) ?_
        exact r_iret X E (pc := 89) dX5_count_89 rfl ⟨_, rfl, rfl, rfl, _, rfl, hk⟩
      · have hk := hk.2 c14
        by_cases c15 : x1 = 2
        · have hk := hk.1 c15
          refine r_tswIn X (pc := 27) (j := 2) (tgt := 90) dX5_count_27 b12 (by omega) (by decide) rfl (by decide) ?_
          refine r_aload_n X (pc := 90) dX5_count_90 rfl (q := 0) rfl ?_
          refine r_tgR X (pc := 91) (ty := 0) (N := 526) fa_X5_9 rfl (by decide) dX5_count_91 ?_
          refine r_iconst X (pc := 94) dX5_count_94 ?_
          refine r_tiald X (pc := 95) (v := sg9.2 0 4) (N := 526) rfl rfl dX5_count_95 (by decide) ?_
          exact r_iret X E (pc := 96) dX5_count_96 rfl ⟨_, rfl, rfl, rfl, _, rfl, hk⟩
        · have hk := hk.2 c15
          by_cases c16 : x1 = 3
          · have hk := hk.1 c16
            refine r_tswIn X (pc := 27) (j := 3) (tgt := 97) dX5_count_27 b12 (by omega) (by decide) rfl (by decide) ?_
            refine r_aload_n X (pc := 97) dX5_count_97 rfl (q := 0) rfl ?_
            refine r_iconst X (pc := 98) dX5_count_98 ?_
            refine r_iconst X (pc := 99) dX5_count_99 ?_
            refine r_callV X (pc := 100) (As := [vI (-1), vI 1]) (st := []) rfl rfl rfl (tw_t t _ h0) m_X5_236 (fun _ => s_X5_posts hz hk) ⟨by decide, by decide⟩ (Nat.le_of_ble_eq_true rfl) dX5_count_100 (fun v9 h9 n9 z9 hq => ?_) (fun _ _ _ _ _ hf => hf.elim)
            obtain ⟨r17, rfl, rfl, rfl, sg18, rfl, hk⟩ := hq
            refine ⟨[vI r17], rfl, ?_⟩
            exact r_iret X E (pc := 103) dX5_count_103 rfl ⟨_, rfl, rfl, rfl, _, rfl, hk⟩
          · have hk := hk.2 c16
            by_cases c19 : x1 = 4
            · have hk := hk.1 c19
              refine r_tswIn X (pc := 27) (j := 4) (tgt := 104) dX5_count_27 b12 (by omega) (by decide) rfl (by decide) ?_
              refine r_aload_n X (pc := 104) dX5_count_104 rfl (q := 0) rfl ?_
              refine r_tgR X (pc := 105) (ty := 0) (N := 526) fa_X5_9 rfl (by decide) dX5_count_105 ?_
              refine r_iconst X (pc := 108) dX5_count_108 ?_
              refine r_tiald X (pc := 109) (v := sg9.2 0 5) (N := 526) rfl rfl dX5_count_109 (by decide) ?_
              exact r_iret X E (pc := 110) dX5_count_110 rfl ⟨_, rfl, rfl, rfl, _, rfl, hk⟩
            · have hk := hk.2 c19
              by_cases c20 : x1 = 5
              · have hk := hk.1 c20
                refine r_tswIn X (pc := 27) (j := 5) (tgt := 111) dX5_count_27 b12 (by omega) (by decide) rfl (by decide) ?_
                refine r_aload_n X (pc := 111) dX5_count_111 rfl (q := 0) rfl ?_
                refine r_tgR X (pc := 112) (ty := 0) (N := 526) fa_X5_9 rfl (by decide) dX5_count_112 ?_
                refine r_iconst X (pc := 115) dX5_count_115 ?_
                refine r_tiald X (pc := 116) (v := sg9.2 0 2) (N := 526) rfl rfl dX5_count_116 (by decide) ?_
                exact r_iret X E (pc := 117) dX5_count_117 rfl ⟨_, rfl, rfl, rfl, _, rfl, hk⟩
              · have hk := hk.2 c20
                by_cases c21 : x1 = 6
                · have hk := hk.1 c21
                  refine r_tswIn X (pc := 27) (j := 6) (tgt := 118) dX5_count_27 b12 (by omega) (by decide) rfl (by decide) ?_
                  refine r_aload_n X (pc := 118) dX5_count_118 rfl (q := 0) rfl ?_
                  refine r_tgR X (pc := 119) (ty := 0) (N := 526) fa_X5_9 rfl (by decide) dX5_count_119 ?_
                  refine r_iconst X (pc := 122) dX5_count_122 ?_
                  refine r_tiald X (pc := 123) (v := sg9.2 0 3) (N := 526) rfl rfl dX5_count_123 (by decide) ?_
                  exact r_iret X E (pc := 124) dX5_count_124 rfl ⟨_, rfl, rfl, rfl, _, rfl, hk⟩
                · have hk := hk.2 c21
                  by_cases c22 : x1 = 7
                  · have hk := hk.1 c22
                    refine r_tswIn X (pc := 27) (j := 7) (tgt := 125) dX5_count_27 b12 (by omega) (by decide) rfl (by decide) ?_
                    refine r_aload_n X (pc := 125) dX5_count_125 rfl (q := 0) rfl ?_
                    refine r_callV X (pc := 126) (As := []) (st := []) rfl rfl rfl (tw_t t _ h0) m_X5_429 (fun _ => s_X5_completeOnes hz hk) ⟨by decide, by decide⟩ (Nat.le_of_ble_eq_true rfl) dX5_count_126 (fun v9 h9 n9 z9 hq => ?_) (fun _ _ _ _ _ hf => hf.elim)
                    obtain ⟨r23, rfl, rfl, rfl, sg24, rfl, hk⟩ := hq
                    refine ⟨[vI r23], rfl, ?_⟩
                    exact r_iret X E (pc := 129) dX5_count_129 rfl ⟨_, rfl, rfl, rfl, _, rfl, hk⟩
                  · have hk := hk.2 c22
                    by_cases c25 : x1 = 8
                    · have hk := hk.1 c25
                      refine r_tswIn X (pc := 27) (j := 8) (tgt := 130) dX5_count_27 b12 (by omega) (by decide) rfl (by decide) ?_
                      refine r_aload_n X (pc := 130) dX5_count_130 rfl (q := 0) rfl ?_
                      refine r_tgI X (pc := 131) (v := sg9.1 6) fa_X5_103 (by decide) rfl dX5_count_131 ?_
                      exact r_iret X E (pc := 134) dX5_count_134 rfl ⟨_, rfl, rfl, rfl, _, rfl, hk⟩
                    · have hk := hk.2 c25
                      refine r_tswOut X (pc := 27) (tgt := 135) dX5_count_27 b12 (by omega) (by decide) ?_
                      refine r_aload_n X (pc := 135) dX5_count_135 rfl (q := 0) rfl ?_
                      refine r_tgI X (pc := 136) (v := sg9.1 10) fa_X5_93 (by decide) rfl dX5_count_136 ?_
                      exact r_iret X E (pc := 139) dX5_count_139 rfl ⟨_, rfl, rfl, rfl, _, rfl, hk⟩
  · have hk := hk.2 c11
    refine r_iconst X (pc := 24) dX5_count_24 ?_
    exact r_iret X E (pc := 25) dX5_count_25 rfl ⟨_, rfl, rfl, rfl, _, rfl, hk⟩
set_option maxHeartbeats 4000000 in
theorem w_X5_count {K : KT} {Y : YT} {Qx : QxT} {t n z : Nat} {h0 : AH} {κ : Int → TS → Prop} (X : XY K "TrailMarkersModel" "count" cX5_count (Option.some Jvm.ClassFile.FieldType.int) [] 2 11 264 Y) (E : YE K Y (tQ t h0 n z κ) Qx) (hz : kz K ≤ t) {sg : TS} {x1 : Int} (hk : P_X5_count κ sg x1) : G K Y (tw t sg h0) n z 0 (lv_argsA 0 [vR (some t), vI x1]) [] := by
  show G K Y (tw t sg h0) n z 0 [(0, vR (some t)), (1, vI x1)] []
  refine r_aload_n X (pc := 0) dX5_count_0 rfl (q := 0) rfl ?_
  refine r_iload_n X (pc := 1) dX5_count_1 rfl (q := 1) rfl ?_
  refine r_iconst X (pc := 2) dX5_count_2 ?_
  refine r_bipush X (pc := 3) dX5_count_3 (by decide) ?_
  refine r_callS X (pc := 5) (As := [vI x1, vI 0, vI 9]) (st := [vR (some t)]) m_X5_119 (fun _ => s_X5_isIn hk) ⟨by decide, by decide⟩ (Nat.le_of_ble_eq_true rfl) dX5_count_5 (fun v9 h9 n9 z9 hq => ?_) (fun _ _ _ _ _ hf => hf.elim)
  obtain ⟨r26, rfl, rfl, rfl, rfl, hk⟩ := hq
  refine ⟨[vI r26], rfl, ?_⟩
  obtain ⟨b27, hk⟩ := hk
  refine r_if_ne X (pc := 8) (tgt := 15) dX5_count_8 (by decide) b27 (fun c28 => ?_) (fun c28 => ?_)
  · have hk := hk.2 c28
    refine r_iconst X (pc := 15) dX5_count_15 ?_
    exact w_X5_count_16 X E hz sg x1 0 hk
  · have hk := hk.1 c28
    refine r_iconst X (pc := 11) dX5_count_11 ?_
    refine r_goto X (pc := 12) (tgt := 16) dX5_count_12 (by decide) ?_
    exact w_X5_count_16 X E hz sg x1 1 hk
theorem s_X5_count {K : KT} {l : Launch} {t n z : Nat} {h0 : AH} {κ : Int → TS → Prop} (hz : kz K ≤ t) {sg : TS} {x1 : Int} (hk : P_X5_count κ sg x1) : Ct K l yX5_count (ws_ yX5_count cX5_count 2 (Option.some Jvm.ClassFile.FieldType.int)) 11 264 ([vR (some t), vI x1].map cV) (tw t sg h0) n z (tQ t h0 n z κ) noX :=
  ct_of (by decide +kernel) (Nat.le_of_ble_eq_true rfl) (fun Y X E => w_X5_count X E hz hk)
set_option maxHeartbeats 4000000 in
theorem w_X5_cell {K : KT} {Y : YT} {Qx : QxT} {t n z : Nat} {h0 : AH} {κ : Int → TS → Prop} (X : XY K "TrailMarkersModel" "cell" cX5_cell (Option.some Jvm.ClassFile.FieldType.int) [] 2 1 22 Y) (E : YE K Y (tQ t h0 n z κ) Qx) (hz : kz K ≤ t) {sg : TS} {x1 : Int} (hk : P_X5_cell κ sg x1) : G K Y (tw t sg h0) n z 0 (lv_argsA 0 [vR (some t), vI x1]) [] := by
  show G K Y (tw t sg h0) n z 0 [(0, vR (some t)), (1, vI x1)] []
  refine r_bipush X (pc := 0) dX5_cell_0 (by decide) ?_
  refine r_aload_n X (pc := 2) dX5_cell_2 rfl (q := 0) rfl ?_
  refine r_iload_n X (pc := 3) dX5_cell_3 rfl (q := 1) rfl ?_
  refine r_iconst X (pc := 4) dX5_cell_4 ?_
  refine r_callV X (pc := 5) (As := [vI x1, vI 0]) (st := [vI 100]) rfl rfl rfl (tw_t t _ h0) m_X5_130 (fun _ => s_X5_of hz hk) ⟨by decide, by decide⟩ (Nat.le_of_ble_eq_true rfl) dX5_cell_5 (fun v9 h9 n9 z9 hq => ?_) (fun _ _ _ _ _ hf => hf.elim)
  obtain ⟨r3, rfl, rfl, rfl, sg4, rfl, hk⟩ := hq
  refine ⟨[vI r3], rfl, ?_⟩
  refine r_imul X (pc := 8) dX5_cell_8 ?_
  refine r_aload_n X (pc := 9) dX5_cell_9 rfl (q := 0) rfl ?_
  refine r_iload_n X (pc := 10) dX5_cell_10 rfl (q := 1) rfl ?_
  refine r_iconst X (pc := 11) dX5_cell_11 ?_
  refine r_callV X (pc := 12) (As := [vI x1, vI 1]) (st := [vI (100 * r3)]) rfl rfl rfl (tw_t t _ h0) m_X5_130 (fun _ => s_X5_of hz hk) ⟨by decide, by decide⟩ (Nat.le_of_ble_eq_true rfl) dX5_cell_12 (fun v9 h9 n9 z9 hq => ?_) (fun _ _ _ _ _ hf => hf.elim)
  obtain ⟨r5, rfl, rfl, rfl, sg6, rfl, hk⟩ := hq
  refine ⟨[vI r5], rfl, ?_⟩
  refine r_iadd X (pc := 15) dX5_cell_15 ?_
  exact r_iret X E (pc := 16) dX5_cell_16 rfl ⟨_, rfl, rfl, rfl, _, rfl, hk⟩
theorem s_X5_cell {K : KT} {l : Launch} {t n z : Nat} {h0 : AH} {κ : Int → TS → Prop} (hz : kz K ≤ t) {sg : TS} {x1 : Int} (hk : P_X5_cell κ sg x1) : Ct K l yX5_cell (ws_ yX5_cell cX5_cell 2 (Option.some Jvm.ClassFile.FieldType.int)) 1 22 ([vR (some t), vI x1].map cV) (tw t sg h0) n z (tQ t h0 n z κ) noX :=
  ct_of (by decide +kernel) (Nat.le_of_ble_eq_true rfl) (fun Y X E => w_X5_cell X E hz hk)
set_option maxHeartbeats 4000000 in
theorem w_X5_comers_4 {K : KT} {Y : YT} {Qx : QxT} {t n z : Nat} {h0 : AH} {κ : Int → TS → Prop} (X : XY K "TrailMarkersModel" "comers" cX5_comers (Option.some Jvm.ClassFile.FieldType.int) [] 4 7 176 Y) (E : YE K Y (tQ t h0 n z κ) Qx) (hz : kz K ≤ t) {k_41 : TS → Int → Prop} (H_41 : ∀ (sg : TS) (x2 : Int), k_41 sg x2 → G K Y (tw t sg h0) n z 41 [(0, vR (some t)), (2, vI x2)] []) : ∀ (f : Nat) (sg : TS) (x1 : Int) (x2 : Int) (x3 : Int), L_X5_comers_4 k_41 κ f sg x1 x2 x3 → G K Y (tw t sg h0) n z 4 [(0, vR (some t)), (1, vI x1), (2, vI x2), (3, vI x3)] [] := by
  intro f
  induction f with
  | zero => intro sg x1 x2 x3 hk; exact hk.elim
  | succ f ih =>
    intro sg x1 x2 x3 hk
    refine r_iload_n X (pc := 4) dX5_comers_4 rfl (q := 3) rfl ?_
    refine r_aload_n X (pc := 5) dX5_comers_5 rfl (q := 0) rfl ?_
    refine r_tgR X (pc := 6) (ty := 0) (N := 526) fa_X5_9 rfl (by decide) dX5_comers_6 ?_
    refine r_iconst X (pc := 9) dX5_comers_9 ?_
    refine r_tiald X (pc := 10) (v := sg.2 0 4) (N := 526) rfl rfl dX5_comers_10 (by decide) ?_
    obtain ⟨b11, b12, hk⟩ := hk
    refine r_icmp_ge X (pc := 11) (tgt := 41) dX5_comers_11 (by decide) ⟨b11, b12⟩ (fun c13 => ?_) (fun c13 => ?_)
    · have hk := hk.2 c13
      refine G.sub [0, 2] rfl ?_
      exact H_41 sg x2 hk
    · have hk := hk.1 c13
      refine r_aload_n X (pc := 14) dX5_comers_14 rfl (q := 0) rfl ?_
      refine r_iload_n X (pc := 15) dX5_comers_15 rfl (q := 3) rfl ?_
      refine r_callV X (pc := 16) (As := [vI x3]) (st := []) rfl rfl rfl (tw_t t _ h0) m_X5_224 (fun _ => s_X5_find hz hk) ⟨by decide, by decide⟩ (Nat.le_of_ble_eq_true rfl) dX5_comers_16 (fun v9 h9 n9 z9 hq => ?_) (fun _ _ _ _ _ hf => hf.elim)
      obtain ⟨rfl, rfl, rfl, sg14, rfl, hk⟩ := hq
      refine ⟨[], rfl, ?_⟩
      refine r_iload_n X (pc := 19) dX5_comers_19 rfl (q := 3) rfl ?_
      refine r_iload_n X (pc := 20) dX5_comers_20 rfl (q := 1) rfl ?_
      obtain ⟨b15, hk⟩ := hk
      refine r_icmp_eq X (pc := 21) (tgt := 35) dX5_comers_21 (by decide) ⟨b11, b15⟩ (fun c16 => ?_) (fun c16 => ?_)
      · have hk := hk.1 c16
        refine r_iinc X (pc := 35) (q := 3) (lv1 := [(3, vI (x3 + 1)), (0, vR (some t)), (1, vI x1), (2, vI x2)]) dX5_comers_35 rfl (by decide) rfl ?_
        refine r_goto X (pc := 38) (tgt := 4) dX5_comers_38 (by decide) ?_
        refine G.sub [1, 2, 3, 0] rfl ?_
        exact ih sg14 x1 x2 (x3 + 1) hk
      · have hk := hk.2 c16
        refine r_aload_n X (pc := 24) dX5_comers_24 rfl (q := 0) rfl ?_
        refine r_tgI X (pc := 25) (v := sg14.1 18) fa_X5_169 (by decide) rfl dX5_comers_25 ?_
        refine r_iload_n X (pc := 28) dX5_comers_28 rfl (q := 1) rfl ?_
        obtain ⟨b17, hk⟩ := hk
        refine r_icmp_ne X (pc := 29) (tgt := 35) dX5_comers_29 (by decide) ⟨b17, b15⟩ (fun c18 => ?_) (fun c18 => ?_)
        · have hk := hk.2 c18
          refine r_iinc X (pc := 35) (q := 3) (lv1 := [(3, vI (x3 + 1)), (0, vR (some t)), (1, vI x1), (2, vI x2)]) dX5_comers_35 rfl (by decide) rfl ?_
          refine r_goto X (pc := 38) (tgt := 4) dX5_comers_38 (by decide) ?_
          refine G.sub [1, 2, 3, 0] rfl ?_
          exact ih sg14 x1 x2 (x3 + 1) hk
        · have hk := hk.1 c18
          refine r_iinc X (pc := 32) (q := 2) (lv1 := [(2, vI (x2 + 1)), (0, vR (some t)), (1, vI x1), (3, vI x3)]) dX5_comers_32 rfl (by decide) rfl ?_
          refine r_iinc X (pc := 35) (q := 3) (lv1 := [(3, vI (x3 + 1)), (2, vI (x2 + 1)), (0, vR (some t)), (1, vI x1)]) dX5_comers_35 rfl (by decide) rfl ?_
          refine r_goto X (pc := 38) (tgt := 4) dX5_comers_38 (by decide) ?_
          refine G.sub [2, 3, 1, 0] rfl ?_
          exact ih sg14 x1 (x2 + 1) (x3 + 1) hk
set_option maxHeartbeats 4000000 in
theorem w_X5_comers_41 {K : KT} {Y : YT} {Qx : QxT} {t n z : Nat} {h0 : AH} {κ : Int → TS → Prop} (X : XY K "TrailMarkersModel" "comers" cX5_comers (Option.some Jvm.ClassFile.FieldType.int) [] 4 7 176 Y) (E : YE K Y (tQ t h0 n z κ) Qx) (hz : kz K ≤ t) : ∀ (sg : TS) (x2 : Int), P_X5_comers_41 κ sg x2 → G K Y (tw t sg h0) n z 41 [(0, vR (some t)), (2, vI x2)] [] := by
  intro sg x2 hk
  refine r_iload_n X (pc := 41) dX5_comers_41 rfl (q := 1) rfl ?_
  exact r_iret X E (pc := 42) dX5_comers_42 rfl ⟨_, rfl, rfl, rfl, _, rfl, hk⟩
set_option maxHeartbeats 4000000 in
theorem w_X5_comers {K : KT} {Y : YT} {Qx : QxT} {t n z : Nat} {h0 : AH} {κ : Int → TS → Prop} (X : XY K "TrailMarkersModel" "comers" cX5_comers (Option.some Jvm.ClassFile.FieldType.int) [] 4 7 176 Y) (E : YE K Y (tQ t h0 n z κ) Qx) (hz : kz K ≤ t) {sg : TS} {x1 : Int} (hk : P_X5_comers κ sg x1) : G K Y (tw t sg h0) n z 0 (lv_argsA 0 [vR (some t), vI x1]) [] := by
  show G K Y (tw t sg h0) n z 0 [(0, vR (some t)), (1, vI x1)] []
  refine r_iconst X (pc := 0) dX5_comers_0 ?_
  refine r_istore_n X (pc := 1) (lv1 := [(2, vI 0), (0, vR (some t)), (1, vI x1)]) dX5_comers_1 rfl (by decide) rfl ?_
  refine r_iconst X (pc := 2) dX5_comers_2 ?_
  refine r_istore_n X (pc := 3) (lv1 := [(3, vI 0), (2, vI 0), (0, vR (some t)), (1, vI x1)]) dX5_comers_3 rfl (by decide) rfl ?_
  refine G.sub [2, 3, 1, 0] rfl ?_
  have HH19 : ∀ (sg : TS) (x2 : Int), (P_X5_comers_41 κ sg x2) → G K Y (tw t sg h0) n z 41 [(0, vR (some t)), (2, vI x2)] [] := by
      intro sg x2 hk
      exact w_X5_comers_41 X E hz sg x2 hk
  obtain ⟨f9, hk⟩ := hk
  exact w_X5_comers_4 X E hz HH19 f9 sg x1 0 0 hk
theorem s_X5_comers {K : KT} {l : Launch} {t n z : Nat} {h0 : AH} {κ : Int → TS → Prop} (hz : kz K ≤ t) {sg : TS} {x1 : Int} (hk : P_X5_comers κ sg x1) : Ct K l yX5_comers (ws_ yX5_comers cX5_comers 4 (Option.some Jvm.ClassFile.FieldType.int)) 7 176 ([vR (some t), vI x1].map cV) (tw t sg h0) n z (tQ t h0 n z κ) noX :=
  ct_of (by decide +kernel) (Nat.le_of_ble_eq_true rfl) (fun Y X E => w_X5_comers X E hz hk)
set_option maxHeartbeats 4000000 in
theorem w_X5_post_21 {K : KT} {Y : YT} {Qx : QxT} {t n z : Nat} {h0 : AH} {κ : Int → TS → Prop} (X : XY K "TrailMarkersModel" "post" cX5_post (Option.some Jvm.ClassFile.FieldType.int) [] 3 8 199 Y) (E : YE K Y (tQ t h0 n z κ) Qx) (hz : kz K ≤ t) : ∀ (sg : TS) (x1 : Int) (x2 : Int) (s0 : Int) (s1 : Int), P_X5_post_21 κ sg x1 x2 s0 s1 → G K Y (tw t sg h0) n z 21 [(0, vR (some t)), (1, vI x1), (2, vI x2)] [vI s0, vI s1, vR (some t)] := by
  intro sg x1 x2 s0 s1 hk
  refine r_iconst X (pc := 21) dX5_post_21 ?_
  refine r_callV X (pc := 22) (As := [vI s1, vI s0, vI 0]) (st := []) rfl rfl rfl (tw_t t _ h0) m_X5_258 (fun _ => s_X5_fails hz hk) ⟨by decide, by decide⟩ (Nat.le_of_ble_eq_true rfl) dX5_post_22 (fun v9 h9 n9 z9 hq => ?_) (fun _ _ _ _ _ hf => hf.elim)
  obtain ⟨r24, rfl, rfl, rfl, sg25, rfl, hk⟩ := hq
  refine ⟨[vI r24], rfl, ?_⟩
  obtain ⟨b26, hk⟩ := hk
  refine r_if_eq X (pc := 25) (tgt := 30) dX5_post_25 (by decide) b26 (fun c27 => ?_) (fun c27 => ?_)
  · have hk := hk.1 c27
    refine r_iload_n X (pc := 30) dX5_post_30 rfl (q := 2) rfl ?_
    refine r_bipush X (pc := 31) dX5_post_31 (by decide) ?_
    obtain ⟨b28, hk⟩ := hk
    refine r_icmp_ne X (pc := 33) (tgt := 42) dX5_post_33 (by decide) ⟨b28, (by decide)⟩ (fun c29 => ?_) (fun c29 => ?_)
    · have hk := hk.2 c29
      refine r_iload_n X (pc := 42) dX5_post_42 rfl (q := 2) rfl ?_
      refine r_if_ne X (pc := 43) (tgt := 52) dX5_post_43 (by decide) b28 (fun c30 => ?_) (fun c30 => ?_)
      · have hk := hk.2 c30
        refine r_iload_n X (pc := 52) dX5_post_52 rfl (q := 2) rfl ?_
        refine r_iconst X (pc := 53) dX5_post_53 ?_
        refine r_icmp_ge X (pc := 54) (tgt := 66) dX5_post_54 (by decide) ⟨b28, (by decide)⟩ (fun c31 => ?_) (fun c31 => ?_)
        · have hk := hk.2 c31
          refine r_aload_n X (pc := 66) dX5_post_66 rfl (q := 0) rfl ?_
          refine r_iload_n X (pc := 67) dX5_post_67 rfl (q := 1) rfl ?_
          refine r_callV X (pc := 68) (As := [vI x1]) (st := []) rfl rfl rfl (tw_t t _ h0) m_X5_224 (fun _ => s_X5_find hz hk) ⟨by decide, by decide⟩ (Nat.le_of_ble_eq_true rfl) dX5_post_68 (fun v9 h9 n9 z9 hq => ?_) (fun _ _ _ _ _ hf => hf.elim)
          obtain ⟨rfl, rfl, rfl, sg32, rfl, hk⟩ := hq
          refine ⟨[], rfl, ?_⟩
          refine r_aload_n X (pc := 71) dX5_post_71 rfl (q := 0) rfl ?_
          refine r_tgI X (pc := 72) (v := sg32.1 18) fa_X5_169 (by decide) rfl dX5_post_72 ?_
          refine r_iconst X (pc := 75) dX5_post_75 ?_
          obtain ⟨b33, hk⟩ := hk
          refine r_icmp_ne X (pc := 76) (tgt := 83) dX5_post_76 (by decide) ⟨b33, (by decide)⟩ (fun c34 => ?_) (fun c34 => ?_)
          · have hk := hk.2 c34
            refine r_iload_n X (pc := 83) dX5_post_83 rfl (q := 2) rfl ?_
            refine r_iconst X (pc := 84) dX5_post_84 ?_
            refine r_icmp_ne X (pc := 85) (tgt := 95) dX5_post_85 (by decide) ⟨b28, (by decide)⟩ (fun c35 => ?_) (fun c35 => ?_)
            · have hk := hk.2 c35
              refine r_iload_n X (pc := 95) dX5_post_95 rfl (q := 2) rfl ?_
              refine r_iconst X (pc := 96) dX5_post_96 ?_
              refine r_icmp_ne X (pc := 97) (tgt := 107) dX5_post_97 (by decide) ⟨b28, (by decide)⟩ (fun c36 => ?_) (fun c36 => ?_)
              · have hk := hk.2 c36
                refine r_aload_n X (pc := 107) dX5_post_107 rfl (q := 0) rfl ?_
                refine r_tgI X (pc := 108) (v := sg32.1 19) fa_X5_175 (by decide) rfl dX5_post_108 ?_
                exact r_iret X E (pc := 111) dX5_post_111 rfl ⟨_, rfl, rfl, rfl, _, rfl, hk⟩
              · have hk := hk.1 c36
                refine r_aload_n X (pc := 100) dX5_post_100 rfl (q := 0) rfl ?_
                refine r_callV X (pc := 101) (As := []) (st := []) rfl rfl rfl (tw_t t _ h0) m_X5_172 (fun _ => s_X5_steps hz hk) ⟨by decide, by decide⟩ (Nat.le_of_ble_eq_true rfl) dX5_post_101 (fun v9 h9 n9 z9 hq => ?_) (fun _ _ _ _ _ hf => hf.elim)
                obtain ⟨r37, rfl, rfl, rfl, sg38, rfl, hk⟩ := hq
                refine ⟨[vI r37], rfl, ?_⟩
                refine r_goto X (pc := 104) (tgt := 111) dX5_post_104 (by decide) ?_
                exact r_iret X E (pc := 111) dX5_post_111 rfl ⟨_, rfl, rfl, rfl, _, rfl, hk⟩
            · have hk := hk.1 c35
              refine r_aload_n X (pc := 88) dX5_post_88 rfl (q := 0) rfl ?_
              refine r_tgI X (pc := 89) (v := sg32.1 18) fa_X5_169 (by decide) rfl dX5_post_89 ?_
              refine r_goto X (pc := 92) (tgt := 111) dX5_post_92 (by decide) ?_
              exact r_iret X E (pc := 111) dX5_post_111 rfl ⟨_, rfl, rfl, rfl, _, rfl, hk⟩
          · have hk := hk.1 c34
            refine r_iconst X (pc := 79) dX5_post_79 ?_
            refine r_goto X (pc := 80) (tgt := 111) dX5_post_80 (by decide) ?_
            exact r_iret X E (pc := 111) dX5_post_111 rfl ⟨_, rfl, rfl, rfl, _, rfl, hk⟩
        · have hk := hk.1 c31
          refine r_aload_n X (pc := 57) dX5_post_57 rfl (q := 0) rfl ?_
          refine r_iload_n X (pc := 58) dX5_post_58 rfl (q := 1) rfl ?_
          refine r_iload_n X (pc := 59) dX5_post_59 rfl (q := 2) rfl ?_
          refine r_iconst X (pc := 60) dX5_post_60 ?_
          refine r_iadd X (pc := 61) dX5_post_61 ?_
          refine r_callV X (pc := 62) (As := [vI x1, vI (x2 + 1)]) (st := []) rfl rfl rfl (tw_t t _ h0) m_X5_130 (fun _ => s_X5_of hz hk) ⟨by decide, by decide⟩ (Nat.le_of_ble_eq_true rfl) dX5_post_62 (fun v9 h9 n9 z9 hq => ?_) (fun _ _ _ _ _ hf => hf.elim)
          obtain ⟨r39, rfl, rfl, rfl, sg40, rfl, hk⟩ := hq
          refine ⟨[vI r39], rfl, ?_⟩
          exact r_iret X E (pc := 65) dX5_post_65 rfl ⟨_, rfl, rfl, rfl, _, rfl, hk⟩
      · have hk := hk.1 c30
        refine r_aload_n X (pc := 46) dX5_post_46 rfl (q := 0) rfl ?_
        refine r_iload_n X (pc := 47) dX5_post_47 rfl (q := 1) rfl ?_
        refine r_callV X (pc := 48) (As := [vI x1]) (st := []) rfl rfl rfl (tw_t t _ h0) m_X5_435 (fun _ => s_X5_cell hz hk) ⟨by decide, by decide⟩ (Nat.le_of_ble_eq_true rfl) dX5_post_48 (fun v9 h9 n9 z9 hq => ?_) (fun _ _ _ _ _ hf => hf.elim)
        obtain ⟨r41, rfl, rfl, rfl, sg42, rfl, hk⟩ := hq
        refine ⟨[vI r41], rfl, ?_⟩
        exact r_iret X E (pc := 51) dX5_post_51 rfl ⟨_, rfl, rfl, rfl, _, rfl, hk⟩
    · have hk := hk.1 c29
      refine r_aload_n X (pc := 36) dX5_post_36 rfl (q := 0) rfl ?_
      refine r_iload_n X (pc := 37) dX5_post_37 rfl (q := 1) rfl ?_
      refine r_callV X (pc := 38) (As := [vI x1]) (st := []) rfl rfl rfl (tw_t t _ h0) m_X5_432 (fun _ => s_X5_comers hz hk) ⟨by decide, by decide⟩ (Nat.le_of_ble_eq_true rfl) dX5_post_38 (fun v9 h9 n9 z9 hq => ?_) (fun _ _ _ _ _ hf => hf.elim)
      obtain ⟨r43, rfl, rfl, rfl, sg44, rfl, hk⟩ := hq
      refine ⟨[vI r43], rfl, ?_⟩
      exact r_iret X E (pc := 41) dX5_post_41 rfl ⟨_, rfl, rfl, rfl, _, rfl, hk⟩
  · have hk := hk.2 c27
    refine r_iconst X (pc := 28) dX5_post_28 ?_
    exact r_iret X E (pc := 29) dX5_post_29 rfl ⟨_, rfl, rfl, rfl, _, rfl, hk⟩
set_option maxHeartbeats 4000000 in
theorem w_X5_post {K : KT} {Y : YT} {Qx : QxT} {t n z : Nat} {h0 : AH} {κ : Int → TS → Prop} (X : XY K "TrailMarkersModel" "post" cX5_post (Option.some Jvm.ClassFile.FieldType.int) [] 3 8 199 Y) (E : YE K Y (tQ t h0 n z κ) Qx) (hz : kz K ≤ t) {sg : TS} {x1 : Int} {x2 : Int} (hk : P_X5_post κ sg x1 x2) : G K Y (tw t sg h0) n z 0 (lv_argsA 0 [vR (some t), vI x1, vI x2]) [] := by
  show G K Y (tw t sg h0) n z 0 [(0, vR (some t)), (1, vI x1), (2, vI x2)] []
  refine r_aload_n X (pc := 0) dX5_post_0 rfl (q := 0) rfl ?_
  refine r_aload_n X (pc := 1) dX5_post_1 rfl (q := 0) rfl ?_
  refine r_iload_n X (pc := 2) dX5_post_2 rfl (q := 1) rfl ?_
  refine r_callV X (pc := 3) (As := [vI x1]) (st := [vR (some t)]) rfl rfl rfl (tw_t t _ h0) m_X5_417 (fun _ => s_X5_noPost hz hk) ⟨by decide, by decide⟩ (Nat.le_of_ble_eq_true rfl) dX5_post_3 (fun v9 h9 n9 z9 hq => ?_) (fun _ _ _ _ _ hf => hf.elim)
  obtain ⟨r45, rfl, rfl, rfl, sg46, rfl, hk⟩ := hq
  refine ⟨[vI r45], rfl, ?_⟩
  refine r_iload_n X (pc := 6) dX5_post_6 rfl (q := 2) rfl ?_
  refine r_iconst X (pc := 7) dX5_post_7 ?_
  refine r_bipush X (pc := 8) dX5_post_8 (by decide) ?_
  refine r_callS X (pc := 10) (As := [vI x2, vI 0, vI 7]) (st := [vI r45, vR (some t)]) m_X5_119 (fun _ => s_X5_isIn hk) ⟨by decide, by decide⟩ (Nat.le_of_ble_eq_true rfl) dX5_post_10 (fun v9 h9 n9 z9 hq => ?_) (fun _ _ _ _ _ hf => hf.elim)
  obtain ⟨r47, rfl, rfl, rfl, rfl, hk⟩ := hq
  refine ⟨[vI r47], rfl, ?_⟩
  obtain ⟨b48, hk⟩ := hk
  refine r_if_ne X (pc := 13) (tgt := 20) dX5_post_13 (by decide) b48 (fun c49 => ?_) (fun c49 => ?_)
  · have hk := hk.2 c49
    refine r_iconst X (pc := 20) dX5_post_20 ?_
    exact w_X5_post_21 X E hz sg46 x1 x2 0 r45 hk
  · have hk := hk.1 c49
    refine r_iconst X (pc := 16) dX5_post_16 ?_
    refine r_goto X (pc := 17) (tgt := 21) dX5_post_17 (by decide) ?_
    exact w_X5_post_21 X E hz sg46 x1 x2 1 r45 hk
theorem s_X5_post {K : KT} {l : Launch} {t n z : Nat} {h0 : AH} {κ : Int → TS → Prop} (hz : kz K ≤ t) {sg : TS} {x1 : Int} {x2 : Int} (hk : P_X5_post κ sg x1 x2) : Ct K l yX5_post (ws_ yX5_post cX5_post 3 (Option.some Jvm.ClassFile.FieldType.int)) 8 199 ([vR (some t), vI x1, vI x2].map cV) (tw t sg h0) n z (tQ t h0 n z κ) noX :=
  ct_of (by decide +kernel) (Nat.le_of_ble_eq_true rfl) (fun Y X E => w_X5_post X E hz hk)
set_option maxHeartbeats 4000000 in
theorem w_X5_at_15 {K : KT} {Y : YT} {Qx : QxT} {t n z : Nat} {h0 : AH} {κ : Int → TS → Prop} (X : XY K "TrailMarkersModel" "at" cX5_at (Option.some Jvm.ClassFile.FieldType.int) [] 3 2 45 Y) (E : YE K Y (tQ t h0 n z κ) Qx) (hz : kz K ≤ t) : ∀ (sg : TS) (x1 : Int) (x2 : Int) (s0 : Int), P_X5_at_15 κ sg x1 x2 s0 → G K Y (tw t sg h0) n z 15 [(0, vR (some t)), (1, vI x1), (2, vI x2)] [vI s0, vR (some t)] := by
  intro sg x1 x2 s0 hk
  refine r_iconst X (pc := 15) dX5_at_15 ?_
  refine r_iconst X (pc := 16) dX5_at_16 ?_
  refine r_callV X (pc := 17) (As := [vI s0, vI 0, vI 0]) (st := []) rfl rfl rfl (tw_t t _ h0) m_X5_258 (fun _ => s_X5_fails hz hk) ⟨by decide, by decide⟩ (Nat.le_of_ble_eq_true rfl) dX5_at_17 (fun v9 h9 n9 z9 hq => ?_) (fun _ _ _ _ _ hf => hf.elim)
  obtain ⟨r11, rfl, rfl, rfl, sg12, rfl, hk⟩ := hq
  refine ⟨[vI r11], rfl, ?_⟩
  obtain ⟨b13, hk⟩ := hk
  refine r_if_eq X (pc := 20) (tgt := 25) dX5_at_20 (by decide) b13 (fun c14 => ?_) (fun c14 => ?_)
  · have hk := hk.1 c14
    refine r_aload_n X (pc := 25) dX5_at_25 rfl (q := 0) rfl ?_
    refine r_iload_n X (pc := 26) dX5_at_26 rfl (q := 1) rfl ?_
    refine r_iload_n X (pc := 27) dX5_at_27 rfl (q := 2) rfl ?_
    refine r_callV X (pc := 28) (As := [vI x1, vI x2]) (st := []) rfl rfl rfl (tw_t t _ h0) m_X5_127 (fun _ => s_X5_isBlock hz hk) ⟨by decide, by decide⟩ (Nat.le_of_ble_eq_true rfl) dX5_at_28 (fun v9 h9 n9 z9 hq => ?_) (fun _ _ _ _ _ hf => hf.elim)
    obtain ⟨r15, rfl, rfl, rfl, sg16, rfl, hk⟩ := hq
    refine ⟨[vI r15], rfl, ?_⟩
    obtain ⟨b17, hk⟩ := hk
    refine r_if_eq X (pc := 31) (tgt := 39) dX5_at_31 (by decide) b17 (fun c18 => ?_) (fun c18 => ?_)
    · have hk := hk.1 c18
      refine r_aload_n X (pc := 39) dX5_at_39 rfl (q := 0) rfl ?_
      refine r_iload_n X (pc := 40) dX5_at_40 rfl (q := 1) rfl ?_
      refine r_iload_n X (pc := 41) dX5_at_41 rfl (q := 2) rfl ?_
      refine r_callV X (pc := 42) (As := [vI x1, vI x2]) (st := []) rfl rfl rfl (tw_t t _ h0) m_X5_157 (fun _ => s_X5_postAt hz hk) ⟨by decide, by decide⟩ (Nat.le_of_ble_eq_true rfl) dX5_at_42 (fun v9 h9 n9 z9 hq => ?_) (fun _ _ _ _ _ hf => hf.elim)
      obtain ⟨r19, rfl, rfl, rfl, sg20, rfl, hk⟩ := hq
      refine ⟨[vI r19], rfl, ?_⟩
      exact r_iret X E (pc := 45) dX5_at_45 rfl ⟨_, rfl, rfl, rfl, _, rfl, hk⟩
    · have hk := hk.2 c18
      refine r_bipush X (pc := 34) dX5_at_34 (by decide) ?_
      refine r_goto X (pc := 36) (tgt := 45) dX5_at_36 (by decide) ?_
      exact r_iret X E (pc := 45) dX5_at_45 rfl ⟨_, rfl, rfl, rfl, _, rfl, hk⟩
  · have hk := hk.2 c14
    refine r_iconst X (pc := 23) dX5_at_23 ?_
    exact r_iret X E (pc := 24) dX5_at_24 rfl ⟨_, rfl, rfl, rfl, _, rfl, hk⟩
set_option maxHeartbeats 4000000 in
theorem w_X5_at {K : KT} {Y : YT} {Qx : QxT} {t n z : Nat} {h0 : AH} {κ : Int → TS → Prop} (X : XY K "TrailMarkersModel" "at" cX5_at (Option.some Jvm.ClassFile.FieldType.int) [] 3 2 45 Y) (E : YE K Y (tQ t h0 n z κ) Qx) (hz : kz K ≤ t) {sg : TS} {x1 : Int} {x2 : Int} (hk : P_X5_at κ sg x1 x2) : G K Y (tw t sg h0) n z 0 (lv_argsA 0 [vR (some t), vI x1, vI x2]) [] := by
  show G K Y (tw t sg h0) n z 0 [(0, vR (some t)), (1, vI x1), (2, vI x2)] []
  refine r_aload_n X (pc := 0) dX5_at_0 rfl (q := 0) rfl ?_
  refine r_aload_n X (pc := 1) dX5_at_1 rfl (q := 0) rfl ?_
  refine r_iload_n X (pc := 2) dX5_at_2 rfl (q := 1) rfl ?_
  refine r_iload_n X (pc := 3) dX5_at_3 rfl (q := 2) rfl ?_
  refine r_callV X (pc := 4) (As := [vI x1, vI x2]) (st := [vR (some t)]) rfl rfl rfl (tw_t t _ h0) m_X5_123 (fun _ => s_X5_isOn hz hk) ⟨by decide, by decide⟩ (Nat.le_of_ble_eq_true rfl) dX5_at_4 (fun v9 h9 n9 z9 hq => ?_) (fun _ _ _ _ _ hf => hf.elim)
  obtain ⟨r21, rfl, rfl, rfl, sg22, rfl, hk⟩ := hq
  refine ⟨[vI r21], rfl, ?_⟩
  obtain ⟨b23, hk⟩ := hk
  refine r_if_ne X (pc := 7) (tgt := 14) dX5_at_7 (by decide) b23 (fun c24 => ?_) (fun c24 => ?_)
  · have hk := hk.2 c24
    refine r_iconst X (pc := 14) dX5_at_14 ?_
    exact w_X5_at_15 X E hz sg22 x1 x2 0 hk
  · have hk := hk.1 c24
    refine r_iconst X (pc := 10) dX5_at_10 ?_
    refine r_goto X (pc := 11) (tgt := 15) dX5_at_11 (by decide) ?_
    exact w_X5_at_15 X E hz sg22 x1 x2 1 hk
theorem s_X5_at {K : KT} {l : Launch} {t n z : Nat} {h0 : AH} {κ : Int → TS → Prop} (hz : kz K ≤ t) {sg : TS} {x1 : Int} {x2 : Int} (hk : P_X5_at κ sg x1 x2) : Ct K l yX5_at (ws_ yX5_at cX5_at 3 (Option.some Jvm.ClassFile.FieldType.int)) 2 45 ([vR (some t), vI x1, vI x2].map cV) (tw t sg h0) n z (tQ t h0 n z κ) noX :=
  ct_of (by decide +kernel) (Nat.le_of_ble_eq_true rfl) (fun Y X E => w_X5_at X E hz hk)
set_option maxHeartbeats 4000000 in
theorem w_X5_right_4 {K : KT} {Y : YT} {Qx : QxT} {t n z : Nat} {h0 : AH} {κ : Int → TS → Prop} (X : XY K "TrailMarkersModel" "right" cX5_right (Option.some Jvm.ClassFile.FieldType.int) [] 5 2 45 Y) (E : YE K Y (tQ t h0 n z κ) Qx) (hz : kz K ≤ t) {k_71 : TS → Int → Prop} (H_71 : ∀ (sg : TS) (x2 : Int), k_71 sg x2 → G K Y (tw t sg h0) n z 71 [(0, vR (some t)), (2, vI x2)] []) : ∀ (f : Nat) (sg : TS) (x1 : Int) (x2 : Int) (x3 : Int), L_X5_right_4 k_71 κ f sg x1 x2 x3 → G K Y (tw t sg h0) n z 4 [(0, vR (some t)), (1, vI x1), (2, vI x2), (3, vI x3)] [] := by
  intro f
  induction f with
  | zero => intro sg x1 x2 x3 hk; exact hk.elim
  | succ f ih =>
    intro sg x1 x2 x3 hk
    refine r_iload_n X (pc := 4) dX5_right_4 rfl (q := 3) rfl ?_
    refine r_aload_n X (pc := 5) dX5_right_5 rfl (q := 0) rfl ?_
    refine r_tgI X (pc := 6) (v := sg.1 35) fa_X5_205 (by decide) rfl dX5_right_6 ?_
    obtain ⟨b16, b17, hk⟩ := hk
    refine r_icmp_ge X (pc := 9) (tgt := 71) dX5_right_9 (by decide) ⟨b16, b17⟩ (fun c18 => ?_) (fun c18 => ?_)
    · have hk := hk.2 c18
      refine G.sub [0, 2] rfl ?_
      exact H_71 sg x2 hk
    · have hk := hk.1 c18
      refine r_aload_n X (pc := 12) dX5_right_12 rfl (q := 0) rfl ?_
      refine r_aload_n X (pc := 13) dX5_right_13 rfl (q := 0) rfl ?_
      refine r_tgR X (pc := 14) (ty := 0) (N := 60) fa_X5_54 rfl (by decide) dX5_right_14 ?_
      refine r_iload_n X (pc := 17) dX5_right_17 rfl (q := 3) rfl ?_
      obtain ⟨b19, hk⟩ := hk
      refine r_tiald X (pc := 18) (v := sg.2 29 x3) (N := 60) rfl rfl dX5_right_18 b19 ?_
      refine r_bipush X (pc := 19) dX5_right_19 (by decide) ?_
      obtain ⟨b20, hk⟩ := hk
      refine r_idiv X (pc := 21) dX5_right_21 ⟨⟨b20, (by decide)⟩, (by decide)⟩ ?_
      refine r_aload_n X (pc := 22) dX5_right_22 rfl (q := 0) rfl ?_
      refine r_tgR X (pc := 23) (ty := 0) (N := 60) fa_X5_54 rfl (by decide) dX5_right_23 ?_
      refine r_iload_n X (pc := 26) dX5_right_26 rfl (q := 3) rfl ?_
      refine r_tiald X (pc := 27) (v := sg.2 29 x3) (N := 60) rfl rfl dX5_right_27 b19 ?_
      refine r_bipush X (pc := 28) dX5_right_28 (by decide) ?_
      refine r_irem X (pc := 30) dX5_right_30 ⟨⟨b20, (by decide)⟩, (by decide)⟩ ?_
      refine r_callV X (pc := 31) (As := [vI ((sg.2 29 x3).tdiv 100), vI ((sg.2 29 x3).tmod 100)]) (st := []) rfl rfl rfl (tw_t t _ h0) m_X5_157 (fun _ => s_X5_postAt hz hk) ⟨by decide, by decide⟩ (Nat.le_of_ble_eq_true rfl) dX5_right_31 (fun v9 h9 n9 z9 hq => ?_) (fun _ _ _ _ _ hf => hf.elim)
      obtain ⟨r21, rfl, rfl, rfl, sg22, rfl, hk⟩ := hq
      refine ⟨[vI r21], rfl, ?_⟩
      refine r_istore X (pc := 34) (lv1 := [(4, vI r21), (0, vR (some t)), (1, vI x1), (2, vI x2), (3, vI x3)]) dX5_right_34 (by decide) rfl ?_
      refine r_iload X (pc := 36) dX5_right_36 (q := 0) rfl ?_
      refine r_iconst X (pc := 38) dX5_right_38 ?_
      obtain ⟨b23, hk⟩ := hk
      refine r_icmp_eq X (pc := 39) (tgt := 65) dX5_right_39 (by decide) ⟨b23, (by decide)⟩ (fun c24 => ?_) (fun c24 => ?_)
      · have hk := hk.1 c24
        refine r_iinc X (pc := 65) (q := 4) (lv1 := [(3, vI (x3 + 1)), (4, vI r21), (0, vR (some t)), (1, vI x1), (2, vI x2)]) dX5_right_65 rfl (by decide) rfl ?_
        refine r_goto X (pc := 68) (tgt := 4) dX5_right_68 (by decide) ?_
        refine G.sub [2, 3, 4, 0] rfl ?_
        exact ih sg22 x1 x2 (x3 + 1) hk
      · have hk := hk.2 c24
        refine r_aload_n X (pc := 42) dX5_right_42 rfl (q := 1) rfl ?_
        refine r_iload X (pc := 43) dX5_right_43 (q := 0) rfl ?_
        refine r_iconst X (pc := 45) dX5_right_45 ?_
        refine r_callV X (pc := 46) (As := [vI r21, vI 2]) (st := []) rfl rfl rfl (tw_t t _ h0) m_X5_130 (fun _ => s_X5_of hz hk) ⟨by decide, by decide⟩ (Nat.le_of_ble_eq_true rfl) dX5_right_46 (fun v9 h9 n9 z9 hq => ?_) (fun _ _ _ _ _ hf => hf.elim)
        obtain ⟨r25, rfl, rfl, rfl, sg26, rfl, hk⟩ := hq
        refine ⟨[vI r25], rfl, ?_⟩
        refine r_iload_n X (pc := 49) dX5_right_49 rfl (q := 2) rfl ?_
        obtain ⟨b27, b28, hk⟩ := hk
        refine r_icmp_ne X (pc := 50) (tgt := 65) dX5_right_50 (by decide) ⟨b27, b28⟩ (fun c29 => ?_) (fun c29 => ?_)
        · have hk := hk.2 c29
          refine r_iinc X (pc := 65) (q := 4) (lv1 := [(3, vI (x3 + 1)), (4, vI r21), (0, vR (some t)), (1, vI x1), (2, vI x2)]) dX5_right_65 rfl (by decide) rfl ?_
          refine r_goto X (pc := 68) (tgt := 4) dX5_right_68 (by decide) ?_
          refine G.sub [2, 3, 4, 0] rfl ?_
          exact ih sg26 x1 x2 (x3 + 1) hk
        · have hk := hk.1 c29
          refine r_aload_n X (pc := 53) dX5_right_53 rfl (q := 1) rfl ?_
          refine r_iload X (pc := 54) dX5_right_54 (q := 0) rfl ?_
          refine r_callV X (pc := 56) (As := [vI r21]) (st := []) rfl rfl rfl (tw_t t _ h0) m_X5_134 (fun _ => s_X5_stands hz hk) ⟨by decide, by decide⟩ (Nat.le_of_ble_eq_true rfl) dX5_right_56 (fun v9 h9 n9 z9 hq => ?_) (fun _ _ _ _ _ hf => hf.elim)
          obtain ⟨r30, rfl, rfl, rfl, sg31, rfl, hk⟩ := hq
          refine ⟨[vI r30], rfl, ?_⟩
          obtain ⟨b32, hk⟩ := hk
          refine r_if_ne X (pc := 59) (tgt := 65) dX5_right_59 (by decide) b32 (fun c33 => ?_) (fun c33 => ?_)
          · have hk := hk.2 c33
            refine r_iinc X (pc := 65) (q := 4) (lv1 := [(3, vI (x3 + 1)), (4, vI r21), (0, vR (some t)), (1, vI x1), (2, vI x2)]) dX5_right_65 rfl (by decide) rfl ?_
            refine r_goto X (pc := 68) (tgt := 4) dX5_right_68 (by decide) ?_
            refine G.sub [2, 3, 4, 0] rfl ?_
            exact ih sg31 x1 x2 (x3 + 1) hk
          · have hk := hk.1 c33
            refine r_iinc X (pc := 62) (q := 3) (lv1 := [(2, vI (x2 + 1)), (4, vI r21), (0, vR (some t)), (1, vI x1), (3, vI x3)]) dX5_right_62 rfl (by decide) rfl ?_
            refine r_iinc X (pc := 65) (q := 4) (lv1 := [(3, vI (x3 + 1)), (2, vI (x2 + 1)), (4, vI r21), (0, vR (some t)), (1, vI x1)]) dX5_right_65 rfl (by decide) rfl ?_
            refine r_goto X (pc := 68) (tgt := 4) dX5_right_68 (by decide) ?_
            refine G.sub [3, 4, 1, 0] rfl ?_
            exact ih sg31 x1 (x2 + 1) (x3 + 1) hk
set_option maxHeartbeats 4000000 in
theorem w_X5_right_71 {K : KT} {Y : YT} {Qx : QxT} {t n z : Nat} {h0 : AH} {κ : Int → TS → Prop} (X : XY K "TrailMarkersModel" "right" cX5_right (Option.some Jvm.ClassFile.FieldType.int) [] 5 2 45 Y) (E : YE K Y (tQ t h0 n z κ) Qx) (hz : kz K ≤ t) : ∀ (sg : TS) (x2 : Int), P_X5_right_71 κ sg x2 → G K Y (tw t sg h0) n z 71 [(0, vR (some t)), (2, vI x2)] [] := by
  intro sg x2 hk
  refine r_iload_n X (pc := 71) dX5_right_71 rfl (q := 1) rfl ?_
  exact r_iret X E (pc := 72) dX5_right_72 rfl ⟨_, rfl, rfl, rfl, _, rfl, hk⟩
set_option maxHeartbeats 4000000 in
theorem w_X5_right {K : KT} {Y : YT} {Qx : QxT} {t n z : Nat} {h0 : AH} {κ : Int → TS → Prop} (X : XY K "TrailMarkersModel" "right" cX5_right (Option.some Jvm.ClassFile.FieldType.int) [] 5 2 45 Y) (E : YE K Y (tQ t h0 n z κ) Qx) (hz : kz K ≤ t) {sg : TS} {x1 : Int} (hk : P_X5_right κ sg x1) : G K Y (tw t sg h0) n z 0 (lv_argsA 0 [vR (some t), vI x1]) [] := by
  show G K Y (tw t sg h0) n z 0 [(0, vR (some t)), (1, vI x1)] []
  refine r_iconst X (pc := 0) dX5_right_0 ?_
  refine r_istore_n X (pc := 1) (lv1 := [(2, vI 0), (0, vR (some t)), (1, vI x1)]) dX5_right_1 rfl (by decide) rfl ?_
  refine r_iconst X (pc := 2) dX5_right_2 ?_
  refine r_istore_n X (pc := 3) (lv1 := [(3, vI 0), (2, vI 0), (0, vR (some t)), (1, vI x1)]) dX5_right_3 rfl (by decide) rfl ?_
  refine G.sub [2, 3, 1, 0] rfl ?_
  have HH34 : ∀ (sg : TS) (x2 : Int), (P_X5_right_71 κ sg x2) → G K Y (tw t sg h0) n z 71 [(0, vR (some t)), (2, vI x2)] [] := by
      intro sg x2 hk
      exact w_X5_right_71 X E hz sg x2 hk
  obtain ⟨f9, hk⟩ := hk
  exact w_X5_right_4 X E hz HH34 f9 sg x1 0 0 hk
theorem s_X5_right {K : KT} {l : Launch} {t n z : Nat} {h0 : AH} {κ : Int → TS → Prop} (hz : kz K ≤ t) {sg : TS} {x1 : Int} (hk : P_X5_right κ sg x1) : Ct K l yX5_right (ws_ yX5_right cX5_right 5 (Option.some Jvm.ClassFile.FieldType.int)) 2 45 ([vR (some t), vI x1].map cV) (tw t sg h0) n z (tQ t h0 n z κ) noX :=
  ct_of (by decide +kernel) (Nat.le_of_ble_eq_true rfl) (fun Y X E => w_X5_right X E hz hk)
set_option maxHeartbeats 4000000 in
theorem w_X5_colour_20 {K : KT} {Y : YT} {Qx : QxT} {t n z : Nat} {h0 : AH} {κ : Int → TS → Prop} (X : XY K "TrailMarkersModel" "colour" cX5_colour (Option.some Jvm.ClassFile.FieldType.int) [] 3 10 242 Y) (E : YE K Y (tQ t h0 n z κ) Qx) (hz : kz K ≤ t) : ∀ (sg : TS) (x1 : Int) (x2 : Int) (s0 : Int) (s1 : Int), P_X5_colour_20 κ sg x1 x2 s0 s1 → G K Y (tw t sg h0) n z 20 [(0, vR (some t)), (1, vI x1), (2, vI x2)] [vI s0, vI s1, vR (some t)] := by
  intro sg x1 x2 s0 s1 hk
  refine r_iconst X (pc := 20) dX5_colour_20 ?_
  refine r_callV X (pc := 21) (As := [vI s1, vI s0, vI 0]) (st := []) rfl rfl rfl (tw_t t _ h0) m_X5_258 (fun _ => s_X5_fails hz hk) ⟨by decide, by decide⟩ (Nat.le_of_ble_eq_true rfl) dX5_colour_21 (fun v9 h9 n9 z9 hq => ?_) (fun _ _ _ _ _ hf => hf.elim)
  obtain ⟨r15, rfl, rfl, rfl, sg16, rfl, hk⟩ := hq
  refine ⟨[vI r15], rfl, ?_⟩
  obtain ⟨b17, hk⟩ := hk
  refine r_if_eq X (pc := 24) (tgt := 29) dX5_colour_24 (by decide) b17 (fun c18 => ?_) (fun c18 => ?_)
  · have hk := hk.1 c18
    refine r_aload_n X (pc := 29) dX5_colour_29 rfl (q := 0) rfl ?_
    refine r_aload_n X (pc := 30) dX5_colour_30 rfl (q := 0) rfl ?_
    refine r_iload_n X (pc := 31) dX5_colour_31 rfl (q := 1) rfl ?_
    refine r_callV X (pc := 32) (As := [vI x1]) (st := [vR (some t)]) rfl rfl rfl (tw_t t _ h0) m_X5_249 (fun _ => s_X5_begin hz hk) ⟨by decide, by decide⟩ (Nat.le_of_ble_eq_true rfl) dX5_colour_32 (fun v9 h9 n9 z9 hq => ?_) (fun _ _ _ _ _ hf => hf.elim)
    obtain ⟨r19, rfl, rfl, rfl, sg20, rfl, hk⟩ := hq
    refine ⟨[vI r19], rfl, ?_⟩
    refine r_callV X (pc := 35) (As := [vI r19]) (st := []) rfl rfl rfl (tw_t t _ h0) m_X5_243 (fun _ => s_X5_walk hz hk) ⟨by decide, by decide⟩ (Nat.le_of_ble_eq_true rfl) dX5_colour_35 (fun v9 h9 n9 z9 hq => ?_) (fun _ _ _ _ _ hf => hf.elim)
    obtain ⟨rfl, rfl, rfl, sg21, rfl, hk⟩ := hq
    refine ⟨[], rfl, ?_⟩
    refine r_iload_n X (pc := 38) dX5_colour_38 rfl (q := 2) rfl ?_
    obtain ⟨b22, hk⟩ := hk
    by_cases c25 : x2 = 0
    · have hk := hk.1 c25
      refine r_tswIn X (pc := 39) (j := 0) (tgt := 76) dX5_colour_39 b22 (by omega) (by decide) rfl (by decide) ?_
      refine r_aload_n X (pc := 76) dX5_colour_76 rfl (q := 0) rfl ?_
      refine r_iload_n X (pc := 77) dX5_colour_77 rfl (q := 1) rfl ?_
      refine r_iconst X (pc := 78) dX5_colour_78 ?_
      refine r_callV X (pc := 79) (As := [vI x1, vI 0]) (st := []) rfl rfl rfl (tw_t t _ h0) m_X5_236 (fun _ => s_X5_posts hz hk) ⟨by decide, by decide⟩ (Nat.le_of_ble_eq_true rfl) dX5_colour_79 (fun v9 h9 n9 z9 hq => ?_) (fun _ _ _ _ _ hf => hf.elim)
      obtain ⟨r26, rfl, rfl, rfl, sg27, rfl, hk⟩ := hq
      refine ⟨[vI r26], rfl, ?_⟩
      exact r_iret X E (pc := 82) dX5_colour_82 rfl ⟨_, rfl, rfl, rfl, _, rfl, hk⟩
    · have hk := hk.2 c25
      by_cases c28 : x2 = 1
      · have hk := hk.1 c28
        refine r_tswIn X (pc := 39) (j := 1) (tgt := 83) dX5_colour_39 b22 (by omega) (by decide) rfl (by decide) ?_
        refine r_aload_n X (pc := 83) dX5_colour_83 rfl (q := 0) rfl ?_
        refine r_iload_n X (pc := 84) dX5_colour_84 rfl (q := 1) rfl ?_
        refine r_iconst X (pc := 85) dX5_colour_85 ?_
        refine r_callV X (pc := 86) (As := [vI x1, vI 1]) (st := []) rfl rfl rfl (tw_t t _ h0) m_X5_236 (fun _ => s_X5_posts hz hk) ⟨by decide, by decide⟩ (Nat.le_of_ble_eq_true rfl) dX5_colour_86 (fun v9 h9 n9 z9 hq => ?_) (fun _ _ _ _ _ hf => hf.elim)
        obtain ⟨r29, rfl, rfl, rfl, sg30, rfl, hk⟩ := hq
        refine ⟨[vI r29], rfl, ?_⟩
        exact r_iret X E (pc := 89) dX5_colour_89 rfl ⟨_, rfl, rfl, rfl, _, rfl, hk⟩
      · have hk := hk.2 c28
        by_cases c31 : x2 = 2
        · have hk := hk.1 c31
          refine r_tswIn X (pc := 39) (j := 2) (tgt := 90) dX5_colour_39 b22 (by omega) (by decide) rfl (by decide) ?_
          refine r_aload_n X (pc := 90) dX5_colour_90 rfl (q := 0) rfl ?_
          refine r_iload_n X (pc := 91) dX5_colour_91 rfl (q := 1) rfl ?_
          refine r_callV X (pc := 92) (As := [vI x1]) (st := []) rfl rfl rfl (tw_t t _ h0) m_X5_249 (fun _ => s_X5_begin hz hk) ⟨by decide, by decide⟩ (Nat.le_of_ble_eq_true rfl) dX5_colour_92 (fun v9 h9 n9 z9 hq => ?_) (fun _ _ _ _ _ hf => hf.elim)
          obtain ⟨r32, rfl, rfl, rfl, sg33, rfl, hk⟩ := hq
          refine ⟨[vI r32], rfl, ?_⟩
          exact r_iret X E (pc := 95) dX5_colour_95 rfl ⟨_, rfl, rfl, rfl, _, rfl, hk⟩
        · have hk := hk.2 c31
          by_cases c34 : x2 = 3
          · have hk := hk.1 c34
            refine r_tswIn X (pc := 39) (j := 3) (tgt := 96) dX5_colour_39 b22 (by omega) (by decide) rfl (by decide) ?_
            refine r_aload_n X (pc := 96) dX5_colour_96 rfl (q := 0) rfl ?_
            refine r_iload_n X (pc := 97) dX5_colour_97 rfl (q := 1) rfl ?_
            refine r_callV X (pc := 98) (As := [vI x1]) (st := []) rfl rfl rfl (tw_t t _ h0) m_X5_426 (fun _ => s_X5_isComplete hz hk) ⟨by decide, by decide⟩ (Nat.le_of_ble_eq_true rfl) dX5_colour_98 (fun v9 h9 n9 z9 hq => ?_) (fun _ _ _ _ _ hf => hf.elim)
            obtain ⟨r35, rfl, rfl, rfl, sg36, rfl, hk⟩ := hq
            refine ⟨[vI r35], rfl, ?_⟩
            obtain ⟨b37, hk⟩ := hk
            refine r_if_eq X (pc := 101) (tgt := 108) dX5_colour_101 (by decide) b37 (fun c38 => ?_) (fun c38 => ?_)
            · have hk := hk.1 c38
              refine r_iconst X (pc := 108) dX5_colour_108 ?_
              exact r_iret X E (pc := 109) dX5_colour_109 rfl ⟨_, rfl, rfl, rfl, _, rfl, hk⟩
            · have hk := hk.2 c38
              refine r_iconst X (pc := 104) dX5_colour_104 ?_
              refine r_goto X (pc := 105) (tgt := 109) dX5_colour_105 (by decide) ?_
              exact r_iret X E (pc := 109) dX5_colour_109 rfl ⟨_, rfl, rfl, rfl, _, rfl, hk⟩
          · have hk := hk.2 c34
            by_cases c39 : x2 = 4
            · have hk := hk.1 c39
              refine r_tswIn X (pc := 39) (j := 4) (tgt := 110) dX5_colour_39 b22 (by omega) (by decide) rfl (by decide) ?_
              refine r_aload_n X (pc := 110) dX5_colour_110 rfl (q := 0) rfl ?_
              refine r_tgI X (pc := 111) (v := sg21.1 32) fa_X5_208 (by decide) rfl dX5_colour_111 ?_
              exact r_iret X E (pc := 114) dX5_colour_114 rfl ⟨_, rfl, rfl, rfl, _, rfl, hk⟩
            · have hk := hk.2 c39
              by_cases c40 : x2 = 5
              · have hk := hk.1 c40
                refine r_tswIn X (pc := 39) (j := 5) (tgt := 115) dX5_colour_39 b22 (by omega) (by decide) rfl (by decide) ?_
                refine r_aload_n X (pc := 115) dX5_colour_115 rfl (q := 0) rfl ?_
                refine r_tgI X (pc := 116) (v := sg21.1 35) fa_X5_205 (by decide) rfl dX5_colour_116 ?_
                exact r_iret X E (pc := 119) dX5_colour_119 rfl ⟨_, rfl, rfl, rfl, _, rfl, hk⟩
              · have hk := hk.2 c40
                refine r_tswOut X (pc := 39) (tgt := 120) dX5_colour_39 b22 (by omega) (by decide) ?_
                refine r_aload_n X (pc := 120) dX5_colour_120 rfl (q := 0) rfl ?_
                refine r_iload_n X (pc := 121) dX5_colour_121 rfl (q := 1) rfl ?_
                refine r_callV X (pc := 122) (As := [vI x1]) (st := []) rfl rfl rfl (tw_t t _ h0) m_X5_438 (fun _ => s_X5_right hz hk) ⟨by decide, by decide⟩ (Nat.le_of_ble_eq_true rfl) dX5_colour_122 (fun v9 h9 n9 z9 hq => ?_) (fun _ _ _ _ _ hf => hf.elim)
                obtain ⟨r23, rfl, rfl, rfl, sg24, rfl, hk⟩ := hq
                refine ⟨[vI r23], rfl, ?_⟩
                exact r_iret X E (pc := 125) dX5_colour_125 rfl ⟨_, rfl, rfl, rfl, _, rfl, hk⟩
  · have hk := hk.2 c18
    refine r_iconst X (pc := 27) dX5_colour_27 ?_
    exact r_iret X E (pc := 28) dX5_colour_28 rfl ⟨_, rfl, rfl, rfl, _, rfl, hk⟩
set_option maxHeartbeats 4000000 in
theorem w_X5_colour {K : KT} {Y : YT} {Qx : QxT} {t n z : Nat} {h0 : AH} {κ : Int → TS → Prop} (X : XY K "TrailMarkersModel" "colour" cX5_colour (Option.some Jvm.ClassFile.FieldType.int) [] 3 10 242 Y) (E : YE K Y (tQ t h0 n z κ) Qx) (hz : kz K ≤ t) {sg : TS} {x1 : Int} {x2 : Int} (hk : P_X5_colour κ sg x1 x2) : G K Y (tw t sg h0) n z 0 (lv_argsA 0 [vR (some t), vI x1, vI x2]) [] := by
  show G K Y (tw t sg h0) n z 0 [(0, vR (some t)), (1, vI x1), (2, vI x2)] []
  refine r_aload_n X (pc := 0) dX5_colour_0 rfl (q := 0) rfl ?_
  refine r_iload_n X (pc := 1) dX5_colour_1 rfl (q := 1) rfl ?_
  refine r_callS X (pc := 2) (As := [vI x1]) (st := [vR (some t)]) m_X5_414 (fun _ => s_X5_noColour hk) ⟨by decide, by decide⟩ (Nat.le_of_ble_eq_true rfl) dX5_colour_2 (fun v9 h9 n9 z9 hq => ?_) (fun _ _ _ _ _ hf => hf.elim)
  obtain ⟨r41, rfl, rfl, rfl, rfl, hk⟩ := hq
  refine ⟨[vI r41], rfl, ?_⟩
  refine r_iload_n X (pc := 5) dX5_colour_5 rfl (q := 2) rfl ?_
  refine r_iconst X (pc := 6) dX5_colour_6 ?_
  refine r_bipush X (pc := 7) dX5_colour_7 (by decide) ?_
  refine r_callS X (pc := 9) (As := [vI x2, vI 0, vI 6]) (st := [vI r41, vR (some t)]) m_X5_119 (fun _ => s_X5_isIn hk) ⟨by decide, by decide⟩ (Nat.le_of_ble_eq_true rfl) dX5_colour_9 (fun v9 h9 n9 z9 hq => ?_) (fun _ _ _ _ _ hf => hf.elim)
  obtain ⟨r42, rfl, rfl, rfl, rfl, hk⟩ := hq
  refine ⟨[vI r42], rfl, ?_⟩
  obtain ⟨b43, hk⟩ := hk
  refine r_if_ne X (pc := 12) (tgt := 19) dX5_colour_12 (by decide) b43 (fun c44 => ?_) (fun c44 => ?_)
  · have hk := hk.2 c44
    refine r_iconst X (pc := 19) dX5_colour_19 ?_
    exact w_X5_colour_20 X E hz sg x1 x2 0 r41 hk
  · have hk := hk.1 c44
    refine r_iconst X (pc := 15) dX5_colour_15 ?_
    refine r_goto X (pc := 16) (tgt := 20) dX5_colour_16 (by decide) ?_
    exact w_X5_colour_20 X E hz sg x1 x2 1 r41 hk
theorem s_X5_colour {K : KT} {l : Launch} {t n z : Nat} {h0 : AH} {κ : Int → TS → Prop} (hz : kz K ≤ t) {sg : TS} {x1 : Int} {x2 : Int} (hk : P_X5_colour κ sg x1 x2) : Ct K l yX5_colour (ws_ yX5_colour cX5_colour 3 (Option.some Jvm.ClassFile.FieldType.int)) 10 242 ([vR (some t), vI x1, vI x2].map cV) (tw t sg h0) n z (tQ t h0 n z κ) noX :=
  ct_of (by decide +kernel) (Nat.le_of_ble_eq_true rfl) (fun Y X E => w_X5_colour X E hz hk)
set_option maxHeartbeats 4000000 in
theorem w_X5_met_29 {K : KT} {Y : YT} {Qx : QxT} {t n z : Nat} {h0 : AH} {κ : Int64 → TS → Prop} (X : XY K "TrailMarkersModel" "met" cX5_met (Option.some Jvm.ClassFile.FieldType.long) [] 5 8 199 Y) (E : YE K Y (tQj t h0 n z κ) Qx) (hz : kz K ≤ t) {k_59 : TS → Int64 → Prop} (H_59 : ∀ (sg : TS) (x2 : Int64), k_59 sg x2 → G K Y (tw t sg h0) n z 59 [(0, vR (some t)), (2, vJ x2)] []) : ∀ (f : Nat) (sg : TS) (x2 : Int64) (x4 : Int), L_X5_met_29 k_59 κ f sg x2 x4 → G K Y (tw t sg h0) n z 29 [(0, vR (some t)), (2, vJ x2), (4, vI x4)] [] := by
  intro f
  induction f with
  | zero => intro sg x2 x4 hk; exact hk.elim
  | succ f ih =>
    intro sg x2 x4 hk
    refine r_iload X (pc := 29) dX5_met_29 (q := 2) rfl ?_
    refine r_bipush X (pc := 31) dX5_met_31 (by decide) ?_
    obtain ⟨b11, hk⟩ := hk
    refine r_icmp_ge X (pc := 33) (tgt := 59) dX5_met_33 (by decide) ⟨b11, (by decide)⟩ (fun c12 => ?_) (fun c12 => ?_)
    · have hk := hk.2 c12
      refine G.sub [0, 1] rfl ?_
      exact H_59 sg x2 hk
    · have hk := hk.1 c12
      refine r_aload_n X (pc := 36) dX5_met_36 rfl (q := 0) rfl ?_
      refine r_tgR X (pc := 37) (ty := 2) (N := 24) fa_X5_60 rfl (by decide) dX5_met_37 ?_
      refine r_iload X (pc := 40) dX5_met_40 (q := 2) rfl ?_
      obtain ⟨b13, hk⟩ := hk
      refine r_tzald X (pc := 42) (v := sg.2 31 x4) (N := 24) rfl rfl dX5_met_42 b13 ?_
      obtain ⟨b14, hk⟩ := hk
      refine r_if_eq X (pc := 43) (tgt := 53) dX5_met_43 (by decide) b14 (fun c15 => ?_) (fun c15 => ?_)
      · have hk := hk.1 c15
        refine r_iinc X (pc := 53) (q := 2) (lv1 := [(4, vI (x4 + 1)), (0, vR (some t)), (2, vJ x2)]) dX5_met_53 rfl (by decide) rfl ?_
        refine r_goto X (pc := 56) (tgt := 29) dX5_met_56 (by decide) ?_
        refine G.sub [1, 2, 0] rfl ?_
        exact ih sg x2 (x4 + 1) hk
      · have hk := hk.2 c15
        refine r_lload_n X (pc := 46) dX5_met_46 rfl (q := 1) rfl ?_
        refine r_lconst X (pc := 47) (x := 1) dX5_met_47 rfl ?_
        refine r_iload X (pc := 48) dX5_met_48 (q := 2) rfl ?_
        refine r_lshl X (pc := 50) dX5_met_50 ?_
        refine r_ladd X (pc := 51) dX5_met_51 ?_
        refine r_lstore_n X (pc := 52) (lv1 := [(2, vJ (x2 + (lshl 1 x4))), (0, vR (some t)), (4, vI x4)]) dX5_met_52 rfl (by decide) rfl ?_
        refine r_iinc X (pc := 53) (q := 2) (lv1 := [(4, vI (x4 + 1)), (2, vJ (x2 + (lshl 1 x4))), (0, vR (some t))]) dX5_met_53 rfl (by decide) rfl ?_
        refine r_goto X (pc := 56) (tgt := 29) dX5_met_56 (by decide) ?_
        refine G.sub [2, 1, 0] rfl ?_
        exact ih sg (x2 + (lshl 1 x4)) (x4 + 1) hk
set_option maxHeartbeats 4000000 in
theorem w_X5_met_59 {K : KT} {Y : YT} {Qx : QxT} {t n z : Nat} {h0 : AH} {κ : Int64 → TS → Prop} (X : XY K "TrailMarkersModel" "met" cX5_met (Option.some Jvm.ClassFile.FieldType.long) [] 5 8 199 Y) (E : YE K Y (tQj t h0 n z κ) Qx) (hz : kz K ≤ t) : ∀ (sg : TS) (x2 : Int64), P_X5_met_59 κ sg x2 → G K Y (tw t sg h0) n z 59 [(0, vR (some t)), (2, vJ x2)] [] := by
  intro sg x2 hk
  refine r_lload_n X (pc := 59) dX5_met_59 rfl (q := 1) rfl ?_
  exact r_lret X E (pc := 60) dX5_met_60 ⟨_, rfl, rfl, rfl, _, rfl, hk⟩
set_option maxHeartbeats 4000000 in
theorem w_X5_met {K : KT} {Y : YT} {Qx : QxT} {t n z : Nat} {h0 : AH} {κ : Int64 → TS → Prop} (X : XY K "TrailMarkersModel" "met" cX5_met (Option.some Jvm.ClassFile.FieldType.long) [] 5 8 199 Y) (E : YE K Y (tQj t h0 n z κ) Qx) (hz : kz K ≤ t) {sg : TS} {x1 : Int} (hk : P_X5_met κ sg x1) : G K Y (tw t sg h0) n z 0 (lv_argsA 0 [vR (some t), vI x1]) [] := by
  show G K Y (tw t sg h0) n z 0 [(0, vR (some t)), (1, vI x1)] []
  refine r_aload_n X (pc := 0) dX5_met_0 rfl (q := 0) rfl ?_
  refine r_iload_n X (pc := 1) dX5_met_1 rfl (q := 1) rfl ?_
  refine r_callS X (pc := 2) (As := [vI x1]) (st := [vR (some t)]) m_X5_414 (fun _ => s_X5_noColour hk) ⟨by decide, by decide⟩ (Nat.le_of_ble_eq_true rfl) dX5_met_2 (fun v9 h9 n9 z9 hq => ?_) (fun _ _ _ _ _ hf => hf.elim)
  obtain ⟨r16, rfl, rfl, rfl, rfl, hk⟩ := hq
  refine ⟨[vI r16], rfl, ?_⟩
  refine r_iconst X (pc := 5) dX5_met_5 ?_
  refine r_iconst X (pc := 6) dX5_met_6 ?_
  refine r_callV X (pc := 7) (As := [vI r16, vI 0, vI 0]) (st := []) rfl rfl rfl (tw_t t _ h0) m_X5_258 (fun _ => s_X5_fails hz hk) ⟨by decide, by decide⟩ (Nat.le_of_ble_eq_true rfl) dX5_met_7 (fun v9 h9 n9 z9 hq => ?_) (fun _ _ _ _ _ hf => hf.elim)
  obtain ⟨r17, rfl, rfl, rfl, sg18, rfl, hk⟩ := hq
  refine ⟨[vI r17], rfl, ?_⟩
  obtain ⟨b19, hk⟩ := hk
  refine r_if_eq X (pc := 10) (tgt := 15) dX5_met_10 (by decide) b19 (fun c20 => ?_) (fun c20 => ?_)
  · have hk := hk.1 c20
    refine r_aload_n X (pc := 15) dX5_met_15 rfl (q := 0) rfl ?_
    refine r_aload_n X (pc := 16) dX5_met_16 rfl (q := 0) rfl ?_
    refine r_iload_n X (pc := 17) dX5_met_17 rfl (q := 1) rfl ?_
    refine r_callV X (pc := 18) (As := [vI x1]) (st := [vR (some t)]) rfl rfl rfl (tw_t t _ h0) m_X5_249 (fun _ => s_X5_begin hz hk) ⟨by decide, by decide⟩ (Nat.le_of_ble_eq_true rfl) dX5_met_18 (fun v9 h9 n9 z9 hq => ?_) (fun _ _ _ _ _ hf => hf.elim)
    obtain ⟨r21, rfl, rfl, rfl, sg22, rfl, hk⟩ := hq
    refine ⟨[vI r21], rfl, ?_⟩
    refine r_callV X (pc := 21) (As := [vI r21]) (st := []) rfl rfl rfl (tw_t t _ h0) m_X5_243 (fun _ => s_X5_walk hz hk) ⟨by decide, by decide⟩ (Nat.le_of_ble_eq_true rfl) dX5_met_21 (fun v9 h9 n9 z9 hq => ?_) (fun _ _ _ _ _ hf => hf.elim)
    obtain ⟨rfl, rfl, rfl, sg23, rfl, hk⟩ := hq
    refine ⟨[], rfl, ?_⟩
    refine r_lconst X (pc := 24) (x := 0) dX5_met_24 rfl ?_
    refine r_lstore_n X (pc := 25) (lv1 := [(2, vJ 0), (0, vR (some t)), (1, vI x1)]) dX5_met_25 rfl (by decide) rfl ?_
    refine r_iconst X (pc := 26) dX5_met_26 ?_
    refine r_istore X (pc := 27) (lv1 := [(4, vI 0), (2, vJ 0), (0, vR (some t)), (1, vI x1)]) dX5_met_27 (by decide) rfl ?_
    refine G.sub [2, 1, 0] rfl ?_
    have HH24 : ∀ (sg : TS) (x2 : Int64), (P_X5_met_59 κ sg x2) → G K Y (tw t sg h0) n z 59 [(0, vR (some t)), (2, vJ x2)] [] := by
        intro sg x2 hk
        exact w_X5_met_59 X E hz sg x2 hk
    obtain ⟨f9, hk⟩ := hk
    exact w_X5_met_29 X E hz HH24 f9 sg23 0 0 hk
  · have hk := hk.2 c20
    refine r_lconst X (pc := 13) (x := 0) dX5_met_13 rfl ?_
    exact r_lret X E (pc := 14) dX5_met_14 ⟨_, rfl, rfl, rfl, _, rfl, hk⟩
theorem s_X5_met {K : KT} {l : Launch} {t n z : Nat} {h0 : AH} {κ : Int64 → TS → Prop} (hz : kz K ≤ t) {sg : TS} {x1 : Int} (hk : P_X5_met κ sg x1) : Ct K l yX5_met (ws_ yX5_met cX5_met 5 (Option.some Jvm.ClassFile.FieldType.long)) 8 199 ([vR (some t), vI x1].map cV) (tw t sg h0) n z (tQj t h0 n z κ) noX :=
  ct_of (by decide +kernel) (Nat.le_of_ble_eq_true rfl) (fun Y X E => w_X5_met X E hz hk)
set_option maxHeartbeats 4000000 in
theorem w_X5_loopSteps_29 {K : KT} {Y : YT} {Qx : QxT} {t n z : Nat} {h0 : AH} {κ : Int → TS → Prop} (X : XY K "TrailMarkersModel" "loopSteps" cX5_loopSteps (Option.some Jvm.ClassFile.FieldType.int) [] 3 7 176 Y) (E : YE K Y (tQ t h0 n z κ) Qx) (hz : kz K ≤ t) {k_60 : TS → Int → Prop} (H_60 : ∀ (sg : TS) (x1 : Int), k_60 sg x1 → G K Y (tw t sg h0) n z 60 [(0, vR (some t)), (1, vI x1)] []) : ∀ (f : Nat) (sg : TS) (x1 : Int), L_X5_loopSteps_29 k_60 κ f sg x1 → G K Y (tw t sg h0) n z 29 [(0, vR (some t)), (1, vI x1)] [] := by
  intro f
  induction f with
  | zero => intro sg x1 hk; exact hk.elim
  | succ f ih =>
    intro sg x1 hk
    refine r_aload_n X (pc := 29) dX5_loopSteps_29 rfl (q := 0) rfl ?_
    refine r_tgI X (pc := 30) (v := sg.1 18) fa_X5_169 (by decide) rfl dX5_loopSteps_30 ?_
    refine r_aload_n X (pc := 33) dX5_loopSteps_33 rfl (q := 0) rfl ?_
    refine r_tgI X (pc := 34) (v := sg.1 37) fa_X5_217 (by decide) rfl dX5_loopSteps_34 ?_
    obtain ⟨b10, b11, hk⟩ := hk
    refine r_icmp_eq X (pc := 37) (tgt := 60) dX5_loopSteps_37 (by decide) ⟨b10, b11⟩ (fun c12 => ?_) (fun c12 => ?_)
    · have hk := hk.1 c12
      exact H_60 sg x1 hk
    · have hk := hk.2 c12
      refine r_aload_n X (pc := 40) dX5_loopSteps_40 rfl (q := 0) rfl ?_
      refine r_tgI X (pc := 41) (v := sg.1 18) fa_X5_169 (by decide) rfl dX5_loopSteps_41 ?_
      refine r_istore_n X (pc := 44) (lv1 := [(2, vI (sg.1 18)), (0, vR (some t)), (1, vI x1)]) dX5_loopSteps_44 rfl (by decide) rfl ?_
      refine r_aload_n X (pc := 45) dX5_loopSteps_45 rfl (q := 1) rfl ?_
      refine r_iload_n X (pc := 46) dX5_loopSteps_46 rfl (q := 0) rfl ?_
      refine r_callV X (pc := 47) (As := [vI (sg.1 18)]) (st := []) rfl rfl rfl (tw_t t _ h0) m_X5_224 (fun _ => s_X5_find hz hk) ⟨by decide, by decide⟩ (Nat.le_of_ble_eq_true rfl) dX5_loopSteps_47 (fun v9 h9 n9 z9 hq => ?_) (fun _ _ _ _ _ hf => hf.elim)
      obtain ⟨rfl, rfl, rfl, sg13, rfl, hk⟩ := hq
      refine ⟨[], rfl, ?_⟩
      refine r_iload_n X (pc := 50) dX5_loopSteps_50 rfl (q := 2) rfl ?_
      refine r_aload_n X (pc := 51) dX5_loopSteps_51 rfl (q := 1) rfl ?_
      refine r_callV X (pc := 52) (As := []) (st := [vI x1]) rfl rfl rfl (tw_t t _ h0) m_X5_172 (fun _ => s_X5_steps hz hk) ⟨by decide, by decide⟩ (Nat.le_of_ble_eq_true rfl) dX5_loopSteps_52 (fun v9 h9 n9 z9 hq => ?_) (fun _ _ _ _ _ hf => hf.elim)
      obtain ⟨r14, rfl, rfl, rfl, sg15, rfl, hk⟩ := hq
      refine ⟨[vI r14], rfl, ?_⟩
      refine r_iadd X (pc := 55) dX5_loopSteps_55 ?_
      refine r_istore_n X (pc := 56) (lv1 := [(1, vI (x1 + r14)), (2, vI (sg.1 18)), (0, vR (some t))]) dX5_loopSteps_56 rfl (by decide) rfl ?_
      refine r_goto X (pc := 57) (tgt := 29) dX5_loopSteps_57 (by decide) ?_
      refine G.sub [2, 0] rfl ?_
      exact ih sg15 (x1 + r14) hk
set_option maxHeartbeats 4000000 in
theorem w_X5_loopSteps_60 {K : KT} {Y : YT} {Qx : QxT} {t n z : Nat} {h0 : AH} {κ : Int → TS → Prop} (X : XY K "TrailMarkersModel" "loopSteps" cX5_loopSteps (Option.some Jvm.ClassFile.FieldType.int) [] 3 7 176 Y) (E : YE K Y (tQ t h0 n z κ) Qx) (hz : kz K ≤ t) : ∀ (sg : TS) (x1 : Int), P_X5_loopSteps_60 κ sg x1 → G K Y (tw t sg h0) n z 60 [(0, vR (some t)), (1, vI x1)] [] := by
  intro sg x1 hk
  refine r_iload_n X (pc := 60) dX5_loopSteps_60 rfl (q := 1) rfl ?_
  exact r_iret X E (pc := 61) dX5_loopSteps_61 rfl ⟨_, rfl, rfl, rfl, _, rfl, hk⟩
set_option maxHeartbeats 4000000 in
theorem w_X5_loopSteps {K : KT} {Y : YT} {Qx : QxT} {t n z : Nat} {h0 : AH} {κ : Int → TS → Prop} (X : XY K "TrailMarkersModel" "loopSteps" cX5_loopSteps (Option.some Jvm.ClassFile.FieldType.int) [] 3 7 176 Y) (E : YE K Y (tQ t h0 n z κ) Qx) (hz : kz K ≤ t) {sg : TS} (hk : P_X5_loopSteps κ sg) : G K Y (tw t sg h0) n z 0 (lv_argsA 0 [vR (some t)]) [] := by
  show G K Y (tw t sg h0) n z 0 [(0, vR (some t))] []
  refine r_aload_n X (pc := 0) dX5_loopSteps_0 rfl (q := 0) rfl ?_
  refine r_tgI X (pc := 1) (v := sg.1 36) fa_X5_214 (by decide) rfl dX5_loopSteps_1 ?_
  refine r_iconst X (pc := 4) dX5_loopSteps_4 ?_
  obtain ⟨b16, hk⟩ := hk
  refine r_icmp_eq X (pc := 5) (tgt := 10) dX5_loopSteps_5 (by decide) ⟨b16, (by decide)⟩ (fun c17 => ?_) (fun c17 => ?_)
  · have hk := hk.1 c17
    refine r_iconst X (pc := 10) dX5_loopSteps_10 ?_
    refine r_istore_n X (pc := 11) (lv1 := [(1, vI 0), (0, vR (some t))]) dX5_loopSteps_11 rfl (by decide) rfl ?_
    refine r_aload_n X (pc := 12) dX5_loopSteps_12 rfl (q := 1) rfl ?_
    refine r_tgI X (pc := 13) (v := sg.1 37) fa_X5_217 (by decide) rfl dX5_loopSteps_13 ?_
    refine r_istore_n X (pc := 16) (lv1 := [(2, vI (sg.1 37)), (1, vI 0), (0, vR (some t))]) dX5_loopSteps_16 rfl (by decide) rfl ?_
    refine r_aload_n X (pc := 17) dX5_loopSteps_17 rfl (q := 2) rfl ?_
    refine r_iload_n X (pc := 18) dX5_loopSteps_18 rfl (q := 0) rfl ?_
    refine r_callV X (pc := 19) (As := [vI (sg.1 37)]) (st := []) rfl rfl rfl (tw_t t _ h0) m_X5_224 (fun _ => s_X5_find hz hk) ⟨by decide, by decide⟩ (Nat.le_of_ble_eq_true rfl) dX5_loopSteps_19 (fun v9 h9 n9 z9 hq => ?_) (fun _ _ _ _ _ hf => hf.elim)
    obtain ⟨rfl, rfl, rfl, sg18, rfl, hk⟩ := hq
    refine ⟨[], rfl, ?_⟩
    refine r_iload_n X (pc := 22) dX5_loopSteps_22 rfl (q := 1) rfl ?_
    refine r_aload_n X (pc := 23) dX5_loopSteps_23 rfl (q := 2) rfl ?_
    refine r_callV X (pc := 24) (As := []) (st := [vI 0]) rfl rfl rfl (tw_t t _ h0) m_X5_172 (fun _ => s_X5_steps hz hk) ⟨by decide, by decide⟩ (Nat.le_of_ble_eq_true rfl) dX5_loopSteps_24 (fun v9 h9 n9 z9 hq => ?_) (fun _ _ _ _ _ hf => hf.elim)
    obtain ⟨r19, rfl, rfl, rfl, sg20, rfl, hk⟩ := hq
    refine ⟨[vI r19], rfl, ?_⟩
    refine r_iadd X (pc := 27) dX5_loopSteps_27 ?_
    refine r_istore_n X (pc := 28) (lv1 := [(1, vI (0 + r19)), (2, vI (sg.1 37)), (0, vR (some t))]) dX5_loopSteps_28 rfl (by decide) rfl ?_
    refine G.sub [2, 0] rfl ?_
    have HH21 : ∀ (sg : TS) (x1 : Int), (P_X5_loopSteps_60 κ sg x1) → G K Y (tw t sg h0) n z 60 [(0, vR (some t)), (1, vI x1)] [] := by
        intro sg x1 hk
        exact w_X5_loopSteps_60 X E hz sg x1 hk
    obtain ⟨f9, hk⟩ := hk
    exact w_X5_loopSteps_29 X E hz HH21 f9 sg20 (0 + r19) hk
  · have hk := hk.2 c17
    refine r_iconst X (pc := 8) dX5_loopSteps_8 ?_
    exact r_iret X E (pc := 9) dX5_loopSteps_9 rfl ⟨_, rfl, rfl, rfl, _, rfl, hk⟩
theorem s_X5_loopSteps {K : KT} {l : Launch} {t n z : Nat} {h0 : AH} {κ : Int → TS → Prop} (hz : kz K ≤ t) {sg : TS} (hk : P_X5_loopSteps κ sg) : Ct K l yX5_loopSteps (ws_ yX5_loopSteps cX5_loopSteps 3 (Option.some Jvm.ClassFile.FieldType.int)) 7 176 ([vR (some t)].map cV) (tw t sg h0) n z (tQ t h0 n z κ) noX :=
  ct_of (by decide +kernel) (Nat.le_of_ble_eq_true rfl) (fun Y X E => w_X5_loopSteps X E hz hk)
set_option maxHeartbeats 4000000 in
theorem w_X5_ofRoute {K : KT} {Y : YT} {Qx : QxT} {t n z : Nat} {h0 : AH} {κ : Int → TS → Prop} (X : XY K "TrailMarkersModel" "ofRoute" cX5_ofRoute (Option.some Jvm.ClassFile.FieldType.int) [] 2 8 198 Y) (E : YE K Y (tQ t h0 n z κ) Qx) (hz : kz K ≤ t) {sg : TS} {x1 : Int} (hk : P_X5_ofRoute κ sg x1) : G K Y (tw t sg h0) n z 0 (lv_argsA 0 [vR (some t), vI x1]) [] := by
  show G K Y (tw t sg h0) n z 0 [(0, vR (some t)), (1, vI x1)] []
  refine r_iload_n X (pc := 0) dX5_ofRoute_0 rfl (q := 1) rfl ?_
  obtain ⟨b4, hk⟩ := hk
  by_cases c5 : x1 = 0
  · have hk := hk.1 c5
    refine r_tswIn X (pc := 1) (j := 0) (tgt := 44) dX5_ofRoute_1 b4 (by omega) (by decide) rfl (by decide) ?_
    refine r_aload_n X (pc := 44) dX5_ofRoute_44 rfl (q := 0) rfl ?_
    refine r_tgI X (pc := 45) (v := sg.1 32) fa_X5_208 (by decide) rfl dX5_ofRoute_45 ?_
    exact r_iret X E (pc := 48) dX5_ofRoute_48 rfl ⟨_, rfl, rfl, rfl, _, rfl, hk⟩
  · have hk := hk.2 c5
    by_cases c6 : x1 = 1
    · have hk := hk.1 c6
      refine r_tswIn X (pc := 1) (j := 1) (tgt := 49) dX5_ofRoute_1 b4 (by omega) (by decide) rfl (by decide) ?_
      refine r_aload_n X (pc := 49) dX5_ofRoute_49 rfl (q := 0) rfl ?_
      refine r_tgI X (pc := 50) (v := sg.1 33) fa_X5_199 (by decide) rfl dX5_ofRoute_50 ?_
      refine r_iconst X (pc := 53) dX5_ofRoute_53 ?_
      refine r_isub X (pc := 54) dX5_ofRoute_54 ?_
      exact r_iret X E (pc := 55) dX5_ofRoute_55 rfl ⟨_, rfl, rfl, rfl, _, rfl, hk⟩
    · have hk := hk.2 c6
      by_cases c7 : x1 = 2
      · have hk := hk.1 c7
        refine r_tswIn X (pc := 1) (j := 2) (tgt := 56) dX5_ofRoute_1 b4 (by omega) (by decide) rfl (by decide) ?_
        refine r_aload_n X (pc := 56) dX5_ofRoute_56 rfl (q := 0) rfl ?_
        refine r_tgI X (pc := 57) (v := sg.1 36) fa_X5_214 (by decide) rfl dX5_ofRoute_57 ?_
        exact r_iret X E (pc := 60) dX5_ofRoute_60 rfl ⟨_, rfl, rfl, rfl, _, rfl, hk⟩
      · have hk := hk.2 c7
        by_cases c8 : x1 = 3
        · have hk := hk.1 c8
          refine r_tswIn X (pc := 1) (j := 3) (tgt := 61) dX5_ofRoute_1 b4 (by omega) (by decide) rfl (by decide) ?_
          refine r_aload_n X (pc := 61) dX5_ofRoute_61 rfl (q := 0) rfl ?_
          refine r_tgI X (pc := 62) (v := sg.1 37) fa_X5_217 (by decide) rfl dX5_ofRoute_62 ?_
          exact r_iret X E (pc := 65) dX5_ofRoute_65 rfl ⟨_, rfl, rfl, rfl, _, rfl, hk⟩
        · have hk := hk.2 c8
          by_cases c9 : x1 = 4
          · have hk := hk.1 c9
            refine r_tswIn X (pc := 1) (j := 4) (tgt := 66) dX5_ofRoute_1 b4 (by omega) (by decide) rfl (by decide) ?_
            refine r_aload_n X (pc := 66) dX5_ofRoute_66 rfl (q := 0) rfl ?_
            refine r_tgI X (pc := 67) (v := sg.1 35) fa_X5_205 (by decide) rfl dX5_ofRoute_67 ?_
            exact r_iret X E (pc := 70) dX5_ofRoute_70 rfl ⟨_, rfl, rfl, rfl, _, rfl, hk⟩
          · have hk := hk.2 c9
            by_cases c10 : x1 = 5
            · have hk := hk.1 c10
              refine r_tswIn X (pc := 1) (j := 5) (tgt := 71) dX5_ofRoute_1 b4 (by omega) (by decide) rfl (by decide) ?_
              refine r_aload_n X (pc := 71) dX5_ofRoute_71 rfl (q := 0) rfl ?_
              refine r_aload_n X (pc := 72) dX5_ofRoute_72 rfl (q := 0) rfl ?_
              refine r_aload_n X (pc := 73) dX5_ofRoute_73 rfl (q := 0) rfl ?_
              refine r_tgI X (pc := 74) (v := sg.1 37) fa_X5_217 (by decide) rfl dX5_ofRoute_74 ?_
              refine r_iconst X (pc := 77) dX5_ofRoute_77 ?_
              refine r_callV X (pc := 78) (As := [vI (sg.1 37), vI 2]) (st := [vR (some t)]) rfl rfl rfl (tw_t t _ h0) m_X5_130 (fun _ => s_X5_of hz hk) ⟨by decide, by decide⟩ (Nat.le_of_ble_eq_true rfl) dX5_ofRoute_78 (fun v9 h9 n9 z9 hq => ?_) (fun _ _ _ _ _ hf => hf.elim)
              obtain ⟨r11, rfl, rfl, rfl, sg12, rfl, hk⟩ := hq
              refine ⟨[vI r11], rfl, ?_⟩
              refine r_iconst X (pc := 81) dX5_ofRoute_81 ?_
              refine r_callV X (pc := 82) (As := [vI r11, vI 1]) (st := []) rfl rfl rfl (tw_t t _ h0) m_X5_236 (fun _ => s_X5_posts hz hk) ⟨by decide, by decide⟩ (Nat.le_of_ble_eq_true rfl) dX5_ofRoute_82 (fun v9 h9 n9 z9 hq => ?_) (fun _ _ _ _ _ hf => hf.elim)
              obtain ⟨r13, rfl, rfl, rfl, sg14, rfl, hk⟩ := hq
              refine ⟨[vI r13], rfl, ?_⟩
              refine r_aload_n X (pc := 85) dX5_ofRoute_85 rfl (q := 0) rfl ?_
              refine r_tgI X (pc := 86) (v := sg14.1 32) fa_X5_208 (by decide) rfl dX5_ofRoute_86 ?_
              refine r_isub X (pc := 89) dX5_ofRoute_89 ?_
              exact r_iret X E (pc := 90) dX5_ofRoute_90 rfl ⟨_, rfl, rfl, rfl, _, rfl, hk⟩
            · have hk := hk.2 c10
              by_cases c15 : x1 = 6
              · have hk := hk.1 c15
                refine r_tswIn X (pc := 1) (j := 6) (tgt := 91) dX5_ofRoute_1 b4 (by omega) (by decide) rfl (by decide) ?_
                refine r_aload_n X (pc := 91) dX5_ofRoute_91 rfl (q := 0) rfl ?_
                refine r_callV X (pc := 92) (As := []) (st := []) rfl rfl rfl (tw_t t _ h0) m_X5_240 (fun _ => s_X5_loopSteps hz hk) ⟨by decide, by decide⟩ (Nat.le_of_ble_eq_true rfl) dX5_ofRoute_92 (fun v9 h9 n9 z9 hq => ?_) (fun _ _ _ _ _ hf => hf.elim)
                obtain ⟨r16, rfl, rfl, rfl, sg17, rfl, hk⟩ := hq
                refine ⟨[vI r16], rfl, ?_⟩
                exact r_iret X E (pc := 95) dX5_ofRoute_95 rfl ⟨_, rfl, rfl, rfl, _, rfl, hk⟩
              · have hk := hk.2 c15
                refine r_tswOut X (pc := 1) (tgt := 96) dX5_ofRoute_1 b4 (by omega) (by decide) ?_
                refine r_aload_n X (pc := 96) dX5_ofRoute_96 rfl (q := 0) rfl ?_
                refine r_tgI X (pc := 97) (v := sg.1 38) fa_X5_211 (by decide) rfl dX5_ofRoute_97 ?_
                exact r_iret X E (pc := 100) dX5_ofRoute_100 rfl ⟨_, rfl, rfl, rfl, _, rfl, hk⟩
theorem s_X5_ofRoute {K : KT} {l : Launch} {t n z : Nat} {h0 : AH} {κ : Int → TS → Prop} (hz : kz K ≤ t) {sg : TS} {x1 : Int} (hk : P_X5_ofRoute κ sg x1) : Ct K l yX5_ofRoute (ws_ yX5_ofRoute cX5_ofRoute 2 (Option.some Jvm.ClassFile.FieldType.int)) 8 198 ([vR (some t), vI x1].map cV) (tw t sg h0) n z (tQ t h0 n z κ) noX :=
  ct_of (by decide +kernel) (Nat.le_of_ble_eq_true rfl) (fun Y X E => w_X5_ofRoute X E hz hk)
set_option maxHeartbeats 4000000 in
theorem w_X5_routeOf {K : KT} {Y : YT} {Qx : QxT} {t n z : Nat} {h0 : AH} {κ : Int → TS → Prop} (X : XY K "TrailMarkersModel" "routeOf" cX5_routeOf (Option.some Jvm.ClassFile.FieldType.int) [] 3 9 219 Y) (E : YE K Y (tQ t h0 n z κ) Qx) (hz : kz K ≤ t) {sg : TS} {x1 : Int} {x2 : Int} (hk : P_X5_routeOf κ sg x1 x2) : G K Y (tw t sg h0) n z 0 (lv_argsA 0 [vR (some t), vI x1, vI x2]) [] := by
  show G K Y (tw t sg h0) n z 0 [(0, vR (some t)), (1, vI x1), (2, vI x2)] []
  refine r_aload_n X (pc := 0) dX5_routeOf_0 rfl (q := 0) rfl ?_
  refine r_iload_n X (pc := 1) dX5_routeOf_1 rfl (q := 1) rfl ?_
  refine r_callV X (pc := 2) (As := [vI x1]) (st := []) rfl rfl rfl (tw_t t _ h0) m_X5_243 (fun _ => s_X5_walk hz hk) ⟨by decide, by decide⟩ (Nat.le_of_ble_eq_true rfl) dX5_routeOf_2 (fun v9 h9 n9 z9 hq => ?_) (fun _ _ _ _ _ hf => hf.elim)
  obtain ⟨rfl, rfl, rfl, sg5, rfl, hk⟩ := hq
  refine ⟨[], rfl, ?_⟩
  refine r_aload_n X (pc := 5) dX5_routeOf_5 rfl (q := 0) rfl ?_
  refine r_tgI X (pc := 6) (v := sg5.1 33) fa_X5_199 (by decide) rfl dX5_routeOf_6 ?_
  obtain ⟨b6, hk⟩ := hk
  refine r_if_ne X (pc := 9) (tgt := 16) dX5_routeOf_9 (by decide) b6 (fun c7 => ?_) (fun c7 => ?_)
  · have hk := hk.2 c7
    refine r_aload_n X (pc := 16) dX5_routeOf_16 rfl (q := 0) rfl ?_
    refine r_iload_n X (pc := 17) dX5_routeOf_17 rfl (q := 2) rfl ?_
    refine r_callV X (pc := 18) (As := [vI x2]) (st := []) rfl rfl rfl (tw_t t _ h0) m_X5_246 (fun _ => s_X5_ofRoute hz hk) ⟨by decide, by decide⟩ (Nat.le_of_ble_eq_true rfl) dX5_routeOf_18 (fun v9 h9 n9 z9 hq => ?_) (fun _ _ _ _ _ hf => hf.elim)
    obtain ⟨r8, rfl, rfl, rfl, sg9, rfl, hk⟩ := hq
    refine ⟨[vI r8], rfl, ?_⟩
    exact r_iret X E (pc := 21) dX5_routeOf_21 rfl ⟨_, rfl, rfl, rfl, _, rfl, hk⟩
  · have hk := hk.1 c7
    refine r_iconst X (pc := 12) dX5_routeOf_12 ?_
    refine r_goto X (pc := 13) (tgt := 21) dX5_routeOf_13 (by decide) ?_
    exact r_iret X E (pc := 21) dX5_routeOf_21 rfl ⟨_, rfl, rfl, rfl, _, rfl, hk⟩
theorem s_X5_routeOf {K : KT} {l : Launch} {t n z : Nat} {h0 : AH} {κ : Int → TS → Prop} (hz : kz K ≤ t) {sg : TS} {x1 : Int} {x2 : Int} (hk : P_X5_routeOf κ sg x1 x2) : Ct K l yX5_routeOf (ws_ yX5_routeOf cX5_routeOf 3 (Option.some Jvm.ClassFile.FieldType.int)) 9 219 ([vR (some t), vI x1, vI x2].map cV) (tw t sg h0) n z (tQ t h0 n z κ) noX :=
  ct_of (by decide +kernel) (Nat.le_of_ble_eq_true rfl) (fun Y X E => w_X5_routeOf X E hz hk)
set_option maxHeartbeats 4000000 in
theorem w_X5_route_21 {K : KT} {Y : YT} {Qx : QxT} {t n z : Nat} {h0 : AH} {κ : Int → TS → Prop} (X : XY K "TrailMarkersModel" "route" cX5_route (Option.some Jvm.ClassFile.FieldType.int) [] 3 10 241 Y) (E : YE K Y (tQ t h0 n z κ) Qx) (hz : kz K ≤ t) : ∀ (sg : TS) (x1 : Int) (x2 : Int) (s0 : Int) (s1 : Int), P_X5_route_21 κ sg x1 x2 s0 s1 → G K Y (tw t sg h0) n z 21 [(0, vR (some t)), (1, vI x1), (2, vI x2)] [vI s0, vI s1, vR (some t)] := by
  intro sg x1 x2 s0 s1 hk
  refine r_iconst X (pc := 21) dX5_route_21 ?_
  refine r_callV X (pc := 22) (As := [vI s1, vI s0, vI 0]) (st := []) rfl rfl rfl (tw_t t _ h0) m_X5_258 (fun _ => s_X5_fails hz hk) ⟨by decide, by decide⟩ (Nat.le_of_ble_eq_true rfl) dX5_route_22 (fun v9 h9 n9 z9 hq => ?_) (fun _ _ _ _ _ hf => hf.elim)
  obtain ⟨r8, rfl, rfl, rfl, sg9, rfl, hk⟩ := hq
  refine ⟨[vI r8], rfl, ?_⟩
  obtain ⟨b10, hk⟩ := hk
  refine r_if_eq X (pc := 25) (tgt := 30) dX5_route_25 (by decide) b10 (fun c11 => ?_) (fun c11 => ?_)
  · have hk := hk.1 c11
    refine r_aload_n X (pc := 30) dX5_route_30 rfl (q := 0) rfl ?_
    refine r_iload_n X (pc := 31) dX5_route_31 rfl (q := 1) rfl ?_
    refine r_iload_n X (pc := 32) dX5_route_32 rfl (q := 2) rfl ?_
    refine r_callV X (pc := 33) (As := [vI x1, vI x2]) (st := []) rfl rfl rfl (tw_t t _ h0) m_X5_441 (fun _ => s_X5_routeOf hz hk) ⟨by decide, by decide⟩ (Nat.le_of_ble_eq_true rfl) dX5_route_33 (fun v9 h9 n9 z9 hq => ?_) (fun _ _ _ _ _ hf => hf.elim)
    obtain ⟨r12, rfl, rfl, rfl, sg13, rfl, hk⟩ := hq
    refine ⟨[vI r12], rfl, ?_⟩
    exact r_iret X E (pc := 36) dX5_route_36 rfl ⟨_, rfl, rfl, rfl, _, rfl, hk⟩
  · have hk := hk.2 c11
    refine r_iconst X (pc := 28) dX5_route_28 ?_
    exact r_iret X E (pc := 29) dX5_route_29 rfl ⟨_, rfl, rfl, rfl, _, rfl, hk⟩
set_option maxHeartbeats 4000000 in
theorem w_X5_route {K : KT} {Y : YT} {Qx : QxT} {t n z : Nat} {h0 : AH} {κ : Int → TS → Prop} (X : XY K "TrailMarkersModel" "route" cX5_route (Option.some Jvm.ClassFile.FieldType.int) [] 3 10 241 Y) (E : YE K Y (tQ t h0 n z κ) Qx) (hz : kz K ≤ t) {sg : TS} {x1 : Int} {x2 : Int} (hk : P_X5_route κ sg x1 x2) : G K Y (tw t sg h0) n z 0 (lv_argsA 0 [vR (some t), vI x1, vI x2]) [] := by
  show G K Y (tw t sg h0) n z 0 [(0, vR (some t)), (1, vI x1), (2, vI x2)] []
  refine r_aload_n X (pc := 0) dX5_route_0 rfl (q := 0) rfl ?_
  refine r_aload_n X (pc := 1) dX5_route_1 rfl (q := 0) rfl ?_
  refine r_iload_n X (pc := 2) dX5_route_2 rfl (q := 1) rfl ?_
  refine r_callV X (pc := 3) (As := [vI x1]) (st := [vR (some t)]) rfl rfl rfl (tw_t t _ h0) m_X5_417 (fun _ => s_X5_noPost hz hk) ⟨by decide, by decide⟩ (Nat.le_of_ble_eq_true rfl) dX5_route_3 (fun v9 h9 n9 z9 hq => ?_) (fun _ _ _ _ _ hf => hf.elim)
  obtain ⟨r14, rfl, rfl, rfl, sg15, rfl, hk⟩ := hq
  refine ⟨[vI r14], rfl, ?_⟩
  refine r_iload_n X (pc := 6) dX5_route_6 rfl (q := 2) rfl ?_
  refine r_iconst X (pc := 7) dX5_route_7 ?_
  refine r_bipush X (pc := 8) dX5_route_8 (by decide) ?_
  refine r_callS X (pc := 10) (As := [vI x2, vI 0, vI 7]) (st := [vI r14, vR (some t)]) m_X5_119 (fun _ => s_X5_isIn hk) ⟨by decide, by decide⟩ (Nat.le_of_ble_eq_true rfl) dX5_route_10 (fun v9 h9 n9 z9 hq => ?_) (fun _ _ _ _ _ hf => hf.elim)
  obtain ⟨r16, rfl, rfl, rfl, rfl, hk⟩ := hq
  refine ⟨[vI r16], rfl, ?_⟩
  obtain ⟨b17, hk⟩ := hk
  refine r_if_ne X (pc := 13) (tgt := 20) dX5_route_13 (by decide) b17 (fun c18 => ?_) (fun c18 => ?_)
  · have hk := hk.2 c18
    refine r_iconst X (pc := 20) dX5_route_20 ?_
    exact w_X5_route_21 X E hz sg15 x1 x2 0 r14 hk
  · have hk := hk.1 c18
    refine r_iconst X (pc := 16) dX5_route_16 ?_
    refine r_goto X (pc := 17) (tgt := 21) dX5_route_17 (by decide) ?_
    exact w_X5_route_21 X E hz sg15 x1 x2 1 r14 hk
theorem s_X5_route {K : KT} {l : Launch} {t n z : Nat} {h0 : AH} {κ : Int → TS → Prop} (hz : kz K ≤ t) {sg : TS} {x1 : Int} {x2 : Int} (hk : P_X5_route κ sg x1 x2) : Ct K l yX5_route (ws_ yX5_route cX5_route 3 (Option.some Jvm.ClassFile.FieldType.int)) 10 241 ([vR (some t), vI x1, vI x2].map cV) (tw t sg h0) n z (tQ t h0 n z κ) noX :=
  ct_of (by decide +kernel) (Nat.le_of_ble_eq_true rfl) (fun Y X E => w_X5_route X E hz hk)
set_option maxHeartbeats 4000000 in
theorem w_X5_told {K : KT} {Y : YT} {Qx : QxT} {t n z : Nat} {h0 : AH} {κ : Int → TS → Prop} (X : XY K "TrailMarkersModel" "told" cX5_told (Option.some Jvm.ClassFile.FieldType.int) [] 4 1 22 Y) (E : YE K Y (tQ t h0 n z κ) Qx) (hz : kz K ≤ t) {sg : TS} {x1 : Nat} {x2 : Int} {x3 : Int} (hk : P_X5_told κ sg x1 x2 x3) : G K Y (tw t sg h0) n z 0 (lv_argsA 0 [vR (some t), vR (some (twAd t x1)), vI x2, vI x3]) [] := by
  show G K Y (tw t sg h0) n z 0 [(0, vR (some t)), (1, vR (some (twAd t x1))), (2, vI x2), (3, vI x3)] []
  refine r_iload_n X (pc := 0) dX5_told_0 rfl (q := 3) rfl ?_
  refine r_iconst X (pc := 1) dX5_told_1 ?_
  refine r_iload_n X (pc := 2) dX5_told_2 rfl (q := 2) rfl ?_
  refine r_iconst X (pc := 3) dX5_told_3 ?_
  refine r_isub X (pc := 4) dX5_told_4 ?_
  refine r_callS X (pc := 5) (As := [vI x3, vI 0, vI (x2 - 1)]) (st := []) m_X5_119 (fun _ => s_X5_isIn hk) ⟨by decide, by decide⟩ (Nat.le_of_ble_eq_true rfl) dX5_told_5 (fun v9 h9 n9 z9 hq => ?_) (fun _ _ _ _ _ hf => hf.elim)
  obtain ⟨r5, rfl, rfl, rfl, rfl, hk⟩ := hq
  refine ⟨[vI r5], rfl, ?_⟩
  obtain ⟨b6, hk⟩ := hk
  refine r_if_eq X (pc := 8) (tgt := 17) dX5_told_8 (by decide) b6 (fun c7 => ?_) (fun c7 => ?_)
  · have hk := hk.1 c7
    refine r_iconst X (pc := 17) dX5_told_17 ?_
    exact r_iret X E (pc := 18) dX5_told_18 rfl ⟨_, rfl, rfl, rfl, _, rfl, hk⟩
  · have hk := hk.2 c7
    refine r_aload_n X (pc := 11) dX5_told_11 rfl (q := 1) rfl ?_
    refine r_iload_n X (pc := 12) dX5_told_12 rfl (q := 3) rfl ?_
    obtain ⟨N8, b9, hk⟩ := hk
    refine r_tiald X (pc := 13) (v := sg.2 x1 x3) b9.1 rfl dX5_told_13 b9.2 ?_
    refine r_goto X (pc := 14) (tgt := 18) dX5_told_14 (by decide) ?_
    exact r_iret X E (pc := 18) dX5_told_18 rfl ⟨_, rfl, rfl, rfl, _, rfl, hk⟩
theorem s_X5_told {K : KT} {l : Launch} {t n z : Nat} {h0 : AH} {κ : Int → TS → Prop} (hz : kz K ≤ t) {sg : TS} {x1 : Nat} {x2 : Int} {x3 : Int} (hk : P_X5_told κ sg x1 x2 x3) : Ct K l yX5_told (ws_ yX5_told cX5_told 4 (Option.some Jvm.ClassFile.FieldType.int)) 1 22 ([vR (some t), vR (some (twAd t x1)), vI x2, vI x3].map cV) (tw t sg h0) n z (tQ t h0 n z κ) noX :=
  ct_of (by decide +kernel) (Nat.le_of_ble_eq_true rfl) (fun Y X E => w_X5_told X E hz hk)
set_option maxHeartbeats 4000000 in
theorem w_X5_routePost {K : KT} {Y : YT} {Qx : QxT} {t n z : Nat} {h0 : AH} {κ : Int → TS → Prop} (X : XY K "TrailMarkersModel" "routePost" cX5_routePost (Option.some Jvm.ClassFile.FieldType.int) [] 3 8 199 Y) (E : YE K Y (tQ t h0 n z κ) Qx) (hz : kz K ≤ t) {sg : TS} {x1 : Int} {x2 : Int} (hk : P_X5_routePost κ sg x1 x2) : G K Y (tw t sg h0) n z 0 (lv_argsA 0 [vR (some t), vI x1, vI x2]) [] := by
  show G K Y (tw t sg h0) n z 0 [(0, vR (some t)), (1, vI x1), (2, vI x2)] []
  refine r_aload_n X (pc := 0) dX5_routePost_0 rfl (q := 0) rfl ?_
  refine r_aload_n X (pc := 1) dX5_routePost_1 rfl (q := 0) rfl ?_
  refine r_iload_n X (pc := 2) dX5_routePost_2 rfl (q := 1) rfl ?_
  refine r_callV X (pc := 3) (As := [vI x1]) (st := [vR (some t)]) rfl rfl rfl (tw_t t _ h0) m_X5_417 (fun _ => s_X5_noPost hz hk) ⟨by decide, by decide⟩ (Nat.le_of_ble_eq_true rfl) dX5_routePost_3 (fun v9 h9 n9 z9 hq => ?_) (fun _ _ _ _ _ hf => hf.elim)
  obtain ⟨r7, rfl, rfl, rfl, sg8, rfl, hk⟩ := hq
  refine ⟨[vI r7], rfl, ?_⟩
  refine r_iconst X (pc := 6) dX5_routePost_6 ?_
  refine r_iconst X (pc := 7) dX5_routePost_7 ?_
  refine r_callV X (pc := 8) (As := [vI r7, vI 0, vI 0]) (st := []) rfl rfl rfl (tw_t t _ h0) m_X5_258 (fun _ => s_X5_fails hz hk) ⟨by decide, by decide⟩ (Nat.le_of_ble_eq_true rfl) dX5_routePost_8 (fun v9 h9 n9 z9 hq => ?_) (fun _ _ _ _ _ hf => hf.elim)
  obtain ⟨r9, rfl, rfl, rfl, sg10, rfl, hk⟩ := hq
  refine ⟨[vI r9], rfl, ?_⟩
  obtain ⟨b11, hk⟩ := hk
  refine r_if_eq X (pc := 11) (tgt := 16) dX5_routePost_11 (by decide) b11 (fun c12 => ?_) (fun c12 => ?_)
  · have hk := hk.1 c12
    refine r_aload_n X (pc := 16) dX5_routePost_16 rfl (q := 0) rfl ?_
    refine r_iload_n X (pc := 17) dX5_routePost_17 rfl (q := 1) rfl ?_
    refine r_callV X (pc := 18) (As := [vI x1]) (st := []) rfl rfl rfl (tw_t t _ h0) m_X5_243 (fun _ => s_X5_walk hz hk) ⟨by decide, by decide⟩ (Nat.le_of_ble_eq_true rfl) dX5_routePost_18 (fun v9 h9 n9 z9 hq => ?_) (fun _ _ _ _ _ hf => hf.elim)
    obtain ⟨rfl, rfl, rfl, sg13, rfl, hk⟩ := hq
    refine ⟨[], rfl, ?_⟩
    refine r_aload_n X (pc := 21) dX5_routePost_21 rfl (q := 0) rfl ?_
    refine r_aload_n X (pc := 22) dX5_routePost_22 rfl (q := 0) rfl ?_
    refine r_tgR X (pc := 23) (ty := 0) (N := 25) fa_X5_42 rfl (by decide) dX5_routePost_23 ?_
    refine r_aload_n X (pc := 26) dX5_routePost_26 rfl (q := 0) rfl ?_
    refine r_tgI X (pc := 27) (v := sg13.1 32) fa_X5_208 (by decide) rfl dX5_routePost_27 ?_
    refine r_iload_n X (pc := 30) dX5_routePost_30 rfl (q := 2) rfl ?_
    refine r_callV X (pc := 31) (As := [vR (some (twAd t 25)), vI (sg13.1 32), vI x2]) (st := []) rfl rfl rfl (tw_t t _ h0) m_X5_444 (fun _ => s_X5_told hz hk) ⟨by decide, by decide⟩ (Nat.le_of_ble_eq_true rfl) dX5_routePost_31 (fun v9 h9 n9 z9 hq => ?_) (fun _ _ _ _ _ hf => hf.elim)
    obtain ⟨r14, rfl, rfl, rfl, sg15, rfl, hk⟩ := hq
    refine ⟨[vI r14], rfl, ?_⟩
    exact r_iret X E (pc := 34) dX5_routePost_34 rfl ⟨_, rfl, rfl, rfl, _, rfl, hk⟩
  · have hk := hk.2 c12
    refine r_iconst X (pc := 14) dX5_routePost_14 ?_
    exact r_iret X E (pc := 15) dX5_routePost_15 rfl ⟨_, rfl, rfl, rfl, _, rfl, hk⟩
theorem s_X5_routePost {K : KT} {l : Launch} {t n z : Nat} {h0 : AH} {κ : Int → TS → Prop} (hz : kz K ≤ t) {sg : TS} {x1 : Int} {x2 : Int} (hk : P_X5_routePost κ sg x1 x2) : Ct K l yX5_routePost (ws_ yX5_routePost cX5_routePost 3 (Option.some Jvm.ClassFile.FieldType.int)) 8 199 ([vR (some t), vI x1, vI x2].map cV) (tw t sg h0) n z (tQ t h0 n z κ) noX :=
  ct_of (by decide +kernel) (Nat.le_of_ble_eq_true rfl) (fun Y X E => w_X5_routePost X E hz hk)
set_option maxHeartbeats 4000000 in
theorem w_X5_routeCell {K : KT} {Y : YT} {Qx : QxT} {t n z : Nat} {h0 : AH} {κ : Int → TS → Prop} (X : XY K "TrailMarkersModel" "routeCell" cX5_routeCell (Option.some Jvm.ClassFile.FieldType.int) [] 3 8 199 Y) (E : YE K Y (tQ t h0 n z κ) Qx) (hz : kz K ≤ t) {sg : TS} {x1 : Int} {x2 : Int} (hk : P_X5_routeCell κ sg x1 x2) : G K Y (tw t sg h0) n z 0 (lv_argsA 0 [vR (some t), vI x1, vI x2]) [] := by
  show G K Y (tw t sg h0) n z 0 [(0, vR (some t)), (1, vI x1), (2, vI x2)] []
  refine r_aload_n X (pc := 0) dX5_routeCell_0 rfl (q := 0) rfl ?_
  refine r_aload_n X (pc := 1) dX5_routeCell_1 rfl (q := 0) rfl ?_
  refine r_iload_n X (pc := 2) dX5_routeCell_2 rfl (q := 1) rfl ?_
  refine r_callV X (pc := 3) (As := [vI x1]) (st := [vR (some t)]) rfl rfl rfl (tw_t t _ h0) m_X5_417 (fun _ => s_X5_noPost hz hk) ⟨by decide, by decide⟩ (Nat.le_of_ble_eq_true rfl) dX5_routeCell_3 (fun v9 h9 n9 z9 hq => ?_) (fun _ _ _ _ _ hf => hf.elim)
  obtain ⟨r7, rfl, rfl, rfl, sg8, rfl, hk⟩ := hq
  refine ⟨[vI r7], rfl, ?_⟩
  refine r_iconst X (pc := 6) dX5_routeCell_6 ?_
  refine r_iconst X (pc := 7) dX5_routeCell_7 ?_
  refine r_callV X (pc := 8) (As := [vI r7, vI 0, vI 0]) (st := []) rfl rfl rfl (tw_t t _ h0) m_X5_258 (fun _ => s_X5_fails hz hk) ⟨by decide, by decide⟩ (Nat.le_of_ble_eq_true rfl) dX5_routeCell_8 (fun v9 h9 n9 z9 hq => ?_) (fun _ _ _ _ _ hf => hf.elim)
  obtain ⟨r9, rfl, rfl, rfl, sg10, rfl, hk⟩ := hq
  refine ⟨[vI r9], rfl, ?_⟩
  obtain ⟨b11, hk⟩ := hk
  refine r_if_eq X (pc := 11) (tgt := 16) dX5_routeCell_11 (by decide) b11 (fun c12 => ?_) (fun c12 => ?_)
  · have hk := hk.1 c12
    refine r_aload_n X (pc := 16) dX5_routeCell_16 rfl (q := 0) rfl ?_
    refine r_iload_n X (pc := 17) dX5_routeCell_17 rfl (q := 1) rfl ?_
    refine r_callV X (pc := 18) (As := [vI x1]) (st := []) rfl rfl rfl (tw_t t _ h0) m_X5_243 (fun _ => s_X5_walk hz hk) ⟨by decide, by decide⟩ (Nat.le_of_ble_eq_true rfl) dX5_routeCell_18 (fun v9 h9 n9 z9 hq => ?_) (fun _ _ _ _ _ hf => hf.elim)
    obtain ⟨rfl, rfl, rfl, sg13, rfl, hk⟩ := hq
    refine ⟨[], rfl, ?_⟩
    refine r_aload_n X (pc := 21) dX5_routeCell_21 rfl (q := 0) rfl ?_
    refine r_aload_n X (pc := 22) dX5_routeCell_22 rfl (q := 0) rfl ?_
    refine r_tgR X (pc := 23) (ty := 0) (N := 1000) fa_X5_45 rfl (by decide) dX5_routeCell_23 ?_
    refine r_aload_n X (pc := 26) dX5_routeCell_26 rfl (q := 0) rfl ?_
    refine r_tgI X (pc := 27) (v := sg13.1 33) fa_X5_199 (by decide) rfl dX5_routeCell_27 ?_
    refine r_iload_n X (pc := 30) dX5_routeCell_30 rfl (q := 2) rfl ?_
    refine r_callV X (pc := 31) (As := [vR (some (twAd t 26)), vI (sg13.1 33), vI x2]) (st := []) rfl rfl rfl (tw_t t _ h0) m_X5_444 (fun _ => s_X5_told hz hk) ⟨by decide, by decide⟩ (Nat.le_of_ble_eq_true rfl) dX5_routeCell_31 (fun v9 h9 n9 z9 hq => ?_) (fun _ _ _ _ _ hf => hf.elim)
    obtain ⟨r14, rfl, rfl, rfl, sg15, rfl, hk⟩ := hq
    refine ⟨[vI r14], rfl, ?_⟩
    exact r_iret X E (pc := 34) dX5_routeCell_34 rfl ⟨_, rfl, rfl, rfl, _, rfl, hk⟩
  · have hk := hk.2 c12
    refine r_iconst X (pc := 14) dX5_routeCell_14 ?_
    exact r_iret X E (pc := 15) dX5_routeCell_15 rfl ⟨_, rfl, rfl, rfl, _, rfl, hk⟩
theorem s_X5_routeCell {K : KT} {l : Launch} {t n z : Nat} {h0 : AH} {κ : Int → TS → Prop} (hz : kz K ≤ t) {sg : TS} {x1 : Int} {x2 : Int} (hk : P_X5_routeCell κ sg x1 x2) : Ct K l yX5_routeCell (ws_ yX5_routeCell cX5_routeCell 3 (Option.some Jvm.ClassFile.FieldType.int)) 8 199 ([vR (some t), vI x1, vI x2].map cV) (tw t sg h0) n z (tQ t h0 n z κ) noX :=
  ct_of (by decide +kernel) (Nat.le_of_ble_eq_true rfl) (fun Y X E => w_X5_routeCell X E hz hk)
set_option maxHeartbeats 4000000 in
theorem w_X5_inferred {K : KT} {Y : YT} {Qx : QxT} {t n z : Nat} {h0 : AH} {κ : Int → TS → Prop} (X : XY K "TrailMarkersModel" "inferred" cX5_inferred (Option.some Jvm.ClassFile.FieldType.int) [] 3 8 199 Y) (E : YE K Y (tQ t h0 n z κ) Qx) (hz : kz K ≤ t) {sg : TS} {x1 : Int} {x2 : Int} (hk : P_X5_inferred κ sg x1 x2) : G K Y (tw t sg h0) n z 0 (lv_argsA 0 [vR (some t), vI x1, vI x2]) [] := by
  show G K Y (tw t sg h0) n z 0 [(0, vR (some t)), (1, vI x1), (2, vI x2)] []
  refine r_aload_n X (pc := 0) dX5_inferred_0 rfl (q := 0) rfl ?_
  refine r_aload_n X (pc := 1) dX5_inferred_1 rfl (q := 0) rfl ?_
  refine r_iload_n X (pc := 2) dX5_inferred_2 rfl (q := 1) rfl ?_
  refine r_callV X (pc := 3) (As := [vI x1]) (st := [vR (some t)]) rfl rfl rfl (tw_t t _ h0) m_X5_417 (fun _ => s_X5_noPost hz hk) ⟨by decide, by decide⟩ (Nat.le_of_ble_eq_true rfl) dX5_inferred_3 (fun v9 h9 n9 z9 hq => ?_) (fun _ _ _ _ _ hf => hf.elim)
  obtain ⟨r7, rfl, rfl, rfl, sg8, rfl, hk⟩ := hq
  refine ⟨[vI r7], rfl, ?_⟩
  refine r_iconst X (pc := 6) dX5_inferred_6 ?_
  refine r_iconst X (pc := 7) dX5_inferred_7 ?_
  refine r_callV X (pc := 8) (As := [vI r7, vI 0, vI 0]) (st := []) rfl rfl rfl (tw_t t _ h0) m_X5_258 (fun _ => s_X5_fails hz hk) ⟨by decide, by decide⟩ (Nat.le_of_ble_eq_true rfl) dX5_inferred_8 (fun v9 h9 n9 z9 hq => ?_) (fun _ _ _ _ _ hf => hf.elim)
  obtain ⟨r9, rfl, rfl, rfl, sg10, rfl, hk⟩ := hq
  refine ⟨[vI r9], rfl, ?_⟩
  obtain ⟨b11, hk⟩ := hk
  refine r_if_eq X (pc := 11) (tgt := 16) dX5_inferred_11 (by decide) b11 (fun c12 => ?_) (fun c12 => ?_)
  · have hk := hk.1 c12
    refine r_aload_n X (pc := 16) dX5_inferred_16 rfl (q := 0) rfl ?_
    refine r_iload_n X (pc := 17) dX5_inferred_17 rfl (q := 1) rfl ?_
    refine r_callV X (pc := 18) (As := [vI x1]) (st := []) rfl rfl rfl (tw_t t _ h0) m_X5_243 (fun _ => s_X5_walk hz hk) ⟨by decide, by decide⟩ (Nat.le_of_ble_eq_true rfl) dX5_inferred_18 (fun v9 h9 n9 z9 hq => ?_) (fun _ _ _ _ _ hf => hf.elim)
    obtain ⟨rfl, rfl, rfl, sg13, rfl, hk⟩ := hq
    refine ⟨[], rfl, ?_⟩
    refine r_aload_n X (pc := 21) dX5_inferred_21 rfl (q := 0) rfl ?_
    refine r_aload_n X (pc := 22) dX5_inferred_22 rfl (q := 0) rfl ?_
    refine r_tgR X (pc := 23) (ty := 0) (N := 60) fa_X5_54 rfl (by decide) dX5_inferred_23 ?_
    refine r_aload_n X (pc := 26) dX5_inferred_26 rfl (q := 0) rfl ?_
    refine r_tgI X (pc := 27) (v := sg13.1 35) fa_X5_205 (by decide) rfl dX5_inferred_27 ?_
    refine r_iload_n X (pc := 30) dX5_inferred_30 rfl (q := 2) rfl ?_
    refine r_callV X (pc := 31) (As := [vR (some (twAd t 29)), vI (sg13.1 35), vI x2]) (st := []) rfl rfl rfl (tw_t t _ h0) m_X5_444 (fun _ => s_X5_told hz hk) ⟨by decide, by decide⟩ (Nat.le_of_ble_eq_true rfl) dX5_inferred_31 (fun v9 h9 n9 z9 hq => ?_) (fun _ _ _ _ _ hf => hf.elim)
    obtain ⟨r14, rfl, rfl, rfl, sg15, rfl, hk⟩ := hq
    refine ⟨[vI r14], rfl, ?_⟩
    exact r_iret X E (pc := 34) dX5_inferred_34 rfl ⟨_, rfl, rfl, rfl, _, rfl, hk⟩
  · have hk := hk.2 c12
    refine r_iconst X (pc := 14) dX5_inferred_14 ?_
    exact r_iret X E (pc := 15) dX5_inferred_15 rfl ⟨_, rfl, rfl, rfl, _, rfl, hk⟩
theorem s_X5_inferred {K : KT} {l : Launch} {t n z : Nat} {h0 : AH} {κ : Int → TS → Prop} (hz : kz K ≤ t) {sg : TS} {x1 : Int} {x2 : Int} (hk : P_X5_inferred κ sg x1 x2) : Ct K l yX5_inferred (ws_ yX5_inferred cX5_inferred 3 (Option.some Jvm.ClassFile.FieldType.int)) 8 199 ([vR (some t), vI x1, vI x2].map cV) (tw t sg h0) n z (tQ t h0 n z κ) noX :=
  ct_of (by decide +kernel) (Nat.le_of_ble_eq_true rfl) (fun Y X E => w_X5_inferred X E hz hk)
set_option maxHeartbeats 4000000 in
theorem w_X5_marks_11 {K : KT} {Y : YT} {Qx : QxT} {t n z : Nat} {h0 : AH} {κ : TS → Prop} (X : XY K "TrailMarkersModel" "marks" cX5_marks (Option.none : Option Jvm.ClassFile.FieldType) [] 4 8 199 Y) (E : YE K Y (tQv t h0 n z κ) Qx) (hz : kz K ≤ t) {k_28 : TS → Nat → Prop} (H_28 : ∀ (sg : TS) (x1 : Nat), k_28 sg x1 → G K Y (tw t sg h0) n z 28 [(0, vR (some t)), (1, vR (some (twAd t x1)))] []) : ∀ (f : Nat) (sg : TS) (x1 : Nat) (x3 : Int), L_X5_marks_11 k_28 κ f sg x1 x3 → G K Y (tw t sg h0) n z 11 [(0, vR (some t)), (1, vR (some (twAd t x1))), (3, vI x3)] [] := by
  intro f
  induction f with
  | zero => intro sg x1 x3 hk; exact hk.elim
  | succ f ih =>
    intro sg x1 x3 hk
    refine r_iload_n X (pc := 11) dX5_marks_11 rfl (q := 2) rfl ?_
    refine r_sipush X (pc := 12) dX5_marks_12 (by decide) ?_
    obtain ⟨b13, hk⟩ := hk
    refine r_icmp_ge X (pc := 15) (tgt := 28) dX5_marks_15 (by decide) ⟨b13, (by decide)⟩ (fun c14 => ?_) (fun c14 => ?_)
    · have hk := hk.2 c14
      refine G.sub [0, 1] rfl ?_
      exact H_28 sg x1 hk
    · have hk := hk.1 c14
      refine r_aload_n X (pc := 18) dX5_marks_18 rfl (q := 1) rfl ?_
      refine r_iload_n X (pc := 19) dX5_marks_19 rfl (q := 2) rfl ?_
      refine r_iconst X (pc := 20) dX5_marks_20 ?_
      obtain ⟨N15, b16, hk⟩ := hk
      refine r_tzast X (pc := 21) hz b16.1 (Or.inl rfl) dX5_marks_21 b16.2 ?_
      refine r_iinc X (pc := 22) (q := 2) (lv1 := [(3, vI (x3 + 1)), (0, vR (some t)), (1, vR (some (twAd t x1)))]) dX5_marks_22 rfl (by decide) rfl ?_
      refine r_goto X (pc := 25) (tgt := 11) dX5_marks_25 (by decide) ?_
      refine G.sub [1, 2, 0] rfl ?_
      exact ih (setA sg x1 (uI (sg.2 x1) x3 0)) x1 (x3 + 1) hk
set_option maxHeartbeats 4000000 in
theorem w_X5_marks_30 {K : KT} {Y : YT} {Qx : QxT} {t n z : Nat} {h0 : AH} {κ : TS → Prop} (X : XY K "TrailMarkersModel" "marks" cX5_marks (Option.none : Option Jvm.ClassFile.FieldType) [] 4 8 199 Y) (E : YE K Y (tQv t h0 n z κ) Qx) (hz : kz K ≤ t) {k_53 : TS → Prop} (H_53 : ∀ (sg : TS), k_53 sg → G K Y (tw t sg h0) n z 53 [(0, vR (some t))] []) : ∀ (f : Nat) (sg : TS) (x1 : Nat) (x3 : Int), L_X5_marks_30 k_53 κ f sg x1 x3 → G K Y (tw t sg h0) n z 30 [(0, vR (some t)), (1, vR (some (twAd t x1))), (3, vI x3)] [] := by
  intro f
  induction f with
  | zero => intro sg x1 x3 hk; exact hk.elim
  | succ f ih =>
    intro sg x1 x3 hk
    refine r_iload_n X (pc := 30) dX5_marks_30 rfl (q := 2) rfl ?_
    refine r_aload_n X (pc := 31) dX5_marks_31 rfl (q := 0) rfl ?_
    refine r_tgI X (pc := 32) (v := sg.1 33) fa_X5_199 (by decide) rfl dX5_marks_32 ?_
    obtain ⟨b17, b18, hk⟩ := hk
    refine r_icmp_ge X (pc := 35) (tgt := 53) dX5_marks_35 (by decide) ⟨b17, b18⟩ (fun c19 => ?_) (fun c19 => ?_)
    · have hk := hk.2 c19
      refine G.sub [0] rfl ?_
      exact H_53 sg hk
    · have hk := hk.1 c19
      refine r_aload_n X (pc := 38) dX5_marks_38 rfl (q := 1) rfl ?_
      refine r_aload_n X (pc := 39) dX5_marks_39 rfl (q := 0) rfl ?_
      refine r_tgR X (pc := 40) (ty := 0) (N := 1000) fa_X5_45 rfl (by decide) dX5_marks_40 ?_
      refine r_iload_n X (pc := 43) dX5_marks_43 rfl (q := 2) rfl ?_
      obtain ⟨b20, hk⟩ := hk
      refine r_tiald X (pc := 44) (v := sg.2 26 x3) (N := 1000) rfl rfl dX5_marks_44 b20 ?_
      refine r_iconst X (pc := 45) dX5_marks_45 ?_
      obtain ⟨N21, b22, hk⟩ := hk
      refine r_tzast X (pc := 46) hz b22.1 (Or.inr rfl) dX5_marks_46 b22.2 ?_
      refine r_iinc X (pc := 47) (q := 2) (lv1 := [(3, vI (x3 + 1)), (0, vR (some t)), (1, vR (some (twAd t x1)))]) dX5_marks_47 rfl (by decide) rfl ?_
      refine r_goto X (pc := 50) (tgt := 30) dX5_marks_50 (by decide) ?_
      refine G.sub [1, 2, 0] rfl ?_
      exact ih (setA sg x1 (uI (sg.2 x1) (sg.2 26 x3) 1)) x1 (x3 + 1) hk
set_option maxHeartbeats 4000000 in
theorem w_X5_marks_53 {K : KT} {Y : YT} {Qx : QxT} {t n z : Nat} {h0 : AH} {κ : TS → Prop} (X : XY K "TrailMarkersModel" "marks" cX5_marks (Option.none : Option Jvm.ClassFile.FieldType) [] 4 8 199 Y) (E : YE K Y (tQv t h0 n z κ) Qx) (hz : kz K ≤ t) : ∀ (sg : TS), P_X5_marks_53 κ sg → G K Y (tw t sg h0) n z 53 [(0, vR (some t))] [] := by
  intro sg hk
  exact r_vret X E (pc := 53) dX5_marks_53 ⟨rfl, rfl, rfl, _, rfl, hk⟩
set_option maxHeartbeats 4000000 in
theorem w_X5_marks_28 {K : KT} {Y : YT} {Qx : QxT} {t n z : Nat} {h0 : AH} {κ : TS → Prop} (X : XY K "TrailMarkersModel" "marks" cX5_marks (Option.none : Option Jvm.ClassFile.FieldType) [] 4 8 199 Y) (E : YE K Y (tQv t h0 n z κ) Qx) (hz : kz K ≤ t) : ∀ (sg : TS) (x1 : Nat), P_X5_marks_28 κ sg x1 → G K Y (tw t sg h0) n z 28 [(0, vR (some t)), (1, vR (some (twAd t x1)))] [] := by
  intro sg x1 hk
  refine r_iconst X (pc := 28) dX5_marks_28 ?_
  refine r_istore_n X (pc := 29) (lv1 := [(3, vI 0), (0, vR (some t)), (1, vR (some (twAd t x1)))]) dX5_marks_29 rfl (by decide) rfl ?_
  refine G.sub [1, 2, 0] rfl ?_
  have HH23 : ∀ (sg : TS), (P_X5_marks_53 κ sg) → G K Y (tw t sg h0) n z 53 [(0, vR (some t))] [] := by
      intro sg hk
      exact w_X5_marks_53 X E hz sg hk
  obtain ⟨f9, hk⟩ := hk
  exact w_X5_marks_30 X E hz HH23 f9 sg x1 0 hk
set_option maxHeartbeats 4000000 in
theorem w_X5_marks {K : KT} {Y : YT} {Qx : QxT} {t n z : Nat} {h0 : AH} {κ : TS → Prop} (X : XY K "TrailMarkersModel" "marks" cX5_marks (Option.none : Option Jvm.ClassFile.FieldType) [] 4 8 199 Y) (E : YE K Y (tQv t h0 n z κ) Qx) (hz : kz K ≤ t) {sg : TS} {x1 : Nat} {x2 : Int} (hk : P_X5_marks κ sg x1 x2) : G K Y (tw t sg h0) n z 0 (lv_argsA 0 [vR (some t), vR (some (twAd t x1)), vI x2]) [] := by
  show G K Y (tw t sg h0) n z 0 [(0, vR (some t)), (1, vR (some (twAd t x1))), (2, vI x2)] []
  refine r_aload_n X (pc := 0) dX5_marks_0 rfl (q := 0) rfl ?_
  refine r_aload_n X (pc := 1) dX5_marks_1 rfl (q := 0) rfl ?_
  refine r_iload_n X (pc := 2) dX5_marks_2 rfl (q := 2) rfl ?_
  refine r_callV X (pc := 3) (As := [vI x2]) (st := [vR (some t)]) rfl rfl rfl (tw_t t _ h0) m_X5_249 (fun _ => s_X5_begin hz hk) ⟨by decide, by decide⟩ (Nat.le_of_ble_eq_true rfl) dX5_marks_3 (fun v9 h9 n9 z9 hq => ?_) (fun _ _ _ _ _ hf => hf.elim)
  obtain ⟨r24, rfl, rfl, rfl, sg25, rfl, hk⟩ := hq
  refine ⟨[vI r24], rfl, ?_⟩
  refine r_callV X (pc := 6) (As := [vI r24]) (st := []) rfl rfl rfl (tw_t t _ h0) m_X5_243 (fun _ => s_X5_walk hz hk) ⟨by decide, by decide⟩ (Nat.le_of_ble_eq_true rfl) dX5_marks_6 (fun v9 h9 n9 z9 hq => ?_) (fun _ _ _ _ _ hf => hf.elim)
  obtain ⟨rfl, rfl, rfl, sg26, rfl, hk⟩ := hq
  refine ⟨[], rfl, ?_⟩
  refine r_iconst X (pc := 9) dX5_marks_9 ?_
  refine r_istore_n X (pc := 10) (lv1 := [(3, vI 0), (0, vR (some t)), (1, vR (some (twAd t x1))), (2, vI x2)]) dX5_marks_10 rfl (by decide) rfl ?_
  refine G.sub [1, 2, 0] rfl ?_
  have HH27 : ∀ (sg : TS) (x1 : Nat), (P_X5_marks_28 κ sg x1) → G K Y (tw t sg h0) n z 28 [(0, vR (some t)), (1, vR (some (twAd t x1)))] [] := by
      intro sg x1 hk
      exact w_X5_marks_28 X E hz sg x1 hk
  obtain ⟨f9, hk⟩ := hk
  exact w_X5_marks_11 X E hz HH27 f9 sg26 x1 0 hk
theorem s_X5_marks {K : KT} {l : Launch} {t n z : Nat} {h0 : AH} {κ : TS → Prop} (hz : kz K ≤ t) {sg : TS} {x1 : Nat} {x2 : Int} (hk : P_X5_marks κ sg x1 x2) : Ct K l yX5_marks (ws_ yX5_marks cX5_marks 4 (Option.none : Option Jvm.ClassFile.FieldType)) 8 199 ([vR (some t), vR (some (twAd t x1)), vI x2].map cV) (tw t sg h0) n z (tQv t h0 n z κ) noX :=
  ct_of (by decide +kernel) (Nat.le_of_ble_eq_true rfl) (fun Y X E => w_X5_marks X E hz hk)
set_option maxHeartbeats 4000000 in
theorem w_X5_shared_53 {K : KT} {Y : YT} {Qx : QxT} {t n z : Nat} {h0 : AH} {κ : Int → TS → Prop} (X : XY K "TrailMarkersModel" "shared" cX5_shared (Option.some Jvm.ClassFile.FieldType.int) [] 5 9 222 Y) (E : YE K Y (tQ t h0 n z κ) Qx) (hz : kz K ≤ t) {k_90 : TS → Int → Prop} (H_90 : ∀ (sg : TS) (x3 : Int), k_90 sg x3 → G K Y (tw t sg h0) n z 90 [(0, vR (some t)), (3, vI x3)] []) : ∀ (f : Nat) (sg : TS) (x3 : Int) (x4 : Int), L_X5_shared_53 k_90 κ f sg x3 x4 → G K Y (tw t sg h0) n z 53 [(0, vR (some t)), (3, vI x3), (4, vI x4)] [] := by
  intro f
  induction f with
  | zero => intro sg x3 x4 hk; exact hk.elim
  | succ f ih =>
    intro sg x3 x4 hk
    refine r_iload X (pc := 53) dX5_shared_53 (q := 2) rfl ?_
    refine r_sipush X (pc := 55) dX5_shared_55 (by decide) ?_
    obtain ⟨b18, hk⟩ := hk
    refine r_icmp_ge X (pc := 58) (tgt := 90) dX5_shared_58 (by decide) ⟨b18, (by decide)⟩ (fun c19 => ?_) (fun c19 => ?_)
    · have hk := hk.2 c19
      refine G.sub [0, 1] rfl ?_
      exact H_90 sg x3 hk
    · have hk := hk.1 c19
      refine r_aload_n X (pc := 61) dX5_shared_61 rfl (q := 0) rfl ?_
      refine r_tgR X (pc := 62) (ty := 2) (N := 2000) fa_X5_75 rfl (by decide) dX5_shared_62 ?_
      refine r_iload X (pc := 65) dX5_shared_65 (q := 2) rfl ?_
      obtain ⟨b20, hk⟩ := hk
      refine r_tzald X (pc := 67) (v := sg.2 51 x4) (N := 2000) rfl rfl dX5_shared_67 b20 ?_
      obtain ⟨b21, hk⟩ := hk
      refine r_if_eq X (pc := 68) (tgt := 84) dX5_shared_68 (by decide) b21 (fun c22 => ?_) (fun c22 => ?_)
      · have hk := hk.1 c22
        refine r_iinc X (pc := 84) (q := 2) (lv1 := [(4, vI (x4 + 1)), (0, vR (some t)), (3, vI x3)]) dX5_shared_84 rfl (by decide) rfl ?_
        refine r_goto X (pc := 87) (tgt := 53) dX5_shared_87 (by decide) ?_
        refine G.sub [1, 2, 0] rfl ?_
        exact ih sg x3 (x4 + 1) hk
      · have hk := hk.2 c22
        refine r_aload_n X (pc := 71) dX5_shared_71 rfl (q := 0) rfl ?_
        refine r_tgR X (pc := 72) (ty := 2) (N := 2000) fa_X5_78 rfl (by decide) dX5_shared_72 ?_
        refine r_iload X (pc := 75) dX5_shared_75 (q := 2) rfl ?_
        refine r_tzald X (pc := 77) (v := sg.2 52 x4) (N := 2000) rfl rfl dX5_shared_77 b20 ?_
        obtain ⟨b23, hk⟩ := hk
        refine r_if_eq X (pc := 78) (tgt := 84) dX5_shared_78 (by decide) b23 (fun c24 => ?_) (fun c24 => ?_)
        · have hk := hk.1 c24
          refine r_iinc X (pc := 84) (q := 2) (lv1 := [(4, vI (x4 + 1)), (0, vR (some t)), (3, vI x3)]) dX5_shared_84 rfl (by decide) rfl ?_
          refine r_goto X (pc := 87) (tgt := 53) dX5_shared_87 (by decide) ?_
          refine G.sub [1, 2, 0] rfl ?_
          exact ih sg x3 (x4 + 1) hk
        · have hk := hk.2 c24
          refine r_iinc X (pc := 81) (q := 1) (lv1 := [(3, vI (x3 + 1)), (0, vR (some t)), (4, vI x4)]) dX5_shared_81 rfl (by decide) rfl ?_
          refine r_iinc X (pc := 84) (q := 2) (lv1 := [(4, vI (x4 + 1)), (3, vI (x3 + 1)), (0, vR (some t))]) dX5_shared_84 rfl (by decide) rfl ?_
          refine r_goto X (pc := 87) (tgt := 53) dX5_shared_87 (by decide) ?_
          refine G.sub [2, 1, 0] rfl ?_
          exact ih sg (x3 + 1) (x4 + 1) hk
set_option maxHeartbeats 4000000 in
theorem w_X5_shared_90 {K : KT} {Y : YT} {Qx : QxT} {t n z : Nat} {h0 : AH} {κ : Int → TS → Prop} (X : XY K "TrailMarkersModel" "shared" cX5_shared (Option.some Jvm.ClassFile.FieldType.int) [] 5 9 222 Y) (E : YE K Y (tQ t h0 n z κ) Qx) (hz : kz K ≤ t) : ∀ (sg : TS) (x3 : Int), P_X5_shared_90 κ sg x3 → G K Y (tw t sg h0) n z 90 [(0, vR (some t)), (3, vI x3)] [] := by
  intro sg x3 hk
  refine r_iload_n X (pc := 90) dX5_shared_90 rfl (q := 1) rfl ?_
  exact r_iret X E (pc := 91) dX5_shared_91 rfl ⟨_, rfl, rfl, rfl, _, rfl, hk⟩
set_option maxHeartbeats 4000000 in
theorem w_X5_shared_20 {K : KT} {Y : YT} {Qx : QxT} {t n z : Nat} {h0 : AH} {κ : Int → TS → Prop} (X : XY K "TrailMarkersModel" "shared" cX5_shared (Option.some Jvm.ClassFile.FieldType.int) [] 5 9 222 Y) (E : YE K Y (tQ t h0 n z κ) Qx) (hz : kz K ≤ t) : ∀ (sg : TS) (x1 : Int) (x2 : Int) (s0 : Int), P_X5_shared_20 κ sg x1 x2 s0 → G K Y (tw t sg h0) n z 20 [(0, vR (some t)), (1, vI x1), (2, vI x2)] [vI s0, vR (some t)] := by
  intro sg x1 x2 s0 hk
  refine r_iconst X (pc := 20) dX5_shared_20 ?_
  refine r_iconst X (pc := 21) dX5_shared_21 ?_
  refine r_callV X (pc := 22) (As := [vI s0, vI 0, vI 0]) (st := []) rfl rfl rfl (tw_t t _ h0) m_X5_258 (fun _ => s_X5_fails hz hk) ⟨by decide, by decide⟩ (Nat.le_of_ble_eq_true rfl) dX5_shared_22 (fun v9 h9 n9 z9 hq => ?_) (fun _ _ _ _ _ hf => hf.elim)
  obtain ⟨r25, rfl, rfl, rfl, sg26, rfl, hk⟩ := hq
  refine ⟨[vI r25], rfl, ?_⟩
  obtain ⟨b27, hk⟩ := hk
  refine r_if_eq X (pc := 25) (tgt := 30) dX5_shared_25 (by decide) b27 (fun c28 => ?_) (fun c28 => ?_)
  · have hk := hk.1 c28
    refine r_aload_n X (pc := 30) dX5_shared_30 rfl (q := 0) rfl ?_
    refine r_aload_n X (pc := 31) dX5_shared_31 rfl (q := 0) rfl ?_
    refine r_tgR X (pc := 32) (ty := 2) (N := 2000) fa_X5_75 rfl (by decide) dX5_shared_32 ?_
    refine r_iload_n X (pc := 35) dX5_shared_35 rfl (q := 1) rfl ?_
    refine r_callV X (pc := 36) (As := [vR (some (twAd t 51)), vI x1]) (st := []) rfl rfl rfl (tw_t t _ h0) m_X5_448 (fun _ => s_X5_marks hz hk) ⟨by decide, by decide⟩ (Nat.le_of_ble_eq_true rfl) dX5_shared_36 (fun v9 h9 n9 z9 hq => ?_) (fun _ _ _ _ _ hf => hf.elim)
    obtain ⟨rfl, rfl, rfl, sg29, rfl, hk⟩ := hq
    refine ⟨[], rfl, ?_⟩
    refine r_aload_n X (pc := 39) dX5_shared_39 rfl (q := 0) rfl ?_
    refine r_aload_n X (pc := 40) dX5_shared_40 rfl (q := 0) rfl ?_
    refine r_tgR X (pc := 41) (ty := 2) (N := 2000) fa_X5_78 rfl (by decide) dX5_shared_41 ?_
    refine r_iload_n X (pc := 44) dX5_shared_44 rfl (q := 2) rfl ?_
    refine r_callV X (pc := 45) (As := [vR (some (twAd t 52)), vI x2]) (st := []) rfl rfl rfl (tw_t t _ h0) m_X5_448 (fun _ => s_X5_marks hz hk) ⟨by decide, by decide⟩ (Nat.le_of_ble_eq_true rfl) dX5_shared_45 (fun v9 h9 n9 z9 hq => ?_) (fun _ _ _ _ _ hf => hf.elim)
    obtain ⟨rfl, rfl, rfl, sg30, rfl, hk⟩ := hq
    refine ⟨[], rfl, ?_⟩
    refine r_iconst X (pc := 48) dX5_shared_48 ?_
    refine r_istore_n X (pc := 49) (lv1 := [(3, vI 0), (0, vR (some t)), (1, vI x1), (2, vI x2)]) dX5_shared_49 rfl (by decide) rfl ?_
    refine r_iconst X (pc := 50) dX5_shared_50 ?_
    refine r_istore X (pc := 51) (lv1 := [(4, vI 0), (3, vI 0), (0, vR (some t)), (1, vI x1), (2, vI x2)]) dX5_shared_51 (by decide) rfl ?_
    refine G.sub [2, 1, 0] rfl ?_
    have HH31 : ∀ (sg : TS) (x3 : Int), (P_X5_shared_90 κ sg x3) → G K Y (tw t sg h0) n z 90 [(0, vR (some t)), (3, vI x3)] [] := by
        intro sg x3 hk
        exact w_X5_shared_90 X E hz sg x3 hk
    obtain ⟨f9, hk⟩ := hk
    exact w_X5_shared_53 X E hz HH31 f9 sg30 0 0 hk
  · have hk := hk.2 c28
    refine r_iconst X (pc := 28) dX5_shared_28 ?_
    exact r_iret X E (pc := 29) dX5_shared_29 rfl ⟨_, rfl, rfl, rfl, _, rfl, hk⟩
set_option maxHeartbeats 4000000 in
theorem w_X5_shared {K : KT} {Y : YT} {Qx : QxT} {t n z : Nat} {h0 : AH} {κ : Int → TS → Prop} (X : XY K "TrailMarkersModel" "shared" cX5_shared (Option.some Jvm.ClassFile.FieldType.int) [] 5 9 222 Y) (E : YE K Y (tQ t h0 n z κ) Qx) (hz : kz K ≤ t) {sg : TS} {x1 : Int} {x2 : Int} (hk : P_X5_shared κ sg x1 x2) : G K Y (tw t sg h0) n z 0 (lv_argsA 0 [vR (some t), vI x1, vI x2]) [] := by
  show G K Y (tw t sg h0) n z 0 [(0, vR (some t)), (1, vI x1), (2, vI x2)] []
  refine r_aload_n X (pc := 0) dX5_shared_0 rfl (q := 0) rfl ?_
  refine r_iload_n X (pc := 1) dX5_shared_1 rfl (q := 1) rfl ?_
  refine r_callS X (pc := 2) (As := [vI x1]) (st := [vR (some t)]) m_X5_414 (fun _ => s_X5_noColour hk) ⟨by decide, by decide⟩ (Nat.le_of_ble_eq_true rfl) dX5_shared_2 (fun v9 h9 n9 z9 hq => ?_) (fun _ _ _ _ _ hf => hf.elim)
  obtain ⟨r32, rfl, rfl, rfl, rfl, hk⟩ := hq
  refine ⟨[vI r32], rfl, ?_⟩
  obtain ⟨b33, hk⟩ := hk
  refine r_if_ne X (pc := 5) (tgt := 15) dX5_shared_5 (by decide) b33 (fun c34 => ?_) (fun c34 => ?_)
  · have hk := hk.2 c34
    refine r_iconst X (pc := 15) dX5_shared_15 ?_
    refine r_goto X (pc := 16) (tgt := 20) dX5_shared_16 (by decide) ?_
    exact w_X5_shared_20 X E hz sg x1 x2 1 hk
  · have hk := hk.1 c34
    refine r_iload_n X (pc := 8) dX5_shared_8 rfl (q := 2) rfl ?_
    refine r_callS X (pc := 9) (As := [vI x2]) (st := [vR (some t)]) m_X5_414 (fun _ => s_X5_noColour hk) ⟨by decide, by decide⟩ (Nat.le_of_ble_eq_true rfl) dX5_shared_9 (fun v9 h9 n9 z9 hq => ?_) (fun _ _ _ _ _ hf => hf.elim)
    obtain ⟨r35, rfl, rfl, rfl, rfl, hk⟩ := hq
    refine ⟨[vI r35], rfl, ?_⟩
    obtain ⟨b36, hk⟩ := hk
    refine r_if_eq X (pc := 12) (tgt := 19) dX5_shared_12 (by decide) b36 (fun c37 => ?_) (fun c37 => ?_)
    · have hk := hk.1 c37
      refine r_iconst X (pc := 19) dX5_shared_19 ?_
      exact w_X5_shared_20 X E hz sg x1 x2 0 hk
    · have hk := hk.2 c37
      refine r_iconst X (pc := 15) dX5_shared_15 ?_
      refine r_goto X (pc := 16) (tgt := 20) dX5_shared_16 (by decide) ?_
      exact w_X5_shared_20 X E hz sg x1 x2 1 hk
theorem s_X5_shared {K : KT} {l : Launch} {t n z : Nat} {h0 : AH} {κ : Int → TS → Prop} (hz : kz K ≤ t) {sg : TS} {x1 : Int} {x2 : Int} (hk : P_X5_shared κ sg x1 x2) : Ct K l yX5_shared (ws_ yX5_shared cX5_shared 5 (Option.some Jvm.ClassFile.FieldType.int)) 9 222 ([vR (some t), vI x1, vI x2].map cV) (tw t sg h0) n z (tQ t h0 n z κ) noX :=
  ct_of (by decide +kernel) (Nat.le_of_ble_eq_true rfl) (fun Y X E => w_X5_shared X E hz hk)
set_option maxHeartbeats 4000000 in
theorem w_X5_stopped {K : KT} {Y : YT} {Qx : QxT} {t n z : Nat} {h0 : AH} {κ : Int → TS → Prop} (X : XY K "TrailMarkersModel" "stopped" cX5_stopped (Option.some Jvm.ClassFile.FieldType.int) [] 6 4 93 Y) (E : YE K Y (tQ t h0 n z κ) Qx) (hz : kz K ≤ t) {sg : TS} {x1 : Int} {x2 : Int} (hk : P_X5_stopped κ sg x1 x2) : G K Y (tw t sg h0) n z 0 (lv_argsA 0 [vR (some t), vI x1, vI x2]) [] := by
  show G K Y (tw t sg h0) n z 0 [(0, vR (some t)), (1, vI x1), (2, vI x2)] []
  refine r_aload_n X (pc := 0) dX5_stopped_0 rfl (q := 0) rfl ?_
  refine r_iload_n X (pc := 1) dX5_stopped_1 rfl (q := 1) rfl ?_
  refine r_iconst X (pc := 2) dX5_stopped_2 ?_
  refine r_callV X (pc := 3) (As := [vI x1, vI 3]) (st := []) rfl rfl rfl (tw_t t _ h0) m_X5_130 (fun _ => s_X5_of hz hk) ⟨by decide, by decide⟩ (Nat.le_of_ble_eq_true rfl) dX5_stopped_3 (fun v9 h9 n9 z9 hq => ?_) (fun _ _ _ _ _ hf => hf.elim)
  obtain ⟨r15, rfl, rfl, rfl, sg16, rfl, hk⟩ := hq
  refine ⟨[vI r15], rfl, ?_⟩
  refine r_istore_n X (pc := 6) (lv1 := [(3, vI r15), (0, vR (some t)), (1, vI x1), (2, vI x2)]) dX5_stopped_6 rfl (by decide) rfl ?_
  refine r_aload_n X (pc := 7) dX5_stopped_7 rfl (q := 1) rfl ?_
  refine r_aload_n X (pc := 8) dX5_stopped_8 rfl (q := 1) rfl ?_
  refine r_iload_n X (pc := 9) dX5_stopped_9 rfl (q := 2) rfl ?_
  refine r_iconst X (pc := 10) dX5_stopped_10 ?_
  refine r_callV X (pc := 11) (As := [vI x1, vI 0]) (st := [vR (some t)]) rfl rfl rfl (tw_t t _ h0) m_X5_130 (fun _ => s_X5_of hz hk) ⟨by decide, by decide⟩ (Nat.le_of_ble_eq_true rfl) dX5_stopped_11 (fun v9 h9 n9 z9 hq => ?_) (fun _ _ _ _ _ hf => hf.elim)
  obtain ⟨r17, rfl, rfl, rfl, sg18, rfl, hk⟩ := hq
  refine ⟨[vI r17], rfl, ?_⟩
  refine r_aload_n X (pc := 14) dX5_stopped_14 rfl (q := 1) rfl ?_
  refine r_iload_n X (pc := 15) dX5_stopped_15 rfl (q := 2) rfl ?_
  refine r_iconst X (pc := 16) dX5_stopped_16 ?_
  refine r_callV X (pc := 17) (As := [vI x1, vI 1]) (st := [vI r17, vR (some t)]) rfl rfl rfl (tw_t t _ h0) m_X5_130 (fun _ => s_X5_of hz hk) ⟨by decide, by decide⟩ (Nat.le_of_ble_eq_true rfl) dX5_stopped_17 (fun v9 h9 n9 z9 hq => ?_) (fun _ _ _ _ _ hf => hf.elim)
  obtain ⟨r19, rfl, rfl, rfl, sg20, rfl, hk⟩ := hq
  refine ⟨[vI r19], rfl, ?_⟩
  refine r_iload_n X (pc := 20) dX5_stopped_20 rfl (q := 0) rfl ?_
  refine r_iload_n X (pc := 21) dX5_stopped_21 rfl (q := 2) rfl ?_
  refine r_callV X (pc := 22) (As := [vI r17, vI r19, vI r15, vI x1]) (st := []) rfl rfl rfl (tw_t t _ h0) m_X5_184 (fun _ => s_X5_leg hz hk) ⟨by decide, by decide⟩ (Nat.le_of_ble_eq_true rfl) dX5_stopped_22 (fun v9 h9 n9 z9 hq => ?_) (fun _ _ _ _ _ hf => hf.elim)
  obtain ⟨rfl, rfl, rfl, sg21, rfl, hk⟩ := hq
  refine ⟨[], rfl, ?_⟩
  refine r_iload_n X (pc := 25) dX5_stopped_25 rfl (q := 3) rfl ?_
  obtain ⟨b22, hk⟩ := hk
  refine r_if_ne X (pc := 26) (tgt := 34) dX5_stopped_26 (by decide) b22 (fun c23 => ?_) (fun c23 => ?_)
  · have hk := hk.2 c23
    refine r_aload_n X (pc := 34) dX5_stopped_34 rfl (q := 1) rfl ?_
    refine r_iload_n X (pc := 35) dX5_stopped_35 rfl (q := 2) rfl ?_
    refine r_iconst X (pc := 36) dX5_stopped_36 ?_
    refine r_callV X (pc := 37) (As := [vI x1, vI 0]) (st := []) rfl rfl rfl (tw_t t _ h0) m_X5_130 (fun _ => s_X5_of hz hk) ⟨by decide, by decide⟩ (Nat.le_of_ble_eq_true rfl) dX5_stopped_37 (fun v9 h9 n9 z9 hq => ?_) (fun _ _ _ _ _ hf => hf.elim)
    obtain ⟨r24, rfl, rfl, rfl, sg25, rfl, hk⟩ := hq
    refine ⟨[vI r24], rfl, ?_⟩
    refine r_aload_n X (pc := 40) dX5_stopped_40 rfl (q := 1) rfl ?_
    refine r_tgI X (pc := 41) (v := sg25.1 15) fa_X5_138 (by decide) rfl dX5_stopped_41 ?_
    refine r_iconst X (pc := 44) dX5_stopped_44 ?_
    refine r_iadd X (pc := 45) dX5_stopped_45 ?_
    refine r_iload_n X (pc := 46) dX5_stopped_46 rfl (q := 0) rfl ?_
    refine r_callS X (pc := 47) (As := [vI r15]) (st := [vI ((sg25.1 15) + 1), vI r24]) m_X5_147 (fun _ => s_X5_dx hk) ⟨by decide, by decide⟩ (Nat.le_of_ble_eq_true rfl) dX5_stopped_47 (fun v9 h9 n9 z9 hq => ?_) (fun _ _ _ _ _ hf => hf.elim)
    obtain ⟨r26, rfl, rfl, rfl, rfl, hk⟩ := hq
    refine ⟨[vI r26], rfl, ?_⟩
    refine r_imul X (pc := 50) dX5_stopped_50 ?_
    refine r_iadd X (pc := 51) dX5_stopped_51 ?_
    refine r_istore X (pc := 52) (lv1 := [(4, vI (r24 + (((sg25.1 15) + 1) * r26))), (3, vI r15), (0, vR (some t)), (1, vI x1), (2, vI x2)]) dX5_stopped_52 (by decide) rfl ?_
    refine r_aload_n X (pc := 54) dX5_stopped_54 rfl (q := 2) rfl ?_
    refine r_iload_n X (pc := 55) dX5_stopped_55 rfl (q := 3) rfl ?_
    refine r_iconst X (pc := 56) dX5_stopped_56 ?_
    refine r_callV X (pc := 57) (As := [vI x1, vI 1]) (st := []) rfl rfl rfl (tw_t t _ h0) m_X5_130 (fun _ => s_X5_of hz hk) ⟨by decide, by decide⟩ (Nat.le_of_ble_eq_true rfl) dX5_stopped_57 (fun v9 h9 n9 z9 hq => ?_) (fun _ _ _ _ _ hf => hf.elim)
    obtain ⟨r27, rfl, rfl, rfl, sg28, rfl, hk⟩ := hq
    refine ⟨[vI r27], rfl, ?_⟩
    refine r_aload_n X (pc := 60) dX5_stopped_60 rfl (q := 2) rfl ?_
    refine r_tgI X (pc := 61) (v := sg28.1 15) fa_X5_138 (by decide) rfl dX5_stopped_61 ?_
    refine r_iconst X (pc := 64) dX5_stopped_64 ?_
    refine r_iadd X (pc := 65) dX5_stopped_65 ?_
    refine r_iload_n X (pc := 66) dX5_stopped_66 rfl (q := 1) rfl ?_
    refine r_callS X (pc := 67) (As := [vI r15]) (st := [vI ((sg28.1 15) + 1), vI r27]) m_X5_151 (fun _ => s_X5_dy hk) ⟨by decide, by decide⟩ (Nat.le_of_ble_eq_true rfl) dX5_stopped_67 (fun v9 h9 n9 z9 hq => ?_) (fun _ _ _ _ _ hf => hf.elim)
    obtain ⟨r29, rfl, rfl, rfl, rfl, hk⟩ := hq
    refine ⟨[vI r29], rfl, ?_⟩
    refine r_imul X (pc := 70) dX5_stopped_70 ?_
    refine r_iadd X (pc := 71) dX5_stopped_71 ?_
    refine r_istore X (pc := 72) (lv1 := [(5, vI (r27 + (((sg28.1 15) + 1) * r29))), (4, vI (r24 + (((sg25.1 15) + 1) * r26))), (3, vI r15), (0, vR (some t)), (1, vI x1), (2, vI x2)]) dX5_stopped_72 (by decide) rfl ?_
    refine r_aload_n X (pc := 74) dX5_stopped_74 rfl (q := 3) rfl ?_
    refine r_iload X (pc := 75) dX5_stopped_75 (q := 1) rfl ?_
    refine r_iload X (pc := 77) dX5_stopped_77 (q := 0) rfl ?_
    refine r_callV X (pc := 79) (As := [vI (r24 + (((sg25.1 15) + 1) * r26)), vI (r27 + (((sg28.1 15) + 1) * r29))]) (st := []) rfl rfl rfl (tw_t t _ h0) m_X5_123 (fun _ => s_X5_isOn hz hk) ⟨by decide, by decide⟩ (Nat.le_of_ble_eq_true rfl) dX5_stopped_79 (fun v9 h9 n9 z9 hq => ?_) (fun _ _ _ _ _ hf => hf.elim)
    obtain ⟨r30, rfl, rfl, rfl, sg31, rfl, hk⟩ := hq
    refine ⟨[vI r30], rfl, ?_⟩
    obtain ⟨b32, hk⟩ := hk
    refine r_if_ne X (pc := 82) (tgt := 89) dX5_stopped_82 (by decide) b32 (fun c33 => ?_) (fun c33 => ?_)
    · have hk := hk.2 c33
      refine r_aload_n X (pc := 89) dX5_stopped_89 rfl (q := 3) rfl ?_
      refine r_iload X (pc := 90) dX5_stopped_90 (q := 1) rfl ?_
      refine r_iload X (pc := 92) dX5_stopped_92 (q := 0) rfl ?_
      refine r_callV X (pc := 94) (As := [vI (r24 + (((sg25.1 15) + 1) * r26)), vI (r27 + (((sg28.1 15) + 1) * r29))]) (st := []) rfl rfl rfl (tw_t t _ h0) m_X5_127 (fun _ => s_X5_isBlock hz hk) ⟨by decide, by decide⟩ (Nat.le_of_ble_eq_true rfl) dX5_stopped_94 (fun v9 h9 n9 z9 hq => ?_) (fun _ _ _ _ _ hf => hf.elim)
      obtain ⟨r34, rfl, rfl, rfl, sg35, rfl, hk⟩ := hq
      refine ⟨[vI r34], rfl, ?_⟩
      obtain ⟨b36, hk⟩ := hk
      refine r_if_eq X (pc := 97) (tgt := 104) dX5_stopped_97 (by decide) b36 (fun c37 => ?_) (fun c37 => ?_)
      · have hk := hk.1 c37
        refine r_iconst X (pc := 104) dX5_stopped_104 ?_
        exact r_iret X E (pc := 105) dX5_stopped_105 rfl ⟨_, rfl, rfl, rfl, _, rfl, hk⟩
      · have hk := hk.2 c37
        refine r_iconst X (pc := 100) dX5_stopped_100 ?_
        refine r_goto X (pc := 101) (tgt := 105) dX5_stopped_101 (by decide) ?_
        exact r_iret X E (pc := 105) dX5_stopped_105 rfl ⟨_, rfl, rfl, rfl, _, rfl, hk⟩
    · have hk := hk.1 c33
      refine r_iconst X (pc := 85) dX5_stopped_85 ?_
      refine r_goto X (pc := 86) (tgt := 105) dX5_stopped_86 (by decide) ?_
      exact r_iret X E (pc := 105) dX5_stopped_105 rfl ⟨_, rfl, rfl, rfl, _, rfl, hk⟩
  · have hk := hk.1 c23
    refine r_aload_n X (pc := 29) dX5_stopped_29 rfl (q := 1) rfl ?_
    refine r_tgI X (pc := 30) (v := sg21.1 15) fa_X5_138 (by decide) rfl dX5_stopped_30 ?_
    exact r_iret X E (pc := 33) dX5_stopped_33 rfl ⟨_, rfl, rfl, rfl, _, rfl, hk⟩
theorem s_X5_stopped {K : KT} {l : Launch} {t n z : Nat} {h0 : AH} {κ : Int → TS → Prop} (hz : kz K ≤ t) {sg : TS} {x1 : Int} {x2 : Int} (hk : P_X5_stopped κ sg x1 x2) : Ct K l yX5_stopped (ws_ yX5_stopped cX5_stopped 6 (Option.some Jvm.ClassFile.FieldType.int)) 4 93 ([vR (some t), vI x1, vI x2].map cV) (tw t sg h0) n z (tQ t h0 n z κ) noX :=
  ct_of (by decide +kernel) (Nat.le_of_ble_eq_true rfl) (fun Y X E => w_X5_stopped X E hz hk)
set_option maxHeartbeats 4000000 in
theorem w_X5_why_20 {K : KT} {Y : YT} {Qx : QxT} {t n z : Nat} {h0 : AH} {κ : Int → TS → Prop} (X : XY K "TrailMarkersModel" "why" cX5_why (Option.some Jvm.ClassFile.FieldType.int) [] 3 7 176 Y) (E : YE K Y (tQ t h0 n z κ) Qx) (hz : kz K ≤ t) : ∀ (sg : TS) (x1 : Int) (x2 : Int) (s0 : Int) (s1 : Int), P_X5_why_20 κ sg x1 x2 s0 s1 → G K Y (tw t sg h0) n z 20 [(0, vR (some t)), (1, vI x1), (2, vI x2)] [vI s0, vI s1, vR (some t)] := by
  intro sg x1 x2 s0 s1 hk
  refine r_iconst X (pc := 20) dX5_why_20 ?_
  refine r_callV X (pc := 21) (As := [vI s1, vI s0, vI 0]) (st := []) rfl rfl rfl (tw_t t _ h0) m_X5_258 (fun _ => s_X5_fails hz hk) ⟨by decide, by decide⟩ (Nat.le_of_ble_eq_true rfl) dX5_why_21 (fun v9 h9 n9 z9 hq => ?_) (fun _ _ _ _ _ hf => hf.elim)
  obtain ⟨r34, rfl, rfl, rfl, sg35, rfl, hk⟩ := hq
  refine ⟨[vI r34], rfl, ?_⟩
  obtain ⟨b36, hk⟩ := hk
  refine r_if_eq X (pc := 24) (tgt := 29) dX5_why_24 (by decide) b36 (fun c37 => ?_) (fun c37 => ?_)
  · have hk := hk.1 c37
    refine r_aload_n X (pc := 29) dX5_why_29 rfl (q := 0) rfl ?_
    refine r_iload_n X (pc := 30) dX5_why_30 rfl (q := 1) rfl ?_
    refine r_callV X (pc := 31) (As := [vI x1]) (st := []) rfl rfl rfl (tw_t t _ h0) m_X5_134 (fun _ => s_X5_stands hz hk) ⟨by decide, by decide⟩ (Nat.le_of_ble_eq_true rfl) dX5_why_31 (fun v9 h9 n9 z9 hq => ?_) (fun _ _ _ _ _ hf => hf.elim)
    obtain ⟨r38, rfl, rfl, rfl, sg39, rfl, hk⟩ := hq
    refine ⟨[vI r38], rfl, ?_⟩
    obtain ⟨b40, hk⟩ := hk
    refine r_if_ne X (pc := 34) (tgt := 47) dX5_why_34 (by decide) b40 (fun c41 => ?_) (fun c41 => ?_)
    · have hk := hk.2 c41
      refine r_aload_n X (pc := 47) dX5_why_47 rfl (q := 0) rfl ?_
      refine r_iload_n X (pc := 48) dX5_why_48 rfl (q := 1) rfl ?_
      refine r_iconst X (pc := 49) dX5_why_49 ?_
      refine r_callV X (pc := 50) (As := [vI x1, vI 3]) (st := []) rfl rfl rfl (tw_t t _ h0) m_X5_130 (fun _ => s_X5_of hz hk) ⟨by decide, by decide⟩ (Nat.le_of_ble_eq_true rfl) dX5_why_50 (fun v9 h9 n9 z9 hq => ?_) (fun _ _ _ _ _ hf => hf.elim)
      obtain ⟨r42, rfl, rfl, rfl, sg43, rfl, hk⟩ := hq
      refine ⟨[vI r42], rfl, ?_⟩
      refine r_iconst X (pc := 53) dX5_why_53 ?_
      obtain ⟨b44, hk⟩ := hk
      refine r_icmp_ne X (pc := 54) (tgt := 67) dX5_why_54 (by decide) ⟨b44, (by decide)⟩ (fun c45 => ?_) (fun c45 => ?_)
      · have hk := hk.2 c45
        refine r_aload_n X (pc := 67) dX5_why_67 rfl (q := 0) rfl ?_
        refine r_iload_n X (pc := 68) dX5_why_68 rfl (q := 1) rfl ?_
        refine r_callV X (pc := 69) (As := [vI x1]) (st := []) rfl rfl rfl (tw_t t _ h0) m_X5_224 (fun _ => s_X5_find hz hk) ⟨by decide, by decide⟩ (Nat.le_of_ble_eq_true rfl) dX5_why_69 (fun v9 h9 n9 z9 hq => ?_) (fun _ _ _ _ _ hf => hf.elim)
        obtain ⟨rfl, rfl, rfl, sg46, rfl, hk⟩ := hq
        refine ⟨[], rfl, ?_⟩
        refine r_aload_n X (pc := 72) dX5_why_72 rfl (q := 0) rfl ?_
        refine r_tgI X (pc := 73) (v := sg46.1 18) fa_X5_169 (by decide) rfl dX5_why_73 ?_
        refine r_iconst X (pc := 76) dX5_why_76 ?_
        obtain ⟨b47, hk⟩ := hk
        refine r_icmp_ne X (pc := 77) (tgt := 104) dX5_why_77 (by decide) ⟨b47, (by decide)⟩ (fun c48 => ?_) (fun c48 => ?_)
        · have hk := hk.2 c48
          refine r_iload_n X (pc := 104) dX5_why_104 rfl (q := 2) rfl ?_
          obtain ⟨b49, hk⟩ := hk
          refine r_if_ne X (pc := 105) (tgt := 113) dX5_why_105 (by decide) b49 (fun c50 => ?_) (fun c50 => ?_)
          · have hk := hk.2 c50
            refine r_iload_n X (pc := 113) dX5_why_113 rfl (q := 2) rfl ?_
            refine r_iconst X (pc := 114) dX5_why_114 ?_
            refine r_icmp_ne X (pc := 115) (tgt := 123) dX5_why_115 (by decide) ⟨b49, (by decide)⟩ (fun c51 => ?_) (fun c51 => ?_)
            · have hk := hk.2 c51
              refine r_aload_n X (pc := 123) dX5_why_123 rfl (q := 0) rfl ?_
              refine r_tgI X (pc := 124) (v := sg46.1 19) fa_X5_175 (by decide) rfl dX5_why_124 ?_
              obtain ⟨b52, hk⟩ := hk
              refine r_if_ne X (pc := 127) (tgt := 137) dX5_why_127 (by decide) b52 (fun c53 => ?_) (fun c53 => ?_)
              · have hk := hk.2 c53
                refine r_aload_n X (pc := 137) dX5_why_137 rfl (q := 0) rfl ?_
                refine r_iload_n X (pc := 138) dX5_why_138 rfl (q := 1) rfl ?_
                refine r_callV X (pc := 139) (As := [vI x1]) (st := []) rfl rfl rfl (tw_t t _ h0) m_X5_435 (fun _ => s_X5_cell hz hk) ⟨by decide, by decide⟩ (Nat.le_of_ble_eq_true rfl) dX5_why_139 (fun v9 h9 n9 z9 hq => ?_) (fun _ _ _ _ _ hf => hf.elim)
                obtain ⟨r54, rfl, rfl, rfl, sg55, rfl, hk⟩ := hq
                refine ⟨[vI r54], rfl, ?_⟩
                refine r_aload_n X (pc := 142) dX5_why_142 rfl (q := 0) rfl ?_
                refine r_tgI X (pc := 143) (v := sg55.1 20) fa_X5_160 (by decide) rfl dX5_why_143 ?_
                refine r_bipush X (pc := 146) dX5_why_146 (by decide) ?_
                refine r_aload_n X (pc := 148) dX5_why_148 rfl (q := 0) rfl ?_
                refine r_iload_n X (pc := 149) dX5_why_149 rfl (q := 1) rfl ?_
                refine r_iconst X (pc := 150) dX5_why_150 ?_
                refine r_callV X (pc := 151) (As := [vI x1, vI 3]) (st := [vI 100, vI (sg55.1 20), vI r54]) rfl rfl rfl (tw_t t _ h0) m_X5_130 (fun _ => s_X5_of hz hk) ⟨by decide, by decide⟩ (Nat.le_of_ble_eq_true rfl) dX5_why_151 (fun v9 h9 n9 z9 hq => ?_) (fun _ _ _ _ _ hf => hf.elim)
                obtain ⟨r56, rfl, rfl, rfl, sg57, rfl, hk⟩ := hq
                refine ⟨[vI r56], rfl, ?_⟩
                refine r_callS X (pc := 154) (As := [vI r56]) (st := [vI 100, vI (sg55.1 20), vI r54]) m_X5_147 (fun _ => s_X5_dx hk) ⟨by decide, by decide⟩ (Nat.le_of_ble_eq_true rfl) dX5_why_154 (fun v9 h9 n9 z9 hq => ?_) (fun _ _ _ _ _ hf => hf.elim)
                obtain ⟨r58, rfl, rfl, rfl, rfl, hk⟩ := hq
                refine ⟨[vI r58], rfl, ?_⟩
                refine r_imul X (pc := 157) dX5_why_157 ?_
                refine r_aload_n X (pc := 158) dX5_why_158 rfl (q := 0) rfl ?_
                refine r_iload_n X (pc := 159) dX5_why_159 rfl (q := 1) rfl ?_
                refine r_iconst X (pc := 160) dX5_why_160 ?_
                refine r_callV X (pc := 161) (As := [vI x1, vI 3]) (st := [vI (100 * r58), vI (sg55.1 20), vI r54]) rfl rfl rfl (tw_t t _ h0) m_X5_130 (fun _ => s_X5_of hz hk) ⟨by decide, by decide⟩ (Nat.le_of_ble_eq_true rfl) dX5_why_161 (fun v9 h9 n9 z9 hq => ?_) (fun _ _ _ _ _ hf => hf.elim)
                obtain ⟨r59, rfl, rfl, rfl, sg60, rfl, hk⟩ := hq
                refine ⟨[vI r59], rfl, ?_⟩
                refine r_callS X (pc := 164) (As := [vI r59]) (st := [vI (100 * r58), vI (sg55.1 20), vI r54]) m_X5_151 (fun _ => s_X5_dy hk) ⟨by decide, by decide⟩ (Nat.le_of_ble_eq_true rfl) dX5_why_164 (fun v9 h9 n9 z9 hq => ?_) (fun _ _ _ _ _ hf => hf.elim)
                obtain ⟨r61, rfl, rfl, rfl, rfl, hk⟩ := hq
                refine ⟨[vI r61], rfl, ?_⟩
                refine r_iadd X (pc := 167) dX5_why_167 ?_
                refine r_imul X (pc := 168) dX5_why_168 ?_
                refine r_iadd X (pc := 169) dX5_why_169 ?_
                exact r_iret X E (pc := 170) dX5_why_170 rfl ⟨_, rfl, rfl, rfl, _, rfl, hk⟩
              · have hk := hk.1 c53
                refine r_aload_n X (pc := 130) dX5_why_130 rfl (q := 0) rfl ?_
                refine r_tgI X (pc := 131) (v := sg46.1 24) fa_X5_166 (by decide) rfl dX5_why_131 ?_
                refine r_goto X (pc := 134) (tgt := 170) dX5_why_134 (by decide) ?_
                exact r_iret X E (pc := 170) dX5_why_170 rfl ⟨_, rfl, rfl, rfl, _, rfl, hk⟩
            · have hk := hk.1 c51
              refine r_aload_n X (pc := 118) dX5_why_118 rfl (q := 0) rfl ?_
              refine r_tgI X (pc := 119) (v := sg46.1 18) fa_X5_169 (by decide) rfl dX5_why_119 ?_
              exact r_iret X E (pc := 122) dX5_why_122 rfl ⟨_, rfl, rfl, rfl, _, rfl, hk⟩
          · have hk := hk.1 c50
            refine r_aload_n X (pc := 108) dX5_why_108 rfl (q := 0) rfl ?_
            refine r_tgI X (pc := 109) (v := sg46.1 19) fa_X5_175 (by decide) rfl dX5_why_109 ?_
            exact r_iret X E (pc := 112) dX5_why_112 rfl ⟨_, rfl, rfl, rfl, _, rfl, hk⟩
        · have hk := hk.1 c48
          refine r_iload_n X (pc := 80) dX5_why_80 rfl (q := 2) rfl ?_
          obtain ⟨b62, hk⟩ := hk
          refine r_if_ne X (pc := 81) (tgt := 88) dX5_why_81 (by decide) b62 (fun c63 => ?_) (fun c63 => ?_)
          · have hk := hk.2 c63
            refine r_aload_n X (pc := 88) dX5_why_88 rfl (q := 0) rfl ?_
            refine r_iload_n X (pc := 89) dX5_why_89 rfl (q := 1) rfl ?_
            refine r_iload_n X (pc := 90) dX5_why_90 rfl (q := 2) rfl ?_
            refine r_iconst X (pc := 91) dX5_why_91 ?_
            refine r_icmp_ne X (pc := 92) (tgt := 99) dX5_why_92 (by decide) ⟨b62, (by decide)⟩ (fun c64 => ?_) (fun c64 => ?_)
            · have hk := hk.2 c64
              refine r_iconst X (pc := 99) dX5_why_99 ?_
              refine r_callV X (pc := 100) (As := [vI x1, vI 0]) (st := []) rfl rfl rfl (tw_t t _ h0) m_X5_452 (fun _ => s_X5_stopped hz hk) ⟨by decide, by decide⟩ (Nat.le_of_ble_eq_true rfl) dX5_why_100 (fun v9 h9 n9 z9 hq => ?_) (fun _ _ _ _ _ hf => hf.elim)
              obtain ⟨r65, rfl, rfl, rfl, sg66, rfl, hk⟩ := hq
              refine ⟨[vI r65], rfl, ?_⟩
              exact r_iret X E (pc := 103) dX5_why_103 rfl ⟨_, rfl, rfl, rfl, _, rfl, hk⟩
            · have hk := hk.1 c64
              refine r_iconst X (pc := 95) dX5_why_95 ?_
              refine r_goto X (pc := 96) (tgt := 100) dX5_why_96 (by decide) ?_
              refine r_callV X (pc := 100) (As := [vI x1, vI 1]) (st := []) rfl rfl rfl (tw_t t _ h0) m_X5_452 (fun _ => s_X5_stopped hz hk) ⟨by decide, by decide⟩ (Nat.le_of_ble_eq_true rfl) dX5_why_100 (fun v9 h9 n9 z9 hq => ?_) (fun _ _ _ _ _ hf => hf.elim)
              obtain ⟨r67, rfl, rfl, rfl, sg68, rfl, hk⟩ := hq
              refine ⟨[vI r67], rfl, ?_⟩
              exact r_iret X E (pc := 103) dX5_why_103 rfl ⟨_, rfl, rfl, rfl, _, rfl, hk⟩
          · have hk := hk.1 c63
            refine r_iconst X (pc := 84) dX5_why_84 ?_
            refine r_goto X (pc := 85) (tgt := 103) dX5_why_85 (by decide) ?_
            exact r_iret X E (pc := 103) dX5_why_103 rfl ⟨_, rfl, rfl, rfl, _, rfl, hk⟩
      · have hk := hk.1 c45
        refine r_iload_n X (pc := 57) dX5_why_57 rfl (q := 2) rfl ?_
        obtain ⟨b69, hk⟩ := hk
        refine r_if_ne X (pc := 58) (tgt := 65) dX5_why_58 (by decide) b69 (fun c70 => ?_) (fun c70 => ?_)
        · have hk := hk.2 c70
          refine r_iconst X (pc := 65) dX5_why_65 ?_
          exact r_iret X E (pc := 66) dX5_why_66 rfl ⟨_, rfl, rfl, rfl, _, rfl, hk⟩
        · have hk := hk.1 c70
          refine r_iconst X (pc := 61) dX5_why_61 ?_
          refine r_goto X (pc := 62) (tgt := 66) dX5_why_62 (by decide) ?_
          exact r_iret X E (pc := 66) dX5_why_66 rfl ⟨_, rfl, rfl, rfl, _, rfl, hk⟩
    · have hk := hk.1 c41
      refine r_iload_n X (pc := 37) dX5_why_37 rfl (q := 2) rfl ?_
      obtain ⟨b71, hk⟩ := hk
      refine r_if_ne X (pc := 38) (tgt := 45) dX5_why_38 (by decide) b71 (fun c72 => ?_) (fun c72 => ?_)
      · have hk := hk.2 c72
        refine r_iconst X (pc := 45) dX5_why_45 ?_
        exact r_iret X E (pc := 46) dX5_why_46 rfl ⟨_, rfl, rfl, rfl, _, rfl, hk⟩
      · have hk := hk.1 c72
        refine r_iconst X (pc := 41) dX5_why_41 ?_
        refine r_goto X (pc := 42) (tgt := 46) dX5_why_42 (by decide) ?_
        exact r_iret X E (pc := 46) dX5_why_46 rfl ⟨_, rfl, rfl, rfl, _, rfl, hk⟩
  · have hk := hk.2 c37
    refine r_iconst X (pc := 27) dX5_why_27 ?_
    exact r_iret X E (pc := 28) dX5_why_28 rfl ⟨_, rfl, rfl, rfl, _, rfl, hk⟩
set_option maxHeartbeats 4000000 in
theorem w_X5_why {K : KT} {Y : YT} {Qx : QxT} {t n z : Nat} {h0 : AH} {κ : Int → TS → Prop} (X : XY K "TrailMarkersModel" "why" cX5_why (Option.some Jvm.ClassFile.FieldType.int) [] 3 7 176 Y) (E : YE K Y (tQ t h0 n z κ) Qx) (hz : kz K ≤ t) {sg : TS} {x1 : Int} {x2 : Int} (hk : P_X5_why κ sg x1 x2) : G K Y (tw t sg h0) n z 0 (lv_argsA 0 [vR (some t), vI x1, vI x2]) [] := by
  show G K Y (tw t sg h0) n z 0 [(0, vR (some t)), (1, vI x1), (2, vI x2)] []
  refine r_aload_n X (pc := 0) dX5_why_0 rfl (q := 0) rfl ?_
  refine r_aload_n X (pc := 1) dX5_why_1 rfl (q := 0) rfl ?_
  refine r_iload_n X (pc := 2) dX5_why_2 rfl (q := 1) rfl ?_
  refine r_callV X (pc := 3) (As := [vI x1]) (st := [vR (some t)]) rfl rfl rfl (tw_t t _ h0) m_X5_417 (fun _ => s_X5_noPost hz hk) ⟨by decide, by decide⟩ (Nat.le_of_ble_eq_true rfl) dX5_why_3 (fun v9 h9 n9 z9 hq => ?_) (fun _ _ _ _ _ hf => hf.elim)
  obtain ⟨r73, rfl, rfl, rfl, sg74, rfl, hk⟩ := hq
  refine ⟨[vI r73], rfl, ?_⟩
  refine r_iload_n X (pc := 6) dX5_why_6 rfl (q := 2) rfl ?_
  refine r_iconst X (pc := 7) dX5_why_7 ?_
  refine r_iconst X (pc := 8) dX5_why_8 ?_
  refine r_callS X (pc := 9) (As := [vI x2, vI 0, vI 2]) (st := [vI r73, vR (some t)]) m_X5_119 (fun _ => s_X5_isIn hk) ⟨by decide, by decide⟩ (Nat.le_of_ble_eq_true rfl) dX5_why_9 (fun v9 h9 n9 z9 hq => ?_) (fun _ _ _ _ _ hf => hf.elim)
  obtain ⟨r75, rfl, rfl, rfl, rfl, hk⟩ := hq
  refine ⟨[vI r75], rfl, ?_⟩
  obtain ⟨b76, hk⟩ := hk
  refine r_if_ne X (pc := 12) (tgt := 19) dX5_why_12 (by decide) b76 (fun c77 => ?_) (fun c77 => ?_)
  · have hk := hk.2 c77
    refine r_iconst X (pc := 19) dX5_why_19 ?_
    exact w_X5_why_20 X E hz sg74 x1 x2 0 r73 hk
  · have hk := hk.1 c77
    refine r_iconst X (pc := 15) dX5_why_15 ?_
    refine r_goto X (pc := 16) (tgt := 20) dX5_why_16 (by decide) ?_
    exact w_X5_why_20 X E hz sg74 x1 x2 1 r73 hk
theorem s_X5_why {K : KT} {l : Launch} {t n z : Nat} {h0 : AH} {κ : Int → TS → Prop} (hz : kz K ≤ t) {sg : TS} {x1 : Int} {x2 : Int} (hk : P_X5_why κ sg x1 x2) : Ct K l yX5_why (ws_ yX5_why cX5_why 3 (Option.some Jvm.ClassFile.FieldType.int)) 7 176 ([vR (some t), vI x1, vI x2].map cV) (tw t sg h0) n z (tQ t h0 n z κ) noX :=
  ct_of (by decide +kernel) (Nat.le_of_ble_eq_true rfl) (fun Y X E => w_X5_why X E hz hk)
set_option maxHeartbeats 4000000 in
theorem w_X5_fromBegin {K : KT} {Y : YT} {Qx : QxT} {t n z : Nat} {h0 : AH} {κ : Int → TS → Prop} (X : XY K "TrailMarkersModel" "fromBegin" cX5_fromBegin (Option.some Jvm.ClassFile.FieldType.int) [] 4 10 241 Y) (E : YE K Y (tQ t h0 n z κ) Qx) (hz : kz K ≤ t) {sg : TS} {x1 : Int} {x2 : Int} (hk : P_X5_fromBegin κ sg x1 x2) : G K Y (tw t sg h0) n z 0 (lv_argsA 0 [vR (some t), vI x1, vI x2]) [] := by
  show G K Y (tw t sg h0) n z 0 [(0, vR (some t)), (1, vI x1), (2, vI x2)] []
  refine r_aload_n X (pc := 0) dX5_fromBegin_0 rfl (q := 0) rfl ?_
  refine r_iload_n X (pc := 1) dX5_fromBegin_1 rfl (q := 1) rfl ?_
  refine r_callV X (pc := 2) (As := [vI x1]) (st := []) rfl rfl rfl (tw_t t _ h0) m_X5_249 (fun _ => s_X5_begin hz hk) ⟨by decide, by decide⟩ (Nat.le_of_ble_eq_true rfl) dX5_fromBegin_2 (fun v9 h9 n9 z9 hq => ?_) (fun _ _ _ _ _ hf => hf.elim)
  obtain ⟨r5, rfl, rfl, rfl, sg6, rfl, hk⟩ := hq
  refine ⟨[vI r5], rfl, ?_⟩
  refine r_istore_n X (pc := 5) (lv1 := [(3, vI r5), (0, vR (some t)), (1, vI x1), (2, vI x2)]) dX5_fromBegin_5 rfl (by decide) rfl ?_
  refine r_iload_n X (pc := 6) dX5_fromBegin_6 rfl (q := 0) rfl ?_
  refine r_iconst X (pc := 7) dX5_fromBegin_7 ?_
  obtain ⟨b7, hk⟩ := hk
  refine r_icmp_ne X (pc := 8) (tgt := 15) dX5_fromBegin_8 (by decide) ⟨b7, (by decide)⟩ (fun c8 => ?_) (fun c8 => ?_)
  · have hk := hk.2 c8
    refine r_aload_n X (pc := 15) dX5_fromBegin_15 rfl (q := 1) rfl ?_
    refine r_iload_n X (pc := 16) dX5_fromBegin_16 rfl (q := 0) rfl ?_
    refine r_iload_n X (pc := 17) dX5_fromBegin_17 rfl (q := 3) rfl ?_
    refine r_callV X (pc := 18) (As := [vI r5, vI x2]) (st := []) rfl rfl rfl (tw_t t _ h0) m_X5_441 (fun _ => s_X5_routeOf hz hk) ⟨by decide, by decide⟩ (Nat.le_of_ble_eq_true rfl) dX5_fromBegin_18 (fun v9 h9 n9 z9 hq => ?_) (fun _ _ _ _ _ hf => hf.elim)
    obtain ⟨r9, rfl, rfl, rfl, sg10, rfl, hk⟩ := hq
    refine ⟨[vI r9], rfl, ?_⟩
    exact r_iret X E (pc := 21) dX5_fromBegin_21 rfl ⟨_, rfl, rfl, rfl, _, rfl, hk⟩
  · have hk := hk.1 c8
    refine r_iconst X (pc := 11) dX5_fromBegin_11 ?_
    refine r_goto X (pc := 12) (tgt := 21) dX5_fromBegin_12 (by decide) ?_
    exact r_iret X E (pc := 21) dX5_fromBegin_21 rfl ⟨_, rfl, rfl, rfl, _, rfl, hk⟩
theorem s_X5_fromBegin {K : KT} {l : Launch} {t n z : Nat} {h0 : AH} {κ : Int → TS → Prop} (hz : kz K ≤ t) {sg : TS} {x1 : Int} {x2 : Int} (hk : P_X5_fromBegin κ sg x1 x2) : Ct K l yX5_fromBegin (ws_ yX5_fromBegin cX5_fromBegin 4 (Option.some Jvm.ClassFile.FieldType.int)) 10 241 ([vR (some t), vI x1, vI x2].map cV) (tw t sg h0) n z (tQ t h0 n z κ) noX :=
  ct_of (by decide +kernel) (Nat.le_of_ble_eq_true rfl) (fun Y X E => w_X5_fromBegin X E hz hk)
set_option maxHeartbeats 4000000 in
theorem w_X5_laidBack {K : KT} {Y : YT} {Qx : QxT} {t n z : Nat} {h0 : AH} {κ : Int → TS → Prop} (X : XY K "TrailMarkersModel" "laidBack" cX5_laidBack (Option.some Jvm.ClassFile.FieldType.int) [] 2 2 83 Y) (E : YE K Y (tQ t h0 n z κ) Qx) (hz : kz K ≤ t) {sg : TS} {x1 : Int} (hk : P_X5_laidBack κ sg x1) : G K Y (tw t sg h0) n z 0 (lv_argsA 0 [vR (some t), vI x1]) [] := by
  show G K Y (tw t sg h0) n z 0 [(0, vR (some t)), (1, vI x1)] []
  refine r_aload_n X (pc := 0) dX5_laidBack_0 rfl (q := 0) rfl ?_
  refine r_tgR X (pc := 1) (ty := 0) (N := 526) fa_X5_13 rfl (by decide) dX5_laidBack_1 ?_
  refine r_iconst X (pc := 4) dX5_laidBack_4 ?_
  refine r_aload_n X (pc := 5) dX5_laidBack_5 rfl (q := 0) rfl ?_
  refine r_tgR X (pc := 6) (ty := 0) (N := 526) fa_X5_9 rfl (by decide) dX5_laidBack_6 ?_
  refine r_iconst X (pc := 9) dX5_laidBack_9 ?_
  refine r_callS X (pc := 10) (As := [vR (some (twAd t 1)), vI 0, vR (some (twAd t 0)), vI 0]) (st := []) m_X5_115 (fun _ => s_X5_copy hz hk) ⟨by decide, by decide⟩ (Nat.le_of_ble_eq_true rfl) dX5_laidBack_10 (fun v9 h9 n9 z9 hq => ?_) (fun _ _ _ _ _ hf => hf.elim)
  obtain ⟨rfl, rfl, rfl, sg2, rfl, hk⟩ := hq
  refine ⟨[], rfl, ?_⟩
  refine r_iload_n X (pc := 13) dX5_laidBack_13 rfl (q := 1) rfl ?_
  exact r_iret X E (pc := 14) dX5_laidBack_14 rfl ⟨_, rfl, rfl, rfl, _, rfl, hk⟩
theorem s_X5_laidBack {K : KT} {l : Launch} {t n z : Nat} {h0 : AH} {κ : Int → TS → Prop} (hz : kz K ≤ t) {sg : TS} {x1 : Int} (hk : P_X5_laidBack κ sg x1) : Ct K l yX5_laidBack (ws_ yX5_laidBack cX5_laidBack 2 (Option.some Jvm.ClassFile.FieldType.int)) 2 83 ([vR (some t), vI x1].map cV) (tw t sg h0) n z (tQ t h0 n z κ) noX :=
  ct_of (by decide +kernel) (Nat.le_of_ble_eq_true rfl) (fun Y X E => w_X5_laidBack X E hz hk)
set_option maxHeartbeats 4000000 in
theorem w_X5_switches {K : KT} {Y : YT} {Qx : QxT} {t n z : Nat} {h0 : AH} {κ : TS → Prop} (X : XY K "TrailMarkersModel" "switches" cX5_switches (Option.none : Option Jvm.ClassFile.FieldType) [] 2 1 23 Y) (E : YE K Y (tQv t h0 n z κ) Qx) (hz : kz K ≤ t) {sg : TS} {x1 : Int} (hk : P_X5_switches κ sg x1) : G K Y (tw t sg h0) n z 0 (lv_argsA 0 [vR (some t), vI x1]) [] := by
  show G K Y (tw t sg h0) n z 0 [(0, vR (some t)), (1, vI x1)] []
  refine r_aload_n X (pc := 0) dX5_switches_0 rfl (q := 0) rfl ?_
  refine r_iload_n X (pc := 1) dX5_switches_1 rfl (q := 1) rfl ?_
  refine r_iconst X (pc := 2) dX5_switches_2 ?_
  refine r_iconst X (pc := 3) dX5_switches_3 ?_
  refine r_aload_n X (pc := 4) dX5_switches_4 rfl (q := 0) rfl ?_
  refine r_iload_n X (pc := 5) dX5_switches_5 rfl (q := 1) rfl ?_
  refine r_iconst X (pc := 6) dX5_switches_6 ?_
  refine r_callV X (pc := 7) (As := [vI x1, vI 4]) (st := [vI 1, vI 4, vI x1, vR (some t)]) rfl rfl rfl (tw_t t _ h0) m_X5_130 (fun _ => s_X5_of hz hk) ⟨by decide, by decide⟩ (Nat.le_of_ble_eq_true rfl) dX5_switches_7 (fun v9 h9 n9 z9 hq => ?_) (fun _ _ _ _ _ hf => hf.elim)
  obtain ⟨r3, rfl, rfl, rfl, sg4, rfl, hk⟩ := hq
  refine ⟨[vI r3], rfl, ?_⟩
  refine r_isub X (pc := 10) dX5_switches_10 ?_
  refine r_callV X (pc := 11) (As := [vI x1, vI 4, vI (1 - r3)]) (st := []) rfl rfl rfl (tw_t t _ h0) m_X5_310 (fun _ => s_X5_put hz hk) ⟨by decide, by decide⟩ (Nat.le_of_ble_eq_true rfl) dX5_switches_11 (fun v9 h9 n9 z9 hq => ?_) (fun _ _ _ _ _ hf => hf.elim)
  obtain ⟨rfl, rfl, rfl, sg5, rfl, hk⟩ := hq
  refine ⟨[], rfl, ?_⟩
  exact r_vret X E (pc := 14) dX5_switches_14 ⟨rfl, rfl, rfl, _, rfl, hk⟩
theorem s_X5_switches {K : KT} {l : Launch} {t n z : Nat} {h0 : AH} {κ : TS → Prop} (hz : kz K ≤ t) {sg : TS} {x1 : Int} (hk : P_X5_switches κ sg x1) : Ct K l yX5_switches (ws_ yX5_switches cX5_switches 2 (Option.none : Option Jvm.ClassFile.FieldType)) 1 23 ([vR (some t), vI x1].map cV) (tw t sg h0) n z (tQv t h0 n z κ) noX :=
  ct_of (by decide +kernel) (Nat.le_of_ble_eq_true rfl) (fun Y X E => w_X5_switches X E hz hk)
set_option maxHeartbeats 4000000 in
theorem w_X5_tryOut {K : KT} {Y : YT} {Qx : QxT} {t n z : Nat} {h0 : AH} {κ : TS → Prop} (X : XY K "TrailMarkersModel" "tryOut" cX5_tryOut (Option.none : Option Jvm.ClassFile.FieldType) [] 1 2 83 Y) (E : YE K Y (tQv t h0 n z κ) Qx) (hz : kz K ≤ t) {sg : TS} (hk : P_X5_tryOut κ sg) : G K Y (tw t sg h0) n z 0 (lv_argsA 0 [vR (some t)]) [] := by
  show G K Y (tw t sg h0) n z 0 [(0, vR (some t))] []
  refine r_aload_n X (pc := 0) dX5_tryOut_0 rfl (q := 0) rfl ?_
  refine r_tgR X (pc := 1) (ty := 0) (N := 526) fa_X5_9 rfl (by decide) dX5_tryOut_1 ?_
  refine r_iconst X (pc := 4) dX5_tryOut_4 ?_
  refine r_aload_n X (pc := 5) dX5_tryOut_5 rfl (q := 0) rfl ?_
  refine r_tgR X (pc := 6) (ty := 0) (N := 526) fa_X5_13 rfl (by decide) dX5_tryOut_6 ?_
  refine r_iconst X (pc := 9) dX5_tryOut_9 ?_
  refine r_callS X (pc := 10) (As := [vR (some (twAd t 0)), vI 0, vR (some (twAd t 1)), vI 0]) (st := []) m_X5_115 (fun _ => s_X5_copy hz hk) ⟨by decide, by decide⟩ (Nat.le_of_ble_eq_true rfl) dX5_tryOut_10 (fun v9 h9 n9 z9 hq => ?_) (fun _ _ _ _ _ hf => hf.elim)
  obtain ⟨rfl, rfl, rfl, sg2, rfl, hk⟩ := hq
  refine ⟨[], rfl, ?_⟩
  exact r_vret X E (pc := 13) dX5_tryOut_13 ⟨rfl, rfl, rfl, _, rfl, hk⟩
theorem s_X5_tryOut {K : KT} {l : Launch} {t n z : Nat} {h0 : AH} {κ : TS → Prop} (hz : kz K ≤ t) {sg : TS} (hk : P_X5_tryOut κ sg) : Ct K l yX5_tryOut (ws_ yX5_tryOut cX5_tryOut 1 (Option.none : Option Jvm.ClassFile.FieldType)) 2 83 ([vR (some t)].map cV) (tw t sg h0) n z (tQv t h0 n z κ) noX :=
  ct_of (by decide +kernel) (Nat.le_of_ble_eq_true rfl) (fun Y X E => w_X5_tryOut X E hz hk)
set_option maxHeartbeats 4000000 in
theorem w_X5_ifOther_36 {K : KT} {Y : YT} {Qx : QxT} {t n z : Nat} {h0 : AH} {κ : Int → TS → Prop} (X : XY K "TrailMarkersModel" "ifOther" cX5_ifOther (Option.some Jvm.ClassFile.FieldType.int) [] 4 11 264 Y) (E : YE K Y (tQ t h0 n z κ) Qx) (hz : kz K ≤ t) : ∀ (sg : TS) (x1 : Int) (x2 : Int) (x3 : Int) (s0 : Int) (s1 : Int), P_X5_ifOther_36 κ sg x1 x2 x3 s0 s1 → G K Y (tw t sg h0) n z 36 [(0, vR (some t)), (1, vI x1), (2, vI x2), (3, vI x3)] [vI s0, vI s1, vR (some t)] := by
  intro sg x1 x2 x3 s0 s1 hk
  refine r_iconst X (pc := 36) dX5_ifOther_36 ?_
  refine r_callV X (pc := 37) (As := [vI s1, vI s0, vI 0]) (st := []) rfl rfl rfl (tw_t t _ h0) m_X5_258 (fun _ => s_X5_fails hz hk) ⟨by decide, by decide⟩ (Nat.le_of_ble_eq_true rfl) dX5_ifOther_37 (fun v9 h9 n9 z9 hq => ?_) (fun _ _ _ _ _ hf => hf.elim)
  obtain ⟨r15, rfl, rfl, rfl, sg16, rfl, hk⟩ := hq
  refine ⟨[vI r15], rfl, ?_⟩
  obtain ⟨b17, hk⟩ := hk
  refine r_if_eq X (pc := 40) (tgt := 45) dX5_ifOther_40 (by decide) b17 (fun c18 => ?_) (fun c18 => ?_)
  · have hk := hk.1 c18
    refine r_aload_n X (pc := 45) dX5_ifOther_45 rfl (q := 0) rfl ?_
    refine r_callV X (pc := 46) (As := []) (st := []) rfl rfl rfl (tw_t t _ h0) m_X5_455 (fun _ => s_X5_tryOut hz hk) ⟨by decide, by decide⟩ (Nat.le_of_ble_eq_true rfl) dX5_ifOther_46 (fun v9 h9 n9 z9 hq => ?_) (fun _ _ _ _ _ hf => hf.elim)
    obtain ⟨rfl, rfl, rfl, sg19, rfl, hk⟩ := hq
    refine ⟨[], rfl, ?_⟩
    refine r_aload_n X (pc := 49) dX5_ifOther_49 rfl (q := 0) rfl ?_
    refine r_iload_n X (pc := 50) dX5_ifOther_50 rfl (q := 1) rfl ?_
    refine r_callV X (pc := 51) (As := [vI x1]) (st := []) rfl rfl rfl (tw_t t _ h0) m_X5_458 (fun _ => s_X5_switches hz hk) ⟨by decide, by decide⟩ (Nat.le_of_ble_eq_true rfl) dX5_ifOther_51 (fun v9 h9 n9 z9 hq => ?_) (fun _ _ _ _ _ hf => hf.elim)
    obtain ⟨rfl, rfl, rfl, sg20, rfl, hk⟩ := hq
    refine ⟨[], rfl, ?_⟩
    refine r_aload_n X (pc := 54) dX5_ifOther_54 rfl (q := 0) rfl ?_
    refine r_aload_n X (pc := 55) dX5_ifOther_55 rfl (q := 0) rfl ?_
    refine r_iload_n X (pc := 56) dX5_ifOther_56 rfl (q := 2) rfl ?_
    refine r_iload_n X (pc := 57) dX5_ifOther_57 rfl (q := 3) rfl ?_
    refine r_callV X (pc := 58) (As := [vI x2, vI x3]) (st := [vR (some t)]) rfl rfl rfl (tw_t t _ h0) m_X5_461 (fun _ => s_X5_fromBegin hz hk) ⟨by decide, by decide⟩ (Nat.le_of_ble_eq_true rfl) dX5_ifOther_58 (fun v9 h9 n9 z9 hq => ?_) (fun _ _ _ _ _ hf => hf.elim)
    obtain ⟨r21, rfl, rfl, rfl, sg22, rfl, hk⟩ := hq
    refine ⟨[vI r21], rfl, ?_⟩
    refine r_callV X (pc := 61) (As := [vI r21]) (st := []) rfl rfl rfl (tw_t t _ h0) m_X5_464 (fun _ => s_X5_laidBack hz hk) ⟨by decide, by decide⟩ (Nat.le_of_ble_eq_true rfl) dX5_ifOther_61 (fun v9 h9 n9 z9 hq => ?_) (fun _ _ _ _ _ hf => hf.elim)
    obtain ⟨r23, rfl, rfl, rfl, sg24, rfl, hk⟩ := hq
    refine ⟨[vI r23], rfl, ?_⟩
    exact r_iret X E (pc := 64) dX5_ifOther_64 rfl ⟨_, rfl, rfl, rfl, _, rfl, hk⟩
  · have hk := hk.2 c18
    refine r_iconst X (pc := 43) dX5_ifOther_43 ?_
    exact r_iret X E (pc := 44) dX5_ifOther_44 rfl ⟨_, rfl, rfl, rfl, _, rfl, hk⟩
set_option maxHeartbeats 4000000 in
theorem w_X5_ifOther_21 {K : KT} {Y : YT} {Qx : QxT} {t n z : Nat} {h0 : AH} {κ : Int → TS → Prop} (X : XY K "TrailMarkersModel" "ifOther" cX5_ifOther (Option.some Jvm.ClassFile.FieldType.int) [] 4 11 264 Y) (E : YE K Y (tQ t h0 n z κ) Qx) (hz : kz K ≤ t) : ∀ (sg : TS) (x1 : Int) (x2 : Int) (x3 : Int) (s0 : Int), P_X5_ifOther_21 κ sg x1 x2 x3 s0 → G K Y (tw t sg h0) n z 21 [(0, vR (some t)), (1, vI x1), (2, vI x2), (3, vI x3)] [vI s0, vR (some t)] := by
  intro sg x1 x2 x3 s0 hk
  refine r_iload_n X (pc := 21) dX5_ifOther_21 rfl (q := 3) rfl ?_
  refine r_iconst X (pc := 22) dX5_ifOther_22 ?_
  refine r_bipush X (pc := 23) dX5_ifOther_23 (by decide) ?_
  refine r_callS X (pc := 25) (As := [vI x3, vI 0, vI 7]) (st := [vI s0, vR (some t)]) m_X5_119 (fun _ => s_X5_isIn hk) ⟨by decide, by decide⟩ (Nat.le_of_ble_eq_true rfl) dX5_ifOther_25 (fun v9 h9 n9 z9 hq => ?_) (fun _ _ _ _ _ hf => hf.elim)
  obtain ⟨r25, rfl, rfl, rfl, rfl, hk⟩ := hq
  refine ⟨[vI r25], rfl, ?_⟩
  obtain ⟨b26, hk⟩ := hk
  refine r_if_ne X (pc := 28) (tgt := 35) dX5_ifOther_28 (by decide) b26 (fun c27 => ?_) (fun c27 => ?_)
  · have hk := hk.2 c27
    refine r_iconst X (pc := 35) dX5_ifOther_35 ?_
    exact w_X5_ifOther_36 X E hz sg x1 x2 x3 0 s0 hk
  · have hk := hk.1 c27
    refine r_iconst X (pc := 31) dX5_ifOther_31 ?_
    refine r_goto X (pc := 32) (tgt := 36) dX5_ifOther_32 (by decide) ?_
    exact w_X5_ifOther_36 X E hz sg x1 x2 x3 1 s0 hk
set_option maxHeartbeats 4000000 in
theorem w_X5_ifOther {K : KT} {Y : YT} {Qx : QxT} {t n z : Nat} {h0 : AH} {κ : Int → TS → Prop} (X : XY K "TrailMarkersModel" "ifOther" cX5_ifOther (Option.some Jvm.ClassFile.FieldType.int) [] 4 11 264 Y) (E : YE K Y (tQ t h0 n z κ) Qx) (hz : kz K ≤ t) {sg : TS} {x1 : Int} {x2 : Int} {x3 : Int} (hk : P_X5_ifOther κ sg x1 x2 x3) : G K Y (tw t sg h0) n z 0 (lv_argsA 0 [vR (some t), vI x1, vI x2, vI x3]) [] := by
  show G K Y (tw t sg h0) n z 0 [(0, vR (some t)), (1, vI x1), (2, vI x2), (3, vI x3)] []
  refine r_aload_n X (pc := 0) dX5_ifOther_0 rfl (q := 0) rfl ?_
  refine r_aload_n X (pc := 1) dX5_ifOther_1 rfl (q := 0) rfl ?_
  refine r_iload_n X (pc := 2) dX5_ifOther_2 rfl (q := 1) rfl ?_
  refine r_callV X (pc := 3) (As := [vI x1]) (st := [vR (some t)]) rfl rfl rfl (tw_t t _ h0) m_X5_417 (fun _ => s_X5_noPost hz hk) ⟨by decide, by decide⟩ (Nat.le_of_ble_eq_true rfl) dX5_ifOther_3 (fun v9 h9 n9 z9 hq => ?_) (fun _ _ _ _ _ hf => hf.elim)
  obtain ⟨r28, rfl, rfl, rfl, sg29, rfl, hk⟩ := hq
  refine ⟨[vI r28], rfl, ?_⟩
  obtain ⟨b30, hk⟩ := hk
  refine r_if_ne X (pc := 6) (tgt := 16) dX5_ifOther_6 (by decide) b30 (fun c31 => ?_) (fun c31 => ?_)
  · have hk := hk.2 c31
    refine r_iconst X (pc := 16) dX5_ifOther_16 ?_
    refine r_goto X (pc := 17) (tgt := 21) dX5_ifOther_17 (by decide) ?_
    exact w_X5_ifOther_21 X E hz sg29 x1 x2 x3 1 hk
  · have hk := hk.1 c31
    refine r_iload_n X (pc := 9) dX5_ifOther_9 rfl (q := 2) rfl ?_
    refine r_callS X (pc := 10) (As := [vI x2]) (st := [vR (some t)]) m_X5_414 (fun _ => s_X5_noColour hk) ⟨by decide, by decide⟩ (Nat.le_of_ble_eq_true rfl) dX5_ifOther_10 (fun v9 h9 n9 z9 hq => ?_) (fun _ _ _ _ _ hf => hf.elim)
    obtain ⟨r32, rfl, rfl, rfl, rfl, hk⟩ := hq
    refine ⟨[vI r32], rfl, ?_⟩
    obtain ⟨b33, hk⟩ := hk
    refine r_if_eq X (pc := 13) (tgt := 20) dX5_ifOther_13 (by decide) b33 (fun c34 => ?_) (fun c34 => ?_)
    · have hk := hk.1 c34
      refine r_iconst X (pc := 20) dX5_ifOther_20 ?_
      exact w_X5_ifOther_21 X E hz sg29 x1 x2 x3 0 hk
    · have hk := hk.2 c34
      refine r_iconst X (pc := 16) dX5_ifOther_16 ?_
      refine r_goto X (pc := 17) (tgt := 21) dX5_ifOther_17 (by decide) ?_
      exact w_X5_ifOther_21 X E hz sg29 x1 x2 x3 1 hk
theorem s_X5_ifOther {K : KT} {l : Launch} {t n z : Nat} {h0 : AH} {κ : Int → TS → Prop} (hz : kz K ≤ t) {sg : TS} {x1 : Int} {x2 : Int} {x3 : Int} (hk : P_X5_ifOther κ sg x1 x2 x3) : Ct K l yX5_ifOther (ws_ yX5_ifOther cX5_ifOther 4 (Option.some Jvm.ClassFile.FieldType.int)) 11 264 ([vR (some t), vI x1, vI x2, vI x3].map cV) (tw t sg h0) n z (tQ t h0 n z κ) noX :=
  ct_of (by decide +kernel) (Nat.le_of_ble_eq_true rfl) (fun Y X E => w_X5_ifOther X E hz hk)
set_option maxHeartbeats 4000000 in
theorem w_X5_ifSet_29 {K : KT} {Y : YT} {Qx : QxT} {t n z : Nat} {h0 : AH} {κ : Int → TS → Prop} (X : XY K "TrailMarkersModel" "ifSet" cX5_ifSet (Option.some Jvm.ClassFile.FieldType.int) [] 5 11 264 Y) (E : YE K Y (tQ t h0 n z κ) Qx) (hz : kz K ≤ t) : ∀ (sg : TS) (x1 : Int) (x2 : Int) (x3 : Int) (x4 : Int) (s0 : Int) (s1 : Int), P_X5_ifSet_29 κ sg x1 x2 x3 x4 s0 s1 → G K Y (tw t sg h0) n z 29 [(0, vR (some t)), (1, vI x1), (2, vI x2), (3, vI x3), (4, vI x4)] [vI s0, vI s1, vR (some t)] := by
  intro sg x1 x2 x3 x4 s0 s1 hk
  refine r_iconst X (pc := 29) dX5_ifSet_29 ?_
  refine r_callV X (pc := 30) (As := [vI s1, vI s0, vI 0]) (st := []) rfl rfl rfl (tw_t t _ h0) m_X5_258 (fun _ => s_X5_fails hz hk) ⟨by decide, by decide⟩ (Nat.le_of_ble_eq_true rfl) dX5_ifSet_30 (fun v9 h9 n9 z9 hq => ?_) (fun _ _ _ _ _ hf => hf.elim)
  obtain ⟨r12, rfl, rfl, rfl, sg13, rfl, hk⟩ := hq
  refine ⟨[vI r12], rfl, ?_⟩
  obtain ⟨b14, hk⟩ := hk
  refine r_if_eq X (pc := 33) (tgt := 38) dX5_ifSet_33 (by decide) b14 (fun c15 => ?_) (fun c15 => ?_)
  · have hk := hk.1 c15
    refine r_aload_n X (pc := 38) dX5_ifSet_38 rfl (q := 0) rfl ?_
    refine r_callV X (pc := 39) (As := []) (st := []) rfl rfl rfl (tw_t t _ h0) m_X5_455 (fun _ => s_X5_tryOut hz hk) ⟨by decide, by decide⟩ (Nat.le_of_ble_eq_true rfl) dX5_ifSet_39 (fun v9 h9 n9 z9 hq => ?_) (fun _ _ _ _ _ hf => hf.elim)
    obtain ⟨rfl, rfl, rfl, sg16, rfl, hk⟩ := hq
    refine ⟨[], rfl, ?_⟩
    refine r_aload_n X (pc := 42) dX5_ifSet_42 rfl (q := 0) rfl ?_
    refine r_tgR X (pc := 43) (ty := 0) (N := 526) fa_X5_9 rfl (by decide) dX5_ifSet_43 ?_
    refine r_iconst X (pc := 46) dX5_ifSet_46 ?_
    refine r_iload_n X (pc := 47) dX5_ifSet_47 rfl (q := 1) rfl ?_
    refine r_iadd X (pc := 48) dX5_ifSet_48 ?_
    refine r_iload_n X (pc := 49) dX5_ifSet_49 rfl (q := 2) rfl ?_
    obtain ⟨b17, hk⟩ := hk
    refine r_tiast X (pc := 50) hz (N := 526) rfl dX5_ifSet_50 b17 ?_
    refine r_aload_n X (pc := 51) dX5_ifSet_51 rfl (q := 0) rfl ?_
    refine r_aload_n X (pc := 52) dX5_ifSet_52 rfl (q := 0) rfl ?_
    refine r_iload_n X (pc := 53) dX5_ifSet_53 rfl (q := 3) rfl ?_
    refine r_iload X (pc := 54) dX5_ifSet_54 (q := 4) rfl ?_
    refine r_callV X (pc := 56) (As := [vI x3, vI x4]) (st := [vR (some t)]) rfl rfl rfl (tw_t t _ h0) m_X5_461 (fun _ => s_X5_fromBegin hz hk) ⟨by decide, by decide⟩ (Nat.le_of_ble_eq_true rfl) dX5_ifSet_56 (fun v9 h9 n9 z9 hq => ?_) (fun _ _ _ _ _ hf => hf.elim)
    obtain ⟨r18, rfl, rfl, rfl, sg19, rfl, hk⟩ := hq
    refine ⟨[vI r18], rfl, ?_⟩
    refine r_callV X (pc := 59) (As := [vI r18]) (st := []) rfl rfl rfl (tw_t t _ h0) m_X5_464 (fun _ => s_X5_laidBack hz hk) ⟨by decide, by decide⟩ (Nat.le_of_ble_eq_true rfl) dX5_ifSet_59 (fun v9 h9 n9 z9 hq => ?_) (fun _ _ _ _ _ hf => hf.elim)
    obtain ⟨r20, rfl, rfl, rfl, sg21, rfl, hk⟩ := hq
    refine ⟨[vI r20], rfl, ?_⟩
    exact r_iret X E (pc := 62) dX5_ifSet_62 rfl ⟨_, rfl, rfl, rfl, _, rfl, hk⟩
  · have hk := hk.2 c15
    refine r_iconst X (pc := 36) dX5_ifSet_36 ?_
    exact r_iret X E (pc := 37) dX5_ifSet_37 rfl ⟨_, rfl, rfl, rfl, _, rfl, hk⟩
set_option maxHeartbeats 4000000 in
theorem w_X5_ifSet {K : KT} {Y : YT} {Qx : QxT} {t n z : Nat} {h0 : AH} {κ : Int → TS → Prop} (X : XY K "TrailMarkersModel" "ifSet" cX5_ifSet (Option.some Jvm.ClassFile.FieldType.int) [] 5 11 264 Y) (E : YE K Y (tQ t h0 n z κ) Qx) (hz : kz K ≤ t) {sg : TS} {x1 : Int} {x2 : Int} {x3 : Int} {x4 : Int} (hk : P_X5_ifSet κ sg x1 x2 x3 x4) : G K Y (tw t sg h0) n z 0 (lv_argsA 0 [vR (some t), vI x1, vI x2, vI x3, vI x4]) [] := by
  show G K Y (tw t sg h0) n z 0 [(0, vR (some t)), (1, vI x1), (2, vI x2), (3, vI x3), (4, vI x4)] []
  refine r_aload_n X (pc := 0) dX5_ifSet_0 rfl (q := 0) rfl ?_
  refine r_iload_n X (pc := 1) dX5_ifSet_1 rfl (q := 3) rfl ?_
  refine r_callS X (pc := 2) (As := [vI x3]) (st := [vR (some t)]) m_X5_414 (fun _ => s_X5_noColour hk) ⟨by decide, by decide⟩ (Nat.le_of_ble_eq_true rfl) dX5_ifSet_2 (fun v9 h9 n9 z9 hq => ?_) (fun _ _ _ _ _ hf => hf.elim)
  obtain ⟨r22, rfl, rfl, rfl, rfl, hk⟩ := hq
  refine ⟨[vI r22], rfl, ?_⟩
  refine r_iload_n X (pc := 5) dX5_ifSet_5 rfl (q := 1) rfl ?_
  refine r_iload_n X (pc := 6) dX5_ifSet_6 rfl (q := 2) rfl ?_
  refine r_callS X (pc := 7) (As := [vI x1, vI x2]) (st := [vI r22, vR (some t)]) m_X5_423 (fun _ => s_X5_noSetting hk) ⟨by decide, by decide⟩ (Nat.le_of_ble_eq_true rfl) dX5_ifSet_7 (fun v9 h9 n9 z9 hq => ?_) (fun _ _ _ _ _ hf => hf.elim)
  obtain ⟨r23, rfl, rfl, rfl, rfl, hk⟩ := hq
  refine ⟨[vI r23], rfl, ?_⟩
  obtain ⟨b24, hk⟩ := hk
  refine r_if_ne X (pc := 10) (tgt := 24) dX5_ifSet_10 (by decide) b24 (fun c25 => ?_) (fun c25 => ?_)
  · have hk := hk.2 c25
    refine r_iconst X (pc := 24) dX5_ifSet_24 ?_
    refine r_goto X (pc := 25) (tgt := 29) dX5_ifSet_25 (by decide) ?_
    exact w_X5_ifSet_29 X E hz sg x1 x2 x3 x4 1 r22 hk
  · have hk := hk.1 c25
    refine r_iload X (pc := 13) dX5_ifSet_13 (q := 4) rfl ?_
    refine r_iconst X (pc := 15) dX5_ifSet_15 ?_
    refine r_bipush X (pc := 16) dX5_ifSet_16 (by decide) ?_
    refine r_callS X (pc := 18) (As := [vI x4, vI 0, vI 7]) (st := [vI r22, vR (some t)]) m_X5_119 (fun _ => s_X5_isIn hk) ⟨by decide, by decide⟩ (Nat.le_of_ble_eq_true rfl) dX5_ifSet_18 (fun v9 h9 n9 z9 hq => ?_) (fun _ _ _ _ _ hf => hf.elim)
    obtain ⟨r26, rfl, rfl, rfl, rfl, hk⟩ := hq
    refine ⟨[vI r26], rfl, ?_⟩
    obtain ⟨b27, hk⟩ := hk
    refine r_if_ne X (pc := 21) (tgt := 28) dX5_ifSet_21 (by decide) b27 (fun c28 => ?_) (fun c28 => ?_)
    · have hk := hk.2 c28
      refine r_iconst X (pc := 28) dX5_ifSet_28 ?_
      exact w_X5_ifSet_29 X E hz sg x1 x2 x3 x4 0 r22 hk
    · have hk := hk.1 c28
      refine r_iconst X (pc := 24) dX5_ifSet_24 ?_
      refine r_goto X (pc := 25) (tgt := 29) dX5_ifSet_25 (by decide) ?_
      exact w_X5_ifSet_29 X E hz sg x1 x2 x3 x4 1 r22 hk
theorem s_X5_ifSet {K : KT} {l : Launch} {t n z : Nat} {h0 : AH} {κ : Int → TS → Prop} (hz : kz K ≤ t) {sg : TS} {x1 : Int} {x2 : Int} {x3 : Int} {x4 : Int} (hk : P_X5_ifSet κ sg x1 x2 x3 x4) : Ct K l yX5_ifSet (ws_ yX5_ifSet cX5_ifSet 5 (Option.some Jvm.ClassFile.FieldType.int)) 11 264 ([vR (some t), vI x1, vI x2, vI x3, vI x4].map cV) (tw t sg h0) n z (tQ t h0 n z κ) noX :=
  ct_of (by decide +kernel) (Nat.le_of_ble_eq_true rfl) (fun Y X E => w_X5_ifSet X E hz hk)
set_option maxHeartbeats 4000000 in
theorem w_X5_extreme_84 {K : KT} {Y : YT} {Qx : QxT} {t n z : Nat} {h0 : AH} {κ : Int → TS → Prop} (X : XY K "TrailMarkersModel" "extreme" cX5_extreme (Option.some Jvm.ClassFile.FieldType.int) [] 8 9 220 Y) (E : YE K Y (tQ t h0 n z κ) Qx) (hz : kz K ≤ t) {k_9 : TS → Int → Int → Int → Int → Int → Int → Prop} {k_98 : TS → Int → Prop} (H_9 : ∀ (sg : TS) (x1 : Int) (x2 : Int) (x3 : Int) (x4 : Int) (x5 : Int) (x6 : Int), k_9 sg x1 x2 x3 x4 x5 x6 → G K Y (tw t sg h0) n z 9 [(0, vR (some t)), (1, vI x1), (2, vI x2), (3, vI x3), (4, vI x4), (5, vI x5), (6, vI x6)] []) (H_98 : ∀ (sg : TS) (x4 : Int), k_98 sg x4 → G K Y (tw t sg h0) n z 98 [(0, vR (some t)), (4, vI x4)] []) : ∀ (sg : TS) (x1 : Int) (x2 : Int) (x3 : Int) (x6 : Int) (x7 : Int), P_X5_extreme_84 k_9 k_98 κ sg x1 x2 x3 x6 x7 → G K Y (tw t sg h0) n z 84 [(0, vR (some t)), (1, vI x1), (2, vI x2), (3, vI x3), (6, vI x6), (7, vI x7)] [] := by
  intro sg x1 x2 x3 x6 x7 hk
  refine r_iload X (pc := 84) dX5_extreme_84 (q := 4) rfl ?_
  refine r_istore X (pc := 86) (lv1 := [(4, vI x6), (0, vR (some t)), (1, vI x1), (2, vI x2), (3, vI x3), (6, vI x6), (7, vI x7)]) dX5_extreme_86 (by decide) rfl ?_
  refine r_iload X (pc := 88) dX5_extreme_88 (q := 6) rfl ?_
  refine r_istore X (pc := 90) (lv1 := [(5, vI x7), (4, vI x6), (0, vR (some t)), (1, vI x1), (2, vI x2), (3, vI x3), (6, vI x6), (7, vI x7)]) dX5_extreme_90 (by decide) rfl ?_
  refine r_iinc X (pc := 92) (q := 6) (lv1 := [(6, vI (x6 + 1)), (5, vI x7), (4, vI x6), (0, vR (some t)), (1, vI x1), (2, vI x2), (3, vI x3), (7, vI x7)]) dX5_extreme_92 rfl (by decide) rfl ?_
  refine r_goto X (pc := 95) (tgt := 9) dX5_extreme_95 (by decide) ?_
  refine G.sub [3, 4, 5, 6, 2, 1, 0] rfl ?_
  exact H_9 sg x1 x2 x3 x6 x7 (x6 + 1) hk
set_option maxHeartbeats 4000000 in
theorem w_X5_extreme_9 {K : KT} {Y : YT} {Qx : QxT} {t n z : Nat} {h0 : AH} {κ : Int → TS → Prop} (X : XY K "TrailMarkersModel" "extreme" cX5_extreme (Option.some Jvm.ClassFile.FieldType.int) [] 8 9 220 Y) (E : YE K Y (tQ t h0 n z κ) Qx) (hz : kz K ≤ t) {k_98 : TS → Int → Prop} (H_98 : ∀ (sg : TS) (x4 : Int), k_98 sg x4 → G K Y (tw t sg h0) n z 98 [(0, vR (some t)), (4, vI x4)] []) : ∀ (f : Nat) (sg : TS) (x1 : Int) (x2 : Int) (x3 : Int) (x4 : Int) (x5 : Int) (x6 : Int), L_X5_extreme_9 k_98 κ f sg x1 x2 x3 x4 x5 x6 → G K Y (tw t sg h0) n z 9 [(0, vR (some t)), (1, vI x1), (2, vI x2), (3, vI x3), (4, vI x4), (5, vI x5), (6, vI x6)] [] := by
  intro f
  induction f with
  | zero => intro sg x1 x2 x3 x4 x5 x6 hk; exact hk.elim
  | succ f ih =>
    intro sg x1 x2 x3 x4 x5 x6 hk
    refine r_iload X (pc := 9) dX5_extreme_9 (q := 6) rfl ?_
    refine r_aload_n X (pc := 11) dX5_extreme_11 rfl (q := 0) rfl ?_
    refine r_tgR X (pc := 12) (ty := 0) (N := 526) fa_X5_9 rfl (by decide) dX5_extreme_12 ?_
    refine r_iconst X (pc := 15) dX5_extreme_15 ?_
    refine r_tiald X (pc := 16) (v := sg.2 0 4) (N := 526) rfl rfl dX5_extreme_16 (by decide) ?_
    obtain ⟨b21, b22, hk⟩ := hk
    refine r_icmp_ge X (pc := 17) (tgt := 98) dX5_extreme_17 (by decide) ⟨b21, b22⟩ (fun c23 => ?_) (fun c23 => ?_)
    · have hk := hk.2 c23
      refine G.sub [0, 4] rfl ?_
      exact H_98 sg x4 hk
    · have hk := hk.1 c23
      refine r_aload_n X (pc := 20) dX5_extreme_20 rfl (q := 0) rfl ?_
      refine r_iload X (pc := 21) dX5_extreme_21 (q := 6) rfl ?_
      refine r_iconst X (pc := 23) dX5_extreme_23 ?_
      refine r_callV X (pc := 24) (As := [vI x6, vI 2]) (st := []) rfl rfl rfl (tw_t t _ h0) m_X5_130 (fun _ => s_X5_of hz hk) ⟨by decide, by decide⟩ (Nat.le_of_ble_eq_true rfl) dX5_extreme_24 (fun v9 h9 n9 z9 hq => ?_) (fun _ _ _ _ _ hf => hf.elim)
      obtain ⟨r24, rfl, rfl, rfl, sg25, rfl, hk⟩ := hq
      refine ⟨[vI r24], rfl, ?_⟩
      refine r_iload_n X (pc := 27) dX5_extreme_27 rfl (q := 1) rfl ?_
      obtain ⟨b26, b27, hk⟩ := hk
      refine r_icmp_ne X (pc := 28) (tgt := 92) dX5_extreme_28 (by decide) ⟨b26, b27⟩ (fun c28 => ?_) (fun c28 => ?_)
      · have hk := hk.2 c28
        refine r_iinc X (pc := 92) (q := 6) (lv1 := [(6, vI (x6 + 1)), (0, vR (some t)), (1, vI x1), (2, vI x2), (3, vI x3), (4, vI x4), (5, vI x5)]) dX5_extreme_92 rfl (by decide) rfl ?_
        refine r_goto X (pc := 95) (tgt := 9) dX5_extreme_95 (by decide) ?_
        refine G.sub [1, 2, 3, 4, 5, 6, 0] rfl ?_
        exact ih sg25 x1 x2 x3 x4 x5 (x6 + 1) hk
      · have hk := hk.1 c28
        refine r_aload_n X (pc := 31) dX5_extreme_31 rfl (q := 0) rfl ?_
        refine r_iload X (pc := 32) dX5_extreme_32 (q := 6) rfl ?_
        refine r_iconst X (pc := 34) dX5_extreme_34 ?_
        refine r_callV X (pc := 35) (As := [vI x6, vI 4]) (st := []) rfl rfl rfl (tw_t t _ h0) m_X5_130 (fun _ => s_X5_of hz hk) ⟨by decide, by decide⟩ (Nat.le_of_ble_eq_true rfl) dX5_extreme_35 (fun v9 h9 n9 z9 hq => ?_) (fun _ _ _ _ _ hf => hf.elim)
        obtain ⟨r29, rfl, rfl, rfl, sg30, rfl, hk⟩ := hq
        refine ⟨[vI r29], rfl, ?_⟩
        refine r_iload_n X (pc := 38) dX5_extreme_38 rfl (q := 2) rfl ?_
        obtain ⟨b31, b32, hk⟩ := hk
        refine r_icmp_eq X (pc := 39) (tgt := 45) dX5_extreme_39 (by decide) ⟨b31, b32⟩ (fun c33 => ?_) (fun c33 => ?_)
        · have hk := hk.1 c33
          refine r_aload_n X (pc := 45) dX5_extreme_45 rfl (q := 0) rfl ?_
          refine r_callV X (pc := 46) (As := []) (st := []) rfl rfl rfl (tw_t t _ h0) m_X5_455 (fun _ => s_X5_tryOut hz hk) ⟨by decide, by decide⟩ (Nat.le_of_ble_eq_true rfl) dX5_extreme_46 (fun v9 h9 n9 z9 hq => ?_) (fun _ _ _ _ _ hf => hf.elim)
          obtain ⟨rfl, rfl, rfl, sg34, rfl, hk⟩ := hq
          refine ⟨[], rfl, ?_⟩
          refine r_aload_n X (pc := 49) dX5_extreme_49 rfl (q := 0) rfl ?_
          refine r_iload X (pc := 50) dX5_extreme_50 (q := 6) rfl ?_
          refine r_callV X (pc := 52) (As := [vI x6]) (st := []) rfl rfl rfl (tw_t t _ h0) m_X5_458 (fun _ => s_X5_switches hz hk) ⟨by decide, by decide⟩ (Nat.le_of_ble_eq_true rfl) dX5_extreme_52 (fun v9 h9 n9 z9 hq => ?_) (fun _ _ _ _ _ hf => hf.elim)
          obtain ⟨rfl, rfl, rfl, sg35, rfl, hk⟩ := hq
          refine ⟨[], rfl, ?_⟩
          refine r_aload_n X (pc := 55) dX5_extreme_55 rfl (q := 0) rfl ?_
          refine r_aload_n X (pc := 56) dX5_extreme_56 rfl (q := 0) rfl ?_
          refine r_iload_n X (pc := 57) dX5_extreme_57 rfl (q := 1) rfl ?_
          refine r_callV X (pc := 58) (As := [vI x1]) (st := [vR (some t)]) rfl rfl rfl (tw_t t _ h0) m_X5_252 (fun _ => s_X5_metBy hz hk) ⟨by decide, by decide⟩ (Nat.le_of_ble_eq_true rfl) dX5_extreme_58 (fun v9 h9 n9 z9 hq => ?_) (fun _ _ _ _ _ hf => hf.elim)
          obtain ⟨r36, rfl, rfl, rfl, sg37, rfl, hk⟩ := hq
          refine ⟨[vI r36], rfl, ?_⟩
          refine r_callV X (pc := 61) (As := [vI r36]) (st := []) rfl rfl rfl (tw_t t _ h0) m_X5_464 (fun _ => s_X5_laidBack hz hk) ⟨by decide, by decide⟩ (Nat.le_of_ble_eq_true rfl) dX5_extreme_61 (fun v9 h9 n9 z9 hq => ?_) (fun _ _ _ _ _ hf => hf.elim)
          obtain ⟨r38, rfl, rfl, rfl, sg39, rfl, hk⟩ := hq
          refine ⟨[vI r38], rfl, ?_⟩
          refine r_iload_n X (pc := 64) dX5_extreme_64 rfl (q := 3) rfl ?_
          refine r_imul X (pc := 65) dX5_extreme_65 ?_
          refine r_istore X (pc := 66) (lv1 := [(7, vI (r38 * x3)), (0, vR (some t)), (1, vI x1), (2, vI x2), (3, vI x3), (4, vI x4), (5, vI x5), (6, vI x6)]) dX5_extreme_66 (by decide) rfl ?_
          refine r_iload X (pc := 68) dX5_extreme_68 (q := 5) rfl ?_
          refine r_iconst X (pc := 70) dX5_extreme_70 ?_
          obtain ⟨b40, hk⟩ := hk
          refine r_icmp_eq X (pc := 71) (tgt := 84) dX5_extreme_71 (by decide) ⟨b40, (by decide)⟩ (fun c41 => ?_) (fun c41 => ?_)
          · have hk := hk.1 c41
            refine G.sub [1, 2, 3, 4, 7, 0] rfl ?_
            have HH42 : ∀ (sg : TS) (x1 : Int) (x2 : Int) (x3 : Int) (x4 : Int) (x5 : Int) (x6 : Int), (L_X5_extreme_9 k_98 κ f sg x1 x2 x3 x4 x5 x6) → G K Y (tw t sg h0) n z 9 [(0, vR (some t)), (1, vI x1), (2, vI x2), (3, vI x3), (4, vI x4), (5, vI x5), (6, vI x6)] [] := by
                intro sg x1 x2 x3 x4 x5 x6 hk
                exact ih sg x1 x2 x3 x4 x5 x6 hk
            exact w_X5_extreme_84 X E hz HH42 H_98 sg39 x1 x2 x3 x6 (r38 * x3) hk
          · have hk := hk.2 c41
            refine r_iload X (pc := 74) dX5_extreme_74 (q := 0) rfl ?_
            refine r_iload X (pc := 76) dX5_extreme_76 (q := 6) rfl ?_
            obtain ⟨b43, b44, hk⟩ := hk
            refine r_icmp_gt X (pc := 78) (tgt := 84) dX5_extreme_78 (by decide) ⟨b43, b44⟩ (fun c45 => ?_) (fun c45 => ?_)
            · have hk := hk.1 c45
              refine G.sub [1, 2, 3, 4, 7, 0] rfl ?_
              have HH46 : ∀ (sg : TS) (x1 : Int) (x2 : Int) (x3 : Int) (x4 : Int) (x5 : Int) (x6 : Int), (L_X5_extreme_9 k_98 κ f sg x1 x2 x3 x4 x5 x6) → G K Y (tw t sg h0) n z 9 [(0, vR (some t)), (1, vI x1), (2, vI x2), (3, vI x3), (4, vI x4), (5, vI x5), (6, vI x6)] [] := by
                  intro sg x1 x2 x3 x4 x5 x6 hk
                  exact ih sg x1 x2 x3 x4 x5 x6 hk
              exact w_X5_extreme_84 X E hz HH46 H_98 sg39 x1 x2 x3 x6 (r38 * x3) hk
            · have hk := hk.2 c45
              refine r_goto X (pc := 81) (tgt := 92) dX5_extreme_81 (by decide) ?_
              refine r_iinc X (pc := 92) (q := 7) (lv1 := [(6, vI (x6 + 1)), (7, vI (r38 * x3)), (0, vR (some t)), (1, vI x1), (2, vI x2), (3, vI x3), (4, vI x4), (5, vI x5)]) dX5_extreme_92 rfl (by decide) rfl ?_
              refine r_goto X (pc := 95) (tgt := 9) dX5_extreme_95 (by decide) ?_
              refine G.sub [2, 3, 4, 5, 6, 7, 0] rfl ?_
              exact ih sg39 x1 x2 x3 x4 x5 (x6 + 1) hk
        · have hk := hk.2 c33
          refine r_goto X (pc := 42) (tgt := 92) dX5_extreme_42 (by decide) ?_
          refine r_iinc X (pc := 92) (q := 6) (lv1 := [(6, vI (x6 + 1)), (0, vR (some t)), (1, vI x1), (2, vI x2), (3, vI x3), (4, vI x4), (5, vI x5)]) dX5_extreme_92 rfl (by decide) rfl ?_
          refine r_goto X (pc := 95) (tgt := 9) dX5_extreme_95 (by decide) ?_
          refine G.sub [1, 2, 3, 4, 5, 6, 0] rfl ?_
          exact ih sg30 x1 x2 x3 x4 x5 (x6 + 1) hk
set_option maxHeartbeats 4000000 in
theorem w_X5_extreme_98 {K : KT} {Y : YT} {Qx : QxT} {t n z : Nat} {h0 : AH} {κ : Int → TS → Prop} (X : XY K "TrailMarkersModel" "extreme" cX5_extreme (Option.some Jvm.ClassFile.FieldType.int) [] 8 9 220 Y) (E : YE K Y (tQ t h0 n z κ) Qx) (hz : kz K ≤ t) : ∀ (sg : TS) (x4 : Int), P_X5_extreme_98 κ sg x4 → G K Y (tw t sg h0) n z 98 [(0, vR (some t)), (4, vI x4)] [] := by
  intro sg x4 hk
  refine r_iload X (pc := 98) dX5_extreme_98 (q := 1) rfl ?_
  exact r_iret X E (pc := 100) dX5_extreme_100 rfl ⟨_, rfl, rfl, rfl, _, rfl, hk⟩
set_option maxHeartbeats 4000000 in
theorem w_X5_extreme {K : KT} {Y : YT} {Qx : QxT} {t n z : Nat} {h0 : AH} {κ : Int → TS → Prop} (X : XY K "TrailMarkersModel" "extreme" cX5_extreme (Option.some Jvm.ClassFile.FieldType.int) [] 8 9 220 Y) (E : YE K Y (tQ t h0 n z κ) Qx) (hz : kz K ≤ t) {sg : TS} {x1 : Int} {x2 : Int} {x3 : Int} (hk : P_X5_extreme κ sg x1 x2 x3) : G K Y (tw t sg h0) n z 0 (lv_argsA 0 [vR (some t), vI x1, vI x2, vI x3]) [] := by
  show G K Y (tw t sg h0) n z 0 [(0, vR (some t)), (1, vI x1), (2, vI x2), (3, vI x3)] []
  refine r_iconst X (pc := 0) dX5_extreme_0 ?_
  refine r_istore X (pc := 1) (lv1 := [(4, vI (-1)), (0, vR (some t)), (1, vI x1), (2, vI x2), (3, vI x3)]) dX5_extreme_1 (by decide) rfl ?_
  refine r_iconst X (pc := 3) dX5_extreme_3 ?_
  refine r_istore X (pc := 4) (lv1 := [(5, vI 0), (4, vI (-1)), (0, vR (some t)), (1, vI x1), (2, vI x2), (3, vI x3)]) dX5_extreme_4 (by decide) rfl ?_
  refine r_iconst X (pc := 6) dX5_extreme_6 ?_
  refine r_istore X (pc := 7) (lv1 := [(6, vI 0), (5, vI 0), (4, vI (-1)), (0, vR (some t)), (1, vI x1), (2, vI x2), (3, vI x3)]) dX5_extreme_7 (by decide) rfl ?_
  refine G.sub [3, 4, 5, 6, 2, 1, 0] rfl ?_
  have HH47 : ∀ (sg : TS) (x4 : Int), (P_X5_extreme_98 κ sg x4) → G K Y (tw t sg h0) n z 98 [(0, vR (some t)), (4, vI x4)] [] := by
      intro sg x4 hk
      exact w_X5_extreme_98 X E hz sg x4 hk
  obtain ⟨f9, hk⟩ := hk
  exact w_X5_extreme_9 X E hz HH47 f9 sg x1 x2 x3 (-1) 0 0 hk
theorem s_X5_extreme {K : KT} {l : Launch} {t n z : Nat} {h0 : AH} {κ : Int → TS → Prop} (hz : kz K ≤ t) {sg : TS} {x1 : Int} {x2 : Int} {x3 : Int} (hk : P_X5_extreme κ sg x1 x2 x3) : Ct K l yX5_extreme (ws_ yX5_extreme cX5_extreme 8 (Option.some Jvm.ClassFile.FieldType.int)) 9 220 ([vR (some t), vI x1, vI x2, vI x3].map cV) (tw t sg h0) n z (tQ t h0 n z κ) noX :=
  ct_of (by decide +kernel) (Nat.le_of_ble_eq_true rfl) (fun Y X E => w_X5_extreme X E hz hk)
set_option maxHeartbeats 4000000 in
theorem w_X5_bestMend {K : KT} {Y : YT} {Qx : QxT} {t n z : Nat} {h0 : AH} {κ : Int → TS → Prop} (X : XY K "TrailMarkersModel" "bestMend" cX5_bestMend (Option.some Jvm.ClassFile.FieldType.int) [] 2 10 247 Y) (E : YE K Y (tQ t h0 n z κ) Qx) (hz : kz K ≤ t) {sg : TS} {x1 : Int} (hk : P_X5_bestMend κ sg x1) : G K Y (tw t sg h0) n z 0 (lv_argsA 0 [vR (some t), vI x1]) [] := by
  show G K Y (tw t sg h0) n z 0 [(0, vR (some t)), (1, vI x1)] []
  refine r_aload_n X (pc := 0) dX5_bestMend_0 rfl (q := 0) rfl ?_
  refine r_iload_n X (pc := 1) dX5_bestMend_1 rfl (q := 1) rfl ?_
  refine r_callS X (pc := 2) (As := [vI x1]) (st := [vR (some t)]) m_X5_414 (fun _ => s_X5_noColour hk) ⟨by decide, by decide⟩ (Nat.le_of_ble_eq_true rfl) dX5_bestMend_2 (fun v9 h9 n9 z9 hq => ?_) (fun _ _ _ _ _ hf => hf.elim)
  obtain ⟨r5, rfl, rfl, rfl, rfl, hk⟩ := hq
  refine ⟨[vI r5], rfl, ?_⟩
  refine r_iconst X (pc := 5) dX5_bestMend_5 ?_
  refine r_iconst X (pc := 6) dX5_bestMend_6 ?_
  refine r_callV X (pc := 7) (As := [vI r5, vI 0, vI 0]) (st := []) rfl rfl rfl (tw_t t _ h0) m_X5_258 (fun _ => s_X5_fails hz hk) ⟨by decide, by decide⟩ (Nat.le_of_ble_eq_true rfl) dX5_bestMend_7 (fun v9 h9 n9 z9 hq => ?_) (fun _ _ _ _ _ hf => hf.elim)
  obtain ⟨r6, rfl, rfl, rfl, sg7, rfl, hk⟩ := hq
  refine ⟨[vI r6], rfl, ?_⟩
  obtain ⟨b8, hk⟩ := hk
  refine r_if_eq X (pc := 10) (tgt := 15) dX5_bestMend_10 (by decide) b8 (fun c9 => ?_) (fun c9 => ?_)
  · have hk := hk.1 c9
    refine r_aload_n X (pc := 15) dX5_bestMend_15 rfl (q := 0) rfl ?_
    refine r_iload_n X (pc := 16) dX5_bestMend_16 rfl (q := 1) rfl ?_
    refine r_iconst X (pc := 17) dX5_bestMend_17 ?_
    refine r_iconst X (pc := 18) dX5_bestMend_18 ?_
    refine r_callV X (pc := 19) (As := [vI x1, vI 1, vI 1]) (st := []) rfl rfl rfl (tw_t t _ h0) m_X5_467 (fun _ => s_X5_extreme hz hk) ⟨by decide, by decide⟩ (Nat.le_of_ble_eq_true rfl) dX5_bestMend_19 (fun v9 h9 n9 z9 hq => ?_) (fun _ _ _ _ _ hf => hf.elim)
    obtain ⟨r10, rfl, rfl, rfl, sg11, rfl, hk⟩ := hq
    refine ⟨[vI r10], rfl, ?_⟩
    exact r_iret X E (pc := 22) dX5_bestMend_22 rfl ⟨_, rfl, rfl, rfl, _, rfl, hk⟩
  · have hk := hk.2 c9
    refine r_iconst X (pc := 13) dX5_bestMend_13 ?_
    exact r_iret X E (pc := 14) dX5_bestMend_14 rfl ⟨_, rfl, rfl, rfl, _, rfl, hk⟩
theorem s_X5_bestMend {K : KT} {l : Launch} {t n z : Nat} {h0 : AH} {κ : Int → TS → Prop} (hz : kz K ≤ t) {sg : TS} {x1 : Int} (hk : P_X5_bestMend κ sg x1) : Ct K l yX5_bestMend (ws_ yX5_bestMend cX5_bestMend 2 (Option.some Jvm.ClassFile.FieldType.int)) 10 247 ([vR (some t), vI x1].map cV) (tw t sg h0) n z (tQ t h0 n z κ) noX :=
  ct_of (by decide +kernel) (Nat.le_of_ble_eq_true rfl) (fun Y X E => w_X5_bestMend X E hz hk)
set_option maxHeartbeats 4000000 in
theorem w_X5_worstLoss {K : KT} {Y : YT} {Qx : QxT} {t n z : Nat} {h0 : AH} {κ : Int → TS → Prop} (X : XY K "TrailMarkersModel" "worstLoss" cX5_worstLoss (Option.some Jvm.ClassFile.FieldType.int) [] 2 10 247 Y) (E : YE K Y (tQ t h0 n z κ) Qx) (hz : kz K ≤ t) {sg : TS} {x1 : Int} (hk : P_X5_worstLoss κ sg x1) : G K Y (tw t sg h0) n z 0 (lv_argsA 0 [vR (some t), vI x1]) [] := by
  show G K Y (tw t sg h0) n z 0 [(0, vR (some t)), (1, vI x1)] []
  refine r_aload_n X (pc := 0) dX5_worstLoss_0 rfl (q := 0) rfl ?_
  refine r_iload_n X (pc := 1) dX5_worstLoss_1 rfl (q := 1) rfl ?_
  refine r_callS X (pc := 2) (As := [vI x1]) (st := [vR (some t)]) m_X5_414 (fun _ => s_X5_noColour hk) ⟨by decide, by decide⟩ (Nat.le_of_ble_eq_true rfl) dX5_worstLoss_2 (fun v9 h9 n9 z9 hq => ?_) (fun _ _ _ _ _ hf => hf.elim)
  obtain ⟨r5, rfl, rfl, rfl, rfl, hk⟩ := hq
  refine ⟨[vI r5], rfl, ?_⟩
  refine r_iconst X (pc := 5) dX5_worstLoss_5 ?_
  refine r_iconst X (pc := 6) dX5_worstLoss_6 ?_
  refine r_callV X (pc := 7) (As := [vI r5, vI 0, vI 0]) (st := []) rfl rfl rfl (tw_t t _ h0) m_X5_258 (fun _ => s_X5_fails hz hk) ⟨by decide, by decide⟩ (Nat.le_of_ble_eq_true rfl) dX5_worstLoss_7 (fun v9 h9 n9 z9 hq => ?_) (fun _ _ _ _ _ hf => hf.elim)
  obtain ⟨r6, rfl, rfl, rfl, sg7, rfl, hk⟩ := hq
  refine ⟨[vI r6], rfl, ?_⟩
  obtain ⟨b8, hk⟩ := hk
  refine r_if_eq X (pc := 10) (tgt := 15) dX5_worstLoss_10 (by decide) b8 (fun c9 => ?_) (fun c9 => ?_)
  · have hk := hk.1 c9
    refine r_aload_n X (pc := 15) dX5_worstLoss_15 rfl (q := 0) rfl ?_
    refine r_iload_n X (pc := 16) dX5_worstLoss_16 rfl (q := 1) rfl ?_
    refine r_iconst X (pc := 17) dX5_worstLoss_17 ?_
    refine r_iconst X (pc := 18) dX5_worstLoss_18 ?_
    refine r_callV X (pc := 19) (As := [vI x1, vI 0, vI (-1)]) (st := []) rfl rfl rfl (tw_t t _ h0) m_X5_467 (fun _ => s_X5_extreme hz hk) ⟨by decide, by decide⟩ (Nat.le_of_ble_eq_true rfl) dX5_worstLoss_19 (fun v9 h9 n9 z9 hq => ?_) (fun _ _ _ _ _ hf => hf.elim)
    obtain ⟨r10, rfl, rfl, rfl, sg11, rfl, hk⟩ := hq
    refine ⟨[vI r10], rfl, ?_⟩
    exact r_iret X E (pc := 22) dX5_worstLoss_22 rfl ⟨_, rfl, rfl, rfl, _, rfl, hk⟩
  · have hk := hk.2 c9
    refine r_iconst X (pc := 13) dX5_worstLoss_13 ?_
    exact r_iret X E (pc := 14) dX5_worstLoss_14 rfl ⟨_, rfl, rfl, rfl, _, rfl, hk⟩
theorem s_X5_worstLoss {K : KT} {l : Launch} {t n z : Nat} {h0 : AH} {κ : Int → TS → Prop} (hz : kz K ≤ t) {sg : TS} {x1 : Int} (hk : P_X5_worstLoss κ sg x1) : Ct K l yX5_worstLoss (ws_ yX5_worstLoss cX5_worstLoss 2 (Option.some Jvm.ClassFile.FieldType.int)) 10 247 ([vR (some t), vI x1].map cV) (tw t sg h0) n z (tQ t h0 n z κ) noX :=
  ct_of (by decide +kernel) (Nat.le_of_ble_eq_true rfl) (fun Y X E => w_X5_worstLoss X E hz hk)
set_option maxHeartbeats 4000000 in
theorem w_X5_leastGap_28 {K : KT} {Y : YT} {Qx : QxT} {t n z : Nat} {h0 : AH} {κ : Int → TS → Prop} (X : XY K "TrailMarkersModel" "leastGap" cX5_leastGap (Option.some Jvm.ClassFile.FieldType.int) [] 5 10 242 Y) (E : YE K Y (tQ t h0 n z κ) Qx) (hz : kz K ≤ t) {k_59 : TS → Int → Int → Prop} (H_59 : ∀ (sg : TS) (x2 : Int) (x3 : Int), k_59 sg x2 x3 → G K Y (tw t sg h0) n z 59 [(0, vR (some t)), (2, vI x2), (3, vI x3)] []) : ∀ (f : Nat) (sg : TS) (x1 : Int) (x2 : Int) (x3 : Int) (x4 : Int), L_X5_leastGap_28 k_59 κ f sg x1 x2 x3 x4 → G K Y (tw t sg h0) n z 28 [(0, vR (some t)), (1, vI x1), (2, vI x2), (3, vI x3), (4, vI x4)] [] := by
  intro f
  induction f with
  | zero => intro sg x1 x2 x3 x4 hk; exact hk.elim
  | succ f ih =>
    intro sg x1 x2 x3 x4 hk
    refine r_iload X (pc := 28) dX5_leastGap_28 (q := 4) rfl ?_
    refine r_iconst X (pc := 30) dX5_leastGap_30 ?_
    obtain ⟨b9, hk⟩ := hk
    refine r_icmp_lt X (pc := 31) (tgt := 59) dX5_leastGap_31 (by decide) ⟨b9, (by decide)⟩ (fun c10 => ?_) (fun c10 => ?_)
    · have hk := hk.1 c10
      refine G.sub [0, 2, 3] rfl ?_
      exact H_59 sg x2 x3 hk
    · have hk := hk.2 c10
      refine r_aload_n X (pc := 34) dX5_leastGap_34 rfl (q := 0) rfl ?_
      refine r_tgR X (pc := 35) (ty := 0) (N := 526) fa_X5_9 rfl (by decide) dX5_leastGap_35 ?_
      refine r_iconst X (pc := 38) dX5_leastGap_38 ?_
      refine r_iload X (pc := 39) dX5_leastGap_39 (q := 4) rfl ?_
      refine r_tiast X (pc := 41) hz (N := 526) rfl dX5_leastGap_41 (by decide) ?_
      refine r_aload_n X (pc := 42) dX5_leastGap_42 rfl (q := 0) rfl ?_
      refine r_iload_n X (pc := 43) dX5_leastGap_43 rfl (q := 1) rfl ?_
      refine r_callV X (pc := 44) (As := [vI x1]) (st := []) rfl rfl rfl (tw_t t _ h0) m_X5_426 (fun _ => s_X5_isComplete hz hk) ⟨by decide, by decide⟩ (Nat.le_of_ble_eq_true rfl) dX5_leastGap_44 (fun v9 h9 n9 z9 hq => ?_) (fun _ _ _ _ _ hf => hf.elim)
      obtain ⟨r11, rfl, rfl, rfl, sg12, rfl, hk⟩ := hq
      refine ⟨[vI r11], rfl, ?_⟩
      obtain ⟨b13, hk⟩ := hk
      refine r_if_eq X (pc := 47) (tgt := 53) dX5_leastGap_47 (by decide) b13 (fun c14 => ?_) (fun c14 => ?_)
      · have hk := hk.1 c14
        refine r_iinc X (pc := 53) (q := 4) (lv1 := [(4, vI (x4 + (-1))), (0, vR (some t)), (1, vI x1), (2, vI x2), (3, vI x3)]) dX5_leastGap_53 rfl (by decide) rfl ?_
        refine r_goto X (pc := 56) (tgt := 28) dX5_leastGap_56 (by decide) ?_
        refine G.sub [1, 2, 3, 4, 0] rfl ?_
        exact ih sg12 x1 x2 x3 (x4 + (-1)) hk
      · have hk := hk.2 c14
        refine r_iload X (pc := 50) dX5_leastGap_50 (q := 4) rfl ?_
        refine r_istore_n X (pc := 52) (lv1 := [(3, vI x4), (0, vR (some t)), (1, vI x1), (2, vI x2), (4, vI x4)]) dX5_leastGap_52 rfl (by decide) rfl ?_
        refine r_iinc X (pc := 53) (q := 4) (lv1 := [(4, vI (x4 + (-1))), (3, vI x4), (0, vR (some t)), (1, vI x1), (2, vI x2)]) dX5_leastGap_53 rfl (by decide) rfl ?_
        refine r_goto X (pc := 56) (tgt := 28) dX5_leastGap_56 (by decide) ?_
        refine G.sub [2, 3, 4, 1, 0] rfl ?_
        exact ih sg12 x1 x2 x4 (x4 + (-1)) hk
set_option maxHeartbeats 4000000 in
theorem w_X5_leastGap_59 {K : KT} {Y : YT} {Qx : QxT} {t n z : Nat} {h0 : AH} {κ : Int → TS → Prop} (X : XY K "TrailMarkersModel" "leastGap" cX5_leastGap (Option.some Jvm.ClassFile.FieldType.int) [] 5 10 242 Y) (E : YE K Y (tQ t h0 n z κ) Qx) (hz : kz K ≤ t) : ∀ (sg : TS) (x2 : Int) (x3 : Int), P_X5_leastGap_59 κ sg x2 x3 → G K Y (tw t sg h0) n z 59 [(0, vR (some t)), (2, vI x2), (3, vI x3)] [] := by
  intro sg x2 x3 hk
  refine r_aload_n X (pc := 59) dX5_leastGap_59 rfl (q := 0) rfl ?_
  refine r_tgR X (pc := 60) (ty := 0) (N := 526) fa_X5_9 rfl (by decide) dX5_leastGap_60 ?_
  refine r_iconst X (pc := 63) dX5_leastGap_63 ?_
  refine r_iload_n X (pc := 64) dX5_leastGap_64 rfl (q := 1) rfl ?_
  refine r_tiast X (pc := 65) hz (N := 526) rfl dX5_leastGap_65 (by decide) ?_
  refine r_iload_n X (pc := 66) dX5_leastGap_66 rfl (q := 2) rfl ?_
  exact r_iret X E (pc := 67) dX5_leastGap_67 rfl ⟨_, rfl, rfl, rfl, _, rfl, hk⟩
set_option maxHeartbeats 4000000 in
theorem w_X5_leastGap {K : KT} {Y : YT} {Qx : QxT} {t n z : Nat} {h0 : AH} {κ : Int → TS → Prop} (X : XY K "TrailMarkersModel" "leastGap" cX5_leastGap (Option.some Jvm.ClassFile.FieldType.int) [] 5 10 242 Y) (E : YE K Y (tQ t h0 n z κ) Qx) (hz : kz K ≤ t) {sg : TS} {x1 : Int} (hk : P_X5_leastGap κ sg x1) : G K Y (tw t sg h0) n z 0 (lv_argsA 0 [vR (some t), vI x1]) [] := by
  show G K Y (tw t sg h0) n z 0 [(0, vR (some t)), (1, vI x1)] []
  refine r_aload_n X (pc := 0) dX5_leastGap_0 rfl (q := 0) rfl ?_
  refine r_iload_n X (pc := 1) dX5_leastGap_1 rfl (q := 1) rfl ?_
  refine r_callS X (pc := 2) (As := [vI x1]) (st := [vR (some t)]) m_X5_414 (fun _ => s_X5_noColour hk) ⟨by decide, by decide⟩ (Nat.le_of_ble_eq_true rfl) dX5_leastGap_2 (fun v9 h9 n9 z9 hq => ?_) (fun _ _ _ _ _ hf => hf.elim)
  obtain ⟨r15, rfl, rfl, rfl, rfl, hk⟩ := hq
  refine ⟨[vI r15], rfl, ?_⟩
  refine r_iconst X (pc := 5) dX5_leastGap_5 ?_
  refine r_iconst X (pc := 6) dX5_leastGap_6 ?_
  refine r_callV X (pc := 7) (As := [vI r15, vI 0, vI 0]) (st := []) rfl rfl rfl (tw_t t _ h0) m_X5_258 (fun _ => s_X5_fails hz hk) ⟨by decide, by decide⟩ (Nat.le_of_ble_eq_true rfl) dX5_leastGap_7 (fun v9 h9 n9 z9 hq => ?_) (fun _ _ _ _ _ hf => hf.elim)
  obtain ⟨r16, rfl, rfl, rfl, sg17, rfl, hk⟩ := hq
  refine ⟨[vI r16], rfl, ?_⟩
  obtain ⟨b18, hk⟩ := hk
  refine r_if_eq X (pc := 10) (tgt := 15) dX5_leastGap_10 (by decide) b18 (fun c19 => ?_) (fun c19 => ?_)
  · have hk := hk.1 c19
    refine r_aload_n X (pc := 15) dX5_leastGap_15 rfl (q := 0) rfl ?_
    refine r_tgR X (pc := 16) (ty := 0) (N := 526) fa_X5_9 rfl (by decide) dX5_leastGap_16 ?_
    refine r_iconst X (pc := 19) dX5_leastGap_19 ?_
    refine r_tiald X (pc := 20) (v := sg17.2 0 2) (N := 526) rfl rfl dX5_leastGap_20 (by decide) ?_
    refine r_istore_n X (pc := 21) (lv1 := [(2, vI (sg17.2 0 2)), (0, vR (some t)), (1, vI x1)]) dX5_leastGap_21 rfl (by decide) rfl ?_
    refine r_iconst X (pc := 22) dX5_leastGap_22 ?_
    refine r_istore_n X (pc := 23) (lv1 := [(3, vI (-1)), (2, vI (sg17.2 0 2)), (0, vR (some t)), (1, vI x1)]) dX5_leastGap_23 rfl (by decide) rfl ?_
    refine r_bipush X (pc := 24) dX5_leastGap_24 (by decide) ?_
    refine r_istore X (pc := 26) (lv1 := [(4, vI 12), (3, vI (-1)), (2, vI (sg17.2 0 2)), (0, vR (some t)), (1, vI x1)]) dX5_leastGap_26 (by decide) rfl ?_
    refine G.sub [3, 4, 2, 1, 0] rfl ?_
    have HH20 : ∀ (sg : TS) (x2 : Int) (x3 : Int), (P_X5_leastGap_59 κ sg x2 x3) → G K Y (tw t sg h0) n z 59 [(0, vR (some t)), (2, vI x2), (3, vI x3)] [] := by
        intro sg x2 x3 hk
        exact w_X5_leastGap_59 X E hz sg x2 x3 hk
    obtain ⟨f9, hk⟩ := hk
    exact w_X5_leastGap_28 X E hz HH20 f9 sg17 x1 (sg17.2 0 2) (-1) 12 hk
  · have hk := hk.2 c19
    refine r_iconst X (pc := 13) dX5_leastGap_13 ?_
    exact r_iret X E (pc := 14) dX5_leastGap_14 rfl ⟨_, rfl, rfl, rfl, _, rfl, hk⟩
theorem s_X5_leastGap {K : KT} {l : Launch} {t n z : Nat} {h0 : AH} {κ : Int → TS → Prop} (hz : kz K ≤ t) {sg : TS} {x1 : Int} (hk : P_X5_leastGap κ sg x1) : Ct K l yX5_leastGap (ws_ yX5_leastGap cX5_leastGap 5 (Option.some Jvm.ClassFile.FieldType.int)) 10 242 ([vR (some t), vI x1].map cV) (tw t sg h0) n z (tQ t h0 n z κ) noX :=
  ct_of (by decide +kernel) (Nat.le_of_ble_eq_true rfl) (fun Y X E => w_X5_leastGap X E hz hk)
set_option maxHeartbeats 4000000 in
theorem w_X5_gap_183 {K : KT} {Y : YT} {Qx : QxT} {t n z : Nat} {h0 : AH} {κ : Int → TS → Prop} (X : XY K "TrailMarkersModel" "gap" cX5_gap (Option.some Jvm.ClassFile.FieldType.int) [] 7 8 199 Y) (E : YE K Y (tQ t h0 n z κ) Qx) (hz : kz K ≤ t) {k_9 : TS → Int → Int → Prop} {k_189 : TS → Int → Prop} (H_9 : ∀ (sg : TS) (x1 : Int) (x2 : Int), k_9 sg x1 x2 → G K Y (tw t sg h0) n z 9 [(0, vR (some t)), (1, vI x1), (2, vI x2)] []) (H_189 : ∀ (sg : TS) (x1 : Int), k_189 sg x1 → G K Y (tw t sg h0) n z 189 [(0, vR (some t)), (1, vI x1)] []) : ∀ (sg : TS) (x1 : Int) (x2 : Int), P_X5_gap_183 k_9 k_189 κ sg x1 x2 → G K Y (tw t sg h0) n z 183 [(0, vR (some t)), (1, vI x1), (2, vI x2)] [] := by
  intro sg x1 x2 hk
  refine r_iinc X (pc := 183) (q := 2) (lv1 := [(2, vI (x2 + 1)), (0, vR (some t)), (1, vI x1)]) dX5_gap_183 rfl (by decide) rfl ?_
  refine r_goto X (pc := 186) (tgt := 9) dX5_gap_186 (by decide) ?_
  refine G.sub [1, 2, 0] rfl ?_
  exact H_9 sg x1 (x2 + 1) hk
set_option maxHeartbeats 4000000 in
theorem w_X5_gap_39 {K : KT} {Y : YT} {Qx : QxT} {t n z : Nat} {h0 : AH} {κ : Int → TS → Prop} (X : XY K "TrailMarkersModel" "gap" cX5_gap (Option.some Jvm.ClassFile.FieldType.int) [] 7 8 199 Y) (E : YE K Y (tQ t h0 n z κ) Qx) (hz : kz K ≤ t) {k_64 : TS → Int → Int → Int → Prop} (H_64 : ∀ (sg : TS) (x1 : Int) (x2 : Int) (x3 : Int), k_64 sg x1 x2 x3 → G K Y (tw t sg h0) n z 64 [(0, vR (some t)), (1, vI x1), (2, vI x2), (3, vI x3)] []) : ∀ (f : Nat) (sg : TS) (x1 : Int) (x2 : Int) (x3 : Int) (x4 : Int), L_X5_gap_39 k_64 κ f sg x1 x2 x3 x4 → G K Y (tw t sg h0) n z 39 [(0, vR (some t)), (1, vI x1), (2, vI x2), (3, vI x3), (4, vI x4)] [] := by
  intro f
  induction f with
  | zero => intro sg x1 x2 x3 x4 hk; exact hk.elim
  | succ f ih =>
    intro sg x1 x2 x3 x4 hk
    refine r_iload X (pc := 39) dX5_gap_39 (q := 4) rfl ?_
    refine r_aload_n X (pc := 41) dX5_gap_41 rfl (q := 0) rfl ?_
    refine r_tgI X (pc := 42) (v := sg.1 34) fa_X5_202 (by decide) rfl dX5_gap_42 ?_
    obtain ⟨b28, b29, hk⟩ := hk
    refine r_icmp_ge X (pc := 45) (tgt := 64) dX5_gap_45 (by decide) ⟨b28, b29⟩ (fun c30 => ?_) (fun c30 => ?_)
    · have hk := hk.2 c30
      refine G.sub [0, 1, 2, 3] rfl ?_
      exact H_64 sg x1 x2 x3 hk
    · have hk := hk.1 c30
      refine r_iload_n X (pc := 48) dX5_gap_48 rfl (q := 3) rfl ?_
      refine r_aload_n X (pc := 49) dX5_gap_49 rfl (q := 0) rfl ?_
      refine r_tgR X (pc := 50) (ty := 0) (N := 100) fa_X5_48 rfl (by decide) dX5_gap_50 ?_
      refine r_iload X (pc := 53) dX5_gap_53 (q := 4) rfl ?_
      obtain ⟨b31, hk⟩ := hk
      refine r_tiald X (pc := 55) (v := sg.2 27 x4) (N := 100) rfl rfl dX5_gap_55 b31 ?_
      refine r_iadd X (pc := 56) dX5_gap_56 ?_
      refine r_istore_n X (pc := 57) (lv1 := [(3, vI (x3 + (sg.2 27 x4))), (0, vR (some t)), (1, vI x1), (2, vI x2), (4, vI x4)]) dX5_gap_57 rfl (by decide) rfl ?_
      refine r_iinc X (pc := 58) (q := 4) (lv1 := [(4, vI (x4 + 1)), (3, vI (x3 + (sg.2 27 x4))), (0, vR (some t)), (1, vI x1), (2, vI x2)]) dX5_gap_58 rfl (by decide) rfl ?_
      refine r_goto X (pc := 61) (tgt := 39) dX5_gap_61 (by decide) ?_
      refine G.sub [2, 3, 4, 1, 0] rfl ?_
      exact ih sg x1 x2 (x3 + (sg.2 27 x4)) (x4 + 1) hk
set_option maxHeartbeats 4000000 in
theorem w_X5_gap_128 {K : KT} {Y : YT} {Qx : QxT} {t n z : Nat} {h0 : AH} {κ : Int → TS → Prop} (X : XY K "TrailMarkersModel" "gap" cX5_gap (Option.some Jvm.ClassFile.FieldType.int) [] 7 8 199 Y) (E : YE K Y (tQ t h0 n z κ) Qx) (hz : kz K ≤ t) {k_81 : TS → Int → Int → Int → Prop} {k_183 : TS → Int → Int → Prop} (H_81 : ∀ (sg : TS) (x1 : Int) (x2 : Int) (x4 : Int), k_81 sg x1 x2 x4 → G K Y (tw t sg h0) n z 81 [(0, vR (some t)), (1, vI x1), (2, vI x2), (4, vI x4)] []) (H_183 : ∀ (sg : TS) (x1 : Int) (x2 : Int), k_183 sg x1 x2 → G K Y (tw t sg h0) n z 183 [(0, vR (some t)), (1, vI x1), (2, vI x2)] []) : ∀ (sg : TS) (x1 : Int) (x2 : Int) (x4 : Int) (x5 : Int) (x6 : Int), P_X5_gap_128 k_81 k_183 κ sg x1 x2 x4 x5 x6 → G K Y (tw t sg h0) n z 128 [(0, vR (some t)), (1, vI x1), (2, vI x2), (4, vI x4), (5, vI x5), (6, vI x6)] [] := by
  intro sg x1 x2 x4 x5 x6 hk
  refine r_iload X (pc := 128) dX5_gap_128 (q := 3) rfl ?_
  obtain ⟨b32, hk⟩ := hk
  refine r_if_le X (pc := 130) (tgt := 177) dX5_gap_130 (by decide) b32 (fun c33 => ?_) (fun c33 => ?_)
  · have hk := hk.2 c33
    refine r_iinc X (pc := 177) (q := 3) (lv1 := [(4, vI (x4 + 1)), (0, vR (some t)), (1, vI x1), (2, vI x2), (5, vI x5), (6, vI x6)]) dX5_gap_177 rfl (by decide) rfl ?_
    refine r_goto X (pc := 180) (tgt := 81) dX5_gap_180 (by decide) ?_
    refine G.sub [1, 2, 3, 0] rfl ?_
    exact H_81 sg x1 x2 (x4 + 1) hk
  · have hk := hk.1 c33
    refine r_iload X (pc := 133) dX5_gap_133 (q := 4) rfl ?_
    refine r_aload_n X (pc := 135) dX5_gap_135 rfl (q := 0) rfl ?_
    refine r_tgR X (pc := 136) (ty := 0) (N := 1000) fa_X5_45 rfl (by decide) dX5_gap_136 ?_
    refine r_iload X (pc := 139) dX5_gap_139 (q := 3) rfl ?_
    refine r_iconst X (pc := 141) dX5_gap_141 ?_
    refine r_isub X (pc := 142) dX5_gap_142 ?_
    obtain ⟨b34, hk⟩ := hk
    refine r_tiald X (pc := 143) (v := sg.2 26 (x4 - 1)) (N := 1000) rfl rfl dX5_gap_143 b34 ?_
    refine r_bipush X (pc := 144) dX5_gap_144 (by decide) ?_
    obtain ⟨b35, hk⟩ := hk
    refine r_idiv X (pc := 146) dX5_gap_146 ⟨⟨b35, (by decide)⟩, (by decide)⟩ ?_
    refine r_isub X (pc := 147) dX5_gap_147 ?_
    obtain ⟨b36, hk⟩ := hk
    refine r_mabs X (pc := 148) q3630 q1354 q152 q1355 b36 ⟨by decide, Nat.le_of_ble_eq_true rfl⟩ dX5_gap_148 ?_
    refine r_iload X (pc := 151) dX5_gap_151 (q := 5) rfl ?_
    refine r_aload_n X (pc := 153) dX5_gap_153 rfl (q := 0) rfl ?_
    refine r_tgR X (pc := 154) (ty := 0) (N := 1000) fa_X5_45 rfl (by decide) dX5_gap_154 ?_
    refine r_iload X (pc := 157) dX5_gap_157 (q := 3) rfl ?_
    refine r_iconst X (pc := 159) dX5_gap_159 ?_
    refine r_isub X (pc := 160) dX5_gap_160 ?_
    refine r_tiald X (pc := 161) (v := sg.2 26 (x4 - 1)) (N := 1000) rfl rfl dX5_gap_161 b34 ?_
    refine r_bipush X (pc := 162) dX5_gap_162 (by decide) ?_
    refine r_irem X (pc := 164) dX5_gap_164 ⟨⟨b35, (by decide)⟩, (by decide)⟩ ?_
    refine r_isub X (pc := 165) dX5_gap_165 ?_
    obtain ⟨b37, hk⟩ := hk
    refine r_mabs X (pc := 166) q3630 q1354 q152 q1355 b37 ⟨by decide, Nat.le_of_ble_eq_true rfl⟩ dX5_gap_166 ?_
    refine r_iadd X (pc := 169) dX5_gap_169 ?_
    refine r_iconst X (pc := 170) dX5_gap_170 ?_
    obtain ⟨b38, hk⟩ := hk
    refine r_icmp_eq X (pc := 171) (tgt := 177) dX5_gap_171 (by decide) ⟨b38, (by decide)⟩ (fun c39 => ?_) (fun c39 => ?_)
    · have hk := hk.1 c39
      refine r_iinc X (pc := 177) (q := 3) (lv1 := [(4, vI (x4 + 1)), (0, vR (some t)), (1, vI x1), (2, vI x2), (5, vI x5), (6, vI x6)]) dX5_gap_177 rfl (by decide) rfl ?_
      refine r_goto X (pc := 180) (tgt := 81) dX5_gap_180 (by decide) ?_
      refine G.sub [1, 2, 3, 0] rfl ?_
      exact H_81 sg x1 x2 (x4 + 1) hk
    · have hk := hk.2 c39
      refine r_iinc X (pc := 174) (q := 1) (lv1 := [(1, vI (x1 + 1)), (0, vR (some t)), (2, vI x2), (4, vI x4), (5, vI x5), (6, vI x6)]) dX5_gap_174 rfl (by decide) rfl ?_
      refine r_iinc X (pc := 177) (q := 3) (lv1 := [(4, vI (x4 + 1)), (1, vI (x1 + 1)), (0, vR (some t)), (2, vI x2), (5, vI x5), (6, vI x6)]) dX5_gap_177 rfl (by decide) rfl ?_
      refine r_goto X (pc := 180) (tgt := 81) dX5_gap_180 (by decide) ?_
      refine G.sub [2, 1, 3, 0] rfl ?_
      exact H_81 sg (x1 + 1) x2 (x4 + 1) hk
set_option maxHeartbeats 4000000 in
theorem w_X5_gap_81 {K : KT} {Y : YT} {Qx : QxT} {t n z : Nat} {h0 : AH} {κ : Int → TS → Prop} (X : XY K "TrailMarkersModel" "gap" cX5_gap (Option.some Jvm.ClassFile.FieldType.int) [] 7 8 199 Y) (E : YE K Y (tQ t h0 n z κ) Qx) (hz : kz K ≤ t) {k_183 : TS → Int → Int → Prop} (H_183 : ∀ (sg : TS) (x1 : Int) (x2 : Int), k_183 sg x1 x2 → G K Y (tw t sg h0) n z 183 [(0, vR (some t)), (1, vI x1), (2, vI x2)] []) : ∀ (f : Nat) (sg : TS) (x1 : Int) (x2 : Int) (x4 : Int), L_X5_gap_81 k_183 κ f sg x1 x2 x4 → G K Y (tw t sg h0) n z 81 [(0, vR (some t)), (1, vI x1), (2, vI x2), (4, vI x4)] [] := by
  intro f
  induction f with
  | zero => intro sg x1 x2 x4 hk; exact hk.elim
  | succ f ih =>
    intro sg x1 x2 x4 hk
    refine r_iload X (pc := 81) dX5_gap_81 (q := 3) rfl ?_
    refine r_aload_n X (pc := 83) dX5_gap_83 rfl (q := 0) rfl ?_
    refine r_tgI X (pc := 84) (v := sg.1 33) fa_X5_199 (by decide) rfl dX5_gap_84 ?_
    obtain ⟨b40, b41, hk⟩ := hk
    refine r_icmp_ge X (pc := 87) (tgt := 183) dX5_gap_87 (by decide) ⟨b40, b41⟩ (fun c42 => ?_) (fun c42 => ?_)
    · have hk := hk.2 c42
      refine G.sub [0, 1, 2] rfl ?_
      exact H_183 sg x1 x2 hk
    · have hk := hk.1 c42
      refine r_aload_n X (pc := 90) dX5_gap_90 rfl (q := 0) rfl ?_
      refine r_tgR X (pc := 91) (ty := 0) (N := 1000) fa_X5_45 rfl (by decide) dX5_gap_91 ?_
      refine r_iload X (pc := 94) dX5_gap_94 (q := 3) rfl ?_
      obtain ⟨b43, hk⟩ := hk
      refine r_tiald X (pc := 96) (v := sg.2 26 x4) (N := 1000) rfl rfl dX5_gap_96 b43 ?_
      refine r_bipush X (pc := 97) dX5_gap_97 (by decide) ?_
      obtain ⟨b44, hk⟩ := hk
      refine r_idiv X (pc := 99) dX5_gap_99 ⟨⟨b44, (by decide)⟩, (by decide)⟩ ?_
      refine r_istore X (pc := 100) (lv1 := [(5, vI ((sg.2 26 x4).tdiv 100)), (0, vR (some t)), (1, vI x1), (2, vI x2), (4, vI x4)]) dX5_gap_100 (by decide) rfl ?_
      refine r_aload_n X (pc := 102) dX5_gap_102 rfl (q := 1) rfl ?_
      refine r_tgR X (pc := 103) (ty := 0) (N := 1000) fa_X5_45 rfl (by decide) dX5_gap_103 ?_
      refine r_iload X (pc := 106) dX5_gap_106 (q := 4) rfl ?_
      refine r_tiald X (pc := 108) (v := sg.2 26 x4) (N := 1000) rfl rfl dX5_gap_108 b43 ?_
      refine r_bipush X (pc := 109) dX5_gap_109 (by decide) ?_
      refine r_irem X (pc := 111) dX5_gap_111 ⟨⟨b44, (by decide)⟩, (by decide)⟩ ?_
      refine r_istore X (pc := 112) (lv1 := [(6, vI ((sg.2 26 x4).tmod 100)), (5, vI ((sg.2 26 x4).tdiv 100)), (0, vR (some t)), (1, vI x1), (2, vI x2), (4, vI x4)]) dX5_gap_112 (by decide) rfl ?_
      refine r_aload_n X (pc := 114) dX5_gap_114 rfl (q := 2) rfl ?_
      refine r_iload X (pc := 115) dX5_gap_115 (q := 1) rfl ?_
      refine r_iload X (pc := 117) dX5_gap_117 (q := 0) rfl ?_
      refine r_callV X (pc := 119) (As := [vI ((sg.2 26 x4).tdiv 100), vI ((sg.2 26 x4).tmod 100)]) (st := []) rfl rfl rfl (tw_t t _ h0) m_X5_154 (fun _ => s_X5_isFree hz hk) ⟨by decide, by decide⟩ (Nat.le_of_ble_eq_true rfl) dX5_gap_119 (fun v9 h9 n9 z9 hq => ?_) (fun _ _ _ _ _ hf => hf.elim)
      obtain ⟨r45, rfl, rfl, rfl, sg46, rfl, hk⟩ := hq
      refine ⟨[vI r45], rfl, ?_⟩
      obtain ⟨b47, hk⟩ := hk
      refine r_if_ne X (pc := 122) (tgt := 128) dX5_gap_122 (by decide) b47 (fun c48 => ?_) (fun c48 => ?_)
      · have hk := hk.2 c48
        refine G.sub [2, 3, 4, 5, 1, 0] rfl ?_
        have HH49 : ∀ (sg : TS) (x1 : Int) (x2 : Int) (x4 : Int), (L_X5_gap_81 k_183 κ f sg x1 x2 x4) → G K Y (tw t sg h0) n z 81 [(0, vR (some t)), (1, vI x1), (2, vI x2), (4, vI x4)] [] := by
            intro sg x1 x2 x4 hk
            exact ih sg x1 x2 x4 hk
        exact w_X5_gap_128 X E hz HH49 H_183 sg46 x1 x2 x4 ((sg.2 26 x4).tdiv 100) ((sg.2 26 x4).tmod 100) hk
      · have hk := hk.1 c48
        refine r_iinc X (pc := 125) (q := 3) (lv1 := [(1, vI (x1 + 1)), (6, vI ((sg.2 26 x4).tmod 100)), (5, vI ((sg.2 26 x4).tdiv 100)), (0, vR (some t)), (2, vI x2), (4, vI x4)]) dX5_gap_125 rfl (by decide) rfl ?_
        refine G.sub [3, 0, 4, 5, 2, 1] rfl ?_
        have HH50 : ∀ (sg : TS) (x1 : Int) (x2 : Int) (x4 : Int), (L_X5_gap_81 k_183 κ f sg x1 x2 x4) → G K Y (tw t sg h0) n z 81 [(0, vR (some t)), (1, vI x1), (2, vI x2), (4, vI x4)] [] := by
            intro sg x1 x2 x4 hk
            exact ih sg x1 x2 x4 hk
        exact w_X5_gap_128 X E hz HH50 H_183 sg46 (x1 + 1) x2 x4 ((sg.2 26 x4).tdiv 100) ((sg.2 26 x4).tmod 100) hk
set_option maxHeartbeats 4000000 in
theorem w_X5_gap_64 {K : KT} {Y : YT} {Qx : QxT} {t n z : Nat} {h0 : AH} {κ : Int → TS → Prop} (X : XY K "TrailMarkersModel" "gap" cX5_gap (Option.some Jvm.ClassFile.FieldType.int) [] 7 8 199 Y) (E : YE K Y (tQ t h0 n z κ) Qx) (hz : kz K ≤ t) {k_9 : TS → Int → Int → Prop} {k_189 : TS → Int → Prop} (H_9 : ∀ (sg : TS) (x1 : Int) (x2 : Int), k_9 sg x1 x2 → G K Y (tw t sg h0) n z 9 [(0, vR (some t)), (1, vI x1), (2, vI x2)] []) (H_189 : ∀ (sg : TS) (x1 : Int), k_189 sg x1 → G K Y (tw t sg h0) n z 189 [(0, vR (some t)), (1, vI x1)] []) : ∀ (sg : TS) (x1 : Int) (x2 : Int) (x3 : Int), P_X5_gap_64 k_9 k_189 κ sg x1 x2 x3 → G K Y (tw t sg h0) n z 64 [(0, vR (some t)), (1, vI x1), (2, vI x2), (3, vI x3)] [] := by
  intro sg x1 x2 x3 hk
  refine r_iload_n X (pc := 64) dX5_gap_64 rfl (q := 1) rfl ?_
  refine r_iload_n X (pc := 65) dX5_gap_65 rfl (q := 3) rfl ?_
  refine r_iconst X (pc := 66) dX5_gap_66 ?_
  refine r_iadd X (pc := 67) dX5_gap_67 ?_
  refine r_aload_n X (pc := 68) dX5_gap_68 rfl (q := 0) rfl ?_
  refine r_tgI X (pc := 69) (v := sg.1 33) fa_X5_199 (by decide) rfl dX5_gap_69 ?_
  refine r_isub X (pc := 72) dX5_gap_72 ?_
  obtain ⟨b51, hk⟩ := hk
  refine r_mabs X (pc := 73) q3630 q1354 q152 q1355 b51 ⟨by decide, Nat.le_of_ble_eq_true rfl⟩ dX5_gap_73 ?_
  refine r_iadd X (pc := 76) dX5_gap_76 ?_
  refine r_istore_n X (pc := 77) (lv1 := [(1, vI (x1 + (jabs ((x3 + 1) - (sg.1 33))))), (0, vR (some t)), (2, vI x2), (3, vI x3)]) dX5_gap_77 rfl (by decide) rfl ?_
  refine r_iconst X (pc := 78) dX5_gap_78 ?_
  refine r_istore X (pc := 79) (lv1 := [(4, vI 0), (1, vI (x1 + (jabs ((x3 + 1) - (sg.1 33))))), (0, vR (some t)), (2, vI x2), (3, vI x3)]) dX5_gap_79 (by decide) rfl ?_
  refine G.sub [2, 1, 3, 0] rfl ?_
  have HH52 : ∀ (sg : TS) (x1 : Int) (x2 : Int), (P_X5_gap_183 k_9 k_189 κ sg x1 x2) → G K Y (tw t sg h0) n z 183 [(0, vR (some t)), (1, vI x1), (2, vI x2)] [] := by
      intro sg x1 x2 hk
      exact w_X5_gap_183 X E hz H_9 H_189 sg x1 x2 hk
  obtain ⟨f9, hk⟩ := hk
  exact w_X5_gap_81 X E hz HH52 f9 sg (x1 + (jabs ((x3 + 1) - (sg.1 33)))) x2 0 hk
set_option maxHeartbeats 4000000 in
theorem w_X5_gap_9 {K : KT} {Y : YT} {Qx : QxT} {t n z : Nat} {h0 : AH} {κ : Int → TS → Prop} (X : XY K "TrailMarkersModel" "gap" cX5_gap (Option.some Jvm.ClassFile.FieldType.int) [] 7 8 199 Y) (E : YE K Y (tQ t h0 n z κ) Qx) (hz : kz K ≤ t) {k_189 : TS → Int → Prop} (H_189 : ∀ (sg : TS) (x1 : Int), k_189 sg x1 → G K Y (tw t sg h0) n z 189 [(0, vR (some t)), (1, vI x1)] []) : ∀ (f : Nat) (sg : TS) (x1 : Int) (x2 : Int), L_X5_gap_9 k_189 κ f sg x1 x2 → G K Y (tw t sg h0) n z 9 [(0, vR (some t)), (1, vI x1), (2, vI x2)] [] := by
  intro f
  induction f with
  | zero => intro sg x1 x2 hk; exact hk.elim
  | succ f ih =>
    intro sg x1 x2 hk
    refine r_iload_n X (pc := 9) dX5_gap_9 rfl (q := 2) rfl ?_
    refine r_aload_n X (pc := 10) dX5_gap_10 rfl (q := 0) rfl ?_
    refine r_tgR X (pc := 11) (ty := 0) (N := 526) fa_X5_9 rfl (by decide) dX5_gap_11 ?_
    refine r_iconst X (pc := 14) dX5_gap_14 ?_
    refine r_tiald X (pc := 15) (v := sg.2 0 4) (N := 526) rfl rfl dX5_gap_15 (by decide) ?_
    obtain ⟨b53, b54, hk⟩ := hk
    refine r_icmp_ge X (pc := 16) (tgt := 189) dX5_gap_16 (by decide) ⟨b53, b54⟩ (fun c55 => ?_) (fun c55 => ?_)
    · have hk := hk.2 c55
      refine G.sub [0, 1] rfl ?_
      exact H_189 sg x1 hk
    · have hk := hk.1 c55
      refine r_aload_n X (pc := 19) dX5_gap_19 rfl (q := 0) rfl ?_
      refine r_iload_n X (pc := 20) dX5_gap_20 rfl (q := 2) rfl ?_
      refine r_callV X (pc := 21) (As := [vI x2]) (st := []) rfl rfl rfl (tw_t t _ h0) m_X5_243 (fun _ => s_X5_walk hz hk) ⟨by decide, by decide⟩ (Nat.le_of_ble_eq_true rfl) dX5_gap_21 (fun v9 h9 n9 z9 hq => ?_) (fun _ _ _ _ _ hf => hf.elim)
      obtain ⟨rfl, rfl, rfl, sg56, rfl, hk⟩ := hq
      refine ⟨[], rfl, ?_⟩
      refine r_aload_n X (pc := 24) dX5_gap_24 rfl (q := 0) rfl ?_
      refine r_tgI X (pc := 25) (v := sg56.1 33) fa_X5_199 (by decide) rfl dX5_gap_25 ?_
      obtain ⟨b57, hk⟩ := hk
      refine r_if_ne X (pc := 28) (tgt := 34) dX5_gap_28 (by decide) b57 (fun c58 => ?_) (fun c58 => ?_)
      · have hk := hk.2 c58
        refine r_iconst X (pc := 34) dX5_gap_34 ?_
        refine r_istore_n X (pc := 35) (lv1 := [(3, vI 0), (0, vR (some t)), (1, vI x1), (2, vI x2)]) dX5_gap_35 rfl (by decide) rfl ?_
        refine r_iconst X (pc := 36) dX5_gap_36 ?_
        refine r_istore X (pc := 37) (lv1 := [(4, vI 0), (3, vI 0), (0, vR (some t)), (1, vI x1), (2, vI x2)]) dX5_gap_37 (by decide) rfl ?_
        refine G.sub [2, 3, 4, 1, 0] rfl ?_
        have HH61 : ∀ (sg : TS) (x1 : Int) (x2 : Int) (x3 : Int), (P_X5_gap_64 (fun sg x1 x2 => L_X5_gap_9 k_189 κ f sg x1 x2) k_189 κ sg x1 x2 x3) → G K Y (tw t sg h0) n z 64 [(0, vR (some t)), (1, vI x1), (2, vI x2), (3, vI x3)] [] := by
            intro sg x1 x2 x3 hk
            have HH60 : ∀ (sg : TS) (x1 : Int) (x2 : Int), (L_X5_gap_9 k_189 κ f sg x1 x2) → G K Y (tw t sg h0) n z 9 [(0, vR (some t)), (1, vI x1), (2, vI x2)] [] := by
                intro sg x1 x2 hk
                exact ih sg x1 x2 hk
            exact w_X5_gap_64 X E hz HH60 H_189 sg x1 x2 x3 hk
        obtain ⟨f9, hk⟩ := hk
        exact w_X5_gap_39 X E hz HH61 f9 sg56 x1 x2 0 0 hk
      · have hk := hk.1 c58
        refine r_goto X (pc := 31) (tgt := 183) dX5_gap_31 (by decide) ?_
        have HH62 : ∀ (sg : TS) (x1 : Int) (x2 : Int), (L_X5_gap_9 k_189 κ f sg x1 x2) → G K Y (tw t sg h0) n z 9 [(0, vR (some t)), (1, vI x1), (2, vI x2)] [] := by
            intro sg x1 x2 hk
            exact ih sg x1 x2 hk
        exact w_X5_gap_183 X E hz HH62 H_189 sg56 x1 x2 hk
set_option maxHeartbeats 4000000 in
theorem w_X5_gap_189 {K : KT} {Y : YT} {Qx : QxT} {t n z : Nat} {h0 : AH} {κ : Int → TS → Prop} (X : XY K "TrailMarkersModel" "gap" cX5_gap (Option.some Jvm.ClassFile.FieldType.int) [] 7 8 199 Y) (E : YE K Y (tQ t h0 n z κ) Qx) (hz : kz K ≤ t) : ∀ (sg : TS) (x1 : Int), P_X5_gap_189 κ sg x1 → G K Y (tw t sg h0) n z 189 [(0, vR (some t)), (1, vI x1)] [] := by
  intro sg x1 hk
  refine r_iload_n X (pc := 189) dX5_gap_189 rfl (q := 1) rfl ?_
  exact r_iret X E (pc := 190) dX5_gap_190 rfl ⟨_, rfl, rfl, rfl, _, rfl, hk⟩
set_option maxHeartbeats 4000000 in
theorem w_X5_gap {K : KT} {Y : YT} {Qx : QxT} {t n z : Nat} {h0 : AH} {κ : Int → TS → Prop} (X : XY K "TrailMarkersModel" "gap" cX5_gap (Option.some Jvm.ClassFile.FieldType.int) [] 7 8 199 Y) (E : YE K Y (tQ t h0 n z κ) Qx) (hz : kz K ≤ t) {sg : TS} (hk : P_X5_gap κ sg) : G K Y (tw t sg h0) n z 0 (lv_argsA 0 [vR (some t)]) [] := by
  show G K Y (tw t sg h0) n z 0 [(0, vR (some t))] []
  refine r_aload_n X (pc := 0) dX5_gap_0 rfl (q := 0) rfl ?_
  refine r_iconst X (pc := 1) dX5_gap_1 ?_
  refine r_tpI X (pc := 2) fp_X5_106 hz (by decide) dX5_gap_2 ?_
  refine r_iconst X (pc := 5) dX5_gap_5 ?_
  refine r_istore_n X (pc := 6) (lv1 := [(1, vI 0), (0, vR (some t))]) dX5_gap_6 rfl (by decide) rfl ?_
  refine r_iconst X (pc := 7) dX5_gap_7 ?_
  refine r_istore_n X (pc := 8) (lv1 := [(2, vI 0), (1, vI 0), (0, vR (some t))]) dX5_gap_8 rfl (by decide) rfl ?_
  refine G.sub [2, 1, 0] rfl ?_
  have HH63 : ∀ (sg : TS) (x1 : Int), (P_X5_gap_189 κ sg x1) → G K Y (tw t sg h0) n z 189 [(0, vR (some t)), (1, vI x1)] [] := by
      intro sg x1 hk
      exact w_X5_gap_189 X E hz sg x1 hk
  obtain ⟨f9, hk⟩ := hk
  exact w_X5_gap_9 X E hz HH63 f9 (setS sg 7 0) 0 0 hk
theorem s_X5_gap {K : KT} {l : Launch} {t n z : Nat} {h0 : AH} {κ : Int → TS → Prop} (hz : kz K ≤ t) {sg : TS} (hk : P_X5_gap κ sg) : Ct K l yX5_gap (ws_ yX5_gap cX5_gap 7 (Option.some Jvm.ClassFile.FieldType.int)) 8 199 ([vR (some t)].map cV) (tw t sg h0) n z (tQ t h0 n z κ) noX :=
  ct_of (by decide +kernel) (Nat.le_of_ble_eq_true rfl) (fun Y X E => w_X5_gap X E hz hk)
set_option maxHeartbeats 4000000 in
theorem w_X5_reached_16 {K : KT} {Y : YT} {Qx : QxT} {t n z : Nat} {h0 : AH} {κ : UInt64 → TS → Prop} (X : XY K "TrailMarkersModel" "reached" cX5_reached (Option.some Jvm.ClassFile.FieldType.double) [] 4 9 220 Y) (E : YE K Y (tQd t h0 n z κ) Qx) (hz : kz K ≤ t) {k_35 : TS → Int → Int → Prop} (H_35 : ∀ (sg : TS) (x1 : Int) (x2 : Int), k_35 sg x1 x2 → G K Y (tw t sg h0) n z 35 [(0, vR (some t)), (1, vI x1), (2, vI x2)] []) : ∀ (f : Nat) (sg : TS) (x1 : Int) (x2 : Int) (x3 : Int), L_X5_reached_16 k_35 κ f sg x1 x2 x3 → G K Y (tw t sg h0) n z 16 [(0, vR (some t)), (1, vI x1), (2, vI x2), (3, vI x3)] [] := by
  intro f
  induction f with
  | zero => intro sg x1 x2 x3 hk; exact hk.elim
  | succ f ih =>
    intro sg x1 x2 x3 hk
    refine r_iload_n X (pc := 16) dX5_reached_16 rfl (q := 3) rfl ?_
    refine r_iconst X (pc := 17) dX5_reached_17 ?_
    obtain ⟨b8, hk⟩ := hk
    refine r_icmp_ge X (pc := 18) (tgt := 35) dX5_reached_18 (by decide) ⟨b8, (by decide)⟩ (fun c9 => ?_) (fun c9 => ?_)
    · have hk := hk.2 c9
      refine G.sub [0, 1, 2] rfl ?_
      exact H_35 sg x1 x2 hk
    · have hk := hk.1 c9
      refine r_iload_n X (pc := 21) dX5_reached_21 rfl (q := 2) rfl ?_
      refine r_aload_n X (pc := 22) dX5_reached_22 rfl (q := 0) rfl ?_
      refine r_iload_n X (pc := 23) dX5_reached_23 rfl (q := 3) rfl ?_
      refine r_callV X (pc := 24) (As := [vI x3]) (st := [vI x2]) rfl rfl rfl (tw_t t _ h0) m_X5_252 (fun _ => s_X5_metBy hz hk) ⟨by decide, by decide⟩ (Nat.le_of_ble_eq_true rfl) dX5_reached_24 (fun v9 h9 n9 z9 hq => ?_) (fun _ _ _ _ _ hf => hf.elim)
      obtain ⟨r10, rfl, rfl, rfl, sg11, rfl, hk⟩ := hq
      refine ⟨[vI r10], rfl, ?_⟩
      refine r_iadd X (pc := 27) dX5_reached_27 ?_
      refine r_istore_n X (pc := 28) (lv1 := [(2, vI (x2 + r10)), (0, vR (some t)), (1, vI x1), (3, vI x3)]) dX5_reached_28 rfl (by decide) rfl ?_
      refine r_iinc X (pc := 29) (q := 3) (lv1 := [(3, vI (x3 + 1)), (2, vI (x2 + r10)), (0, vR (some t)), (1, vI x1)]) dX5_reached_29 rfl (by decide) rfl ?_
      refine r_goto X (pc := 32) (tgt := 16) dX5_reached_32 (by decide) ?_
      refine G.sub [2, 3, 1, 0] rfl ?_
      exact ih sg11 x1 (x2 + r10) (x3 + 1) hk
set_option maxHeartbeats 4000000 in
theorem w_X5_reached_35 {K : KT} {Y : YT} {Qx : QxT} {t n z : Nat} {h0 : AH} {κ : UInt64 → TS → Prop} (X : XY K "TrailMarkersModel" "reached" cX5_reached (Option.some Jvm.ClassFile.FieldType.double) [] 4 9 220 Y) (E : YE K Y (tQd t h0 n z κ) Qx) (hz : kz K ≤ t) : ∀ (sg : TS) (x1 : Int) (x2 : Int), P_X5_reached_35 κ sg x1 x2 → G K Y (tw t sg h0) n z 35 [(0, vR (some t)), (1, vI x1), (2, vI x2)] [] := by
  intro sg x1 x2 hk
  refine r_iload_n X (pc := 35) dX5_reached_35 rfl (q := 1) rfl ?_
  obtain ⟨b12, hk⟩ := hk
  refine r_if_ne X (pc := 36) (tgt := 43) dX5_reached_36 (by decide) b12 (fun c13 => ?_) (fun c13 => ?_)
  · have hk := hk.2 c13
    refine r_iload_n X (pc := 43) dX5_reached_43 rfl (q := 2) rfl ?_
    refine r_i2d X (pc := 44) dX5_reached_44 ?_
    refine r_iload_n X (pc := 45) dX5_reached_45 rfl (q := 1) rfl ?_
    refine r_i2d X (pc := 46) dX5_reached_46 ?_
    obtain ⟨b14, hk⟩ := hk
    refine r_ddiv X (pc := 47) dX5_reached_47 b14 ?_
    exact r_dret X E (pc := 48) dX5_reached_48 ⟨_, rfl, rfl, rfl, _, rfl, hk⟩
  · have hk := hk.1 c13
    refine r_dconst1 X (pc := 39) dX5_reached_39 ?_
    refine r_goto X (pc := 40) (tgt := 48) dX5_reached_40 (by decide) ?_
    exact r_dret X E (pc := 48) dX5_reached_48 ⟨_, rfl, rfl, rfl, _, rfl, hk⟩
set_option maxHeartbeats 4000000 in
theorem w_X5_reached {K : KT} {Y : YT} {Qx : QxT} {t n z : Nat} {h0 : AH} {κ : UInt64 → TS → Prop} (X : XY K "TrailMarkersModel" "reached" cX5_reached (Option.some Jvm.ClassFile.FieldType.double) [] 4 9 220 Y) (E : YE K Y (tQd t h0 n z κ) Qx) (hz : kz K ≤ t) {sg : TS} (hk : P_X5_reached κ sg) : G K Y (tw t sg h0) n z 0 (lv_argsA 0 [vR (some t)]) [] := by
  show G K Y (tw t sg h0) n z 0 [(0, vR (some t))] []
  refine r_aload_n X (pc := 0) dX5_reached_0 rfl (q := 0) rfl ?_
  refine r_iconst X (pc := 1) dX5_reached_1 ?_
  refine r_tpI X (pc := 2) fp_X5_106 hz (by decide) dX5_reached_2 ?_
  refine r_aload_n X (pc := 5) dX5_reached_5 rfl (q := 0) rfl ?_
  refine r_iconst X (pc := 6) dX5_reached_6 ?_
  refine r_iconst X (pc := 7) dX5_reached_7 ?_
  refine r_callV X (pc := 8) (As := [vI (-1), vI 1]) (st := []) rfl rfl rfl (tw_t t _ h0) m_X5_236 (fun _ => s_X5_posts hz hk) ⟨by decide, by decide⟩ (Nat.le_of_ble_eq_true rfl) dX5_reached_8 (fun v9 h9 n9 z9 hq => ?_) (fun _ _ _ _ _ hf => hf.elim)
  obtain ⟨r15, rfl, rfl, rfl, sg16, rfl, hk⟩ := hq
  refine ⟨[vI r15], rfl, ?_⟩
  refine r_istore_n X (pc := 11) (lv1 := [(1, vI r15), (0, vR (some t))]) dX5_reached_11 rfl (by decide) rfl ?_
  refine r_iconst X (pc := 12) dX5_reached_12 ?_
  refine r_istore_n X (pc := 13) (lv1 := [(2, vI 0), (1, vI r15), (0, vR (some t))]) dX5_reached_13 rfl (by decide) rfl ?_
  refine r_iconst X (pc := 14) dX5_reached_14 ?_
  refine r_istore_n X (pc := 15) (lv1 := [(3, vI 0), (2, vI 0), (1, vI r15), (0, vR (some t))]) dX5_reached_15 rfl (by decide) rfl ?_
  refine G.sub [3, 2, 1, 0] rfl ?_
  have HH17 : ∀ (sg : TS) (x1 : Int) (x2 : Int), (P_X5_reached_35 κ sg x1 x2) → G K Y (tw t sg h0) n z 35 [(0, vR (some t)), (1, vI x1), (2, vI x2)] [] := by
      intro sg x1 x2 hk
      exact w_X5_reached_35 X E hz sg x1 x2 hk
  obtain ⟨f9, hk⟩ := hk
  exact w_X5_reached_16 X E hz HH17 f9 sg16 r15 0 0 hk
theorem s_X5_reached {K : KT} {l : Launch} {t n z : Nat} {h0 : AH} {κ : UInt64 → TS → Prop} (hz : kz K ≤ t) {sg : TS} (hk : P_X5_reached κ sg) : Ct K l yX5_reached (ws_ yX5_reached cX5_reached 4 (Option.some Jvm.ClassFile.FieldType.double)) 9 220 ([vR (some t)].map cV) (tw t sg h0) n z (tQd t h0 n z κ) noX :=
  ct_of (by decide +kernel) (Nat.le_of_ble_eq_true rfl) (fun Y X E => w_X5_reached X E hz hk)
set_option maxHeartbeats 4000000 in
theorem w_X5_areSame {K : KT} {Y : YT} {Qx : QxT} {t n z : Nat} {h0 : AH} {κ : Int → TS → Prop} (X : XY K "TrailMarkersModel" "areSame" cX5_areSame (Option.some Jvm.ClassFile.FieldType.boolean) [] 3 0 0 Y) (E : YE K Y (tQ t h0 n z κ) Qx) (hz : kz K ≤ t) {sg : TS} {x1 : Int} {x2 : Int} (hk : P_X5_areSame κ sg x1 x2) : G K Y (tw t sg h0) n z 0 (lv_argsA 0 [vR (some t), vI x1, vI x2]) [] := by
  show G K Y (tw t sg h0) n z 0 [(0, vR (some t)), (1, vI x1), (2, vI x2)] []
  refine r_aload_n X (pc := 0) dX5_areSame_0 rfl (q := 0) rfl ?_
  refine r_tgR X (pc := 1) (ty := 0) (N := 100) fa_X5_48 rfl (by decide) dX5_areSame_1 ?_
  refine r_iload_n X (pc := 4) dX5_areSame_4 rfl (q := 1) rfl ?_
  obtain ⟨b16, hk⟩ := hk
  refine r_tiald X (pc := 5) (v := sg.2 27 x1) (N := 100) rfl rfl dX5_areSame_5 b16 ?_
  refine r_aload_n X (pc := 6) dX5_areSame_6 rfl (q := 0) rfl ?_
  refine r_tgR X (pc := 7) (ty := 0) (N := 100) fa_X5_48 rfl (by decide) dX5_areSame_7 ?_
  refine r_iload_n X (pc := 10) dX5_areSame_10 rfl (q := 2) rfl ?_
  obtain ⟨b17, hk⟩ := hk
  refine r_tiald X (pc := 11) (v := sg.2 27 x2) (N := 100) rfl rfl dX5_areSame_11 b17 ?_
  obtain ⟨b18, b19, hk⟩ := hk
  refine r_icmp_ne X (pc := 12) (tgt := 49) dX5_areSame_12 (by decide) ⟨b18, b19⟩ (fun c20 => ?_) (fun c20 => ?_)
  · have hk := hk.2 c20
    refine r_iconst X (pc := 49) dX5_areSame_49 ?_
    exact r_iret X E (pc := 50) dX5_areSame_50 rfl ⟨_, rfl, rfl, rfl, _, rfl, hk⟩
  · have hk := hk.1 c20
    refine r_aload_n X (pc := 15) dX5_areSame_15 rfl (q := 0) rfl ?_
    refine r_tgR X (pc := 16) (ty := 0) (N := 100) fa_X5_51 rfl (by decide) dX5_areSame_16 ?_
    refine r_iload_n X (pc := 19) dX5_areSame_19 rfl (q := 1) rfl ?_
    refine r_tiald X (pc := 20) (v := sg.2 28 x1) (N := 100) rfl rfl dX5_areSame_20 b16 ?_
    refine r_aload_n X (pc := 21) dX5_areSame_21 rfl (q := 0) rfl ?_
    refine r_tgR X (pc := 22) (ty := 0) (N := 100) fa_X5_51 rfl (by decide) dX5_areSame_22 ?_
    refine r_iload_n X (pc := 25) dX5_areSame_25 rfl (q := 2) rfl ?_
    refine r_tiald X (pc := 26) (v := sg.2 28 x2) (N := 100) rfl rfl dX5_areSame_26 b17 ?_
    obtain ⟨b21, b22, hk⟩ := hk
    refine r_icmp_ne X (pc := 27) (tgt := 49) dX5_areSame_27 (by decide) ⟨b21, b22⟩ (fun c23 => ?_) (fun c23 => ?_)
    · have hk := hk.2 c23
      refine r_iconst X (pc := 49) dX5_areSame_49 ?_
      exact r_iret X E (pc := 50) dX5_areSame_50 rfl ⟨_, rfl, rfl, rfl, _, rfl, hk⟩
    · have hk := hk.1 c23
      refine r_aload_n X (pc := 30) dX5_areSame_30 rfl (q := 0) rfl ?_
      refine r_tgR X (pc := 31) (ty := 2) (N := 100) fa_X5_57 rfl (by decide) dX5_areSame_31 ?_
      refine r_iload_n X (pc := 34) dX5_areSame_34 rfl (q := 1) rfl ?_
      refine r_tzald X (pc := 35) (v := sg.2 30 x1) (N := 100) rfl rfl dX5_areSame_35 b16 ?_
      refine r_aload_n X (pc := 36) dX5_areSame_36 rfl (q := 0) rfl ?_
      refine r_tgR X (pc := 37) (ty := 2) (N := 100) fa_X5_57 rfl (by decide) dX5_areSame_37 ?_
      refine r_iload_n X (pc := 40) dX5_areSame_40 rfl (q := 2) rfl ?_
      refine r_tzald X (pc := 41) (v := sg.2 30 x2) (N := 100) rfl rfl dX5_areSame_41 b17 ?_
      obtain ⟨b24, b25, hk⟩ := hk
      refine r_icmp_ne X (pc := 42) (tgt := 49) dX5_areSame_42 (by decide) ⟨b24, b25⟩ (fun c26 => ?_) (fun c26 => ?_)
      · have hk := hk.2 c26
        refine r_iconst X (pc := 49) dX5_areSame_49 ?_
        exact r_iret X E (pc := 50) dX5_areSame_50 rfl ⟨_, rfl, rfl, rfl, _, rfl, hk⟩
      · have hk := hk.1 c26
        refine r_iconst X (pc := 45) dX5_areSame_45 ?_
        refine r_goto X (pc := 46) (tgt := 50) dX5_areSame_46 (by decide) ?_
        exact r_iret X E (pc := 50) dX5_areSame_50 rfl ⟨_, rfl, rfl, rfl, _, rfl, hk⟩
theorem s_X5_areSame {K : KT} {l : Launch} {t n z : Nat} {h0 : AH} {κ : Int → TS → Prop} (hz : kz K ≤ t) {sg : TS} {x1 : Int} {x2 : Int} (hk : P_X5_areSame κ sg x1 x2) : Ct K l yX5_areSame (ws_ yX5_areSame cX5_areSame 3 (Option.some Jvm.ClassFile.FieldType.boolean)) 0 0 ([vR (some t), vI x1, vI x2].map cV) (tw t sg h0) n z (tQ t h0 n z κ) noX :=
  ct_of (by decide +kernel) (Nat.le_of_ble_eq_true rfl) (fun Y X E => w_X5_areSame X E hz hk)
set_option maxHeartbeats 4000000 in
theorem w_X5_repeats_25 {K : KT} {Y : YT} {Qx : QxT} {t n z : Nat} {h0 : AH} {κ : Int → TS → Prop} (X : XY K "TrailMarkersModel" "repeats" cX5_repeats (Option.some Jvm.ClassFile.FieldType.int) [] 5 1 22 Y) (E : YE K Y (tQ t h0 n z κ) Qx) (hz : kz K ≤ t) {k_50 : TS → Int → Prop} {k_58 : TS → Int → Int → Int → Prop} (H_50 : ∀ (sg : TS) (x3 : Int), k_50 sg x3 → G K Y (tw t sg h0) n z 50 [(0, vR (some t)), (3, vI x3)] []) (H_58 : ∀ (sg : TS) (x1 : Int) (x2 : Int) (x3 : Int), k_58 sg x1 x2 x3 → G K Y (tw t sg h0) n z 58 [(0, vR (some t)), (1, vI x1), (2, vI x2), (3, vI x3)] []) : ∀ (f : Nat) (sg : TS) (x1 : Int) (x2 : Int) (x3 : Int) (x4 : Int), L_X5_repeats_25 k_50 k_58 κ f sg x1 x2 x3 x4 → G K Y (tw t sg h0) n z 25 [(0, vR (some t)), (1, vI x1), (2, vI x2), (3, vI x3), (4, vI x4)] [] := by
  intro f
  induction f with
  | zero => intro sg x1 x2 x3 x4 hk; exact hk.elim
  | succ f ih =>
    intro sg x1 x2 x3 x4 hk
    refine r_iload X (pc := 25) dX5_repeats_25 (q := 4) rfl ?_
    refine r_iload_n X (pc := 27) dX5_repeats_27 rfl (q := 2) rfl ?_
    obtain ⟨b12, b13, hk⟩ := hk
    refine r_icmp_ge X (pc := 28) (tgt := 58) dX5_repeats_28 (by decide) ⟨b12, b13⟩ (fun c14 => ?_) (fun c14 => ?_)
    · have hk := hk.2 c14
      refine G.sub [0, 1, 2, 3] rfl ?_
      exact H_58 sg x1 x2 x3 hk
    · have hk := hk.1 c14
      refine r_aload_n X (pc := 31) dX5_repeats_31 rfl (q := 0) rfl ?_
      refine r_iload_n X (pc := 32) dX5_repeats_32 rfl (q := 1) rfl ?_
      refine r_iload X (pc := 33) dX5_repeats_33 (q := 4) rfl ?_
      refine r_iadd X (pc := 35) dX5_repeats_35 ?_
      refine r_iload_n X (pc := 36) dX5_repeats_36 rfl (q := 1) rfl ?_
      refine r_iload_n X (pc := 37) dX5_repeats_37 rfl (q := 3) rfl ?_
      refine r_iload_n X (pc := 38) dX5_repeats_38 rfl (q := 2) rfl ?_
      refine r_imul X (pc := 39) dX5_repeats_39 ?_
      refine r_iadd X (pc := 40) dX5_repeats_40 ?_
      refine r_iload X (pc := 41) dX5_repeats_41 (q := 4) rfl ?_
      refine r_iadd X (pc := 43) dX5_repeats_43 ?_
      refine r_callV X (pc := 44) (As := [vI (x1 + x4), vI ((x1 + (x3 * x2)) + x4)]) (st := []) rfl rfl rfl (tw_t t _ h0) m_X5_488 (fun _ => s_X5_areSame hz hk) ⟨by decide, by decide⟩ (Nat.le_of_ble_eq_true rfl) dX5_repeats_44 (fun v9 h9 n9 z9 hq => ?_) (fun _ _ _ _ _ hf => hf.elim)
      obtain ⟨r15, rfl, rfl, rfl, sg16, rfl, hk⟩ := hq
      refine ⟨[vI r15], rfl, ?_⟩
      obtain ⟨b17, hk⟩ := hk
      refine r_if_ne X (pc := 47) (tgt := 52) dX5_repeats_47 (by decide) b17 (fun c18 => ?_) (fun c18 => ?_)
      · have hk := hk.2 c18
        refine r_iinc X (pc := 52) (q := 4) (lv1 := [(4, vI (x4 + 1)), (0, vR (some t)), (1, vI x1), (2, vI x2), (3, vI x3)]) dX5_repeats_52 rfl (by decide) rfl ?_
        refine r_goto X (pc := 55) (tgt := 25) dX5_repeats_55 (by decide) ?_
        refine G.sub [1, 2, 3, 4, 0] rfl ?_
        exact ih sg16 x1 x2 x3 (x4 + 1) hk
      · have hk := hk.1 c18
        refine G.sub [0, 3] rfl ?_
        exact H_50 sg16 x3 hk
set_option maxHeartbeats 4000000 in
theorem w_X5_repeats_58 {K : KT} {Y : YT} {Qx : QxT} {t n z : Nat} {h0 : AH} {κ : Int → TS → Prop} (X : XY K "TrailMarkersModel" "repeats" cX5_repeats (Option.some Jvm.ClassFile.FieldType.int) [] 5 1 22 Y) (E : YE K Y (tQ t h0 n z κ) Qx) (hz : kz K ≤ t) {k_2 : TS → Int → Int → Int → Prop} {k_50 : TS → Int → Prop} {k_64 : TS → Int → Prop} (H_2 : ∀ (sg : TS) (x1 : Int) (x2 : Int) (x3 : Int), k_2 sg x1 x2 x3 → G K Y (tw t sg h0) n z 2 [(0, vR (some t)), (1, vI x1), (2, vI x2), (3, vI x3)] []) (H_50 : ∀ (sg : TS) (x3 : Int), k_50 sg x3 → G K Y (tw t sg h0) n z 50 [(0, vR (some t)), (3, vI x3)] []) (H_64 : ∀ (sg : TS) (x3 : Int), k_64 sg x3 → G K Y (tw t sg h0) n z 64 [(0, vR (some t)), (3, vI x3)] []) : ∀ (sg : TS) (x1 : Int) (x2 : Int) (x3 : Int), P_X5_repeats_58 k_2 k_50 k_64 κ sg x1 x2 x3 → G K Y (tw t sg h0) n z 58 [(0, vR (some t)), (1, vI x1), (2, vI x2), (3, vI x3)] [] := by
  intro sg x1 x2 x3 hk
  refine r_iinc X (pc := 58) (q := 3) (lv1 := [(3, vI (x3 + 1)), (0, vR (some t)), (1, vI x1), (2, vI x2)]) dX5_repeats_58 rfl (by decide) rfl ?_
  refine r_goto X (pc := 61) (tgt := 2) dX5_repeats_61 (by decide) ?_
  refine G.sub [1, 2, 3, 0] rfl ?_
  exact H_2 sg x1 x2 (x3 + 1) hk
set_option maxHeartbeats 4000000 in
theorem w_X5_repeats_2 {K : KT} {Y : YT} {Qx : QxT} {t n z : Nat} {h0 : AH} {κ : Int → TS → Prop} (X : XY K "TrailMarkersModel" "repeats" cX5_repeats (Option.some Jvm.ClassFile.FieldType.int) [] 5 1 22 Y) (E : YE K Y (tQ t h0 n z κ) Qx) (hz : kz K ≤ t) {k_50 : TS → Int → Prop} {k_64 : TS → Int → Prop} (H_50 : ∀ (sg : TS) (x3 : Int), k_50 sg x3 → G K Y (tw t sg h0) n z 50 [(0, vR (some t)), (3, vI x3)] []) (H_64 : ∀ (sg : TS) (x3 : Int), k_64 sg x3 → G K Y (tw t sg h0) n z 64 [(0, vR (some t)), (3, vI x3)] []) : ∀ (f : Nat) (sg : TS) (x1 : Int) (x2 : Int) (x3 : Int), L_X5_repeats_2 k_50 k_64 κ f sg x1 x2 x3 → G K Y (tw t sg h0) n z 2 [(0, vR (some t)), (1, vI x1), (2, vI x2), (3, vI x3)] [] := by
  intro f
  induction f with
  | zero => intro sg x1 x2 x3 hk; exact hk.elim
  | succ f ih =>
    intro sg x1 x2 x3 hk
    refine r_iload_n X (pc := 2) dX5_repeats_2 rfl (q := 3) rfl ?_
    refine r_bipush X (pc := 3) dX5_repeats_3 (by decide) ?_
    obtain ⟨b19, hk⟩ := hk
    refine r_icmp_ge X (pc := 5) (tgt := 64) dX5_repeats_5 (by decide) ⟨b19, (by decide)⟩ (fun c20 => ?_) (fun c20 => ?_)
    · have hk := hk.2 c20
      refine G.sub [0, 3] rfl ?_
      exact H_64 sg x3 hk
    · have hk := hk.1 c20
      refine r_iload_n X (pc := 8) dX5_repeats_8 rfl (q := 1) rfl ?_
      refine r_iload_n X (pc := 9) dX5_repeats_9 rfl (q := 3) rfl ?_
      refine r_iconst X (pc := 10) dX5_repeats_10 ?_
      refine r_iadd X (pc := 11) dX5_repeats_11 ?_
      refine r_iload_n X (pc := 12) dX5_repeats_12 rfl (q := 2) rfl ?_
      refine r_imul X (pc := 13) dX5_repeats_13 ?_
      refine r_iadd X (pc := 14) dX5_repeats_14 ?_
      refine r_aload_n X (pc := 15) dX5_repeats_15 rfl (q := 0) rfl ?_
      refine r_tgI X (pc := 16) (v := sg.1 34) fa_X5_202 (by decide) rfl dX5_repeats_16 ?_
      obtain ⟨b21, b22, hk⟩ := hk
      refine r_icmp_gt X (pc := 19) (tgt := 64) dX5_repeats_19 (by decide) ⟨b21, b22⟩ (fun c23 => ?_) (fun c23 => ?_)
      · have hk := hk.1 c23
        refine G.sub [0, 3] rfl ?_
        exact H_64 sg x3 hk
      · have hk := hk.2 c23
        refine r_iconst X (pc := 22) dX5_repeats_22 ?_
        refine r_istore X (pc := 23) (lv1 := [(4, vI 0), (0, vR (some t)), (1, vI x1), (2, vI x2), (3, vI x3)]) dX5_repeats_23 (by decide) rfl ?_
        refine G.sub [1, 2, 3, 4, 0] rfl ?_
        have HH26 : ∀ (sg : TS) (x1 : Int) (x2 : Int) (x3 : Int), (P_X5_repeats_58 (fun sg x1 x2 x3 => L_X5_repeats_2 k_50 k_64 κ f sg x1 x2 x3) k_50 k_64 κ sg x1 x2 x3) → G K Y (tw t sg h0) n z 58 [(0, vR (some t)), (1, vI x1), (2, vI x2), (3, vI x3)] [] := by
            intro sg x1 x2 x3 hk
            have HH25 : ∀ (sg : TS) (x1 : Int) (x2 : Int) (x3 : Int), (L_X5_repeats_2 k_50 k_64 κ f sg x1 x2 x3) → G K Y (tw t sg h0) n z 2 [(0, vR (some t)), (1, vI x1), (2, vI x2), (3, vI x3)] [] := by
                intro sg x1 x2 x3 hk
                exact ih sg x1 x2 x3 hk
            exact w_X5_repeats_58 X E hz HH25 H_50 H_64 sg x1 x2 x3 hk
        obtain ⟨f9, hk⟩ := hk
        exact w_X5_repeats_25 X E hz H_50 HH26 f9 sg x1 x2 x3 0 hk
set_option maxHeartbeats 4000000 in
theorem w_X5_repeats_50 {K : KT} {Y : YT} {Qx : QxT} {t n z : Nat} {h0 : AH} {κ : Int → TS → Prop} (X : XY K "TrailMarkersModel" "repeats" cX5_repeats (Option.some Jvm.ClassFile.FieldType.int) [] 5 1 22 Y) (E : YE K Y (tQ t h0 n z κ) Qx) (hz : kz K ≤ t) : ∀ (sg : TS) (x3 : Int), P_X5_repeats_50 κ sg x3 → G K Y (tw t sg h0) n z 50 [(0, vR (some t)), (3, vI x3)] [] := by
  intro sg x3 hk
  refine r_iload_n X (pc := 50) dX5_repeats_50 rfl (q := 1) rfl ?_
  exact r_iret X E (pc := 51) dX5_repeats_51 rfl ⟨_, rfl, rfl, rfl, _, rfl, hk⟩
set_option maxHeartbeats 4000000 in
theorem w_X5_repeats_64 {K : KT} {Y : YT} {Qx : QxT} {t n z : Nat} {h0 : AH} {κ : Int → TS → Prop} (X : XY K "TrailMarkersModel" "repeats" cX5_repeats (Option.some Jvm.ClassFile.FieldType.int) [] 5 1 22 Y) (E : YE K Y (tQ t h0 n z κ) Qx) (hz : kz K ≤ t) : ∀ (sg : TS) (x3 : Int), P_X5_repeats_64 κ sg x3 → G K Y (tw t sg h0) n z 64 [(0, vR (some t)), (3, vI x3)] [] := by
  intro sg x3 hk
  refine r_iload_n X (pc := 64) dX5_repeats_64 rfl (q := 1) rfl ?_
  exact r_iret X E (pc := 65) dX5_repeats_65 rfl ⟨_, rfl, rfl, rfl, _, rfl, hk⟩
set_option maxHeartbeats 4000000 in
theorem w_X5_repeats {K : KT} {Y : YT} {Qx : QxT} {t n z : Nat} {h0 : AH} {κ : Int → TS → Prop} (X : XY K "TrailMarkersModel" "repeats" cX5_repeats (Option.some Jvm.ClassFile.FieldType.int) [] 5 1 22 Y) (E : YE K Y (tQ t h0 n z κ) Qx) (hz : kz K ≤ t) {sg : TS} {x1 : Int} {x2 : Int} (hk : P_X5_repeats κ sg x1 x2) : G K Y (tw t sg h0) n z 0 (lv_argsA 0 [vR (some t), vI x1, vI x2]) [] := by
  show G K Y (tw t sg h0) n z 0 [(0, vR (some t)), (1, vI x1), (2, vI x2)] []
  refine r_iconst X (pc := 0) dX5_repeats_0 ?_
  refine r_istore_n X (pc := 1) (lv1 := [(3, vI 1), (0, vR (some t)), (1, vI x1), (2, vI x2)]) dX5_repeats_1 rfl (by decide) rfl ?_
  refine G.sub [1, 2, 3, 0] rfl ?_
  have HH27 : ∀ (sg : TS) (x3 : Int), (P_X5_repeats_50 κ sg x3) → G K Y (tw t sg h0) n z 50 [(0, vR (some t)), (3, vI x3)] [] := by
      intro sg x3 hk
      exact w_X5_repeats_50 X E hz sg x3 hk
  have HH28 : ∀ (sg : TS) (x3 : Int), (P_X5_repeats_64 κ sg x3) → G K Y (tw t sg h0) n z 64 [(0, vR (some t)), (3, vI x3)] [] := by
      intro sg x3 hk
      exact w_X5_repeats_64 X E hz sg x3 hk
  obtain ⟨f9, hk⟩ := hk
  exact w_X5_repeats_2 X E hz HH27 HH28 f9 sg x1 x2 1 hk
theorem s_X5_repeats {K : KT} {l : Launch} {t n z : Nat} {h0 : AH} {κ : Int → TS → Prop} (hz : kz K ≤ t) {sg : TS} {x1 : Int} {x2 : Int} (hk : P_X5_repeats κ sg x1 x2) : Ct K l yX5_repeats (ws_ yX5_repeats cX5_repeats 5 (Option.some Jvm.ClassFile.FieldType.int)) 1 22 ([vR (some t), vI x1, vI x2].map cV) (tw t sg h0) n z (tQ t h0 n z κ) noX :=
  ct_of (by decide +kernel) (Nat.le_of_ble_eq_true rfl) (fun Y X E => w_X5_repeats X E hz hk)
set_option maxHeartbeats 4000000 in
theorem w_X5_out {K : KT} {Y : YT} {Qx : QxT} {t n z : Nat} {h0 : AH} {κ : TS → Prop} (X : XY K "TrailMarkersModel" "out" cX5_out (Option.none : Option Jvm.ClassFile.FieldType) [] 2 0 0 Y) (E : YE K Y (tQv t h0 n z κ) Qx) (hz : kz K ≤ t) {sg : TS} {x1 : Int} (hk : P_X5_out κ sg x1) : G K Y (tw t sg h0) n z 0 (lv_argsA 0 [vR (some t), vI x1]) [] := by
  show G K Y (tw t sg h0) n z 0 [(0, vR (some t)), (1, vI x1)] []
  refine r_aload_n X (pc := 0) dX5_out_0 rfl (q := 0) rfl ?_
  refine r_tgR X (pc := 1) (ty := 0) (N := 1500) fa_X5_32 rfl (by decide) dX5_out_1 ?_
  refine r_aload_n X (pc := 4) dX5_out_4 rfl (q := 0) rfl ?_
  refine r_tgI X (pc := 5) (v := sg.1 11) fa_X5_480 (by decide) rfl dX5_out_5 ?_
  refine r_iload_n X (pc := 8) dX5_out_8 rfl (q := 1) rfl ?_
  obtain ⟨b2, hk⟩ := hk
  refine r_tiast X (pc := 9) hz (N := 1500) rfl dX5_out_9 b2 ?_
  refine r_aload_n X (pc := 10) dX5_out_10 rfl (q := 0) rfl ?_
  refine r_dup X (pc := 11) dX5_out_11 rfl ?_
  refine r_tgI X (pc := 12) (v := sg.1 11) fa_X5_480 (by decide) rfl dX5_out_12 ?_
  refine r_iconst X (pc := 15) dX5_out_15 ?_
  refine r_iadd X (pc := 16) dX5_out_16 ?_
  refine r_tpI X (pc := 17) fp_X5_480 hz (by decide) dX5_out_17 ?_
  exact r_vret X E (pc := 20) dX5_out_20 ⟨rfl, rfl, rfl, _, rfl, hk⟩
theorem s_X5_out {K : KT} {l : Launch} {t n z : Nat} {h0 : AH} {κ : TS → Prop} (hz : kz K ≤ t) {sg : TS} {x1 : Int} (hk : P_X5_out κ sg x1) : Ct K l yX5_out (ws_ yX5_out cX5_out 2 (Option.none : Option Jvm.ClassFile.FieldType)) 0 0 ([vR (some t), vI x1].map cV) (tw t sg h0) n z (tQv t h0 n z κ) noX :=
  ct_of (by decide +kernel) (Nat.le_of_ble_eq_true rfl) (fun Y X E => w_X5_out X E hz hk)
set_option maxHeartbeats 4000000 in
theorem w_X5_outputByte {K : KT} {Y : YT} {Qx : QxT} {t n z : Nat} {h0 : AH} {κ : Int → TS → Prop} (X : XY K "TrailMarkersModel" "outputByte" cX5_outputByte (Option.some Jvm.ClassFile.FieldType.int) [] 2 1 22 Y) (E : YE K Y (tQ t h0 n z κ) Qx) (hz : kz K ≤ t) {sg : TS} {x1 : Int} (hk : P_X5_outputByte κ sg x1) : G K Y (tw t sg h0) n z 0 (lv_argsA 0 [vR (some t), vI x1]) [] := by
  show G K Y (tw t sg h0) n z 0 [(0, vR (some t)), (1, vI x1)] []
  refine r_aload_n X (pc := 0) dX5_outputByte_0 rfl (q := 0) rfl ?_
  refine r_iconst X (pc := 1) dX5_outputByte_1 ?_
  refine r_tpI X (pc := 2) fp_X5_106 hz (by decide) dX5_outputByte_2 ?_
  refine r_iload_n X (pc := 5) dX5_outputByte_5 rfl (q := 1) rfl ?_
  refine r_iconst X (pc := 6) dX5_outputByte_6 ?_
  refine r_aload_n X (pc := 7) dX5_outputByte_7 rfl (q := 0) rfl ?_
  refine r_tgI X (pc := 8) (v := sg.1 11) fa_X5_480 (by decide) rfl dX5_outputByte_8 ?_
  refine r_iconst X (pc := 11) dX5_outputByte_11 ?_
  refine r_isub X (pc := 12) dX5_outputByte_12 ?_
  refine r_callS X (pc := 13) (As := [vI x1, vI 0, vI ((sg.1 11) - 1)]) (st := []) m_X5_119 (fun _ => s_X5_isIn hk) ⟨by decide, by decide⟩ (Nat.le_of_ble_eq_true rfl) dX5_outputByte_13 (fun v9 h9 n9 z9 hq => ?_) (fun _ _ _ _ _ hf => hf.elim)
  obtain ⟨r4, rfl, rfl, rfl, rfl, hk⟩ := hq
  refine ⟨[vI r4], rfl, ?_⟩
  obtain ⟨b5, hk⟩ := hk
  refine r_if_eq X (pc := 16) (tgt := 28) dX5_outputByte_16 (by decide) b5 (fun c6 => ?_) (fun c6 => ?_)
  · have hk := hk.1 c6
    refine r_iconst X (pc := 28) dX5_outputByte_28 ?_
    exact r_iret X E (pc := 29) dX5_outputByte_29 rfl ⟨_, rfl, rfl, rfl, _, rfl, hk⟩
  · have hk := hk.2 c6
    refine r_aload_n X (pc := 19) dX5_outputByte_19 rfl (q := 0) rfl ?_
    refine r_tgR X (pc := 20) (ty := 0) (N := 1500) fa_X5_32 rfl (by decide) dX5_outputByte_20 ?_
    refine r_iload_n X (pc := 23) dX5_outputByte_23 rfl (q := 1) rfl ?_
    obtain ⟨b7, hk⟩ := hk
    refine r_tiald X (pc := 24) (v := ((setS sg 7 0).2 9) x1) (N := 1500) rfl rfl dX5_outputByte_24 b7 ?_
    refine r_goto X (pc := 25) (tgt := 29) dX5_outputByte_25 (by decide) ?_
    exact r_iret X E (pc := 29) dX5_outputByte_29 rfl ⟨_, rfl, rfl, rfl, _, rfl, hk⟩
theorem s_X5_outputByte {K : KT} {l : Launch} {t n z : Nat} {h0 : AH} {κ : Int → TS → Prop} (hz : kz K ≤ t) {sg : TS} {x1 : Int} (hk : P_X5_outputByte κ sg x1) : Ct K l yX5_outputByte (ws_ yX5_outputByte cX5_outputByte 2 (Option.some Jvm.ClassFile.FieldType.int)) 1 22 ([vR (some t), vI x1].map cV) (tw t sg h0) n z (tQ t h0 n z κ) noX :=
  ct_of (by decide +kernel) (Nat.le_of_ble_eq_true rfl) (fun Y X E => w_X5_outputByte X E hz hk)
