set_option maxRecDepth 100000
set_option maxHeartbeats 4000000 in
theorem w_X8_init {K : KT} {Y : YT} {o : Nat} {κ : AH → Nat → Nat → Prop} {χ : QxT} (X : XY K "TrailMarkers$Guide" "<init>" cX8_init none [] 2 2 81 Y) (E : YE K Y (QvV κ) χ) {h : AH} {n : Nat} {z : Nat} {x1 : Option Nat} (hk : P_X8_init K o κ χ h n z x1) : G K Y h n z 0 (lv_argsA 0 [vR (some o), vR x1]) [] := by
  show G K Y h n z 0 [(0, vR (some o)), (1, vR x1)] []
  refine r_aload_n X (pc := 0) dX8_init_0 rfl (q := 0) rfl ?_
  refine r_objinit X (pc := 1) q1139 q203 q204 ⟨by decide, Nat.le_of_ble_eq_true rfl⟩ dX8_init_1 ?_
  refine r_aload_n X (pc := 4) dX8_init_4 rfl (q := 0) rfl ?_
  refine r_hNew X (pc := 5) nw_X8_9 dX8_init_5 hk (fun h22 hk => ?_)
  refine r_dup X (pc := 8) dX8_init_8 rfl ?_
  refine r_callIN X (pc := 9) (As := []) (st := [vR (some n), vR (some o)]) m_X8_11 (fun _ => s_X9_init hk) ⟨by decide, by decide⟩ (Nat.le_of_ble_eq_true rfl) dX8_init_9 (fun v9 h23 n24 z25 hq => ?_) (fun ci70 q71 h72 n73 z74 hf => ?_)
  · obtain ⟨rfl, hk⟩ := hq
    refine ⟨[], rfl, ?_⟩
    refine r_hPutF X (pc := 12) fp_X8_12 rfl (fit_ref (some n)).1 (fit_ref (some n)).2 dX8_init_12 hk (fun h26 hk => ?_)
    refine r_aload_n X (pc := 15) dX8_init_15 rfl (q := 0) rfl ?_
    refine r_iconst X (pc := 16) dX8_init_16 ?_
    refine r_hNewA X (pc := 17) (t := 0) rfl rfl q251 (fun _ _ h9 => h9) (fun _ => rfl) (by decide) dX8_init_17 hk (fun h27 hk => ?_)
    refine r_hPutF X (pc := 19) fp_X8_18 rfl (fit_arr (some n24)).1 (fit_arr (some n24)).2 dX8_init_19 hk (fun h28 hk => ?_)
    refine r_aload_n X (pc := 22) dX8_init_22 rfl (q := 0) rfl ?_
    refine r_iconst X (pc := 23) dX8_init_23 ?_
    refine r_hNewA X (pc := 24) (t := 0) rfl rfl q251 (fun _ _ h9 => h9) (fun _ => rfl) (by decide) dX8_init_24 hk (fun h29 hk => ?_)
    refine r_hPutF X (pc := 26) fp_X8_22 rfl (fit_arr (some (n24 + 1))).1 (fit_arr (some (n24 + 1))).2 dX8_init_26 hk (fun h30 hk => ?_)
    refine r_aload_n X (pc := 29) dX8_init_29 rfl (q := 0) rfl ?_
    refine r_bipush X (pc := 30) dX8_init_30 (by decide) ?_
    refine r_hNewA X (pc := 32) (t := 0) rfl rfl q251 (fun _ _ h9 => h9) (fun _ => rfl) (by decide) dX8_init_32 hk (fun h31 hk => ?_)
    refine r_hPutF X (pc := 34) fp_X8_25 rfl (fit_arr (some ((n24 + 1) + 1))).1 (fit_arr (some ((n24 + 1) + 1))).2 dX8_init_34 hk (fun h32 hk => ?_)
    refine r_aload_n X (pc := 37) dX8_init_37 rfl (q := 0) rfl ?_
    refine r_sipush X (pc := 38) dX8_init_38 (by decide) ?_
    refine r_hNewA X (pc := 41) (t := 0) rfl rfl q251 (fun _ _ h9 => h9) (fun _ => rfl) (by decide) dX8_init_41 hk (fun h33 hk => ?_)
    refine r_hPutF X (pc := 43) fp_X8_28 rfl (fit_arr (some (((n24 + 1) + 1) + 1))).1 (fit_arr (some (((n24 + 1) + 1) + 1))).2 dX8_init_43 hk (fun h34 hk => ?_)
    refine r_aload_n X (pc := 46) dX8_init_46 rfl (q := 0) rfl ?_
    refine r_bipush X (pc := 47) dX8_init_47 (by decide) ?_
    refine r_hNewA X (pc := 49) (t := 0) rfl rfl q251 (fun _ _ h9 => h9) (fun _ => rfl) (by decide) dX8_init_49 hk (fun h35 hk => ?_)
    refine r_hPutF X (pc := 51) fp_X8_31 rfl (fit_arr (some ((((n24 + 1) + 1) + 1) + 1))).1 (fit_arr (some ((((n24 + 1) + 1) + 1) + 1))).2 dX8_init_51 hk (fun h36 hk => ?_)
    refine r_aload_n X (pc := 54) dX8_init_54 rfl (q := 0) rfl ?_
    refine r_bipush X (pc := 55) dX8_init_55 (by decide) ?_
    refine r_hAnew X (pc := 57) (t := 7) rfl q1171 q1172 dX8_init_57 hk (fun h37 hk => ?_)
    refine r_hPutF X (pc := 60) fp_X8_36 rfl (fit_arr (some (((((n24 + 1) + 1) + 1) + 1) + 1))).1 (fit_arr (some (((((n24 + 1) + 1) + 1) + 1) + 1))).2 dX8_init_60 hk (fun h38 hk => ?_)
    refine r_aload_n X (pc := 63) dX8_init_63 rfl (q := 0) rfl ?_
    refine r_aload_n X (pc := 64) dX8_init_64 rfl (q := 1) rfl ?_
    refine r_hPutF X (pc := 65) fp_X8_40 rfl (fit_ref x1).1 (fit_ref x1).2 dX8_init_65 hk (fun h39 hk => ?_)
    refine r_aload_n X (pc := 68) dX8_init_68 rfl (q := 0) rfl ?_
    refine r_hNew X (pc := 69) nw_X8_44 dX8_init_69 hk (fun h40 hk => ?_)
    refine r_dup X (pc := 72) dX8_init_72 rfl ?_
    refine r_aload_n X (pc := 73) dX8_init_73 rfl (q := 1) rfl ?_
    refine r_callI X (pc := 74) (As := [vR x1]) (st := [vR (some ((((((n24 + 1) + 1) + 1) + 1) + 1) + 1)), vR (some o)]) m_X8_46 (fun _ => s_X10_init hk) ⟨by decide, by decide⟩ (Nat.le_of_ble_eq_true rfl) dX8_init_74 (fun v9 h41 n42 z43 hq => ?_) (fun ci65 q66 h67 n68 z69 hf => ?_)
    · obtain ⟨rfl, hk⟩ := hq
      refine ⟨[], rfl, ?_⟩
      refine r_hPutF X (pc := 77) fp_X8_49 rfl (fit_ref (some ((((((n24 + 1) + 1) + 1) + 1) + 1) + 1))).1 (fit_ref (some ((((((n24 + 1) + 1) + 1) + 1) + 1) + 1))).2 dX8_init_77 hk (fun h44 hk => ?_)
      refine r_aload_n X (pc := 80) dX8_init_80 rfl (q := 0) rfl ?_
      refine r_hNew X (pc := 81) nw_X8_44 dX8_init_81 hk (fun h45 hk => ?_)
      refine r_dup X (pc := 84) dX8_init_84 rfl ?_
      refine r_aload_n X (pc := 85) dX8_init_85 rfl (q := 1) rfl ?_
      refine r_callI X (pc := 86) (As := [vR x1]) (st := [vR (some n42), vR (some o)]) m_X8_46 (fun _ => s_X10_init hk) ⟨by decide, by decide⟩ (Nat.le_of_ble_eq_true rfl) dX8_init_86 (fun v9 h46 n47 z48 hq => ?_) (fun ci60 q61 h62 n63 z64 hf => ?_)
      · obtain ⟨rfl, hk⟩ := hq
        refine ⟨[], rfl, ?_⟩
        refine r_hPutF X (pc := 89) fp_X8_53 rfl (fit_ref (some n42)).1 (fit_ref (some n42)).2 dX8_init_89 hk (fun h49 hk => ?_)
        refine r_aload_n X (pc := 92) dX8_init_92 rfl (q := 0) rfl ?_
        refine r_hNew X (pc := 93) nw_X8_44 dX8_init_93 hk (fun h50 hk => ?_)
        refine r_dup X (pc := 96) dX8_init_96 rfl ?_
        refine r_aload_n X (pc := 97) dX8_init_97 rfl (q := 1) rfl ?_
        refine r_callI X (pc := 98) (As := [vR x1]) (st := [vR (some n47), vR (some o)]) m_X8_46 (fun _ => s_X10_init hk) ⟨by decide, by decide⟩ (Nat.le_of_ble_eq_true rfl) dX8_init_98 (fun v9 h51 n52 z53 hq => ?_) (fun ci55 q56 h57 n58 z59 hf => ?_)
        · obtain ⟨rfl, hk⟩ := hq
          refine ⟨[], rfl, ?_⟩
          refine r_hPutF X (pc := 101) fp_X8_56 rfl (fit_ref (some n47)).1 (fit_ref (some n47)).2 dX8_init_101 hk (fun h54 hk => ?_)
          exact r_vret X E (pc := 104) dX8_init_104 ⟨rfl, hk⟩
        · have hk := hf
          exact r_out X E (fun _ h9 => nomatch h9) hk
      · have hk := hf
        exact r_out X E (fun _ h9 => nomatch h9) hk
    · have hk := hf
      exact r_out X E (fun _ h9 => nomatch h9) hk
  · have hk := hf
    exact r_out X E (fun _ h9 => nomatch h9) hk
theorem s_X8_init {K : KT} {l : Launch} {o : Nat} {κ : AH → Nat → Nat → Prop} {χ : QxT} {h : AH} {n : Nat} {z : Nat} {x1 : Option Nat} (hk : P_X8_init K o κ χ h n z x1) : Ct K l yX8_init (ws_ yX8_init cX8_init 2 none) 2 81 ([vR (some o), vR x1].map cV) h n z (QvV κ) χ :=
  ct_of (by decide +kernel) (Nat.le_of_ble_eq_true rfl) (fun Y X E => w_X8_init X E hk)
set_option maxHeartbeats 4000000 in
theorem w_X8_isTurn {K : KT} {Y : YT} {o : Nat} {κ : Int → AH → Nat → Nat → Prop} {χ : QxT} (X : XY K "TrailMarkers$Guide" "isTurn" cX8_isTurn (Option.some Jvm.ClassFile.FieldType.boolean) [] 3 0 0 Y) (E : YE K Y (QvI κ) χ) {h : AH} {n : Nat} {z : Nat} {x1 : Int} {x2 : Int} (hk : P_X8_isTurn K o κ χ h n z x1 x2) : G K Y h n z 0 (lv_argsA 0 [vR (some o), vI x1, vI x2]) [] := by
  show G K Y h n z 0 [(0, vR (some o)), (1, vI x1), (2, vI x2)] []
  refine r_iload_n X (pc := 0) dX8_isTurn_0 rfl (q := 1) rfl ?_
  refine r_iload_n X (pc := 1) dX8_isTurn_1 rfl (q := 2) rfl ?_
  refine r_iadd X (pc := 2) dX8_isTurn_2 ?_
  refine r_iconst X (pc := 3) dX8_isTurn_3 ?_
  obtain ⟨b4, hk⟩ := hk
  refine r_irem X (pc := 4) dX8_isTurn_4 ⟨⟨b4, (by decide)⟩, (by decide)⟩ ?_
  refine r_iconst X (pc := 5) dX8_isTurn_5 ?_
  obtain ⟨b5, hk⟩ := hk
  refine r_icmp_ne X (pc := 6) (tgt := 13) dX8_isTurn_6 (by decide) ⟨b5, (by decide)⟩ (fun c6 => ?_) (fun c6 => ?_)
  · have hk := hk.2 c6
    refine r_iconst X (pc := 13) dX8_isTurn_13 ?_
    exact r_iret X E (pc := 14) dX8_isTurn_14 rfl ⟨_, rfl, hk⟩
  · have hk := hk.1 c6
    refine r_iconst X (pc := 9) dX8_isTurn_9 ?_
    refine r_goto X (pc := 10) (tgt := 14) dX8_isTurn_10 (by decide) ?_
    exact r_iret X E (pc := 14) dX8_isTurn_14 rfl ⟨_, rfl, hk⟩
theorem s_X8_isTurn {K : KT} {l : Launch} {o : Nat} {κ : Int → AH → Nat → Nat → Prop} {χ : QxT} {h : AH} {n : Nat} {z : Nat} {x1 : Int} {x2 : Int} (hk : P_X8_isTurn K o κ χ h n z x1 x2) : Ct K l yX8_isTurn (ws_ yX8_isTurn cX8_isTurn 3 (Option.some Jvm.ClassFile.FieldType.boolean)) 0 0 ([vR (some o), vI x1, vI x2].map cV) h n z (QvI κ) χ :=
  ct_of (by decide +kernel) (Nat.le_of_ble_eq_true rfl) (fun Y X E => w_X8_isTurn X E hk)
set_option maxHeartbeats 4000000 in
theorem w_X8_offerIfMet {K : KT} {Y : YT} {o : Nat} {κ : AH → Nat → Nat → Prop} {χ : QxT} (X : XY K "TrailMarkers$Guide" "offerIfMet" cX8_offerIfMet (Option.none : Option Jvm.ClassFile.FieldType) [] 3 2 86 Y) (E : YE K Y (QvV κ) χ) {h : AH} {n : Nat} {z : Nat} {x1 : Option Nat} {x2 : Int} (hk : P_X8_offerIfMet K o κ χ h n z x1 x2) : G K Y h n z 0 (lv_argsA 0 [vR (some o), vR x1, vI x2]) [] := by
  show G K Y h n z 0 [(0, vR (some o)), (1, vR x1), (2, vI x2)] []
  refine r_aload_n X (pc := 0) dX8_offerIfMet_0 rfl (q := 1) rfl ?_
  refine r_hGI X (pc := 1) fa_X8_94_X10 dX8_offerIfMet_1 hk (fun y11 hk => ?_)
  refine r_iconst X (pc := 4) dX8_offerIfMet_4 ?_
  obtain ⟨b12, hk⟩ := hk
  refine r_icmp_eq X (pc := 5) (tgt := 38) dX8_offerIfMet_5 (by decide) ⟨b12, (by decide)⟩ (fun c13 => ?_) (fun c13 => ?_)
  · have hk := hk.1 c13
    exact r_vret X E (pc := 38) dX8_offerIfMet_38 ⟨rfl, hk⟩
  · have hk := hk.2 c13
    refine r_aload_n X (pc := 8) dX8_offerIfMet_8 rfl (q := 0) rfl ?_
    refine r_hGR X (pc := 9) fa_X8_18 dX8_offerIfMet_9 hk (fun y14 hk => ?_)
    refine r_iload_n X (pc := 12) dX8_offerIfMet_12 rfl (q := 2) rfl ?_
    refine r_aload_n X (pc := 13) dX8_offerIfMet_13 rfl (q := 1) rfl ?_
    refine r_hGI X (pc := 14) fa_X8_91_X10 dX8_offerIfMet_14 hk (fun y15 hk => ?_)
    refine r_hSI X (pc := 17) dX8_offerIfMet_17 hk (fun h16 hk => ?_)
    refine r_aload_n X (pc := 18) dX8_offerIfMet_18 rfl (q := 0) rfl ?_
    refine r_hGR X (pc := 19) fa_X8_12 dX8_offerIfMet_19 hk (fun y17 hk => ?_)
    refine r_aload_n X (pc := 22) dX8_offerIfMet_22 rfl (q := 1) rfl ?_
    refine r_hGI X (pc := 23) fa_X8_94_X10 dX8_offerIfMet_23 hk (fun y18 hk => ?_)
    refine r_iload_n X (pc := 26) dX8_offerIfMet_26 rfl (q := 2) rfl ?_
    refine r_aload_n X (pc := 27) dX8_offerIfMet_27 rfl (q := 0) rfl ?_
    refine r_hGR X (pc := 28) fa_X8_18 dX8_offerIfMet_28 hk (fun y19 hk => ?_)
    refine r_aload_n X (pc := 31) dX8_offerIfMet_31 rfl (q := 0) rfl ?_
    refine r_hGR X (pc := 32) fa_X8_22 dX8_offerIfMet_32 hk (fun y20 hk => ?_)
    obtain ⟨o29, fs30, e9, b31, hk⟩ := hk
    refine r_callV X (pc := 35) (As := [vI y18, vI x2, vR y19, vR y20]) (st := []) rfl rfl e9 b31 m_X8_97 (fun _ => s_X9_offer hk) ⟨by decide, by decide⟩ (Nat.le_of_ble_eq_true rfl) dX8_offerIfMet_35 (fun v9 h21 n22 z23 hq => ?_) (fun ci24 q25 h26 n27 z28 hf => ?_)
    · obtain ⟨rfl, hk⟩ := hq
      refine ⟨[], rfl, ?_⟩
      exact r_vret X E (pc := 38) dX8_offerIfMet_38 ⟨rfl, hk⟩
    · have hk := hf
      exact r_out X E (fun _ h9 => nomatch h9) hk
theorem s_X8_offerIfMet {K : KT} {l : Launch} {o : Nat} {κ : AH → Nat → Nat → Prop} {χ : QxT} {h : AH} {n : Nat} {z : Nat} {x1 : Option Nat} {x2 : Int} (hk : P_X8_offerIfMet K o κ χ h n z x1 x2) : Ct K l yX8_offerIfMet (ws_ yX8_offerIfMet cX8_offerIfMet 3 (Option.none : Option Jvm.ClassFile.FieldType)) 2 86 ([vR (some o), vR x1, vI x2].map cV) h n z (QvV κ) χ :=
  ct_of (by decide +kernel) (Nat.le_of_ble_eq_true rfl) (fun Y X E => w_X8_offerIfMet X E hk)
set_option maxHeartbeats 4000000 in
theorem w_X8_guessAgain_22 {K : KT} {Y : YT} {o : Nat} {κ : AH → Nat → Nat → Prop} {χ : QxT} (X : XY K "TrailMarkers$Guide" "guessAgain" cX8_guessAgain (Option.none : Option Jvm.ClassFile.FieldType) [] 9 3 108 Y) (E : YE K Y (QvV κ) χ) {k_106 : AH → Nat → Nat → Option Nat → Int → Int → Int → Int → Int → Int → Prop} (H_106 : ∀ (h : AH) (n : Nat) (z : Nat) (x1 : Option Nat) (x2 : Int) (x3 : Int) (x4 : Int) (x5 : Int) (x6 : Int) (x7 : Int), k_106 h n z x1 x2 x3 x4 x5 x6 x7 → G K Y h n z 106 [(0, vR (some o)), (1, vR x1), (2, vI x2), (3, vI x3), (4, vI x4), (5, vI x5), (6, vI x6), (7, vI x7)] []) : ∀ (f : Nat) (h : AH) (n : Nat) (z : Nat) (x1 : Option Nat) (x2 : Int) (x3 : Int) (x4 : Int) (x5 : Int) (x6 : Int) (x7 : Int) (x8 : Int), L_X8_guessAgain_22 K o k_106 κ χ f h n z x1 x2 x3 x4 x5 x6 x7 x8 → G K Y h n z 22 [(0, vR (some o)), (1, vR x1), (2, vI x2), (3, vI x3), (4, vI x4), (5, vI x5), (6, vI x6), (7, vI x7), (8, vI x8)] [] := by
  intro f
  induction f with
  | zero => intro h n z x1 x2 x3 x4 x5 x6 x7 x8 hk; exact hk.elim
  | succ f ih =>
    intro h n z x1 x2 x3 x4 x5 x6 x7 x8 hk
    refine r_iload X (pc := 22) dX8_guessAgain_22 (q := 8) rfl ?_
    refine r_iconst X (pc := 24) dX8_guessAgain_24 ?_
    obtain ⟨b21, hk⟩ := hk
    refine r_icmp_ge X (pc := 25) (tgt := 106) dX8_guessAgain_25 (by decide) ⟨b21, (by decide)⟩ (fun c22 => ?_) (fun c22 => ?_)
    · have hk := hk.2 c22
      refine G.sub [0, 1, 2, 3, 4, 5, 6, 7] rfl ?_
      exact H_106 h n z x1 x2 x3 x4 x5 x6 x7 hk
    · have hk := hk.1 c22
      refine r_aload_n X (pc := 28) dX8_guessAgain_28 rfl (q := 0) rfl ?_
      refine r_iload X (pc := 29) dX8_guessAgain_29 (q := 5) rfl ?_
      refine r_iload X (pc := 31) dX8_guessAgain_31 (q := 8) rfl ?_
      obtain ⟨o66, fs67, e9, b68, hk⟩ := hk
      refine r_callV X (pc := 33) (As := [vI x5, vI x8]) (st := []) rfl rfl e9 b68 m_X8_118 (fun _ => s_X8_isTurn hk) ⟨by decide, by decide⟩ (Nat.le_of_ble_eq_true rfl) dX8_guessAgain_33 (fun v9 h24 n25 z26 hq => ?_) (fun ci61 q62 h63 n64 z65 hf => ?_)
      · obtain ⟨r23, rfl, hk⟩ := hq
        refine ⟨[vI r23], rfl, ?_⟩
        obtain ⟨b27, hk⟩ := hk
        refine r_if_eq X (pc := 36) (tgt := 100) dX8_guessAgain_36 (by decide) b27 (fun c28 => ?_) (fun c28 => ?_)
        · have hk := hk.1 c28
          refine r_iinc X (pc := 100) (q := 8) (lv1 := [(8, vI (x8 + 1)), (0, vR (some o)), (1, vR x1), (2, vI x2), (3, vI x3), (4, vI x4), (5, vI x5), (6, vI x6), (7, vI x7)]) dX8_guessAgain_100 rfl (by decide) rfl ?_
          refine r_goto X (pc := 103) (tgt := 22) dX8_guessAgain_103 (by decide) ?_
          refine G.sub [1, 2, 3, 4, 5, 6, 7, 8, 0] rfl ?_
          exact ih h24 n25 z26 x1 x2 x3 x4 x5 x6 x7 (x8 + 1) hk
        · have hk := hk.2 c28
          refine r_aload_n X (pc := 39) dX8_guessAgain_39 rfl (q := 0) rfl ?_
          refine r_hGR X (pc := 40) fa_X8_18 dX8_guessAgain_40 hk (fun y29 hk => ?_)
          refine r_iconst X (pc := 43) dX8_guessAgain_43 ?_
          refine r_iload X (pc := 44) dX8_guessAgain_44 (q := 7) rfl ?_
          refine r_hSI X (pc := 46) dX8_guessAgain_46 hk (fun h30 hk => ?_)
          refine r_aload_n X (pc := 47) dX8_guessAgain_47 rfl (q := 0) rfl ?_
          refine r_hGR X (pc := 48) fa_X8_22 dX8_guessAgain_48 hk (fun y31 hk => ?_)
          refine r_iconst X (pc := 51) dX8_guessAgain_51 ?_
          refine r_iload X (pc := 52) dX8_guessAgain_52 (q := 8) rfl ?_
          refine r_hSI X (pc := 54) dX8_guessAgain_54 hk (fun h32 hk => ?_)
          refine r_aload_n X (pc := 55) dX8_guessAgain_55 rfl (q := 0) rfl ?_
          refine r_hGR X (pc := 56) fa_X8_56 dX8_guessAgain_56 hk (fun y33 hk => ?_)
          refine r_iload_n X (pc := 59) dX8_guessAgain_59 rfl (q := 3) rfl ?_
          refine r_iload X (pc := 60) dX8_guessAgain_60 (q := 7) rfl ?_
          refine r_iload X (pc := 62) dX8_guessAgain_62 (q := 5) rfl ?_
          refine r_callSN X (pc := 64) (As := [vI x5]) (st := [vI x7, vI x3, vR y33]) m_X8_111 (fun _ => s_X1_stepX hk) ⟨by decide, by decide⟩ (Nat.le_of_ble_eq_true rfl) dX8_guessAgain_64 (fun v9 h9 n9 z9 hq => ?_) (fun ci9 q9 h9 n9 z9 hf => ?_)
          · obtain ⟨r34, rfl, rfl, rfl, rfl, hk⟩ := hq
            refine ⟨[vI r34], rfl, ?_⟩
            refine r_imul X (pc := 67) dX8_guessAgain_67 ?_
            refine r_iadd X (pc := 68) dX8_guessAgain_68 ?_
            refine r_iload X (pc := 69) dX8_guessAgain_69 (q := 4) rfl ?_
            refine r_iload X (pc := 71) dX8_guessAgain_71 (q := 7) rfl ?_
            refine r_iload X (pc := 73) dX8_guessAgain_73 (q := 5) rfl ?_
            refine r_callSN X (pc := 75) (As := [vI x5]) (st := [vI x7, vI x4, vI (x3 + (x7 * r34)), vR y33]) m_X8_115 (fun _ => s_X1_stepY hk) ⟨by decide, by decide⟩ (Nat.le_of_ble_eq_true rfl) dX8_guessAgain_75 (fun v9 h9 n9 z9 hq => ?_) (fun ci9 q9 h9 n9 z9 hf => ?_)
            · obtain ⟨r35, rfl, rfl, rfl, rfl, hk⟩ := hq
              refine ⟨[vI r35], rfl, ?_⟩
              refine r_imul X (pc := 78) dX8_guessAgain_78 ?_
              refine r_iadd X (pc := 79) dX8_guessAgain_79 ?_
              refine r_iload X (pc := 80) dX8_guessAgain_80 (q := 8) rfl ?_
              refine r_aload_n X (pc := 82) dX8_guessAgain_82 rfl (q := 1) rfl ?_
              refine r_hGI X (pc := 83) fa_X8_77_X3 dX8_guessAgain_83 hk (fun y36 hk => ?_)
              refine r_iload_n X (pc := 86) dX8_guessAgain_86 rfl (q := 2) rfl ?_
              obtain ⟨o58, fs59, e9, b60, hk⟩ := hk
              refine r_callV X (pc := 87) (As := [vI (x3 + (x7 * r34)), vI (x4 + (x7 * r35)), vI x8, vI y36, vI x2]) (st := []) rfl rfl e9 b60 m_X8_80 (fun _ => s_X10_go hk) ⟨by decide, by decide⟩ (Nat.le_of_ble_eq_true rfl) dX8_guessAgain_87 (fun v9 h38 n39 z40 hq => ?_) (fun ci53 q54 h55 n56 z57 hf => ?_)
              · obtain ⟨r37, rfl, hk⟩ := hq
                refine ⟨[vR r37], rfl, ?_⟩
                refine r_pop X (pc := 90) dX8_guessAgain_90 rfl ?_
                refine r_aload_n X (pc := 91) dX8_guessAgain_91 rfl (q := 0) rfl ?_
                refine r_aload_n X (pc := 92) dX8_guessAgain_92 rfl (q := 0) rfl ?_
                refine r_hGR X (pc := 93) fa_X8_56 dX8_guessAgain_93 hk (fun y41 hk => ?_)
                refine r_iconst X (pc := 96) dX8_guessAgain_96 ?_
                obtain ⟨o50, fs51, e9, b52, hk⟩ := hk
                refine r_callV X (pc := 97) (As := [vR y41, vI 2]) (st := []) rfl rfl e9 b52 m_X8_122 (fun _ => s_X8_offerIfMet hk) ⟨by decide, by decide⟩ (Nat.le_of_ble_eq_true rfl) dX8_guessAgain_97 (fun v9 h42 n43 z44 hq => ?_) (fun ci45 q46 h47 n48 z49 hf => ?_)
                · obtain ⟨rfl, hk⟩ := hq
                  refine ⟨[], rfl, ?_⟩
                  refine r_iinc X (pc := 100) (q := 8) (lv1 := [(8, vI (x8 + 1)), (0, vR (some o)), (1, vR x1), (2, vI x2), (3, vI x3), (4, vI x4), (5, vI x5), (6, vI x6), (7, vI x7)]) dX8_guessAgain_100 rfl (by decide) rfl ?_
                  refine r_goto X (pc := 103) (tgt := 22) dX8_guessAgain_103 (by decide) ?_
                  refine G.sub [1, 2, 3, 4, 5, 6, 7, 8, 0] rfl ?_
                  exact ih h42 n43 z44 x1 x2 x3 x4 x5 x6 x7 (x8 + 1) hk
                · have hk := hf
                  exact r_out X E (fun _ h9 => nomatch h9) hk
              · have hk := hf
                exact r_out X E (fun _ h9 => nomatch h9) hk
            · exact hf.elim
          · exact hf.elim
      · have hk := hf
        exact r_out X E (fun _ h9 => nomatch h9) hk
set_option maxHeartbeats 4000000 in
theorem w_X8_guessAgain_106 {K : KT} {Y : YT} {o : Nat} {κ : AH → Nat → Nat → Prop} {χ : QxT} (X : XY K "TrailMarkers$Guide" "guessAgain" cX8_guessAgain (Option.none : Option Jvm.ClassFile.FieldType) [] 9 3 108 Y) (E : YE K Y (QvV κ) χ) {k_12 : AH → Nat → Nat → Option Nat → Int → Int → Int → Int → Int → Int → Prop} {k_112 : AH → Nat → Nat → Prop} (H_12 : ∀ (h : AH) (n : Nat) (z : Nat) (x1 : Option Nat) (x2 : Int) (x3 : Int) (x4 : Int) (x5 : Int) (x6 : Int) (x7 : Int), k_12 h n z x1 x2 x3 x4 x5 x6 x7 → G K Y h n z 12 [(0, vR (some o)), (1, vR x1), (2, vI x2), (3, vI x3), (4, vI x4), (5, vI x5), (6, vI x6), (7, vI x7)] []) (H_112 : ∀ (h : AH) (n : Nat) (z : Nat), k_112 h n z → G K Y h n z 112 [(0, vR (some o))] []) : ∀ (h : AH) (n : Nat) (z : Nat) (x1 : Option Nat) (x2 : Int) (x3 : Int) (x4 : Int) (x5 : Int) (x6 : Int) (x7 : Int), P_X8_guessAgain_106 K o k_12 k_112 κ χ h n z x1 x2 x3 x4 x5 x6 x7 → G K Y h n z 106 [(0, vR (some o)), (1, vR x1), (2, vI x2), (3, vI x3), (4, vI x4), (5, vI x5), (6, vI x6), (7, vI x7)] [] := by
  intro h n z x1 x2 x3 x4 x5 x6 x7 hk
  refine r_iinc X (pc := 106) (q := 7) (lv1 := [(7, vI (x7 + 1)), (0, vR (some o)), (1, vR x1), (2, vI x2), (3, vI x3), (4, vI x4), (5, vI x5), (6, vI x6)]) dX8_guessAgain_106 rfl (by decide) rfl ?_
  refine r_goto X (pc := 109) (tgt := 12) dX8_guessAgain_109 (by decide) ?_
  refine G.sub [1, 2, 3, 4, 5, 6, 7, 0] rfl ?_
  exact H_12 h n z x1 x2 x3 x4 x5 x6 (x7 + 1) hk
set_option maxHeartbeats 4000000 in
theorem w_X8_guessAgain_12 {K : KT} {Y : YT} {o : Nat} {κ : AH → Nat → Nat → Prop} {χ : QxT} (X : XY K "TrailMarkers$Guide" "guessAgain" cX8_guessAgain (Option.none : Option Jvm.ClassFile.FieldType) [] 9 3 108 Y) (E : YE K Y (QvV κ) χ) {k_112 : AH → Nat → Nat → Prop} (H_112 : ∀ (h : AH) (n : Nat) (z : Nat), k_112 h n z → G K Y h n z 112 [(0, vR (some o))] []) : ∀ (f : Nat) (h : AH) (n : Nat) (z : Nat) (x1 : Option Nat) (x2 : Int) (x3 : Int) (x4 : Int) (x5 : Int) (x6 : Int) (x7 : Int), L_X8_guessAgain_12 K o k_112 κ χ f h n z x1 x2 x3 x4 x5 x6 x7 → G K Y h n z 12 [(0, vR (some o)), (1, vR x1), (2, vI x2), (3, vI x3), (4, vI x4), (5, vI x5), (6, vI x6), (7, vI x7)] [] := by
  intro f
  induction f with
  | zero => intro h n z x1 x2 x3 x4 x5 x6 x7 hk; exact hk.elim
  | succ f ih =>
    intro h n z x1 x2 x3 x4 x5 x6 x7 hk
    refine r_iload X (pc := 12) dX8_guessAgain_12 (q := 7) rfl ?_
    refine r_iload X (pc := 14) dX8_guessAgain_14 (q := 6) rfl ?_
    obtain ⟨b69, b70, hk⟩ := hk
    refine r_icmp_gt X (pc := 16) (tgt := 112) dX8_guessAgain_16 (by decide) ⟨b69, b70⟩ (fun c71 => ?_) (fun c71 => ?_)
    · have hk := hk.1 c71
      refine G.sub [0] rfl ?_
      exact H_112 h n z hk
    · have hk := hk.2 c71
      refine r_iconst X (pc := 19) dX8_guessAgain_19 ?_
      refine r_istore X (pc := 20) (lv1 := [(8, vI 0), (0, vR (some o)), (1, vR x1), (2, vI x2), (3, vI x3), (4, vI x4), (5, vI x5), (6, vI x6), (7, vI x7)]) dX8_guessAgain_20 (by decide) rfl ?_
      refine G.sub [1, 2, 3, 4, 5, 6, 7, 8, 0] rfl ?_
      have HH74 : ∀ (h : AH) (n : Nat) (z : Nat) (x1 : Option Nat) (x2 : Int) (x3 : Int) (x4 : Int) (x5 : Int) (x6 : Int) (x7 : Int), (P_X8_guessAgain_106 K o (fun h n z x1 x2 x3 x4 x5 x6 x7 => L_X8_guessAgain_12 K o k_112 κ χ f h n z x1 x2 x3 x4 x5 x6 x7) k_112 κ χ h n z x1 x2 x3 x4 x5 x6 x7) → G K Y h n z 106 [(0, vR (some o)), (1, vR x1), (2, vI x2), (3, vI x3), (4, vI x4), (5, vI x5), (6, vI x6), (7, vI x7)] [] := by
          intro h n z x1 x2 x3 x4 x5 x6 x7 hk
          have HH73 : ∀ (h : AH) (n : Nat) (z : Nat) (x1 : Option Nat) (x2 : Int) (x3 : Int) (x4 : Int) (x5 : Int) (x6 : Int) (x7 : Int), (L_X8_guessAgain_12 K o k_112 κ χ f h n z x1 x2 x3 x4 x5 x6 x7) → G K Y h n z 12 [(0, vR (some o)), (1, vR x1), (2, vI x2), (3, vI x3), (4, vI x4), (5, vI x5), (6, vI x6), (7, vI x7)] [] := by
              intro h n z x1 x2 x3 x4 x5 x6 x7 hk
              exact ih h n z x1 x2 x3 x4 x5 x6 x7 hk
          exact w_X8_guessAgain_106 X E HH73 H_112 h n z x1 x2 x3 x4 x5 x6 x7 hk
      obtain ⟨f9, hk⟩ := hk
      exact w_X8_guessAgain_22 X E HH74 f9 h n z x1 x2 x3 x4 x5 x6 x7 0 hk
set_option maxHeartbeats 4000000 in
theorem w_X8_guessAgain_112 {K : KT} {Y : YT} {o : Nat} {κ : AH → Nat → Nat → Prop} {χ : QxT} (X : XY K "TrailMarkers$Guide" "guessAgain" cX8_guessAgain (Option.none : Option Jvm.ClassFile.FieldType) [] 9 3 108 Y) (E : YE K Y (QvV κ) χ) : ∀ (h : AH) (n : Nat) (z : Nat), P_X8_guessAgain_112 K o κ χ h n z → G K Y h n z 112 [(0, vR (some o))] [] := by
  intro h n z hk
  exact r_vret X E (pc := 112) dX8_guessAgain_112 ⟨rfl, hk⟩
set_option maxHeartbeats 4000000 in
theorem w_X8_guessAgain {K : KT} {Y : YT} {o : Nat} {κ : AH → Nat → Nat → Prop} {χ : QxT} (X : XY K "TrailMarkers$Guide" "guessAgain" cX8_guessAgain (Option.none : Option Jvm.ClassFile.FieldType) [] 9 3 108 Y) (E : YE K Y (QvV κ) χ) {h : AH} {n : Nat} {z : Nat} {x1 : Option Nat} {x2 : Int} {x3 : Int} {x4 : Int} {x5 : Int} (hk : P_X8_guessAgain K o κ χ h n z x1 x2 x3 x4 x5) : G K Y h n z 0 (lv_argsA 0 [vR (some o), vR x1, vI x2, vI x3, vI x4, vI x5]) [] := by
  show G K Y h n z 0 [(0, vR (some o)), (1, vR x1), (2, vI x2), (3, vI x3), (4, vI x4), (5, vI x5)] []
  refine r_aload_n X (pc := 0) dX8_guessAgain_0 rfl (q := 0) rfl ?_
  refine r_hGR X (pc := 1) fa_X8_53 dX8_guessAgain_1 hk (fun y75 hk => ?_)
  refine r_hGI X (pc := 4) fa_X8_91_X10 dX8_guessAgain_4 hk (fun y76 hk => ?_)
  refine r_istore X (pc := 7) (lv1 := [(6, vI y76), (0, vR (some o)), (1, vR x1), (2, vI x2), (3, vI x3), (4, vI x4), (5, vI x5)]) dX8_guessAgain_7 (by decide) rfl ?_
  refine r_iconst X (pc := 9) dX8_guessAgain_9 ?_
  refine r_istore X (pc := 10) (lv1 := [(7, vI 1), (6, vI y76), (0, vR (some o)), (1, vR x1), (2, vI x2), (3, vI x3), (4, vI x4), (5, vI x5)]) dX8_guessAgain_10 (by decide) rfl ?_
  refine G.sub [2, 3, 4, 5, 6, 7, 1, 0] rfl ?_
  have HH77 : ∀ (h : AH) (n : Nat) (z : Nat), (P_X8_guessAgain_112 K o κ χ h n z) → G K Y h n z 112 [(0, vR (some o))] [] := by
      intro h n z hk
      exact w_X8_guessAgain_112 X E h n z hk
  obtain ⟨f9, hk⟩ := hk
  exact w_X8_guessAgain_12 X E HH77 f9 h n z x1 x2 x3 x4 x5 y76 1 hk
theorem s_X8_guessAgain {K : KT} {l : Launch} {o : Nat} {κ : AH → Nat → Nat → Prop} {χ : QxT} {h : AH} {n : Nat} {z : Nat} {x1 : Option Nat} {x2 : Int} {x3 : Int} {x4 : Int} {x5 : Int} (hk : P_X8_guessAgain K o κ χ h n z x1 x2 x3 x4 x5) : Ct K l yX8_guessAgain (ws_ yX8_guessAgain cX8_guessAgain 9 (Option.none : Option Jvm.ClassFile.FieldType)) 3 108 ([vR (some o), vR x1, vI x2, vI x3, vI x4, vI x5].map cV) h n z (QvV κ) χ :=
  ct_of (by decide +kernel) (Nat.le_of_ble_eq_true rfl) (fun Y X E => w_X8_guessAgain X E hk)
set_option maxHeartbeats 4000000 in
theorem w_X8_guess_56 {K : KT} {Y : YT} {o : Nat} {κ : AH → Nat → Nat → Prop} {χ : QxT} (X : XY K "TrailMarkers$Guide" "guess" cX8_guess (Option.none : Option Jvm.ClassFile.FieldType) [] 9 4 136 Y) (E : YE K Y (QvV κ) χ) {k_145 : AH → Nat → Nat → Option Nat → Int → Int → Int → Int → Prop} (H_145 : ∀ (h : AH) (n : Nat) (z : Nat) (x1 : Option Nat) (x2 : Int) (x3 : Int) (x4 : Int) (x5 : Int), k_145 h n z x1 x2 x3 x4 x5 → G K Y h n z 145 [(0, vR (some o)), (1, vR x1), (2, vI x2), (3, vI x3), (4, vI x4), (5, vI x5)] []) : ∀ (f : Nat) (h : AH) (n : Nat) (z : Nat) (x1 : Option Nat) (x2 : Int) (x3 : Int) (x4 : Int) (x5 : Int) (x6 : Int) (x7 : Int) (x8 : Int), L_X8_guess_56 K o k_145 κ χ f h n z x1 x2 x3 x4 x5 x6 x7 x8 → G K Y h n z 56 [(0, vR (some o)), (1, vR x1), (2, vI x2), (3, vI x3), (4, vI x4), (5, vI x5), (6, vI x6), (7, vI x7), (8, vI x8)] [] := by
  intro f
  induction f with
  | zero => intro h n z x1 x2 x3 x4 x5 x6 x7 x8 hk; exact hk.elim
  | succ f ih =>
    intro h n z x1 x2 x3 x4 x5 x6 x7 x8 hk
    refine r_iload X (pc := 56) dX8_guess_56 (q := 8) rfl ?_
    refine r_iconst X (pc := 58) dX8_guess_58 ?_
    obtain ⟨b28, hk⟩ := hk
    refine r_icmp_ge X (pc := 59) (tgt := 145) dX8_guess_59 (by decide) ⟨b28, (by decide)⟩ (fun c29 => ?_) (fun c29 => ?_)
    · have hk := hk.2 c29
      refine G.sub [0, 1, 2, 3, 4, 5] rfl ?_
      exact H_145 h n z x1 x2 x3 x4 x5 hk
    · have hk := hk.1 c29
      refine r_aload_n X (pc := 62) dX8_guess_62 rfl (q := 0) rfl ?_
      refine r_aload_n X (pc := 63) dX8_guess_63 rfl (q := 1) rfl ?_
      refine r_hGI X (pc := 64) fa_X8_74_X3 dX8_guess_64 hk (fun y30 hk => ?_)
      refine r_iload X (pc := 67) dX8_guess_67 (q := 8) rfl ?_
      obtain ⟨o85, fs86, e9, b87, hk⟩ := hk
      refine r_callV X (pc := 69) (As := [vI y30, vI x8]) (st := []) rfl rfl e9 b87 m_X8_118 (fun _ => s_X8_isTurn hk) ⟨by decide, by decide⟩ (Nat.le_of_ble_eq_true rfl) dX8_guess_69 (fun v9 h32 n33 z34 hq => ?_) (fun ci80 q81 h82 n83 z84 hf => ?_)
      · obtain ⟨r31, rfl, hk⟩ := hq
        refine ⟨[vI r31], rfl, ?_⟩
        obtain ⟨b35, hk⟩ := hk
        refine r_if_eq X (pc := 72) (tgt := 139) dX8_guess_72 (by decide) b35 (fun c36 => ?_) (fun c36 => ?_)
        · have hk := hk.1 c36
          refine r_iinc X (pc := 139) (q := 8) (lv1 := [(8, vI (x8 + 1)), (0, vR (some o)), (1, vR x1), (2, vI x2), (3, vI x3), (4, vI x4), (5, vI x5), (6, vI x6), (7, vI x7)]) dX8_guess_139 rfl (by decide) rfl ?_
          refine r_goto X (pc := 142) (tgt := 56) dX8_guess_142 (by decide) ?_
          refine G.sub [1, 2, 3, 4, 5, 6, 7, 8, 0] rfl ?_
          exact ih h32 n33 z34 x1 x2 x3 x4 x5 x6 x7 (x8 + 1) hk
        · have hk := hk.2 c36
          refine r_aload_n X (pc := 75) dX8_guess_75 rfl (q := 0) rfl ?_
          refine r_hGR X (pc := 76) fa_X8_18 dX8_guess_76 hk (fun y37 hk => ?_)
          refine r_iconst X (pc := 79) dX8_guess_79 ?_
          refine r_iload X (pc := 80) dX8_guess_80 (q := 5) rfl ?_
          refine r_hSI X (pc := 82) dX8_guess_82 hk (fun h38 hk => ?_)
          refine r_aload_n X (pc := 83) dX8_guess_83 rfl (q := 0) rfl ?_
          refine r_hGR X (pc := 84) fa_X8_22 dX8_guess_84 hk (fun y39 hk => ?_)
          refine r_iconst X (pc := 87) dX8_guess_87 ?_
          refine r_iload X (pc := 88) dX8_guess_88 (q := 8) rfl ?_
          refine r_hSI X (pc := 90) dX8_guess_90 hk (fun h40 hk => ?_)
          refine r_aload_n X (pc := 91) dX8_guess_91 rfl (q := 0) rfl ?_
          refine r_hGR X (pc := 92) fa_X8_53 dX8_guess_92 hk (fun y41 hk => ?_)
          refine r_iload X (pc := 95) dX8_guess_95 (q := 6) rfl ?_
          refine r_iload X (pc := 97) dX8_guess_97 (q := 7) rfl ?_
          refine r_iload X (pc := 99) dX8_guess_99 (q := 8) rfl ?_
          refine r_aload_n X (pc := 101) dX8_guess_101 rfl (q := 1) rfl ?_
          refine r_hGI X (pc := 102) fa_X8_77_X3 dX8_guess_102 hk (fun y42 hk => ?_)
          refine r_iload_n X (pc := 105) dX8_guess_105 rfl (q := 2) rfl ?_
          obtain ⟨o77, fs78, e9, b79, hk⟩ := hk
          refine r_callV X (pc := 106) (As := [vI x6, vI x7, vI x8, vI y42, vI x2]) (st := []) rfl rfl e9 b79 m_X8_80 (fun _ => s_X10_go hk) ⟨by decide, by decide⟩ (Nat.le_of_ble_eq_true rfl) dX8_guess_106 (fun v9 h44 n45 z46 hq => ?_) (fun ci72 q73 h74 n75 z76 hf => ?_)
          · obtain ⟨r43, rfl, hk⟩ := hq
            refine ⟨[vR r43], rfl, ?_⟩
            refine r_pop X (pc := 109) dX8_guess_109 rfl ?_
            refine r_iload_n X (pc := 110) dX8_guess_110 rfl (q := 3) rfl ?_
            refine r_iconst X (pc := 111) dX8_guess_111 ?_
            obtain ⟨b47, hk⟩ := hk
            refine r_icmp_ne X (pc := 112) (tgt := 127) dX8_guess_112 (by decide) ⟨b47, (by decide)⟩ (fun c48 => ?_) (fun c48 => ?_)
            · have hk := hk.2 c48
              refine r_aload_n X (pc := 127) dX8_guess_127 rfl (q := 0) rfl ?_
              refine r_aload_n X (pc := 128) dX8_guess_128 rfl (q := 1) rfl ?_
              refine r_iload_n X (pc := 129) dX8_guess_129 rfl (q := 2) rfl ?_
              refine r_iload X (pc := 130) dX8_guess_130 (q := 6) rfl ?_
              refine r_iload X (pc := 132) dX8_guess_132 (q := 7) rfl ?_
              refine r_iload X (pc := 134) dX8_guess_134 (q := 8) rfl ?_
              obtain ⟨o57, fs58, e9, b59, hk⟩ := hk
              refine r_callV X (pc := 136) (As := [vR x1, vI x2, vI x6, vI x7, vI x8]) (st := []) rfl rfl e9 b59 m_X8_126 (fun _ => s_X8_guessAgain hk) ⟨by decide, by decide⟩ (Nat.le_of_ble_eq_true rfl) dX8_guess_136 (fun v9 h49 n50 z51 hq => ?_) (fun ci52 q53 h54 n55 z56 hf => ?_)
              · obtain ⟨rfl, hk⟩ := hq
                refine ⟨[], rfl, ?_⟩
                refine r_iinc X (pc := 139) (q := 8) (lv1 := [(8, vI (x8 + 1)), (0, vR (some o)), (1, vR x1), (2, vI x2), (3, vI x3), (4, vI x4), (5, vI x5), (6, vI x6), (7, vI x7)]) dX8_guess_139 rfl (by decide) rfl ?_
                refine r_goto X (pc := 142) (tgt := 56) dX8_guess_142 (by decide) ?_
                refine G.sub [1, 2, 3, 4, 5, 6, 7, 8, 0] rfl ?_
                exact ih h49 n50 z51 x1 x2 x3 x4 x5 x6 x7 (x8 + 1) hk
              · have hk := hf
                exact r_out X E (fun _ h9 => nomatch h9) hk
            · have hk := hk.1 c48
              refine r_aload_n X (pc := 115) dX8_guess_115 rfl (q := 0) rfl ?_
              refine r_aload_n X (pc := 116) dX8_guess_116 rfl (q := 0) rfl ?_
              refine r_hGR X (pc := 117) fa_X8_53 dX8_guess_117 hk (fun y60 hk => ?_)
              refine r_iconst X (pc := 120) dX8_guess_120 ?_
              obtain ⟨o69, fs70, e9, b71, hk⟩ := hk
              refine r_callV X (pc := 121) (As := [vR y60, vI 1]) (st := []) rfl rfl e9 b71 m_X8_122 (fun _ => s_X8_offerIfMet hk) ⟨by decide, by decide⟩ (Nat.le_of_ble_eq_true rfl) dX8_guess_121 (fun v9 h61 n62 z63 hq => ?_) (fun ci64 q65 h66 n67 z68 hf => ?_)
              · obtain ⟨rfl, hk⟩ := hq
                refine ⟨[], rfl, ?_⟩
                refine r_goto X (pc := 124) (tgt := 139) dX8_guess_124 (by decide) ?_
                refine r_iinc X (pc := 139) (q := 8) (lv1 := [(8, vI (x8 + 1)), (0, vR (some o)), (1, vR x1), (2, vI x2), (3, vI x3), (4, vI x4), (5, vI x5), (6, vI x6), (7, vI x7)]) dX8_guess_139 rfl (by decide) rfl ?_
                refine r_goto X (pc := 142) (tgt := 56) dX8_guess_142 (by decide) ?_
                refine G.sub [1, 2, 3, 4, 5, 6, 7, 8, 0] rfl ?_
                exact ih h61 n62 z63 x1 x2 x3 x4 x5 x6 x7 (x8 + 1) hk
              · have hk := hf
                exact r_out X E (fun _ h9 => nomatch h9) hk
          · have hk := hf
            exact r_out X E (fun _ h9 => nomatch h9) hk
      · have hk := hf
        exact r_out X E (fun _ h9 => nomatch h9) hk
set_option maxHeartbeats 4000000 in
theorem w_X8_guess_145 {K : KT} {Y : YT} {o : Nat} {κ : AH → Nat → Nat → Prop} {χ : QxT} (X : XY K "TrailMarkers$Guide" "guess" cX8_guess (Option.none : Option Jvm.ClassFile.FieldType) [] 9 4 136 Y) (E : YE K Y (QvV κ) χ) {k_12 : AH → Nat → Nat → Option Nat → Int → Int → Int → Int → Prop} {k_151 : AH → Nat → Nat → Prop} (H_12 : ∀ (h : AH) (n : Nat) (z : Nat) (x1 : Option Nat) (x2 : Int) (x3 : Int) (x4 : Int) (x5 : Int), k_12 h n z x1 x2 x3 x4 x5 → G K Y h n z 12 [(0, vR (some o)), (1, vR x1), (2, vI x2), (3, vI x3), (4, vI x4), (5, vI x5)] []) (H_151 : ∀ (h : AH) (n : Nat) (z : Nat), k_151 h n z → G K Y h n z 151 [(0, vR (some o))] []) : ∀ (h : AH) (n : Nat) (z : Nat) (x1 : Option Nat) (x2 : Int) (x3 : Int) (x4 : Int) (x5 : Int), P_X8_guess_145 K o k_12 k_151 κ χ h n z x1 x2 x3 x4 x5 → G K Y h n z 145 [(0, vR (some o)), (1, vR x1), (2, vI x2), (3, vI x3), (4, vI x4), (5, vI x5)] [] := by
  intro h n z x1 x2 x3 x4 x5 hk
  refine r_iinc X (pc := 145) (q := 5) (lv1 := [(5, vI (x5 + 1)), (0, vR (some o)), (1, vR x1), (2, vI x2), (3, vI x3), (4, vI x4)]) dX8_guess_145 rfl (by decide) rfl ?_
  refine r_goto X (pc := 148) (tgt := 12) dX8_guess_148 (by decide) ?_
  refine G.sub [1, 2, 3, 4, 5, 0] rfl ?_
  exact H_12 h n z x1 x2 x3 x4 (x5 + 1) hk
set_option maxHeartbeats 4000000 in
theorem w_X8_guess_12 {K : KT} {Y : YT} {o : Nat} {κ : AH → Nat → Nat → Prop} {χ : QxT} (X : XY K "TrailMarkers$Guide" "guess" cX8_guess (Option.none : Option Jvm.ClassFile.FieldType) [] 9 4 136 Y) (E : YE K Y (QvV κ) χ) {k_151 : AH → Nat → Nat → Prop} (H_151 : ∀ (h : AH) (n : Nat) (z : Nat), k_151 h n z → G K Y h n z 151 [(0, vR (some o))] []) : ∀ (f : Nat) (h : AH) (n : Nat) (z : Nat) (x1 : Option Nat) (x2 : Int) (x3 : Int) (x4 : Int) (x5 : Int), L_X8_guess_12 K o k_151 κ χ f h n z x1 x2 x3 x4 x5 → G K Y h n z 12 [(0, vR (some o)), (1, vR x1), (2, vI x2), (3, vI x3), (4, vI x4), (5, vI x5)] [] := by
  intro f
  induction f with
  | zero => intro h n z x1 x2 x3 x4 x5 hk; exact hk.elim
  | succ f ih =>
    intro h n z x1 x2 x3 x4 x5 hk
    refine r_iload X (pc := 12) dX8_guess_12 (q := 5) rfl ?_
    refine r_iload X (pc := 14) dX8_guess_14 (q := 4) rfl ?_
    obtain ⟨b88, b89, hk⟩ := hk
    refine r_icmp_gt X (pc := 16) (tgt := 151) dX8_guess_16 (by decide) ⟨b88, b89⟩ (fun c90 => ?_) (fun c90 => ?_)
    · have hk := hk.1 c90
      refine G.sub [0] rfl ?_
      exact H_151 h n z hk
    · have hk := hk.2 c90
      refine r_aload_n X (pc := 19) dX8_guess_19 rfl (q := 1) rfl ?_
      refine r_hGI X (pc := 20) fa_X8_65_X3 dX8_guess_20 hk (fun y91 hk => ?_)
      refine r_iload X (pc := 23) dX8_guess_23 (q := 5) rfl ?_
      refine r_aload_n X (pc := 25) dX8_guess_25 rfl (q := 1) rfl ?_
      refine r_hGI X (pc := 26) fa_X8_74_X3 dX8_guess_26 hk (fun y92 hk => ?_)
      refine r_callSN X (pc := 29) (As := [vI y92]) (st := [vI x5, vI y91]) m_X8_111 (fun _ => s_X1_stepX hk) ⟨by decide, by decide⟩ (Nat.le_of_ble_eq_true rfl) dX8_guess_29 (fun v9 h9 n9 z9 hq => ?_) (fun ci9 q9 h9 n9 z9 hf => ?_)
      · obtain ⟨r93, rfl, rfl, rfl, rfl, hk⟩ := hq
        refine ⟨[vI r93], rfl, ?_⟩
        refine r_imul X (pc := 32) dX8_guess_32 ?_
        refine r_iadd X (pc := 33) dX8_guess_33 ?_
        refine r_istore X (pc := 34) (lv1 := [(6, vI (y91 + (x5 * r93))), (0, vR (some o)), (1, vR x1), (2, vI x2), (3, vI x3), (4, vI x4), (5, vI x5)]) dX8_guess_34 (by decide) rfl ?_
        refine r_aload_n X (pc := 36) dX8_guess_36 rfl (q := 2) rfl ?_
        refine r_hGI X (pc := 37) fa_X8_71_X3 dX8_guess_37 hk (fun y94 hk => ?_)
        refine r_iload X (pc := 40) dX8_guess_40 (q := 6) rfl ?_
        refine r_aload_n X (pc := 42) dX8_guess_42 rfl (q := 2) rfl ?_
        refine r_hGI X (pc := 43) fa_X8_74_X3 dX8_guess_43 hk (fun y95 hk => ?_)
        refine r_callSN X (pc := 46) (As := [vI y95]) (st := [vI x5, vI y94]) m_X8_115 (fun _ => s_X1_stepY hk) ⟨by decide, by decide⟩ (Nat.le_of_ble_eq_true rfl) dX8_guess_46 (fun v9 h9 n9 z9 hq => ?_) (fun ci9 q9 h9 n9 z9 hf => ?_)
        · obtain ⟨r96, rfl, rfl, rfl, rfl, hk⟩ := hq
          refine ⟨[vI r96], rfl, ?_⟩
          refine r_imul X (pc := 49) dX8_guess_49 ?_
          refine r_iadd X (pc := 50) dX8_guess_50 ?_
          refine r_istore X (pc := 51) (lv1 := [(7, vI (y94 + (x5 * r96))), (6, vI (y91 + (x5 * r93))), (0, vR (some o)), (1, vR x1), (2, vI x2), (3, vI x3), (4, vI x4), (5, vI x5)]) dX8_guess_51 (by decide) rfl ?_
          refine r_iconst X (pc := 53) dX8_guess_53 ?_
          refine r_istore X (pc := 54) (lv1 := [(8, vI 0), (7, vI (y94 + (x5 * r96))), (6, vI (y91 + (x5 * r93))), (0, vR (some o)), (1, vR x1), (2, vI x2), (3, vI x3), (4, vI x4), (5, vI x5)]) dX8_guess_54 (by decide) rfl ?_
          refine G.sub [3, 4, 5, 6, 7, 8, 2, 1, 0] rfl ?_
          have HH99 : ∀ (h : AH) (n : Nat) (z : Nat) (x1 : Option Nat) (x2 : Int) (x3 : Int) (x4 : Int) (x5 : Int), (P_X8_guess_145 K o (fun h n z x1 x2 x3 x4 x5 => L_X8_guess_12 K o k_151 κ χ f h n z x1 x2 x3 x4 x5) k_151 κ χ h n z x1 x2 x3 x4 x5) → G K Y h n z 145 [(0, vR (some o)), (1, vR x1), (2, vI x2), (3, vI x3), (4, vI x4), (5, vI x5)] [] := by
              intro h n z x1 x2 x3 x4 x5 hk
              have HH98 : ∀ (h : AH) (n : Nat) (z : Nat) (x1 : Option Nat) (x2 : Int) (x3 : Int) (x4 : Int) (x5 : Int), (L_X8_guess_12 K o k_151 κ χ f h n z x1 x2 x3 x4 x5) → G K Y h n z 12 [(0, vR (some o)), (1, vR x1), (2, vI x2), (3, vI x3), (4, vI x4), (5, vI x5)] [] := by
                  intro h n z x1 x2 x3 x4 x5 hk
                  exact ih h n z x1 x2 x3 x4 x5 hk
              exact w_X8_guess_145 X E HH98 H_151 h n z x1 x2 x3 x4 x5 hk
          obtain ⟨f9, hk⟩ := hk
          exact w_X8_guess_56 X E HH99 f9 h n z x1 x2 x3 x4 x5 (y91 + (x5 * r93)) (y94 + (x5 * r96)) 0 hk
        · exact hf.elim
      · exact hf.elim
set_option maxHeartbeats 4000000 in
theorem w_X8_guess_151 {K : KT} {Y : YT} {o : Nat} {κ : AH → Nat → Nat → Prop} {χ : QxT} (X : XY K "TrailMarkers$Guide" "guess" cX8_guess (Option.none : Option Jvm.ClassFile.FieldType) [] 9 4 136 Y) (E : YE K Y (QvV κ) χ) : ∀ (h : AH) (n : Nat) (z : Nat), P_X8_guess_151 K o κ χ h n z → G K Y h n z 151 [(0, vR (some o))] [] := by
  intro h n z hk
  exact r_vret X E (pc := 151) dX8_guess_151 ⟨rfl, hk⟩
set_option maxHeartbeats 4000000 in
theorem w_X8_guess {K : KT} {Y : YT} {o : Nat} {κ : AH → Nat → Nat → Prop} {χ : QxT} (X : XY K "TrailMarkers$Guide" "guess" cX8_guess (Option.none : Option Jvm.ClassFile.FieldType) [] 9 4 136 Y) (E : YE K Y (QvV κ) χ) {h : AH} {n : Nat} {z : Nat} {x1 : Option Nat} {x2 : Int} {x3 : Int} (hk : P_X8_guess K o κ χ h n z x1 x2 x3) : G K Y h n z 0 (lv_argsA 0 [vR (some o), vR x1, vI x2, vI x3]) [] := by
  show G K Y h n z 0 [(0, vR (some o)), (1, vR x1), (2, vI x2), (3, vI x3)] []
  refine r_aload_n X (pc := 0) dX8_guess_0 rfl (q := 0) rfl ?_
  refine r_hGR X (pc := 1) fa_X8_49 dX8_guess_1 hk (fun y100 hk => ?_)
  refine r_hGI X (pc := 4) fa_X8_91_X10 dX8_guess_4 hk (fun y101 hk => ?_)
  refine r_istore X (pc := 7) (lv1 := [(4, vI y101), (0, vR (some o)), (1, vR x1), (2, vI x2), (3, vI x3)]) dX8_guess_7 (by decide) rfl ?_
  refine r_iconst X (pc := 9) dX8_guess_9 ?_
  refine r_istore X (pc := 10) (lv1 := [(5, vI 1), (4, vI y101), (0, vR (some o)), (1, vR x1), (2, vI x2), (3, vI x3)]) dX8_guess_10 (by decide) rfl ?_
  refine G.sub [2, 3, 4, 5, 1, 0] rfl ?_
  have HH102 : ∀ (h : AH) (n : Nat) (z : Nat), (P_X8_guess_151 K o κ χ h n z) → G K Y h n z 151 [(0, vR (some o))] [] := by
      intro h n z hk
      exact w_X8_guess_151 X E h n z hk
  obtain ⟨f9, hk⟩ := hk
  exact w_X8_guess_12 X E HH102 f9 h n z x1 x2 x3 y101 1 hk
theorem s_X8_guess {K : KT} {l : Launch} {o : Nat} {κ : AH → Nat → Nat → Prop} {χ : QxT} {h : AH} {n : Nat} {z : Nat} {x1 : Option Nat} {x2 : Int} {x3 : Int} (hk : P_X8_guess K o κ χ h n z x1 x2 x3) : Ct K l yX8_guess (ws_ yX8_guess cX8_guess 9 (Option.none : Option Jvm.ClassFile.FieldType)) 4 136 ([vR (some o), vR x1, vI x2, vI x3].map cV) h n z (QvV κ) χ :=
  ct_of (by decide +kernel) (Nat.le_of_ble_eq_true rfl) (fun Y X E => w_X8_guess X E hk)
set_option maxHeartbeats 4000000 in
theorem w_X8_plainFrom {K : KT} {Y : YT} {o : Nat} {κ : Option Nat → AH → Nat → Nat → Prop} {χ : QxT} (X : XY K "TrailMarkers$Guide" "plainFrom" cX8_plainFrom (Option.some (Jvm.ClassFile.FieldType.object "TrailMarkers$Walk")) [] 3 2 50 Y) (E : YE K Y (QvR κ) χ) {h : AH} {n : Nat} {z : Nat} {x1 : Int} (hk : P_X8_plainFrom K o κ χ h n z x1) : G K Y h n z 0 (lv_argsA 0 [vR (some o), vI x1]) [] := by
  show G K Y h n z 0 [(0, vR (some o)), (1, vI x1)] []
  refine r_aload_n X (pc := 0) dX8_plainFrom_0 rfl (q := 0) rfl ?_
  refine r_hGR X (pc := 1) fa_X8_40 dX8_plainFrom_1 hk (fun y10 hk => ?_)
  refine r_hGR X (pc := 4) fa_X8_59_X2 dX8_plainFrom_4 hk (fun y11 hk => ?_)
  refine r_iload_n X (pc := 7) dX8_plainFrom_7 rfl (q := 1) rfl ?_
  refine r_hAR X (pc := 8) (t := 5) rfl dX8_plainFrom_8 hk (fun y12 hk => ?_)
  refine r_astore_n X (pc := 9) (lv1 := [(2, vR y12), (0, vR (some o)), (1, vI x1)]) dX8_plainFrom_9 rfl (by decide) rfl ?_
  refine r_aload_n X (pc := 10) dX8_plainFrom_10 rfl (q := 1) rfl ?_
  refine r_hGR X (pc := 11) fa_X8_49 dX8_plainFrom_11 hk (fun y13 hk => ?_)
  refine r_aload_n X (pc := 14) dX8_plainFrom_14 rfl (q := 0) rfl ?_
  refine r_hGI X (pc := 15) fa_X8_65_X3 dX8_plainFrom_15 hk (fun y14 hk => ?_)
  refine r_aload_n X (pc := 18) dX8_plainFrom_18 rfl (q := 0) rfl ?_
  refine r_hGI X (pc := 19) fa_X8_71_X3 dX8_plainFrom_19 hk (fun y15 hk => ?_)
  refine r_aload_n X (pc := 22) dX8_plainFrom_22 rfl (q := 0) rfl ?_
  refine r_hGI X (pc := 23) fa_X8_74_X3 dX8_plainFrom_23 hk (fun y16 hk => ?_)
  refine r_aload_n X (pc := 26) dX8_plainFrom_26 rfl (q := 0) rfl ?_
  refine r_hGI X (pc := 27) fa_X8_77_X3 dX8_plainFrom_27 hk (fun y17 hk => ?_)
  refine r_iload_n X (pc := 30) dX8_plainFrom_30 rfl (q := 2) rfl ?_
  obtain ⟨o27, fs28, e9, b29, hk⟩ := hk
  refine r_callV X (pc := 31) (As := [vI y14, vI y15, vI y16, vI y17, vI x1]) (st := []) rfl rfl e9 b29 m_X8_80 (fun _ => s_X10_go hk) ⟨by decide, by decide⟩ (Nat.le_of_ble_eq_true rfl) dX8_plainFrom_31 (fun v9 h19 n20 z21 hq => ?_) (fun ci22 q23 h24 n25 z26 hf => ?_)
  · obtain ⟨r18, rfl, hk⟩ := hq
    refine ⟨[vR r18], rfl, ?_⟩
    exact r_aret X E (Or.inl ⟨_, rfl⟩) (pc := 34) dX8_plainFrom_34 ⟨_, rfl, hk⟩
  · have hk := hf
    exact r_out X E (fun _ h9 => nomatch h9) hk
theorem s_X8_plainFrom {K : KT} {l : Launch} {o : Nat} {κ : Option Nat → AH → Nat → Nat → Prop} {χ : QxT} {h : AH} {n : Nat} {z : Nat} {x1 : Int} (hk : P_X8_plainFrom K o κ χ h n z x1) : Ct K l yX8_plainFrom (ws_ yX8_plainFrom cX8_plainFrom 3 (Option.some (Jvm.ClassFile.FieldType.object "TrailMarkers$Walk"))) 2 50 ([vR (some o), vI x1].map cV) h n z (QvR κ) χ :=
  ct_of (by decide +kernel) (Nat.le_of_ble_eq_true rfl) (fun Y X E => w_X8_plainFrom X E hk)
set_option maxHeartbeats 4000000 in
theorem w_X8_find_95 {K : KT} {Y : YT} {o : Nat} {κ : Option Nat → AH → Nat → Nat → Prop} {χ : QxT} (X : XY K "TrailMarkers$Guide" "find" cX8_find (Option.some (Jvm.ClassFile.FieldType.object "TrailMarkers$Way")) [] 4 5 164 Y) (E : YE K Y (QvR κ) χ) {k_132 : AH → Nat → Nat → Prop} (H_132 : ∀ (h : AH) (n : Nat) (z : Nat), k_132 h n z → G K Y h n z 132 [(0, vR (some o))] []) : ∀ (f : Nat) (h : AH) (n : Nat) (z : Nat) (x1 : Int) (x2 : Option Nat) (x3 : Int), L_X8_find_95 K o k_132 κ χ f h n z x1 x2 x3 → G K Y h n z 95 [(0, vR (some o)), (1, vI x1), (2, vR x2), (3, vI x3)] [] := by
  intro f
  induction f with
  | zero => intro h n z x1 x2 x3 hk; exact hk.elim
  | succ f ih =>
    intro h n z x1 x2 x3 hk
    refine r_iload_n X (pc := 95) dX8_find_95 rfl (q := 3) rfl ?_
    refine r_aload_n X (pc := 96) dX8_find_96 rfl (q := 0) rfl ?_
    refine r_hGR X (pc := 97) fa_X8_40 dX8_find_97 hk (fun y37 hk => ?_)
    refine r_hGR X (pc := 100) fa_X8_101_X2 dX8_find_100 hk (fun y38 hk => ?_)
    refine r_iconst X (pc := 103) dX8_find_103 ?_
    refine r_hAI X (pc := 104) dX8_find_104 hk (fun y39 hk => ?_)
    obtain ⟨b40, b41, hk⟩ := hk
    refine r_icmp_gt X (pc := 105) (tgt := 132) dX8_find_105 (by decide) ⟨b40, b41⟩ (fun c42 => ?_) (fun c42 => ?_)
    · have hk := hk.1 c42
      refine G.sub [0] rfl ?_
      exact H_132 h n z hk
    · have hk := hk.2 c42
      refine r_aload_n X (pc := 108) dX8_find_108 rfl (q := 0) rfl ?_
      refine r_hGR X (pc := 109) fa_X8_12 dX8_find_109 hk (fun y43 hk => ?_)
      refine r_hGI X (pc := 112) fa_X8_104_X9 dX8_find_112 hk (fun y44 hk => ?_)
      refine r_iconst X (pc := 115) dX8_find_115 ?_
      obtain ⟨b45, hk⟩ := hk
      refine r_icmp_ne X (pc := 116) (tgt := 132) dX8_find_116 (by decide) ⟨b45, (by decide)⟩ (fun c46 => ?_) (fun c46 => ?_)
      · have hk := hk.2 c46
        refine G.sub [0] rfl ?_
        exact H_132 h n z hk
      · have hk := hk.1 c46
        refine r_aload_n X (pc := 119) dX8_find_119 rfl (q := 0) rfl ?_
        refine r_aload_n X (pc := 120) dX8_find_120 rfl (q := 2) rfl ?_
        refine r_iload_n X (pc := 121) dX8_find_121 rfl (q := 1) rfl ?_
        refine r_iload_n X (pc := 122) dX8_find_122 rfl (q := 3) rfl ?_
        obtain ⟨o55, fs56, e9, b57, hk⟩ := hk
        refine r_callV X (pc := 123) (As := [vR x2, vI x1, vI x3]) (st := []) rfl rfl e9 b57 m_X8_107 (fun _ => s_X8_guess hk) ⟨by decide, by decide⟩ (Nat.le_of_ble_eq_true rfl) dX8_find_123 (fun v9 h47 n48 z49 hq => ?_) (fun ci50 q51 h52 n53 z54 hf => ?_)
        · obtain ⟨rfl, hk⟩ := hq
          refine ⟨[], rfl, ?_⟩
          refine r_iinc X (pc := 126) (q := 3) (lv1 := [(3, vI (x3 + 1)), (0, vR (some o)), (1, vI x1), (2, vR x2)]) dX8_find_126 rfl (by decide) rfl ?_
          refine r_goto X (pc := 129) (tgt := 95) dX8_find_129 (by decide) ?_
          refine G.sub [1, 2, 3, 0] rfl ?_
          exact ih h47 n48 z49 x1 x2 (x3 + 1) hk
        · have hk := hf
          exact r_out X E (fun _ h9 => nomatch h9) hk
set_option maxHeartbeats 4000000 in
theorem w_X8_find_132 {K : KT} {Y : YT} {o : Nat} {κ : Option Nat → AH → Nat → Nat → Prop} {χ : QxT} (X : XY K "TrailMarkers$Guide" "find" cX8_find (Option.some (Jvm.ClassFile.FieldType.object "TrailMarkers$Way")) [] 4 5 164 Y) (E : YE K Y (QvR κ) χ) : ∀ (h : AH) (n : Nat) (z : Nat), P_X8_find_132 K o κ χ h n z → G K Y h n z 132 [(0, vR (some o))] [] := by
  intro h n z hk
  refine r_aload_n X (pc := 132) dX8_find_132 rfl (q := 0) rfl ?_
  refine r_hGR X (pc := 133) fa_X8_12 dX8_find_133 hk (fun y58 hk => ?_)
  exact r_aret X E (Or.inl ⟨_, rfl⟩) (pc := 136) dX8_find_136 ⟨_, rfl, hk⟩
set_option maxHeartbeats 4000000 in
theorem w_X8_find {K : KT} {Y : YT} {o : Nat} {κ : Option Nat → AH → Nat → Nat → Prop} {χ : QxT} (X : XY K "TrailMarkers$Guide" "find" cX8_find (Option.some (Jvm.ClassFile.FieldType.object "TrailMarkers$Way")) [] 4 5 164 Y) (E : YE K Y (QvR κ) χ) {h : AH} {n : Nat} {z : Nat} {x1 : Int} (hk : P_X8_find K o κ χ h n z x1) : G K Y h n z 0 (lv_argsA 0 [vR (some o), vI x1]) [] := by
  show G K Y h n z 0 [(0, vR (some o)), (1, vI x1)] []
  refine r_aload_n X (pc := 0) dX8_find_0 rfl (q := 0) rfl ?_
  refine r_hGR X (pc := 1) fa_X8_12 dX8_find_1 hk (fun y59 hk => ?_)
  obtain ⟨o116, fs117, e9, b118, hk⟩ := hk
  refine r_callV X (pc := 4) (As := []) (st := []) rfl rfl e9 b118 m_X8_84 (fun _ => s_X9_clear hk) ⟨by decide, by decide⟩ (Nat.le_of_ble_eq_true rfl) dX8_find_4 (fun v9 h60 n61 z62 hq => ?_) (fun ci111 q112 h113 n114 z115 hf => ?_)
  · obtain ⟨rfl, hk⟩ := hq
    refine ⟨[], rfl, ?_⟩
    refine r_aload_n X (pc := 7) dX8_find_7 rfl (q := 0) rfl ?_
    refine r_hGR X (pc := 8) fa_X8_40 dX8_find_8 hk (fun y63 hk => ?_)
    refine r_hGR X (pc := 11) fa_X8_59_X2 dX8_find_11 hk (fun y64 hk => ?_)
    refine r_iload_n X (pc := 14) dX8_find_14 rfl (q := 1) rfl ?_
    refine r_hAR X (pc := 15) (t := 5) rfl dX8_find_15 hk (fun y65 hk => ?_)
    refine r_astore_n X (pc := 16) (lv1 := [(2, vR y65), (0, vR (some o)), (1, vI x1)]) dX8_find_16 rfl (by decide) rfl ?_
    refine r_aload_n X (pc := 17) dX8_find_17 rfl (q := 0) rfl ?_
    refine r_hGI X (pc := 18) fa_X8_74_X3 dX8_find_18 hk (fun y66 hk => ?_)
    refine r_iconst X (pc := 21) dX8_find_21 ?_
    obtain ⟨b67, hk⟩ := hk
    refine r_icmp_ne X (pc := 22) (tgt := 30) dX8_find_22 (by decide) ⟨b67, (by decide)⟩ (fun c68 => ?_) (fun c68 => ?_)
    · have hk := hk.2 c68
      refine r_aload_n X (pc := 30) dX8_find_30 rfl (q := 1) rfl ?_
      refine r_iload_n X (pc := 31) dX8_find_31 rfl (q := 2) rfl ?_
      obtain ⟨o107, fs108, e9, b109, hk⟩ := hk
      refine r_callV X (pc := 32) (As := [vI x1]) (st := []) rfl rfl e9 b109 m_X8_87 (fun _ => s_X8_plainFrom hk) ⟨by decide, by decide⟩ (Nat.le_of_ble_eq_true rfl) dX8_find_32 (fun v9 h70 n71 z72 hq => ?_) (fun ci102 q103 h104 n105 z106 hf => ?_)
      · obtain ⟨r69, rfl, hk⟩ := hq
        refine ⟨[vR r69], rfl, ?_⟩
        refine r_pop X (pc := 35) dX8_find_35 rfl ?_
        refine r_aload_n X (pc := 36) dX8_find_36 rfl (q := 1) rfl ?_
        refine r_hGR X (pc := 37) fa_X8_22 dX8_find_37 hk (fun y73 hk => ?_)
        refine r_iconst X (pc := 40) dX8_find_40 ?_
        refine r_aload_n X (pc := 41) dX8_find_41 rfl (q := 0) rfl ?_
        refine r_hGI X (pc := 42) fa_X8_74_X3 dX8_find_42 hk (fun y74 hk => ?_)
        refine r_hSI X (pc := 45) dX8_find_45 hk (fun h75 hk => ?_)
        refine r_aload_n X (pc := 46) dX8_find_46 rfl (q := 1) rfl ?_
        refine r_hGR X (pc := 47) fa_X8_18 dX8_find_47 hk (fun y76 hk => ?_)
        refine r_iconst X (pc := 50) dX8_find_50 ?_
        refine r_aload_n X (pc := 51) dX8_find_51 rfl (q := 1) rfl ?_
        refine r_hGR X (pc := 52) fa_X8_49 dX8_find_52 hk (fun y77 hk => ?_)
        refine r_hGI X (pc := 55) fa_X8_91_X10 dX8_find_55 hk (fun y78 hk => ?_)
        refine r_hSI X (pc := 58) dX8_find_58 hk (fun h79 hk => ?_)
        refine r_aload_n X (pc := 59) dX8_find_59 rfl (q := 1) rfl ?_
        refine r_hGR X (pc := 60) fa_X8_49 dX8_find_60 hk (fun y80 hk => ?_)
        refine r_hGI X (pc := 63) fa_X8_94_X10 dX8_find_63 hk (fun y81 hk => ?_)
        refine r_iconst X (pc := 66) dX8_find_66 ?_
        obtain ⟨b82, hk⟩ := hk
        refine r_icmp_eq X (pc := 67) (tgt := 93) dX8_find_67 (by decide) ⟨b82, (by decide)⟩ (fun c83 => ?_) (fun c83 => ?_)
        · have hk := hk.1 c83
          refine r_iconst X (pc := 93) dX8_find_93 ?_
          refine r_istore_n X (pc := 94) (lv1 := [(3, vI 1), (2, vR y65), (0, vR (some o)), (1, vI x1)]) dX8_find_94 rfl (by decide) rfl ?_
          refine G.sub [2, 3, 1, 0] rfl ?_
          have HH84 : ∀ (h : AH) (n : Nat) (z : Nat), (P_X8_find_132 K o κ χ h n z) → G K Y h n z 132 [(0, vR (some o))] [] := by
              intro h n z hk
              exact w_X8_find_132 X E h n z hk
          obtain ⟨f9, hk⟩ := hk
          exact w_X8_find_95 X E HH84 f9 h79 n71 z72 x1 y65 1 hk
        · have hk := hk.2 c83
          refine r_aload_n X (pc := 70) dX8_find_70 rfl (q := 1) rfl ?_
          refine r_hGR X (pc := 71) fa_X8_12 dX8_find_71 hk (fun y85 hk => ?_)
          refine r_aload_n X (pc := 74) dX8_find_74 rfl (q := 1) rfl ?_
          refine r_hGR X (pc := 75) fa_X8_49 dX8_find_75 hk (fun y86 hk => ?_)
          refine r_hGI X (pc := 78) fa_X8_94_X10 dX8_find_78 hk (fun y87 hk => ?_)
          refine r_iconst X (pc := 81) dX8_find_81 ?_
          refine r_aload_n X (pc := 82) dX8_find_82 rfl (q := 1) rfl ?_
          refine r_hGR X (pc := 83) fa_X8_18 dX8_find_83 hk (fun y88 hk => ?_)
          refine r_aload_n X (pc := 86) dX8_find_86 rfl (q := 1) rfl ?_
          refine r_hGR X (pc := 87) fa_X8_22 dX8_find_87 hk (fun y89 hk => ?_)
          obtain ⟨o99, fs100, e9, b101, hk⟩ := hk
          refine r_callV X (pc := 90) (As := [vI y87, vI 0, vR y88, vR y89]) (st := []) rfl rfl e9 b101 m_X8_97 (fun _ => s_X9_offer hk) ⟨by decide, by decide⟩ (Nat.le_of_ble_eq_true rfl) dX8_find_90 (fun v9 h90 n91 z92 hq => ?_) (fun ci94 q95 h96 n97 z98 hf => ?_)
          · obtain ⟨rfl, hk⟩ := hq
            refine ⟨[], rfl, ?_⟩
            refine r_iconst X (pc := 93) dX8_find_93 ?_
            refine r_istore_n X (pc := 94) (lv1 := [(3, vI 1), (2, vR y65), (0, vR (some o)), (1, vI x1)]) dX8_find_94 rfl (by decide) rfl ?_
            refine G.sub [2, 3, 1, 0] rfl ?_
            have HH93 : ∀ (h : AH) (n : Nat) (z : Nat), (P_X8_find_132 K o κ χ h n z) → G K Y h n z 132 [(0, vR (some o))] [] := by
                intro h n z hk
                exact w_X8_find_132 X E h n z hk
            obtain ⟨f9, hk⟩ := hk
            exact w_X8_find_95 X E HH93 f9 h90 n91 z92 x1 y65 1 hk
          · have hk := hf
            exact r_out X E (fun _ h9 => nomatch h9) hk
      · have hk := hf
        exact r_out X E (fun _ h9 => nomatch h9) hk
    · have hk := hk.1 c68
      refine r_aload_n X (pc := 25) dX8_find_25 rfl (q := 1) rfl ?_
      refine r_hGR X (pc := 26) fa_X8_12 dX8_find_26 hk (fun y110 hk => ?_)
      exact r_aret X E (Or.inl ⟨_, rfl⟩) (pc := 29) dX8_find_29 ⟨_, rfl, hk⟩
  · have hk := hf
    exact r_out X E (fun _ h9 => nomatch h9) hk
theorem s_X8_find {K : KT} {l : Launch} {o : Nat} {κ : Option Nat → AH → Nat → Nat → Prop} {χ : QxT} {h : AH} {n : Nat} {z : Nat} {x1 : Int} (hk : P_X8_find K o κ χ h n z x1) : Ct K l yX8_find (ws_ yX8_find cX8_find 4 (Option.some (Jvm.ClassFile.FieldType.object "TrailMarkers$Way"))) 5 164 ([vR (some o), vI x1].map cV) h n z (QvR κ) χ :=
  ct_of (by decide +kernel) (Nat.le_of_ble_eq_true rfl) (fun Y X E => w_X8_find X E hk)
set_option maxHeartbeats 4000000 in
theorem w_X8_layWay_28 {K : KT} {Y : YT} {o : Nat} {κ : AH → Nat → Nat → Prop} {χ : QxT} (X : XY K "TrailMarkers$Guide" "layWay" cX8_layWay (Option.none : Option Jvm.ClassFile.FieldType) [] 6 2 83 Y) (E : YE K Y (QvV κ) χ) {k_106 : AH → Nat → Nat → Int → Int → Int → Prop} (H_106 : ∀ (h : AH) (n : Nat) (z : Nat) (x2 : Int) (x3 : Int) (x4 : Int), k_106 h n z x2 x3 x4 → G K Y h n z 106 [(0, vR (some o)), (2, vI x2), (3, vI x3), (4, vI x4)] []) : ∀ (f : Nat) (h : AH) (n : Nat) (z : Nat) (x2 : Int) (x3 : Int) (x4 : Int) (x5 : Int), L_X8_layWay_28 K o k_106 κ χ f h n z x2 x3 x4 x5 → G K Y h n z 28 [(0, vR (some o)), (2, vI x2), (3, vI x3), (4, vI x4), (5, vI x5)] [] := by
  intro f
  induction f with
  | zero => intro h n z x2 x3 x4 x5 hk; exact hk.elim
  | succ f ih =>
    intro h n z x2 x3 x4 x5 hk
    refine r_iload X (pc := 28) dX8_layWay_28 (q := 4) rfl ?_
    refine r_aload_n X (pc := 30) dX8_layWay_30 rfl (q := 0) rfl ?_
    refine r_hGR X (pc := 31) fa_X8_12 dX8_layWay_31 hk (fun y57 hk => ?_)
    refine r_hGR X (pc := 34) fa_X8_174_X9 dX8_layWay_34 hk (fun y58 hk => ?_)
    refine r_iload X (pc := 37) dX8_layWay_37 (q := 3) rfl ?_
    refine r_hAI X (pc := 39) dX8_layWay_39 hk (fun y59 hk => ?_)
    obtain ⟨b60, b61, hk⟩ := hk
    refine r_icmp_ge X (pc := 40) (tgt := 106) dX8_layWay_40 (by decide) ⟨b60, b61⟩ (fun c62 => ?_) (fun c62 => ?_)
    · have hk := hk.2 c62
      refine G.sub [0, 1, 2, 3] rfl ?_
      exact H_106 h n z x2 x3 x4 hk
    · have hk := hk.1 c62
      refine r_iload_n X (pc := 43) dX8_layWay_43 rfl (q := 1) rfl ?_
      refine r_aload_n X (pc := 44) dX8_layWay_44 rfl (q := 0) rfl ?_
      refine r_hGR X (pc := 45) fa_X8_12 dX8_layWay_45 hk (fun y63 hk => ?_)
      refine r_hGR X (pc := 48) fa_X8_175_X9 dX8_layWay_48 hk (fun y64 hk => ?_)
      refine r_iload X (pc := 51) dX8_layWay_51 (q := 3) rfl ?_
      refine r_hAI X (pc := 53) dX8_layWay_53 hk (fun y65 hk => ?_)
      refine r_callSN X (pc := 54) (As := [vI y65]) (st := [vI x2]) m_X8_111 (fun _ => s_X1_stepX hk) ⟨by decide, by decide⟩ (Nat.le_of_ble_eq_true rfl) dX8_layWay_54 (fun v9 h9 n9 z9 hq => ?_) (fun ci9 q9 h9 n9 z9 hf => ?_)
      · obtain ⟨r66, rfl, rfl, rfl, rfl, hk⟩ := hq
        refine ⟨[vI r66], rfl, ?_⟩
        refine r_iadd X (pc := 57) dX8_layWay_57 ?_
        refine r_istore_n X (pc := 58) (lv1 := [(2, vI (x2 + r66)), (0, vR (some o)), (3, vI x3), (4, vI x4), (5, vI x5)]) dX8_layWay_58 rfl (by decide) rfl ?_
        refine r_iload_n X (pc := 59) dX8_layWay_59 rfl (q := 2) rfl ?_
        refine r_aload_n X (pc := 60) dX8_layWay_60 rfl (q := 1) rfl ?_
        refine r_hGR X (pc := 61) fa_X8_12 dX8_layWay_61 hk (fun y67 hk => ?_)
        refine r_hGR X (pc := 64) fa_X8_175_X9 dX8_layWay_64 hk (fun y68 hk => ?_)
        refine r_iload X (pc := 67) dX8_layWay_67 (q := 3) rfl ?_
        refine r_hAI X (pc := 69) dX8_layWay_69 hk (fun y69 hk => ?_)
        refine r_callSN X (pc := 70) (As := [vI y69]) (st := [vI x3]) m_X8_115 (fun _ => s_X1_stepY hk) ⟨by decide, by decide⟩ (Nat.le_of_ble_eq_true rfl) dX8_layWay_70 (fun v9 h9 n9 z9 hq => ?_) (fun ci9 q9 h9 n9 z9 hf => ?_)
        · obtain ⟨r70, rfl, rfl, rfl, rfl, hk⟩ := hq
          refine ⟨[vI r70], rfl, ?_⟩
          refine r_iadd X (pc := 73) dX8_layWay_73 ?_
          refine r_istore_n X (pc := 74) (lv1 := [(3, vI (x3 + r70)), (2, vI (x2 + r66)), (0, vR (some o)), (4, vI x4), (5, vI x5)]) dX8_layWay_74 rfl (by decide) rfl ?_
          refine r_aload_n X (pc := 75) dX8_layWay_75 rfl (q := 2) rfl ?_
          refine r_hGR X (pc := 76) fa_X8_28 dX8_layWay_76 hk (fun y71 hk => ?_)
          refine r_aload_n X (pc := 79) dX8_layWay_79 rfl (q := 2) rfl ?_
          refine r_hGI X (pc := 80) fa_X8_130 dX8_layWay_80 hk (fun y72 hk => ?_)
          refine r_bipush X (pc := 83) dX8_layWay_83 (by decide) ?_
          refine r_iload_n X (pc := 85) dX8_layWay_85 rfl (q := 1) rfl ?_
          refine r_imul X (pc := 86) dX8_layWay_86 ?_
          refine r_iload_n X (pc := 87) dX8_layWay_87 rfl (q := 0) rfl ?_
          refine r_iadd X (pc := 88) dX8_layWay_88 ?_
          refine r_hSI X (pc := 89) dX8_layWay_89 hk (fun h73 hk => ?_)
          refine r_aload_n X (pc := 90) dX8_layWay_90 rfl (q := 2) rfl ?_
          refine r_dup X (pc := 91) dX8_layWay_91 rfl ?_
          refine r_hGI X (pc := 92) fa_X8_130 dX8_layWay_92 hk (fun y74 hk => ?_)
          refine r_iconst X (pc := 95) dX8_layWay_95 ?_
          refine r_iadd X (pc := 96) dX8_layWay_96 ?_
          refine r_hPut X (pc := 97) fp_X8_130 rfl rfl dX8_layWay_97 hk (fun h75 hk => ?_)
          refine r_iinc X (pc := 100) (q := 4) (lv1 := [(5, vI (x5 + 1)), (3, vI (x3 + r70)), (2, vI (x2 + r66)), (0, vR (some o)), (4, vI x4)]) dX8_layWay_100 rfl (by decide) rfl ?_
          refine r_goto X (pc := 103) (tgt := 28) dX8_layWay_103 (by decide) ?_
          refine G.sub [3, 2, 1, 4, 0] rfl ?_
          exact ih h75 n z (x2 + r66) (x3 + r70) x4 (x5 + 1) hk
        · exact hf.elim
      · exact hf.elim
set_option maxHeartbeats 4000000 in
theorem w_X8_layWay_123 {K : KT} {Y : YT} {o : Nat} {κ : AH → Nat → Nat → Prop} {χ : QxT} (X : XY K "TrailMarkers$Guide" "layWay" cX8_layWay (Option.none : Option Jvm.ClassFile.FieldType) [] 6 2 83 Y) (E : YE K Y (QvV κ) χ) {k_13 : AH → Nat → Nat → Int → Int → Int → Prop} {k_209 : AH → Nat → Nat → Prop} (H_13 : ∀ (h : AH) (n : Nat) (z : Nat) (x2 : Int) (x3 : Int) (x4 : Int), k_13 h n z x2 x3 x4 → G K Y h n z 13 [(0, vR (some o)), (2, vI x2), (3, vI x3), (4, vI x4)] []) (H_209 : ∀ (h : AH) (n : Nat) (z : Nat), k_209 h n z → G K Y h n z 209 [(0, vR (some o))] []) : ∀ (h : AH) (n : Nat) (z : Nat) (x2 : Int) (x3 : Int) (x4 : Int) (s0 : Int), P_X8_layWay_123 K o k_13 k_209 κ χ h n z x2 x3 x4 s0 → G K Y h n z 123 [(0, vR (some o)), (2, vI x2), (3, vI x3), (4, vI x4)] [vI s0] := by
  intro h n z x2 x3 x4 s0 hk
  refine r_istore X (pc := 123) (lv1 := [(5, vI s0), (0, vR (some o)), (2, vI x2), (3, vI x3), (4, vI x4)]) dX8_layWay_123 (by decide) rfl ?_
  refine r_aload_n X (pc := 125) dX8_layWay_125 rfl (q := 1) rfl ?_
  refine r_hGR X (pc := 126) fa_X8_36 dX8_layWay_126 hk (fun y76 hk => ?_)
  refine r_aload_n X (pc := 129) dX8_layWay_129 rfl (q := 1) rfl ?_
  refine r_hGI X (pc := 130) fa_X8_139 dX8_layWay_130 hk (fun y77 hk => ?_)
  refine r_hNew X (pc := 133) nw_X8_34 dX8_layWay_133 hk (fun h78 hk => ?_)
  refine r_dup X (pc := 136) dX8_layWay_136 rfl ?_
  refine r_aload_n X (pc := 137) dX8_layWay_137 rfl (q := 1) rfl ?_
  refine r_hGR X (pc := 138) fa_X8_12 dX8_layWay_138 hk (fun y79 hk => ?_)
  refine r_hGR X (pc := 141) fa_X8_174_X9 dX8_layWay_141 hk (fun y80 hk => ?_)
  refine r_iload X (pc := 144) dX8_layWay_144 (q := 4) rfl ?_
  refine r_hAI X (pc := 146) dX8_layWay_146 hk (fun y81 hk => ?_)
  refine r_aload_n X (pc := 147) dX8_layWay_147 rfl (q := 1) rfl ?_
  refine r_hGR X (pc := 148) fa_X8_12 dX8_layWay_148 hk (fun y82 hk => ?_)
  refine r_hGR X (pc := 151) fa_X8_175_X9 dX8_layWay_151 hk (fun y83 hk => ?_)
  refine r_iload X (pc := 154) dX8_layWay_154 (q := 4) rfl ?_
  refine r_hAI X (pc := 156) dX8_layWay_156 hk (fun y84 hk => ?_)
  refine r_iload X (pc := 157) dX8_layWay_157 (q := 0) rfl ?_
  refine r_callI X (pc := 159) (As := [vI y81, vI y84, vI s0]) (st := [vR (some n), vI y77, vR y76]) m_X8_176 (fun _ => s_X11_init hk) ⟨by decide, by decide⟩ (Nat.le_of_ble_eq_true rfl) dX8_layWay_159 (fun v9 h85 n86 z87 hq => ?_) (fun ci98 q99 h100 n101 z102 hf => ?_)
  · obtain ⟨rfl, hk⟩ := hq
    refine ⟨[], rfl, ?_⟩
    refine r_hSR X (pc := 162) (t := 7) rfl cos_TrailMarkers_Leg_10 dX8_layWay_162 hk (fun h88 hk => ?_)
    refine r_aload_n X (pc := 163) dX8_layWay_163 rfl (q := 1) rfl ?_
    refine r_dup X (pc := 164) dX8_layWay_164 rfl ?_
    refine r_hGI X (pc := 165) fa_X8_139 dX8_layWay_165 hk (fun y89 hk => ?_)
    refine r_iconst X (pc := 168) dX8_layWay_168 ?_
    refine r_iadd X (pc := 169) dX8_layWay_169 ?_
    refine r_hPut X (pc := 170) fp_X8_139 rfl rfl dX8_layWay_170 hk (fun h90 hk => ?_)
    refine r_iload X (pc := 173) dX8_layWay_173 (q := 0) rfl ?_
    obtain ⟨b91, hk⟩ := hk
    refine r_if_eq X (pc := 175) (tgt := 203) dX8_layWay_175 (by decide) b91 (fun c92 => ?_) (fun c92 => ?_)
    · have hk := hk.1 c92
      refine r_iinc X (pc := 203) (q := 4) (lv1 := [(4, vI (x4 + 1)), (5, vI s0), (0, vR (some o)), (2, vI x2), (3, vI x3)]) dX8_layWay_203 rfl (by decide) rfl ?_
      refine r_goto X (pc := 206) (tgt := 13) dX8_layWay_206 (by decide) ?_
      refine G.sub [2, 3, 4, 0] rfl ?_
      exact H_13 h90 n86 z87 x2 x3 (x4 + 1) hk
    · have hk := hk.2 c92
      refine r_aload_n X (pc := 178) dX8_layWay_178 rfl (q := 1) rfl ?_
      refine r_hGR X (pc := 179) fa_X8_31 dX8_layWay_179 hk (fun y93 hk => ?_)
      refine r_aload_n X (pc := 182) dX8_layWay_182 rfl (q := 1) rfl ?_
      refine r_hGI X (pc := 183) fa_X8_136 dX8_layWay_183 hk (fun y94 hk => ?_)
      refine r_bipush X (pc := 186) dX8_layWay_186 (by decide) ?_
      refine r_iload_n X (pc := 188) dX8_layWay_188 rfl (q := 2) rfl ?_
      refine r_imul X (pc := 189) dX8_layWay_189 ?_
      refine r_iload_n X (pc := 190) dX8_layWay_190 rfl (q := 3) rfl ?_
      refine r_iadd X (pc := 191) dX8_layWay_191 ?_
      refine r_hSI X (pc := 192) dX8_layWay_192 hk (fun h95 hk => ?_)
      refine r_aload_n X (pc := 193) dX8_layWay_193 rfl (q := 1) rfl ?_
      refine r_dup X (pc := 194) dX8_layWay_194 rfl ?_
      refine r_hGI X (pc := 195) fa_X8_136 dX8_layWay_195 hk (fun y96 hk => ?_)
      refine r_iconst X (pc := 198) dX8_layWay_198 ?_
      refine r_iadd X (pc := 199) dX8_layWay_199 ?_
      refine r_hPut X (pc := 200) fp_X8_136 rfl rfl dX8_layWay_200 hk (fun h97 hk => ?_)
      refine r_iinc X (pc := 203) (q := 4) (lv1 := [(4, vI (x4 + 1)), (5, vI s0), (0, vR (some o)), (2, vI x2), (3, vI x3)]) dX8_layWay_203 rfl (by decide) rfl ?_
      refine r_goto X (pc := 206) (tgt := 13) dX8_layWay_206 (by decide) ?_
      refine G.sub [2, 3, 4, 0] rfl ?_
      exact H_13 h97 n86 z87 x2 x3 (x4 + 1) hk
  · have hk := hf
    exact r_out X E (fun _ h9 => nomatch h9) hk
set_option maxHeartbeats 4000000 in
theorem w_X8_layWay_106 {K : KT} {Y : YT} {o : Nat} {κ : AH → Nat → Nat → Prop} {χ : QxT} (X : XY K "TrailMarkers$Guide" "layWay" cX8_layWay (Option.none : Option Jvm.ClassFile.FieldType) [] 6 2 83 Y) (E : YE K Y (QvV κ) χ) {k_13 : AH → Nat → Nat → Int → Int → Int → Prop} {k_209 : AH → Nat → Nat → Prop} (H_13 : ∀ (h : AH) (n : Nat) (z : Nat) (x2 : Int) (x3 : Int) (x4 : Int), k_13 h n z x2 x3 x4 → G K Y h n z 13 [(0, vR (some o)), (2, vI x2), (3, vI x3), (4, vI x4)] []) (H_209 : ∀ (h : AH) (n : Nat) (z : Nat), k_209 h n z → G K Y h n z 209 [(0, vR (some o))] []) : ∀ (h : AH) (n : Nat) (z : Nat) (x2 : Int) (x3 : Int) (x4 : Int), P_X8_layWay_106 K o k_13 k_209 κ χ h n z x2 x3 x4 → G K Y h n z 106 [(0, vR (some o)), (2, vI x2), (3, vI x3), (4, vI x4)] [] := by
  intro h n z x2 x3 x4 hk
  refine r_iload X (pc := 106) dX8_layWay_106 (q := 3) rfl ?_
  refine r_aload_n X (pc := 108) dX8_layWay_108 rfl (q := 0) rfl ?_
  refine r_hGR X (pc := 109) fa_X8_12 dX8_layWay_109 hk (fun y103 hk => ?_)
  refine r_hGI X (pc := 112) fa_X8_171_X9 dX8_layWay_112 hk (fun y104 hk => ?_)
  obtain ⟨b105, b106, hk⟩ := hk
  refine r_icmp_ge X (pc := 115) (tgt := 122) dX8_layWay_115 (by decide) ⟨b105, b106⟩ (fun c107 => ?_) (fun c107 => ?_)
  · have hk := hk.2 c107
    refine r_iconst X (pc := 122) dX8_layWay_122 ?_
    exact w_X8_layWay_123 X E H_13 H_209 h n z x2 x3 x4 0 hk
  · have hk := hk.1 c107
    refine r_iconst X (pc := 118) dX8_layWay_118 ?_
    refine r_goto X (pc := 119) (tgt := 123) dX8_layWay_119 (by decide) ?_
    exact w_X8_layWay_123 X E H_13 H_209 h n z x2 x3 x4 1 hk
set_option maxHeartbeats 4000000 in
theorem w_X8_layWay_13 {K : KT} {Y : YT} {o : Nat} {κ : AH → Nat → Nat → Prop} {χ : QxT} (X : XY K "TrailMarkers$Guide" "layWay" cX8_layWay (Option.none : Option Jvm.ClassFile.FieldType) [] 6 2 83 Y) (E : YE K Y (QvV κ) χ) {k_209 : AH → Nat → Nat → Prop} (H_209 : ∀ (h : AH) (n : Nat) (z : Nat), k_209 h n z → G K Y h n z 209 [(0, vR (some o))] []) : ∀ (f : Nat) (h : AH) (n : Nat) (z : Nat) (x2 : Int) (x3 : Int) (x4 : Int), L_X8_layWay_13 K o k_209 κ χ f h n z x2 x3 x4 → G K Y h n z 13 [(0, vR (some o)), (2, vI x2), (3, vI x3), (4, vI x4)] [] := by
  intro f
  induction f with
  | zero => intro h n z x2 x3 x4 hk; exact hk.elim
  | succ f ih =>
    intro h n z x2 x3 x4 hk
    refine r_iload X (pc := 13) dX8_layWay_13 (q := 3) rfl ?_
    refine r_aload_n X (pc := 15) dX8_layWay_15 rfl (q := 0) rfl ?_
    refine r_hGR X (pc := 16) fa_X8_12 dX8_layWay_16 hk (fun y108 hk => ?_)
    refine r_hGI X (pc := 19) fa_X8_171_X9 dX8_layWay_19 hk (fun y109 hk => ?_)
    obtain ⟨b110, b111, hk⟩ := hk
    refine r_icmp_gt X (pc := 22) (tgt := 209) dX8_layWay_22 (by decide) ⟨b110, b111⟩ (fun c112 => ?_) (fun c112 => ?_)
    · have hk := hk.1 c112
      refine G.sub [0] rfl ?_
      exact H_209 h n z hk
    · have hk := hk.2 c112
      refine r_iconst X (pc := 25) dX8_layWay_25 ?_
      refine r_istore X (pc := 26) (lv1 := [(5, vI 0), (0, vR (some o)), (2, vI x2), (3, vI x3), (4, vI x4)]) dX8_layWay_26 (by decide) rfl ?_
      refine G.sub [1, 2, 3, 4, 0] rfl ?_
      have HH115 : ∀ (h : AH) (n : Nat) (z : Nat) (x2 : Int) (x3 : Int) (x4 : Int), (P_X8_layWay_106 K o (fun h n z x2 x3 x4 => L_X8_layWay_13 K o k_209 κ χ f h n z x2 x3 x4) k_209 κ χ h n z x2 x3 x4) → G K Y h n z 106 [(0, vR (some o)), (2, vI x2), (3, vI x3), (4, vI x4)] [] := by
          intro h n z x2 x3 x4 hk
          have HH114 : ∀ (h : AH) (n : Nat) (z : Nat) (x2 : Int) (x3 : Int) (x4 : Int), (L_X8_layWay_13 K o k_209 κ χ f h n z x2 x3 x4) → G K Y h n z 13 [(0, vR (some o)), (2, vI x2), (3, vI x3), (4, vI x4)] [] := by
              intro h n z x2 x3 x4 hk
              exact ih h n z x2 x3 x4 hk
          exact w_X8_layWay_106 X E HH114 H_209 h n z x2 x3 x4 hk
      obtain ⟨f9, hk⟩ := hk
      exact w_X8_layWay_28 X E HH115 f9 h n z x2 x3 x4 0 hk
set_option maxHeartbeats 4000000 in
theorem w_X8_layWay_209 {K : KT} {Y : YT} {o : Nat} {κ : AH → Nat → Nat → Prop} {χ : QxT} (X : XY K "TrailMarkers$Guide" "layWay" cX8_layWay (Option.none : Option Jvm.ClassFile.FieldType) [] 6 2 83 Y) (E : YE K Y (QvV κ) χ) : ∀ (h : AH) (n : Nat) (z : Nat), P_X8_layWay_209 K o κ χ h n z → G K Y h n z 209 [(0, vR (some o))] [] := by
  intro h n z hk
  refine r_aload_n X (pc := 209) dX8_layWay_209 rfl (q := 0) rfl ?_
  refine r_aload_n X (pc := 210) dX8_layWay_210 rfl (q := 0) rfl ?_
  refine r_hGI X (pc := 211) fa_X8_142 dX8_layWay_211 hk (fun y116 hk => ?_)
  refine r_aload_n X (pc := 214) dX8_layWay_214 rfl (q := 0) rfl ?_
  refine r_hGR X (pc := 215) fa_X8_12 dX8_layWay_215 hk (fun y117 hk => ?_)
  refine r_hGI X (pc := 218) fa_X8_179_X9 dX8_layWay_218 hk (fun y118 hk => ?_)
  obtain ⟨b119, b120, hk⟩ := hk
  refine r_mmax X (pc := 221) q1352 q565 q152 q566 b119 b120 ⟨by decide, Nat.le_of_ble_eq_true rfl⟩ dX8_layWay_221 ?_
  refine r_hPut X (pc := 224) fp_X8_142 rfl rfl dX8_layWay_224 hk (fun h121 hk => ?_)
  exact r_vret X E (pc := 227) dX8_layWay_227 ⟨rfl, hk⟩
set_option maxHeartbeats 4000000 in
theorem w_X8_layWay {K : KT} {Y : YT} {o : Nat} {κ : AH → Nat → Nat → Prop} {χ : QxT} (X : XY K "TrailMarkers$Guide" "layWay" cX8_layWay (Option.none : Option Jvm.ClassFile.FieldType) [] 6 2 83 Y) (E : YE K Y (QvV κ) χ) {h : AH} {n : Nat} {z : Nat} {x1 : Option Nat} (hk : P_X8_layWay K o κ χ h n z x1) : G K Y h n z 0 (lv_argsA 0 [vR (some o), vR x1]) [] := by
  show G K Y h n z 0 [(0, vR (some o)), (1, vR x1)] []
  refine r_aload_n X (pc := 0) dX8_layWay_0 rfl (q := 1) rfl ?_
  refine r_hGI X (pc := 1) fa_X8_65_X3 dX8_layWay_1 hk (fun y122 hk => ?_)
  refine r_istore_n X (pc := 4) (lv1 := [(2, vI y122), (0, vR (some o)), (1, vR x1)]) dX8_layWay_4 rfl (by decide) rfl ?_
  refine r_aload_n X (pc := 5) dX8_layWay_5 rfl (q := 2) rfl ?_
  refine r_hGI X (pc := 6) fa_X8_71_X3 dX8_layWay_6 hk (fun y123 hk => ?_)
  refine r_istore_n X (pc := 9) (lv1 := [(3, vI y123), (2, vI y122), (0, vR (some o)), (1, vR x1)]) dX8_layWay_9 rfl (by decide) rfl ?_
  refine r_iconst X (pc := 10) dX8_layWay_10 ?_
  refine r_istore X (pc := 11) (lv1 := [(4, vI 0), (3, vI y123), (2, vI y122), (0, vR (some o)), (1, vR x1)]) dX8_layWay_11 (by decide) rfl ?_
  refine G.sub [3, 2, 1, 0] rfl ?_
  have HH124 : ∀ (h : AH) (n : Nat) (z : Nat), (P_X8_layWay_209 K o κ χ h n z) → G K Y h n z 209 [(0, vR (some o))] [] := by
      intro h n z hk
      exact w_X8_layWay_209 X E h n z hk
  obtain ⟨f9, hk⟩ := hk
  exact w_X8_layWay_13 X E HH124 f9 h n z y122 y123 0 hk
theorem s_X8_layWay {K : KT} {l : Launch} {o : Nat} {κ : AH → Nat → Nat → Prop} {χ : QxT} {h : AH} {n : Nat} {z : Nat} {x1 : Option Nat} (hk : P_X8_layWay K o κ χ h n z x1) : Ct K l yX8_layWay (ws_ yX8_layWay cX8_layWay 6 (Option.none : Option Jvm.ClassFile.FieldType)) 2 83 ([vR (some o), vR x1].map cV) h n z (QvV κ) χ :=
  ct_of (by decide +kernel) (Nat.le_of_ble_eq_true rfl) (fun Y X E => w_X8_layWay X E hk)
set_option maxHeartbeats 4000000 in
theorem w_X8_place_2 {K : KT} {Y : YT} {o : Nat} {κ : Int → AH → Nat → Nat → Prop} {χ : QxT} (X : XY K "TrailMarkers$Guide" "place" cX8_place (Option.some Jvm.ClassFile.FieldType.int) [] 3 0 0 Y) (E : YE K Y (QvI κ) χ) {k_20 : AH → Nat → Nat → Int → Prop} {k_28 : AH → Nat → Nat → Prop} (H_20 : ∀ (h : AH) (n : Nat) (z : Nat) (x2 : Int), k_20 h n z x2 → G K Y h n z 20 [(0, vR (some o)), (2, vI x2)] []) (H_28 : ∀ (h : AH) (n : Nat) (z : Nat), k_28 h n z → G K Y h n z 28 [(0, vR (some o))] []) : ∀ (f : Nat) (h : AH) (n : Nat) (z : Nat) (x1 : Int) (x2 : Int), L_X8_place_2 K o k_20 k_28 κ χ f h n z x1 x2 → G K Y h n z 2 [(0, vR (some o)), (1, vI x1), (2, vI x2)] [] := by
  intro f
  induction f with
  | zero => intro h n z x1 x2 hk; exact hk.elim
  | succ f ih =>
    intro h n z x1 x2 hk
    refine r_iload_n X (pc := 2) dX8_place_2 rfl (q := 2) rfl ?_
    refine r_aload_n X (pc := 3) dX8_place_3 rfl (q := 0) rfl ?_
    refine r_hGI X (pc := 4) fa_X8_133 dX8_place_4 hk (fun y10 hk => ?_)
    obtain ⟨b11, b12, hk⟩ := hk
    refine r_icmp_ge X (pc := 7) (tgt := 28) dX8_place_7 (by decide) ⟨b11, b12⟩ (fun c13 => ?_) (fun c13 => ?_)
    · have hk := hk.2 c13
      refine G.sub [0] rfl ?_
      exact H_28 h n z hk
    · have hk := hk.1 c13
      refine r_aload_n X (pc := 10) dX8_place_10 rfl (q := 0) rfl ?_
      refine r_hGR X (pc := 11) fa_X8_25 dX8_place_11 hk (fun y14 hk => ?_)
      refine r_iload_n X (pc := 14) dX8_place_14 rfl (q := 2) rfl ?_
      refine r_hAI X (pc := 15) dX8_place_15 hk (fun y15 hk => ?_)
      refine r_iload_n X (pc := 16) dX8_place_16 rfl (q := 1) rfl ?_
      obtain ⟨b16, b17, hk⟩ := hk
      refine r_icmp_ne X (pc := 17) (tgt := 22) dX8_place_17 (by decide) ⟨b16, b17⟩ (fun c18 => ?_) (fun c18 => ?_)
      · have hk := hk.2 c18
        refine r_iinc X (pc := 22) (q := 2) (lv1 := [(2, vI (x2 + 1)), (0, vR (some o)), (1, vI x1)]) dX8_place_22 rfl (by decide) rfl ?_
        refine r_goto X (pc := 25) (tgt := 2) dX8_place_25 (by decide) ?_
        refine G.sub [1, 2, 0] rfl ?_
        exact ih h n z x1 (x2 + 1) hk
      · have hk := hk.1 c18
        refine G.sub [0, 2] rfl ?_
        exact H_20 h n z x2 hk
set_option maxHeartbeats 4000000 in
theorem w_X8_place_20 {K : KT} {Y : YT} {o : Nat} {κ : Int → AH → Nat → Nat → Prop} {χ : QxT} (X : XY K "TrailMarkers$Guide" "place" cX8_place (Option.some Jvm.ClassFile.FieldType.int) [] 3 0 0 Y) (E : YE K Y (QvI κ) χ) : ∀ (h : AH) (n : Nat) (z : Nat) (x2 : Int), P_X8_place_20 K o κ χ h n z x2 → G K Y h n z 20 [(0, vR (some o)), (2, vI x2)] [] := by
  intro h n z x2 hk
  refine r_iload_n X (pc := 20) dX8_place_20 rfl (q := 1) rfl ?_
  exact r_iret X E (pc := 21) dX8_place_21 rfl ⟨_, rfl, hk⟩
set_option maxHeartbeats 4000000 in
theorem w_X8_place_28 {K : KT} {Y : YT} {o : Nat} {κ : Int → AH → Nat → Nat → Prop} {χ : QxT} (X : XY K "TrailMarkers$Guide" "place" cX8_place (Option.some Jvm.ClassFile.FieldType.int) [] 3 0 0 Y) (E : YE K Y (QvI κ) χ) : ∀ (h : AH) (n : Nat) (z : Nat), P_X8_place_28 K o κ χ h n z → G K Y h n z 28 [(0, vR (some o))] [] := by
  intro h n z hk
  refine r_iconst X (pc := 28) dX8_place_28 ?_
  exact r_iret X E (pc := 29) dX8_place_29 rfl ⟨_, rfl, hk⟩
set_option maxHeartbeats 4000000 in
theorem w_X8_place {K : KT} {Y : YT} {o : Nat} {κ : Int → AH → Nat → Nat → Prop} {χ : QxT} (X : XY K "TrailMarkers$Guide" "place" cX8_place (Option.some Jvm.ClassFile.FieldType.int) [] 3 0 0 Y) (E : YE K Y (QvI κ) χ) {h : AH} {n : Nat} {z : Nat} {x1 : Int} (hk : P_X8_place K o κ χ h n z x1) : G K Y h n z 0 (lv_argsA 0 [vR (some o), vI x1]) [] := by
  show G K Y h n z 0 [(0, vR (some o)), (1, vI x1)] []
  refine r_iconst X (pc := 0) dX8_place_0 ?_
  refine r_istore_n X (pc := 1) (lv1 := [(2, vI 0), (0, vR (some o)), (1, vI x1)]) dX8_place_1 rfl (by decide) rfl ?_
  refine G.sub [1, 2, 0] rfl ?_
  have HH19 : ∀ (h : AH) (n : Nat) (z : Nat) (x2 : Int), (P_X8_place_20 K o κ χ h n z x2) → G K Y h n z 20 [(0, vR (some o)), (2, vI x2)] [] := by
      intro h n z x2 hk
      exact w_X8_place_20 X E h n z x2 hk
  have HH20 : ∀ (h : AH) (n : Nat) (z : Nat), (P_X8_place_28 K o κ χ h n z) → G K Y h n z 28 [(0, vR (some o))] [] := by
      intro h n z hk
      exact w_X8_place_28 X E h n z hk
  obtain ⟨f9, hk⟩ := hk
  exact w_X8_place_2 X E HH19 HH20 f9 h n z x1 0 hk
theorem s_X8_place {K : KT} {l : Launch} {o : Nat} {κ : Int → AH → Nat → Nat → Prop} {χ : QxT} {h : AH} {n : Nat} {z : Nat} {x1 : Int} (hk : P_X8_place K o κ χ h n z x1) : Ct K l yX8_place (ws_ yX8_place cX8_place 3 (Option.some Jvm.ClassFile.FieldType.int)) 0 0 ([vR (some o), vI x1].map cV) h n z (QvI κ) χ :=
  ct_of (by decide +kernel) (Nat.le_of_ble_eq_true rfl) (fun Y X E => w_X8_place X E hk)
set_option maxHeartbeats 4000000 in
theorem w_X8_steps {K : KT} {Y : YT} {o : Nat} {κ : Int → AH → Nat → Nat → Prop} {χ : QxT} (X : XY K "TrailMarkers$Guide" "steps" cX8_steps (Option.some Jvm.ClassFile.FieldType.int) [] 1 0 0 Y) (E : YE K Y (QvI κ) χ) {h : AH} {n : Nat} {z : Nat} (hk : P_X8_steps K o κ χ h n z) : G K Y h n z 0 (lv_argsA 0 [vR (some o)]) [] := by
  show G K Y h n z 0 [(0, vR (some o))] []
  refine r_aload_n X (pc := 0) dX8_steps_0 rfl (q := 0) rfl ?_
  refine r_hGI X (pc := 1) fa_X8_130 dX8_steps_1 hk (fun y2 hk => ?_)
  refine r_iconst X (pc := 4) dX8_steps_4 ?_
  refine r_isub X (pc := 5) dX8_steps_5 ?_
  exact r_iret X E (pc := 6) dX8_steps_6 rfl ⟨_, rfl, hk⟩
theorem s_X8_steps {K : KT} {l : Launch} {o : Nat} {κ : Int → AH → Nat → Nat → Prop} {χ : QxT} {h : AH} {n : Nat} {z : Nat} (hk : P_X8_steps K o κ χ h n z) : Ct K l yX8_steps (ws_ yX8_steps cX8_steps 1 (Option.some Jvm.ClassFile.FieldType.int)) 0 0 ([vR (some o)].map cV) h n z (QvI κ) χ :=
  ct_of (by decide +kernel) (Nat.le_of_ble_eq_true rfl) (fun Y X E => w_X8_steps X E hk)
set_option maxHeartbeats 4000000 in
theorem w_X8_follow_60 {K : KT} {Y : YT} {o : Nat} {κ : Option Nat → AH → Nat → Nat → Prop} {χ : QxT} (X : XY K "TrailMarkers$Guide" "follow" cX8_follow (Option.some (Jvm.ClassFile.FieldType.object "TrailMarkers$Guide")) [] 4 6 187 Y) (E : YE K Y (QvR κ) χ) {k_121 : AH → Nat → Nat → Int → Prop} {k_172 : AH → Nat → Nat → Option Nat → Int → Prop} (H_121 : ∀ (h : AH) (n : Nat) (z : Nat) (x3 : Int), k_121 h n z x3 → G K Y h n z 121 [(0, vR (some o)), (3, vI x3)] []) (H_172 : ∀ (h : AH) (n : Nat) (z : Nat) (x2 : Option Nat) (x3 : Int), k_172 h n z x2 x3 → G K Y h n z 172 [(0, vR (some o)), (2, vR x2), (3, vI x3)] []) : ∀ (f : Nat) (h : AH) (n : Nat) (z : Nat) (x2 : Option Nat) (x3 : Int), L_X8_follow_60 K o k_121 k_172 κ χ f h n z x2 x3 → G K Y h n z 60 [(0, vR (some o)), (2, vR x2), (3, vI x3)] [] := by
  intro f
  induction f with
  | zero => intro h n z x2 x3 hk; exact hk.elim
  | succ f ih =>
    intro h n z x2 x3 hk
    refine r_aload_n X (pc := 60) dX8_follow_60 rfl (q := 0) rfl ?_
    refine r_iload_n X (pc := 61) dX8_follow_61 rfl (q := 2) rfl ?_
    obtain ⟨o113, fs114, e9, b115, hk⟩ := hk
    refine r_callV X (pc := 62) (As := [vI x3]) (st := []) rfl rfl e9 b115 m_X8_152 (fun _ => s_X8_place hk) ⟨by decide, by decide⟩ (Nat.le_of_ble_eq_true rfl) dX8_follow_62 (fun v9 h51 n52 z53 hq => ?_) (fun ci108 q109 h110 n111 z112 hf => ?_)
    · obtain ⟨r50, rfl, hk⟩ := hq
      refine ⟨[vI r50], rfl, ?_⟩
      refine r_iconst X (pc := 65) dX8_follow_65 ?_
      obtain ⟨b54, hk⟩ := hk
      refine r_icmp_ne X (pc := 66) (tgt := 172) dX8_follow_66 (by decide) ⟨b54, (by decide)⟩ (fun c55 => ?_) (fun c55 => ?_)
      · have hk := hk.2 c55
        exact H_172 h51 n52 z53 x2 x3 hk
      · have hk := hk.1 c55
        refine r_aload_n X (pc := 69) dX8_follow_69 rfl (q := 1) rfl ?_
        refine r_aload_n X (pc := 70) dX8_follow_70 rfl (q := 0) rfl ?_
        refine r_hGI X (pc := 71) fa_X8_133 dX8_follow_71 hk (fun y56 hk => ?_)
        refine r_aload_n X (pc := 74) dX8_follow_74 rfl (q := 0) rfl ?_
        obtain ⟨o105, fs106, e9, b107, hk⟩ := hk
        refine r_callV X (pc := 75) (As := []) (st := [vI y56, vR x2]) rfl rfl e9 b107 m_X8_155 (fun _ => s_X8_steps hk) ⟨by decide, by decide⟩ (Nat.le_of_ble_eq_true rfl) dX8_follow_75 (fun v9 h58 n59 z60 hq => ?_) (fun ci100 q101 h102 n103 z104 hf => ?_)
        · obtain ⟨r57, rfl, hk⟩ := hq
          refine ⟨[vI r57], rfl, ?_⟩
          refine r_hSI X (pc := 78) dX8_follow_78 hk (fun h61 hk => ?_)
          refine r_aload_n X (pc := 79) dX8_follow_79 rfl (q := 0) rfl ?_
          refine r_hGR X (pc := 80) fa_X8_25 dX8_follow_80 hk (fun y62 hk => ?_)
          refine r_aload_n X (pc := 83) dX8_follow_83 rfl (q := 0) rfl ?_
          refine r_hGI X (pc := 84) fa_X8_133 dX8_follow_84 hk (fun y63 hk => ?_)
          refine r_iload_n X (pc := 87) dX8_follow_87 rfl (q := 2) rfl ?_
          refine r_hSI X (pc := 88) dX8_follow_88 hk (fun h64 hk => ?_)
          refine r_aload_n X (pc := 89) dX8_follow_89 rfl (q := 0) rfl ?_
          refine r_dup X (pc := 90) dX8_follow_90 rfl ?_
          refine r_hGI X (pc := 91) fa_X8_133 dX8_follow_91 hk (fun y65 hk => ?_)
          refine r_iconst X (pc := 94) dX8_follow_94 ?_
          refine r_iadd X (pc := 95) dX8_follow_95 ?_
          refine r_hPut X (pc := 96) fp_X8_133 rfl rfl dX8_follow_96 hk (fun h66 hk => ?_)
          refine r_aload_n X (pc := 99) dX8_follow_99 rfl (q := 0) rfl ?_
          refine r_iload_n X (pc := 100) dX8_follow_100 rfl (q := 2) rfl ?_
          refine r_hPut X (pc := 101) fp_X8_157 rfl rfl dX8_follow_101 hk (fun h67 hk => ?_)
          refine r_aload_n X (pc := 104) dX8_follow_104 rfl (q := 0) rfl ?_
          refine r_iload_n X (pc := 105) dX8_follow_105 rfl (q := 2) rfl ?_
          obtain ⟨o97, fs98, e9, b99, hk⟩ := hk
          refine r_callV X (pc := 106) (As := [vI x3]) (st := []) rfl rfl e9 b99 m_X8_160 (fun _ => s_X8_find hk) ⟨by decide, by decide⟩ (Nat.le_of_ble_eq_true rfl) dX8_follow_106 (fun v9 h69 n70 z71 hq => ?_) (fun ci92 q93 h94 n95 z96 hf => ?_)
          · obtain ⟨r68, rfl, hk⟩ := hq
            refine ⟨[vR r68], rfl, ?_⟩
            refine r_pop X (pc := 109) dX8_follow_109 rfl ?_
            refine r_aload_n X (pc := 110) dX8_follow_110 rfl (q := 0) rfl ?_
            refine r_hGR X (pc := 111) fa_X8_12 dX8_follow_111 hk (fun y72 hk => ?_)
            refine r_hGI X (pc := 114) fa_X8_104_X9 dX8_follow_114 hk (fun y73 hk => ?_)
            refine r_iconst X (pc := 117) dX8_follow_117 ?_
            obtain ⟨b74, hk⟩ := hk
            refine r_icmp_ne X (pc := 118) (tgt := 148) dX8_follow_118 (by decide) ⟨b74, (by decide)⟩ (fun c75 => ?_) (fun c75 => ?_)
            · have hk := hk.2 c75
              refine r_aload_n X (pc := 148) dX8_follow_148 rfl (q := 0) rfl ?_
              refine r_aload_n X (pc := 149) dX8_follow_149 rfl (q := 0) rfl ?_
              refine r_hGR X (pc := 150) fa_X8_40 dX8_follow_150 hk (fun y76 hk => ?_)
              refine r_hGR X (pc := 153) fa_X8_59_X2 dX8_follow_153 hk (fun y77 hk => ?_)
              refine r_iload_n X (pc := 156) dX8_follow_156 rfl (q := 2) rfl ?_
              refine r_hAR X (pc := 157) (t := 5) rfl dX8_follow_157 hk (fun y78 hk => ?_)
              obtain ⟨o89, fs90, e9, b91, hk⟩ := hk
              refine r_callV X (pc := 158) (As := [vR y78]) (st := []) rfl rfl e9 b91 m_X8_167 (fun _ => s_X8_layWay hk) ⟨by decide, by decide⟩ (Nat.le_of_ble_eq_true rfl) dX8_follow_158 (fun v9 h79 n80 z81 hq => ?_) (fun ci84 q85 h86 n87 z88 hf => ?_)
              · obtain ⟨rfl, hk⟩ := hq
                refine ⟨[], rfl, ?_⟩
                refine r_aload_n X (pc := 161) dX8_follow_161 rfl (q := 0) rfl ?_
                refine r_hGR X (pc := 162) fa_X8_12 dX8_follow_162 hk (fun y82 hk => ?_)
                refine r_hGI X (pc := 165) fa_X8_104_X9 dX8_follow_165 hk (fun y83 hk => ?_)
                refine r_istore_n X (pc := 168) (lv1 := [(3, vI y83), (0, vR (some o)), (2, vR x2)]) dX8_follow_168 rfl (by decide) rfl ?_
                refine r_goto X (pc := 169) (tgt := 60) dX8_follow_169 (by decide) ?_
                refine G.sub [1, 2, 0] rfl ?_
                exact ih h79 n80 z81 x2 y83 hk
              · have hk := hf
                exact r_out X E (fun _ h9 => nomatch h9) hk
            · have hk := hk.1 c75
              refine G.sub [0, 2] rfl ?_
              exact H_121 h69 n70 z71 x3 hk
          · have hk := hf
            exact r_out X E (fun _ h9 => nomatch h9) hk
        · have hk := hf
          exact r_out X E (fun _ h9 => nomatch h9) hk
    · have hk := hf
      exact r_out X E (fun _ h9 => nomatch h9) hk
set_option maxHeartbeats 4000000 in
theorem w_X8_follow_121 {K : KT} {Y : YT} {o : Nat} {κ : Option Nat → AH → Nat → Nat → Prop} {χ : QxT} (X : XY K "TrailMarkers$Guide" "follow" cX8_follow (Option.some (Jvm.ClassFile.FieldType.object "TrailMarkers$Guide")) [] 4 6 187 Y) (E : YE K Y (QvR κ) χ) : ∀ (h : AH) (n : Nat) (z : Nat) (x3 : Int), P_X8_follow_121 K o κ χ h n z x3 → G K Y h n z 121 [(0, vR (some o)), (3, vI x3)] [] := by
  intro h n z x3 hk
  refine r_aload_n X (pc := 121) dX8_follow_121 rfl (q := 0) rfl ?_
  refine r_aload_n X (pc := 122) dX8_follow_122 rfl (q := 0) rfl ?_
  refine r_hGR X (pc := 123) fa_X8_40 dX8_follow_123 hk (fun y116 hk => ?_)
  refine r_hGR X (pc := 126) fa_X8_59_X2 dX8_follow_126 hk (fun y117 hk => ?_)
  refine r_iload_n X (pc := 129) dX8_follow_129 rfl (q := 1) rfl ?_
  refine r_hAR X (pc := 130) (t := 5) rfl dX8_follow_130 hk (fun y118 hk => ?_)
  refine r_hGI X (pc := 131) fa_X8_74_X3 dX8_follow_131 hk (fun y119 hk => ?_)
  refine r_iconst X (pc := 134) dX8_follow_134 ?_
  obtain ⟨b120, hk⟩ := hk
  refine r_icmp_ne X (pc := 135) (tgt := 142) dX8_follow_135 (by decide) ⟨b120, (by decide)⟩ (fun c121 => ?_) (fun c121 => ?_)
  · have hk := hk.2 c121
    refine r_iconst X (pc := 142) dX8_follow_142 ?_
    refine r_hPut X (pc := 143) fp_X8_164 rfl rfl dX8_follow_143 hk (fun h122 hk => ?_)
    refine r_aload_n X (pc := 146) dX8_follow_146 rfl (q := 0) rfl ?_
    exact r_aret X E (Or.inl ⟨_, rfl⟩) (pc := 147) dX8_follow_147 ⟨_, rfl, hk⟩
  · have hk := hk.1 c121
    refine r_iconst X (pc := 138) dX8_follow_138 ?_
    refine r_goto X (pc := 139) (tgt := 143) dX8_follow_139 (by decide) ?_
    refine r_hPut X (pc := 143) fp_X8_164 rfl rfl dX8_follow_143 hk (fun h123 hk => ?_)
    refine r_aload_n X (pc := 146) dX8_follow_146 rfl (q := 0) rfl ?_
    exact r_aret X E (Or.inl ⟨_, rfl⟩) (pc := 147) dX8_follow_147 ⟨_, rfl, hk⟩
set_option maxHeartbeats 4000000 in
theorem w_X8_follow_172 {K : KT} {Y : YT} {o : Nat} {κ : Option Nat → AH → Nat → Nat → Prop} {χ : QxT} (X : XY K "TrailMarkers$Guide" "follow" cX8_follow (Option.some (Jvm.ClassFile.FieldType.object "TrailMarkers$Guide")) [] 4 6 187 Y) (E : YE K Y (QvR κ) χ) : ∀ (h : AH) (n : Nat) (z : Nat) (x2 : Option Nat) (x3 : Int), P_X8_follow_172 K o κ χ h n z x2 x3 → G K Y h n z 172 [(0, vR (some o)), (2, vR x2), (3, vI x3)] [] := by
  intro h n z x2 x3 hk
  refine r_aload_n X (pc := 172) dX8_follow_172 rfl (q := 0) rfl ?_
  refine r_iconst X (pc := 173) dX8_follow_173 ?_
  refine r_hPut X (pc := 174) fp_X8_164 rfl rfl dX8_follow_174 hk (fun h124 hk => ?_)
  refine r_aload_n X (pc := 177) dX8_follow_177 rfl (q := 0) rfl ?_
  refine r_iload_n X (pc := 178) dX8_follow_178 rfl (q := 2) rfl ?_
  refine r_hPut X (pc := 179) fp_X8_157 rfl rfl dX8_follow_179 hk (fun h125 hk => ?_)
  refine r_aload_n X (pc := 182) dX8_follow_182 rfl (q := 0) rfl ?_
  refine r_aload_n X (pc := 183) dX8_follow_183 rfl (q := 0) rfl ?_
  obtain ⟨o149, fs150, e9, b151, hk⟩ := hk
  refine r_callV X (pc := 184) (As := []) (st := [vR (some o)]) rfl rfl e9 b151 m_X8_155 (fun _ => s_X8_steps hk) ⟨by decide, by decide⟩ (Nat.le_of_ble_eq_true rfl) dX8_follow_184 (fun v9 h127 n128 z129 hq => ?_) (fun ci144 q145 h146 n147 z148 hf => ?_)
  · obtain ⟨r126, rfl, hk⟩ := hq
    refine ⟨[vI r126], rfl, ?_⟩
    refine r_aload_n X (pc := 187) dX8_follow_187 rfl (q := 1) rfl ?_
    refine r_aload_n X (pc := 188) dX8_follow_188 rfl (q := 0) rfl ?_
    refine r_iload_n X (pc := 189) dX8_follow_189 rfl (q := 2) rfl ?_
    obtain ⟨o141, fs142, e9, b143, hk⟩ := hk
    refine r_callV X (pc := 190) (As := [vI x3]) (st := [vR x2, vI r126, vR (some o)]) rfl rfl e9 b143 m_X8_152 (fun _ => s_X8_place hk) ⟨by decide, by decide⟩ (Nat.le_of_ble_eq_true rfl) dX8_follow_190 (fun v9 h131 n132 z133 hq => ?_) (fun ci136 q137 h138 n139 z140 hf => ?_)
    · obtain ⟨r130, rfl, hk⟩ := hq
      refine ⟨[vI r130], rfl, ?_⟩
      refine r_hAI X (pc := 193) dX8_follow_193 hk (fun y134 hk => ?_)
      refine r_isub X (pc := 194) dX8_follow_194 ?_
      refine r_hPut X (pc := 195) fp_X8_145 rfl rfl dX8_follow_195 hk (fun h135 hk => ?_)
      refine r_aload_n X (pc := 198) dX8_follow_198 rfl (q := 0) rfl ?_
      exact r_aret X E (Or.inl ⟨_, rfl⟩) (pc := 199) dX8_follow_199 ⟨_, rfl, hk⟩
    · have hk := hf
      exact r_out X E (fun _ h9 => nomatch h9) hk
  · have hk := hf
    exact r_out X E (fun _ h9 => nomatch h9) hk
set_option maxHeartbeats 4000000 in
theorem w_X8_follow {K : KT} {Y : YT} {o : Nat} {κ : Option Nat → AH → Nat → Nat → Prop} {χ : QxT} (X : XY K "TrailMarkers$Guide" "follow" cX8_follow (Option.some (Jvm.ClassFile.FieldType.object "TrailMarkers$Guide")) [] 4 6 187 Y) (E : YE K Y (QvR κ) χ) {h : AH} {n : Nat} {z : Nat} {x1 : Int} (hk : P_X8_follow K o κ χ h n z x1) : G K Y h n z 0 (lv_argsA 0 [vR (some o), vI x1]) [] := by
  show G K Y h n z 0 [(0, vR (some o)), (1, vI x1)] []
  refine r_aload_n X (pc := 0) dX8_follow_0 rfl (q := 0) rfl ?_
  refine r_iconst X (pc := 1) dX8_follow_1 ?_
  refine r_hPut X (pc := 2) fp_X8_133 rfl rfl dX8_follow_2 hk (fun h152 hk => ?_)
  refine r_aload_n X (pc := 5) dX8_follow_5 rfl (q := 0) rfl ?_
  refine r_iconst X (pc := 6) dX8_follow_6 ?_
  refine r_hPut X (pc := 7) fp_X8_130 rfl rfl dX8_follow_7 hk (fun h153 hk => ?_)
  refine r_aload_n X (pc := 10) dX8_follow_10 rfl (q := 0) rfl ?_
  refine r_iconst X (pc := 11) dX8_follow_11 ?_
  refine r_hPut X (pc := 12) fp_X8_136 rfl rfl dX8_follow_12 hk (fun h154 hk => ?_)
  refine r_aload_n X (pc := 15) dX8_follow_15 rfl (q := 0) rfl ?_
  refine r_iconst X (pc := 16) dX8_follow_16 ?_
  refine r_hPut X (pc := 17) fp_X8_139 rfl rfl dX8_follow_17 hk (fun h155 hk => ?_)
  refine r_aload_n X (pc := 20) dX8_follow_20 rfl (q := 0) rfl ?_
  refine r_iconst X (pc := 21) dX8_follow_21 ?_
  refine r_hPut X (pc := 22) fp_X8_142 rfl rfl dX8_follow_22 hk (fun h156 hk => ?_)
  refine r_aload_n X (pc := 25) dX8_follow_25 rfl (q := 0) rfl ?_
  refine r_iconst X (pc := 26) dX8_follow_26 ?_
  refine r_hPut X (pc := 27) fp_X8_145 rfl rfl dX8_follow_27 hk (fun h157 hk => ?_)
  refine r_bipush X (pc := 30) dX8_follow_30 (by decide) ?_
  refine r_hNewA X (pc := 32) (t := 0) rfl rfl q251 (fun _ _ h9 => h9) (fun _ => rfl) (by decide) dX8_follow_32 hk (fun h158 hk => ?_)
  refine r_astore_n X (pc := 34) (lv1 := [(2, vR (some n)), (0, vR (some o)), (1, vI x1)]) dX8_follow_34 rfl (by decide) rfl ?_
  refine r_iload_n X (pc := 35) dX8_follow_35 rfl (q := 2) rfl ?_
  refine r_istore_n X (pc := 36) (lv1 := [(3, vI x1), (2, vR (some n)), (0, vR (some o)), (1, vI x1)]) dX8_follow_36 rfl (by decide) rfl ?_
  refine r_aload_n X (pc := 37) dX8_follow_37 rfl (q := 2) rfl ?_
  refine r_hGR X (pc := 38) fa_X8_28 dX8_follow_38 hk (fun y159 hk => ?_)
  refine r_iconst X (pc := 41) dX8_follow_41 ?_
  refine r_aload_n X (pc := 42) dX8_follow_42 rfl (q := 2) rfl ?_
  refine r_hGR X (pc := 43) fa_X8_40 dX8_follow_43 hk (fun y160 hk => ?_)
  refine r_hGR X (pc := 46) fa_X8_59_X2 dX8_follow_46 hk (fun y161 hk => ?_)
  refine r_iload_n X (pc := 49) dX8_follow_49 rfl (q := 3) rfl ?_
  refine r_hAR X (pc := 50) (t := 5) rfl dX8_follow_50 hk (fun y162 hk => ?_)
  obtain ⟨o176, fs177, e9, b178, hk⟩ := hk
  refine r_callV X (pc := 51) (As := []) (st := [vI 0, vR y159]) rfl rfl e9 b178 m_X8_148 (fun _ => s_X3_cell hk) ⟨by decide, by decide⟩ (Nat.le_of_ble_eq_true rfl) dX8_follow_51 (fun v9 h164 n165 z166 hq => ?_) (fun ci171 q172 h173 n174 z175 hf => ?_)
  · obtain ⟨r163, rfl, hk⟩ := hq
    refine ⟨[vI r163], rfl, ?_⟩
    refine r_hSI X (pc := 54) dX8_follow_54 hk (fun h167 hk => ?_)
    refine r_aload_n X (pc := 55) dX8_follow_55 rfl (q := 2) rfl ?_
    refine r_iconst X (pc := 56) dX8_follow_56 ?_
    refine r_hPut X (pc := 57) fp_X8_130 rfl rfl dX8_follow_57 hk (fun h168 hk => ?_)
    refine G.sub [2, 1, 0] rfl ?_
    have HH169 : ∀ (h : AH) (n : Nat) (z : Nat) (x3 : Int), (P_X8_follow_121 K o κ χ h n z x3) → G K Y h n z 121 [(0, vR (some o)), (3, vI x3)] [] := by
        intro h n z x3 hk
        exact w_X8_follow_121 X E h n z x3 hk
    have HH170 : ∀ (h : AH) (n : Nat) (z : Nat) (x2 : Option Nat) (x3 : Int), (P_X8_follow_172 K o κ χ h n z x2 x3) → G K Y h n z 172 [(0, vR (some o)), (2, vR x2), (3, vI x3)] [] := by
        intro h n z x2 x3 hk
        exact w_X8_follow_172 X E h n z x2 x3 hk
    obtain ⟨f9, hk⟩ := hk
    exact w_X8_follow_60 X E HH169 HH170 f9 h168 n165 z166 (some n) x1 hk
  · have hk := hf
    exact r_out X E (fun _ h9 => nomatch h9) hk
theorem s_X8_follow {K : KT} {l : Launch} {o : Nat} {κ : Option Nat → AH → Nat → Nat → Prop} {χ : QxT} {h : AH} {n : Nat} {z : Nat} {x1 : Int} (hk : P_X8_follow K o κ χ h n z x1) : Ct K l yX8_follow (ws_ yX8_follow cX8_follow 4 (Option.some (Jvm.ClassFile.FieldType.object "TrailMarkers$Guide"))) 6 187 ([vR (some o), vI x1].map cV) h n z (QvR κ) χ :=
  ct_of (by decide +kernel) (Nat.le_of_ble_eq_true rfl) (fun Y X E => w_X8_follow X E hk)
set_option maxHeartbeats 4000000 in
theorem w_X8_metOf {K : KT} {Y : YT} {o : Nat} {κ : Int → AH → Nat → Nat → Prop} {χ : QxT} (X : XY K "TrailMarkers$Guide" "metOf" cX8_metOf (Option.some Jvm.ClassFile.FieldType.int) [] 3 7 210 Y) (E : YE K Y (QvI κ) χ) {h : AH} {n : Nat} {z : Nat} {x1 : Int} (hk : P_X8_metOf K o κ χ h n z x1) : G K Y h n z 0 (lv_argsA 0 [vR (some o), vI x1]) [] := by
  show G K Y h n z 0 [(0, vR (some o)), (1, vI x1)] []
  refine r_aload_n X (pc := 0) dX8_metOf_0 rfl (q := 0) rfl ?_
  refine r_hGR X (pc := 1) fa_X8_40 dX8_metOf_1 hk (fun y7 hk => ?_)
  refine r_iload_n X (pc := 4) dX8_metOf_4 rfl (q := 1) rfl ?_
  obtain ⟨o32, fs33, e9, b34, hk⟩ := hk
  refine r_callV X (pc := 5) (As := [vI x1]) (st := []) rfl rfl e9 b34 m_X8_191 (fun _ => s_X2_begin hk) ⟨by decide, by decide⟩ (Nat.le_of_ble_eq_true rfl) dX8_metOf_5 (fun v9 h9 n10 z11 hq => ?_) (fun ci27 q28 h29 n30 z31 hf => ?_)
  · obtain ⟨r8, rfl, hk⟩ := hq
    refine ⟨[vI r8], rfl, ?_⟩
    refine r_istore_n X (pc := 8) (lv1 := [(2, vI r8), (0, vR (some o)), (1, vI x1)]) dX8_metOf_8 rfl (by decide) rfl ?_
    refine r_iload_n X (pc := 9) dX8_metOf_9 rfl (q := 0) rfl ?_
    refine r_iconst X (pc := 10) dX8_metOf_10 ?_
    obtain ⟨b12, hk⟩ := hk
    refine r_icmp_ne X (pc := 11) (tgt := 18) dX8_metOf_11 (by decide) ⟨b12, (by decide)⟩ (fun c13 => ?_) (fun c13 => ?_)
    · have hk := hk.2 c13
      refine r_aload_n X (pc := 18) dX8_metOf_18 rfl (q := 1) rfl ?_
      refine r_iload_n X (pc := 19) dX8_metOf_19 rfl (q := 0) rfl ?_
      obtain ⟨o24, fs25, e9, b26, hk⟩ := hk
      refine r_callV X (pc := 20) (As := [vI r8]) (st := []) rfl rfl e9 b26 m_X8_194 (fun _ => s_X8_follow hk) ⟨by decide, by decide⟩ (Nat.le_of_ble_eq_true rfl) dX8_metOf_20 (fun v9 h15 n16 z17 hq => ?_) (fun ci19 q20 h21 n22 z23 hf => ?_)
      · obtain ⟨r14, rfl, hk⟩ := hq
        refine ⟨[vR r14], rfl, ?_⟩
        refine r_hGI X (pc := 23) fa_X8_133 dX8_metOf_23 hk (fun y18 hk => ?_)
        exact r_iret X E (pc := 26) dX8_metOf_26 rfl ⟨_, rfl, hk⟩
      · have hk := hf
        exact r_out X E (fun _ h9 => nomatch h9) hk
    · have hk := hk.1 c13
      refine r_iconst X (pc := 14) dX8_metOf_14 ?_
      refine r_goto X (pc := 15) (tgt := 26) dX8_metOf_15 (by decide) ?_
      exact r_iret X E (pc := 26) dX8_metOf_26 rfl ⟨_, rfl, hk⟩
  · have hk := hf
    exact r_out X E (fun _ h9 => nomatch h9) hk
theorem s_X8_metOf {K : KT} {l : Launch} {o : Nat} {κ : Int → AH → Nat → Nat → Prop} {χ : QxT} {h : AH} {n : Nat} {z : Nat} {x1 : Int} (hk : P_X8_metOf K o κ χ h n z x1) : Ct K l yX8_metOf (ws_ yX8_metOf cX8_metOf 3 (Option.some Jvm.ClassFile.FieldType.int)) 7 210 ([vR (some o), vI x1].map cV) h n z (QvI κ) χ :=
  ct_of (by decide +kernel) (Nat.le_of_ble_eq_true rfl) (fun Y X E => w_X8_metOf X E hk)
set_option maxHeartbeats 4000000 in
theorem w_X8_isComplete {K : KT} {Y : YT} {o : Nat} {κ : Int → AH → Nat → Nat → Prop} {χ : QxT} (X : XY K "TrailMarkers$Guide" "isComplete" cX8_isComplete (Option.some Jvm.ClassFile.FieldType.boolean) [] 3 8 232 Y) (E : YE K Y (QvI κ) χ) {h : AH} {n : Nat} {z : Nat} {x1 : Int} (hk : P_X8_isComplete K o κ χ h n z x1) : G K Y h n z 0 (lv_argsA 0 [vR (some o), vI x1]) [] := by
  show G K Y h n z 0 [(0, vR (some o)), (1, vI x1)] []
  refine r_aload_n X (pc := 0) dX8_isComplete_0 rfl (q := 0) rfl ?_
  refine r_iload_n X (pc := 1) dX8_isComplete_1 rfl (q := 1) rfl ?_
  obtain ⟨o35, fs36, e9, b37, hk⟩ := hk
  refine r_callV X (pc := 2) (As := [vI x1]) (st := []) rfl rfl e9 b37 m_X8_198 (fun _ => s_X8_metOf hk) ⟨by decide, by decide⟩ (Nat.le_of_ble_eq_true rfl) dX8_isComplete_2 (fun v9 h10 n11 z12 hq => ?_) (fun ci30 q31 h32 n33 z34 hf => ?_)
  · obtain ⟨r9, rfl, hk⟩ := hq
    refine ⟨[vI r9], rfl, ?_⟩
    refine r_istore_n X (pc := 5) (lv1 := [(2, vI r9), (0, vR (some o)), (1, vI x1)]) dX8_isComplete_5 rfl (by decide) rfl ?_
    refine r_iload_n X (pc := 6) dX8_isComplete_6 rfl (q := 0) rfl ?_
    obtain ⟨b13, hk⟩ := hk
    refine r_if_le X (pc := 7) (tgt := 26) dX8_isComplete_7 (by decide) b13 (fun c14 => ?_) (fun c14 => ?_)
    · have hk := hk.2 c14
      refine r_iconst X (pc := 26) dX8_isComplete_26 ?_
      exact r_iret X E (pc := 27) dX8_isComplete_27 rfl ⟨_, rfl, hk⟩
    · have hk := hk.1 c14
      refine r_iload_n X (pc := 10) dX8_isComplete_10 rfl (q := 0) rfl ?_
      refine r_aload_n X (pc := 11) dX8_isComplete_11 rfl (q := 1) rfl ?_
      refine r_hGR X (pc := 12) fa_X8_40 dX8_isComplete_12 hk (fun y15 hk => ?_)
      refine r_iload_n X (pc := 15) dX8_isComplete_15 rfl (q := 2) rfl ?_
      obtain ⟨o27, fs28, e9, b29, hk⟩ := hk
      refine r_callV X (pc := 16) (As := [vI x1]) (st := [vI r9]) rfl rfl e9 b29 m_X8_188 (fun _ => s_X2_standing hk) ⟨by decide, by decide⟩ (Nat.le_of_ble_eq_true rfl) dX8_isComplete_16 (fun v9 h17 n18 z19 hq => ?_) (fun ci22 q23 h24 n25 z26 hf => ?_)
      · obtain ⟨r16, rfl, hk⟩ := hq
        refine ⟨[vI r16], rfl, ?_⟩
        obtain ⟨b20, hk⟩ := hk
        refine r_icmp_ne X (pc := 19) (tgt := 26) dX8_isComplete_19 (by decide) ⟨b13, b20⟩ (fun c21 => ?_) (fun c21 => ?_)
        · have hk := hk.2 c21
          refine r_iconst X (pc := 26) dX8_isComplete_26 ?_
          exact r_iret X E (pc := 27) dX8_isComplete_27 rfl ⟨_, rfl, hk⟩
        · have hk := hk.1 c21
          refine r_iconst X (pc := 22) dX8_isComplete_22 ?_
          refine r_goto X (pc := 23) (tgt := 27) dX8_isComplete_23 (by decide) ?_
          exact r_iret X E (pc := 27) dX8_isComplete_27 rfl ⟨_, rfl, hk⟩
      · have hk := hf
        exact r_out X E (fun _ h9 => nomatch h9) hk
  · have hk := hf
    exact r_out X E (fun _ h9 => nomatch h9) hk
theorem s_X8_isComplete {K : KT} {l : Launch} {o : Nat} {κ : Int → AH → Nat → Nat → Prop} {χ : QxT} {h : AH} {n : Nat} {z : Nat} {x1 : Int} (hk : P_X8_isComplete K o κ χ h n z x1) : Ct K l yX8_isComplete (ws_ yX8_isComplete cX8_isComplete 3 (Option.some Jvm.ClassFile.FieldType.boolean)) 8 232 ([vR (some o), vI x1].map cV) h n z (QvI κ) χ :=
  ct_of (by decide +kernel) (Nat.le_of_ble_eq_true rfl) (fun Y X E => w_X8_isComplete X E hk)
set_option maxHeartbeats 4000000 in
theorem w_X8_figure {K : KT} {Y : YT} {o : Nat} {κ : Int → AH → Nat → Nat → Prop} {χ : QxT} (X : XY K "TrailMarkers$Guide" "figure" cX8_figure (Option.some Jvm.ClassFile.FieldType.int) [] 2 2 44 Y) (E : YE K Y (QvI κ) χ) {h : AH} {n : Nat} {z : Nat} {x1 : Int} (hk : P_X8_figure K o κ χ h n z x1) : G K Y h n z 0 (lv_argsA 0 [vR (some o), vI x1]) [] := by
  show G K Y h n z 0 [(0, vR (some o)), (1, vI x1)] []
  refine r_iload_n X (pc := 0) dX8_figure_0 rfl (q := 1) rfl ?_
  obtain ⟨b17, hk⟩ := hk
  by_cases c19 : x1 = 0
  · have hk := hk.1 c19
    refine r_tswIn X (pc := 1) (j := 0) (tgt := 44) dX8_figure_1 b17 (by omega) (by decide) rfl (by decide) ?_
    refine r_aload_n X (pc := 44) dX8_figure_44 rfl (q := 0) rfl ?_
    refine r_hGI X (pc := 45) fa_X8_133 dX8_figure_45 hk (fun y20 hk => ?_)
    exact r_iret X E (pc := 48) dX8_figure_48 rfl ⟨_, rfl, hk⟩
  · have hk := hk.2 c19
    by_cases c21 : x1 = 1
    · have hk := hk.1 c21
      refine r_tswIn X (pc := 1) (j := 1) (tgt := 49) dX8_figure_1 b17 (by omega) (by decide) rfl (by decide) ?_
      refine r_aload_n X (pc := 49) dX8_figure_49 rfl (q := 0) rfl ?_
      obtain ⟨o31, fs32, e9, b33, hk⟩ := hk
      refine r_callV X (pc := 50) (As := []) (st := []) rfl rfl e9 b33 m_X8_155 (fun _ => s_X8_steps hk) ⟨by decide, by decide⟩ (Nat.le_of_ble_eq_true rfl) dX8_figure_50 (fun v9 h23 n24 z25 hq => ?_) (fun ci26 q27 h28 n29 z30 hf => ?_)
      · obtain ⟨r22, rfl, hk⟩ := hq
        refine ⟨[vI r22], rfl, ?_⟩
        exact r_iret X E (pc := 53) dX8_figure_53 rfl ⟨_, rfl, hk⟩
      · have hk := hf
        exact r_out X E (fun _ h9 => nomatch h9) hk
    · have hk := hk.2 c21
      by_cases c34 : x1 = 2
      · have hk := hk.1 c34
        refine r_tswIn X (pc := 1) (j := 2) (tgt := 54) dX8_figure_1 b17 (by omega) (by decide) rfl (by decide) ?_
        refine r_aload_n X (pc := 54) dX8_figure_54 rfl (q := 0) rfl ?_
        refine r_hGI X (pc := 55) fa_X8_164 dX8_figure_55 hk (fun y35 hk => ?_)
        exact r_iret X E (pc := 58) dX8_figure_58 rfl ⟨_, rfl, hk⟩
      · have hk := hk.2 c34
        by_cases c36 : x1 = 3
        · have hk := hk.1 c36
          refine r_tswIn X (pc := 1) (j := 3) (tgt := 59) dX8_figure_1 b17 (by omega) (by decide) rfl (by decide) ?_
          refine r_aload_n X (pc := 59) dX8_figure_59 rfl (q := 0) rfl ?_
          refine r_hGI X (pc := 60) fa_X8_157 dX8_figure_60 hk (fun y37 hk => ?_)
          exact r_iret X E (pc := 63) dX8_figure_63 rfl ⟨_, rfl, hk⟩
        · have hk := hk.2 c36
          by_cases c38 : x1 = 4
          · have hk := hk.1 c38
            refine r_tswIn X (pc := 1) (j := 4) (tgt := 64) dX8_figure_1 b17 (by omega) (by decide) rfl (by decide) ?_
            refine r_aload_n X (pc := 64) dX8_figure_64 rfl (q := 0) rfl ?_
            refine r_hGI X (pc := 65) fa_X8_136 dX8_figure_65 hk (fun y39 hk => ?_)
            exact r_iret X E (pc := 68) dX8_figure_68 rfl ⟨_, rfl, hk⟩
          · have hk := hk.2 c38
            by_cases c40 : x1 = 5
            · have hk := hk.1 c40
              refine r_tswIn X (pc := 1) (j := 5) (tgt := 69) dX8_figure_1 b17 (by omega) (by decide) rfl (by decide) ?_
              refine r_aload_n X (pc := 69) dX8_figure_69 rfl (q := 0) rfl ?_
              refine r_hGR X (pc := 70) fa_X8_40 dX8_figure_70 hk (fun y41 hk => ?_)
              refine r_aload_n X (pc := 73) dX8_figure_73 rfl (q := 0) rfl ?_
              refine r_hGR X (pc := 74) fa_X8_40 dX8_figure_74 hk (fun y42 hk => ?_)
              refine r_hGR X (pc := 77) fa_X8_59_X2 dX8_figure_77 hk (fun y43 hk => ?_)
              refine r_aload_n X (pc := 80) dX8_figure_80 rfl (q := 0) rfl ?_
              refine r_hGR X (pc := 81) fa_X8_25 dX8_figure_81 hk (fun y44 hk => ?_)
              refine r_iconst X (pc := 84) dX8_figure_84 ?_
              refine r_hAI X (pc := 85) dX8_figure_85 hk (fun y45 hk => ?_)
              refine r_hAR X (pc := 86) (t := 5) rfl dX8_figure_86 hk (fun y46 hk => ?_)
              refine r_hGI X (pc := 87) fa_X8_77_X3 dX8_figure_87 hk (fun y47 hk => ?_)
              obtain ⟨o58, fs59, e9, b60, hk⟩ := hk
              refine r_callV X (pc := 90) (As := [vI y47]) (st := []) rfl rfl e9 b60 m_X8_188 (fun _ => s_X2_standing hk) ⟨by decide, by decide⟩ (Nat.le_of_ble_eq_true rfl) dX8_figure_90 (fun v9 h49 n50 z51 hq => ?_) (fun ci53 q54 h55 n56 z57 hf => ?_)
              · obtain ⟨r48, rfl, hk⟩ := hq
                refine ⟨[vI r48], rfl, ?_⟩
                refine r_aload_n X (pc := 93) dX8_figure_93 rfl (q := 0) rfl ?_
                refine r_hGI X (pc := 94) fa_X8_133 dX8_figure_94 hk (fun y52 hk => ?_)
                refine r_isub X (pc := 97) dX8_figure_97 ?_
                exact r_iret X E (pc := 98) dX8_figure_98 rfl ⟨_, rfl, hk⟩
              · have hk := hf
                exact r_out X E (fun _ h9 => nomatch h9) hk
            · have hk := hk.2 c40
              by_cases c61 : x1 = 6
              · have hk := hk.1 c61
                refine r_tswIn X (pc := 1) (j := 6) (tgt := 99) dX8_figure_1 b17 (by omega) (by decide) rfl (by decide) ?_
                refine r_aload_n X (pc := 99) dX8_figure_99 rfl (q := 0) rfl ?_
                refine r_hGI X (pc := 100) fa_X8_145 dX8_figure_100 hk (fun y62 hk => ?_)
                exact r_iret X E (pc := 103) dX8_figure_103 rfl ⟨_, rfl, hk⟩
              · have hk := hk.2 c61
                refine r_tswOut X (pc := 1) (tgt := 104) dX8_figure_1 b17 (by omega) (by decide) ?_
                refine r_aload_n X (pc := 104) dX8_figure_104 rfl (q := 0) rfl ?_
                refine r_hGI X (pc := 105) fa_X8_142 dX8_figure_105 hk (fun y18 hk => ?_)
                exact r_iret X E (pc := 108) dX8_figure_108 rfl ⟨_, rfl, hk⟩
theorem s_X8_figure {K : KT} {l : Launch} {o : Nat} {κ : Int → AH → Nat → Nat → Prop} {χ : QxT} {h : AH} {n : Nat} {z : Nat} {x1 : Int} (hk : P_X8_figure K o κ χ h n z x1) : Ct K l yX8_figure (ws_ yX8_figure cX8_figure 2 (Option.some Jvm.ClassFile.FieldType.int)) 2 44 ([vR (some o), vI x1].map cV) h n z (QvI κ) χ :=
  ct_of (by decide +kernel) (Nat.le_of_ble_eq_true rfl) (fun Y X E => w_X8_figure X E hk)
set_option maxHeartbeats 4000000 in
theorem w_X8_ways {K : KT} {Y : YT} {o : Nat} {κ : Int → AH → Nat → Nat → Prop} {χ : QxT} (X : XY K "TrailMarkers$Guide" "ways" cX8_ways (Option.some Jvm.ClassFile.FieldType.int) [] 1 0 0 Y) (E : YE K Y (QvI κ) χ) {h : AH} {n : Nat} {z : Nat} (hk : P_X8_ways K o κ χ h n z) : G K Y h n z 0 (lv_argsA 0 [vR (some o)]) [] := by
  show G K Y h n z 0 [(0, vR (some o))] []
  refine r_aload_n X (pc := 0) dX8_ways_0 rfl (q := 0) rfl ?_
  refine r_hGI X (pc := 1) fa_X8_164 dX8_ways_1 hk (fun y6 hk => ?_)
  refine r_iconst X (pc := 4) dX8_ways_4 ?_
  obtain ⟨b7, hk⟩ := hk
  refine r_icmp_ne X (pc := 5) (tgt := 15) dX8_ways_5 (by decide) ⟨b7, (by decide)⟩ (fun c8 => ?_) (fun c8 => ?_)
  · have hk := hk.2 c8
    refine r_aload_n X (pc := 15) dX8_ways_15 rfl (q := 0) rfl ?_
    refine r_hGI X (pc := 16) fa_X8_133 dX8_ways_16 hk (fun y9 hk => ?_)
    refine r_iconst X (pc := 19) dX8_ways_19 ?_
    refine r_isub X (pc := 20) dX8_ways_20 ?_
    exact r_iret X E (pc := 21) dX8_ways_21 rfl ⟨_, rfl, hk⟩
  · have hk := hk.1 c8
    refine r_aload_n X (pc := 8) dX8_ways_8 rfl (q := 0) rfl ?_
    refine r_hGI X (pc := 9) fa_X8_133 dX8_ways_9 hk (fun y10 hk => ?_)
    refine r_goto X (pc := 12) (tgt := 21) dX8_ways_12 (by decide) ?_
    exact r_iret X E (pc := 21) dX8_ways_21 rfl ⟨_, rfl, hk⟩
theorem s_X8_ways {K : KT} {l : Launch} {o : Nat} {κ : Int → AH → Nat → Nat → Prop} {χ : QxT} {h : AH} {n : Nat} {z : Nat} (hk : P_X8_ways K o κ χ h n z) : Ct K l yX8_ways (ws_ yX8_ways cX8_ways 1 (Option.some Jvm.ClassFile.FieldType.int)) 0 0 ([vR (some o)].map cV) h n z (QvI κ) χ :=
  ct_of (by decide +kernel) (Nat.le_of_ble_eq_true rfl) (fun Y X E => w_X8_ways X E hk)
