set_option maxRecDepth 100000
set_option maxHeartbeats 4000000 in
theorem w_X5_init {K : KT} {Y : YT} {o : Nat} {κ : AH → Nat → Nat → Prop} {χ : QxT} (X : XY K "TrailMarkersModel" "<init>" cX5_init none [] 1 34 748 Y) (E : YE K Y (QvV κ) χ) {h : AH} {n : Nat} {z : Nat} (hk : P_X5_init K o κ χ h n z) : G K Y h n z 0 (lv_argsA 0 [vR (some o)]) [] := by
  show G K Y h n z 0 [(0, vR (some o))] []
  refine r_aload_n X (pc := 0) dX5_init_0 rfl (q := 0) rfl ?_
  refine r_objinit X (pc := 1) q3026 q203 q204 ⟨by decide, Nat.le_of_ble_eq_true rfl⟩ dX5_init_1 ?_
  refine r_aload_n X (pc := 4) dX5_init_4 rfl (q := 0) rfl ?_
  refine r_sipush X (pc := 5) dX5_init_5 (by decide) ?_
  refine r_hNewA X (pc := 8) (t := 0) rfl rfl q251 (fun _ _ h9 => h9) (fun _ => rfl) (by decide) dX5_init_8 hk (fun h45 hk => ?_)
  refine r_hPutF X (pc := 10) fp_X5_9 rfl (fit_arr (some n)).1 (fit_arr (some n)).2 dX5_init_10 hk (fun h46 hk => ?_)
  refine r_aload_n X (pc := 13) dX5_init_13 rfl (q := 0) rfl ?_
  refine r_sipush X (pc := 14) dX5_init_14 (by decide) ?_
  refine r_hNewA X (pc := 17) (t := 0) rfl rfl q251 (fun _ _ h9 => h9) (fun _ => rfl) (by decide) dX5_init_17 hk (fun h47 hk => ?_)
  refine r_hPutF X (pc := 19) fp_X5_13 rfl (fit_arr (some (n + 1))).1 (fit_arr (some (n + 1))).2 dX5_init_19 hk (fun h48 hk => ?_)
  refine r_aload_n X (pc := 22) dX5_init_22 rfl (q := 0) rfl ?_
  refine r_sipush X (pc := 23) dX5_init_23 (by decide) ?_
  refine r_hNewA X (pc := 26) (t := 0) rfl rfl q251 (fun _ _ h9 => h9) (fun _ => rfl) (by decide) dX5_init_26 hk (fun h49 hk => ?_)
  refine r_hPutF X (pc := 28) fp_X5_16 rfl (fit_arr (some ((n + 1) + 1))).1 (fit_arr (some ((n + 1) + 1))).2 dX5_init_28 hk (fun h50 hk => ?_)
  refine r_aload_n X (pc := 31) dX5_init_31 rfl (q := 0) rfl ?_
  refine r_sipush X (pc := 32) dX5_init_32 (by decide) ?_
  refine r_hNewA X (pc := 35) (t := 0) rfl rfl q251 (fun _ _ h9 => h9) (fun _ => rfl) (by decide) dX5_init_35 hk (fun h51 hk => ?_)
  refine r_hPutF X (pc := 37) fp_X5_19 rfl (fit_arr (some (((n + 1) + 1) + 1))).1 (fit_arr (some (((n + 1) + 1) + 1))).2 dX5_init_37 hk (fun h52 hk => ?_)
  refine r_aload_n X (pc := 40) dX5_init_40 rfl (q := 0) rfl ?_
  refine r_sipush X (pc := 41) dX5_init_41 (by decide) ?_
  refine r_hNewA X (pc := 44) (t := 0) rfl rfl q251 (fun _ _ h9 => h9) (fun _ => rfl) (by decide) dX5_init_44 hk (fun h53 hk => ?_)
  refine r_hPutF X (pc := 46) fp_X5_22 rfl (fit_arr (some ((((n + 1) + 1) + 1) + 1))).1 (fit_arr (some ((((n + 1) + 1) + 1) + 1))).2 dX5_init_46 hk (fun h54 hk => ?_)
  refine r_aload_n X (pc := 49) dX5_init_49 rfl (q := 0) rfl ?_
  refine r_iconst X (pc := 50) dX5_init_50 ?_
  refine r_hNewA X (pc := 51) (t := 2) rfl rfl q3357 (fun _ _ h9 => h9) (fun _ => rfl) (by decide) dX5_init_51 hk (fun h55 hk => ?_)
  refine r_hPutF X (pc := 53) fp_X5_25 rfl (fit_arr (some (((((n + 1) + 1) + 1) + 1) + 1))).1 (fit_arr (some (((((n + 1) + 1) + 1) + 1) + 1))).2 dX5_init_53 hk (fun h56 hk => ?_)
  refine r_aload_n X (pc := 56) dX5_init_56 rfl (q := 0) rfl ?_
  refine r_sipush X (pc := 57) dX5_init_57 (by decide) ?_
  refine r_hNewA X (pc := 60) (t := 0) rfl rfl q251 (fun _ _ h9 => h9) (fun _ => rfl) (by decide) dX5_init_60 hk (fun h57 hk => ?_)
  refine r_hPutF X (pc := 62) fp_X5_29 rfl (fit_arr (some ((((((n + 1) + 1) + 1) + 1) + 1) + 1))).1 (fit_arr (some ((((((n + 1) + 1) + 1) + 1) + 1) + 1))).2 dX5_init_62 hk (fun h58 hk => ?_)
  refine r_aload_n X (pc := 65) dX5_init_65 rfl (q := 0) rfl ?_
  refine r_sipush X (pc := 66) dX5_init_66 (by decide) ?_
  refine r_hNewA X (pc := 69) (t := 0) rfl rfl q251 (fun _ _ h9 => h9) (fun _ => rfl) (by decide) dX5_init_69 hk (fun h59 hk => ?_)
  refine r_hPutF X (pc := 71) fp_X5_32 rfl (fit_arr (some (((((((n + 1) + 1) + 1) + 1) + 1) + 1) + 1))).1 (fit_arr (some (((((((n + 1) + 1) + 1) + 1) + 1) + 1) + 1))).2 dX5_init_71 hk (fun h60 hk => ?_)
  refine r_aload_n X (pc := 74) dX5_init_74 rfl (q := 0) rfl ?_
  refine r_iconst X (pc := 75) dX5_init_75 ?_
  refine r_hPut X (pc := 76) fp_X5_35 rfl rfl dX5_init_76 hk (fun h61 hk => ?_)
  refine r_aload_n X (pc := 79) dX5_init_79 rfl (q := 0) rfl ?_
  refine r_iconst X (pc := 80) dX5_init_80 ?_
  refine r_hPut X (pc := 81) fp_X5_39 rfl rfl dX5_init_81 hk (fun h62 hk => ?_)
  refine r_aload_n X (pc := 84) dX5_init_84 rfl (q := 0) rfl ?_
  refine r_bipush X (pc := 85) dX5_init_85 (by decide) ?_
  refine r_hNewA X (pc := 87) (t := 0) rfl rfl q251 (fun _ _ h9 => h9) (fun _ => rfl) (by decide) dX5_init_87 hk (fun h63 hk => ?_)
  refine r_hPutF X (pc := 89) fp_X5_42 rfl (fit_arr (some ((((((((n + 1) + 1) + 1) + 1) + 1) + 1) + 1) + 1))).1 (fit_arr (some ((((((((n + 1) + 1) + 1) + 1) + 1) + 1) + 1) + 1))).2 dX5_init_89 hk (fun h64 hk => ?_)
  refine r_aload_n X (pc := 92) dX5_init_92 rfl (q := 0) rfl ?_
  refine r_sipush X (pc := 93) dX5_init_93 (by decide) ?_
  refine r_hNewA X (pc := 96) (t := 0) rfl rfl q251 (fun _ _ h9 => h9) (fun _ => rfl) (by decide) dX5_init_96 hk (fun h65 hk => ?_)
  refine r_hPutF X (pc := 98) fp_X5_45 rfl (fit_arr (some (((((((((n + 1) + 1) + 1) + 1) + 1) + 1) + 1) + 1) + 1))).1 (fit_arr (some (((((((((n + 1) + 1) + 1) + 1) + 1) + 1) + 1) + 1) + 1))).2 dX5_init_98 hk (fun h66 hk => ?_)
  refine r_aload_n X (pc := 101) dX5_init_101 rfl (q := 0) rfl ?_
  refine r_bipush X (pc := 102) dX5_init_102 (by decide) ?_
  refine r_hNewA X (pc := 104) (t := 0) rfl rfl q251 (fun _ _ h9 => h9) (fun _ => rfl) (by decide) dX5_init_104 hk (fun h67 hk => ?_)
  refine r_hPutF X (pc := 106) fp_X5_48 rfl (fit_arr (some ((((((((((n + 1) + 1) + 1) + 1) + 1) + 1) + 1) + 1) + 1) + 1))).1 (fit_arr (some ((((((((((n + 1) + 1) + 1) + 1) + 1) + 1) + 1) + 1) + 1) + 1))).2 dX5_init_106 hk (fun h68 hk => ?_)
  refine r_aload_n X (pc := 109) dX5_init_109 rfl (q := 0) rfl ?_
  refine r_bipush X (pc := 110) dX5_init_110 (by decide) ?_
  refine r_hNewA X (pc := 112) (t := 0) rfl rfl q251 (fun _ _ h9 => h9) (fun _ => rfl) (by decide) dX5_init_112 hk (fun h69 hk => ?_)
  refine r_hPutF X (pc := 114) fp_X5_51 rfl (fit_arr (some (((((((((((n + 1) + 1) + 1) + 1) + 1) + 1) + 1) + 1) + 1) + 1) + 1))).1 (fit_arr (some (((((((((((n + 1) + 1) + 1) + 1) + 1) + 1) + 1) + 1) + 1) + 1) + 1))).2 dX5_init_114 hk (fun h70 hk => ?_)
  refine r_aload_n X (pc := 117) dX5_init_117 rfl (q := 0) rfl ?_
  refine r_bipush X (pc := 118) dX5_init_118 (by decide) ?_
  refine r_hNewA X (pc := 120) (t := 0) rfl rfl q251 (fun _ _ h9 => h9) (fun _ => rfl) (by decide) dX5_init_120 hk (fun h71 hk => ?_)
  refine r_hPutF X (pc := 122) fp_X5_54 rfl (fit_arr (some ((((((((((((n + 1) + 1) + 1) + 1) + 1) + 1) + 1) + 1) + 1) + 1) + 1) + 1))).1 (fit_arr (some ((((((((((((n + 1) + 1) + 1) + 1) + 1) + 1) + 1) + 1) + 1) + 1) + 1) + 1))).2 dX5_init_122 hk (fun h72 hk => ?_)
  refine r_aload_n X (pc := 125) dX5_init_125 rfl (q := 0) rfl ?_
  refine r_bipush X (pc := 126) dX5_init_126 (by decide) ?_
  refine r_hNewA X (pc := 128) (t := 2) rfl rfl q3357 (fun _ _ h9 => h9) (fun _ => rfl) (by decide) dX5_init_128 hk (fun h73 hk => ?_)
  refine r_hPutF X (pc := 130) fp_X5_57 rfl (fit_arr (some (((((((((((((n + 1) + 1) + 1) + 1) + 1) + 1) + 1) + 1) + 1) + 1) + 1) + 1) + 1))).1 (fit_arr (some (((((((((((((n + 1) + 1) + 1) + 1) + 1) + 1) + 1) + 1) + 1) + 1) + 1) + 1) + 1))).2 dX5_init_130 hk (fun h74 hk => ?_)
  refine r_aload_n X (pc := 133) dX5_init_133 rfl (q := 0) rfl ?_
  refine r_bipush X (pc := 134) dX5_init_134 (by decide) ?_
  refine r_hNewA X (pc := 136) (t := 2) rfl rfl q3357 (fun _ _ h9 => h9) (fun _ => rfl) (by decide) dX5_init_136 hk (fun h75 hk => ?_)
  refine r_hPutF X (pc := 138) fp_X5_60 rfl (fit_arr (some ((((((((((((((n + 1) + 1) + 1) + 1) + 1) + 1) + 1) + 1) + 1) + 1) + 1) + 1) + 1) + 1))).1 (fit_arr (some ((((((((((((((n + 1) + 1) + 1) + 1) + 1) + 1) + 1) + 1) + 1) + 1) + 1) + 1) + 1) + 1))).2 dX5_init_138 hk (fun h76 hk => ?_)
  refine r_aload_n X (pc := 141) dX5_init_141 rfl (q := 0) rfl ?_
  refine r_bipush X (pc := 142) dX5_init_142 (by decide) ?_
  refine r_hNewA X (pc := 144) (t := 0) rfl rfl q251 (fun _ _ h9 => h9) (fun _ => rfl) (by decide) dX5_init_144 hk (fun h77 hk => ?_)
  refine r_hPutF X (pc := 146) fp_X5_63 rfl (fit_arr (some (((((((((((((((n + 1) + 1) + 1) + 1) + 1) + 1) + 1) + 1) + 1) + 1) + 1) + 1) + 1) + 1) + 1))).1 (fit_arr (some (((((((((((((((n + 1) + 1) + 1) + 1) + 1) + 1) + 1) + 1) + 1) + 1) + 1) + 1) + 1) + 1) + 1))).2 dX5_init_146 hk (fun h78 hk => ?_)
  refine r_aload_n X (pc := 149) dX5_init_149 rfl (q := 0) rfl ?_
  refine r_bipush X (pc := 150) dX5_init_150 (by decide) ?_
  refine r_hNewA X (pc := 152) (t := 0) rfl rfl q251 (fun _ _ h9 => h9) (fun _ => rfl) (by decide) dX5_init_152 hk (fun h79 hk => ?_)
  refine r_hPutF X (pc := 154) fp_X5_66 rfl (fit_arr (some ((((((((((((((((n + 1) + 1) + 1) + 1) + 1) + 1) + 1) + 1) + 1) + 1) + 1) + 1) + 1) + 1) + 1) + 1))).1 (fit_arr (some ((((((((((((((((n + 1) + 1) + 1) + 1) + 1) + 1) + 1) + 1) + 1) + 1) + 1) + 1) + 1) + 1) + 1) + 1))).2 dX5_init_154 hk (fun h80 hk => ?_)
  refine r_aload_n X (pc := 157) dX5_init_157 rfl (q := 0) rfl ?_
  refine r_bipush X (pc := 158) dX5_init_158 (by decide) ?_
  refine r_hNewA X (pc := 160) (t := 0) rfl rfl q251 (fun _ _ h9 => h9) (fun _ => rfl) (by decide) dX5_init_160 hk (fun h81 hk => ?_)
  refine r_hPutF X (pc := 162) fp_X5_69 rfl (fit_arr (some (((((((((((((((((n + 1) + 1) + 1) + 1) + 1) + 1) + 1) + 1) + 1) + 1) + 1) + 1) + 1) + 1) + 1) + 1) + 1))).1 (fit_arr (some (((((((((((((((((n + 1) + 1) + 1) + 1) + 1) + 1) + 1) + 1) + 1) + 1) + 1) + 1) + 1) + 1) + 1) + 1) + 1))).2 dX5_init_162 hk (fun h82 hk => ?_)
  refine r_aload_n X (pc := 165) dX5_init_165 rfl (q := 0) rfl ?_
  refine r_bipush X (pc := 166) dX5_init_166 (by decide) ?_
  refine r_hNewA X (pc := 168) (t := 2) rfl rfl q3357 (fun _ _ h9 => h9) (fun _ => rfl) (by decide) dX5_init_168 hk (fun h83 hk => ?_)
  refine r_hPutF X (pc := 170) fp_X5_72 rfl (fit_arr (some ((((((((((((((((((n + 1) + 1) + 1) + 1) + 1) + 1) + 1) + 1) + 1) + 1) + 1) + 1) + 1) + 1) + 1) + 1) + 1) + 1))).1 (fit_arr (some ((((((((((((((((((n + 1) + 1) + 1) + 1) + 1) + 1) + 1) + 1) + 1) + 1) + 1) + 1) + 1) + 1) + 1) + 1) + 1) + 1))).2 dX5_init_170 hk (fun h84 hk => ?_)
  refine r_aload_n X (pc := 173) dX5_init_173 rfl (q := 0) rfl ?_
  refine r_sipush X (pc := 174) dX5_init_174 (by decide) ?_
  refine r_hNewA X (pc := 177) (t := 2) rfl rfl q3357 (fun _ _ h9 => h9) (fun _ => rfl) (by decide) dX5_init_177 hk (fun h85 hk => ?_)
  refine r_hPutF X (pc := 179) fp_X5_75 rfl (fit_arr (some (((((((((((((((((((n + 1) + 1) + 1) + 1) + 1) + 1) + 1) + 1) + 1) + 1) + 1) + 1) + 1) + 1) + 1) + 1) + 1) + 1) + 1))).1 (fit_arr (some (((((((((((((((((((n + 1) + 1) + 1) + 1) + 1) + 1) + 1) + 1) + 1) + 1) + 1) + 1) + 1) + 1) + 1) + 1) + 1) + 1) + 1))).2 dX5_init_179 hk (fun h86 hk => ?_)
  refine r_aload_n X (pc := 182) dX5_init_182 rfl (q := 0) rfl ?_
  refine r_sipush X (pc := 183) dX5_init_183 (by decide) ?_
  refine r_hNewA X (pc := 186) (t := 2) rfl rfl q3357 (fun _ _ h9 => h9) (fun _ => rfl) (by decide) dX5_init_186 hk (fun h87 hk => ?_)
  refine r_hPutF X (pc := 188) fp_X5_78 rfl (fit_arr (some ((((((((((((((((((((n + 1) + 1) + 1) + 1) + 1) + 1) + 1) + 1) + 1) + 1) + 1) + 1) + 1) + 1) + 1) + 1) + 1) + 1) + 1) + 1))).1 (fit_arr (some ((((((((((((((((((((n + 1) + 1) + 1) + 1) + 1) + 1) + 1) + 1) + 1) + 1) + 1) + 1) + 1) + 1) + 1) + 1) + 1) + 1) + 1) + 1))).2 dX5_init_188 hk (fun h88 hk => ?_)
  refine r_aload_n X (pc := 191) dX5_init_191 rfl (q := 0) rfl ?_
  refine r_ldcS X (pc := 192) (j := 17) rfl dX5_init_192 ?_
  obtain ⟨t89, sg90, h91, e9, e8, hz9, hL9, hk⟩ := hk
  rw [e8]
  refine r_callV X (pc := 194) (As := [vR (some (kl K 17))]) (st := []) rfl rfl e9 (tw_t _ _ _) m_X5_83 (fun _ => s_X5_lays hz9 hL9 hk) ⟨by decide, by decide⟩ (Nat.le_of_ble_eq_true rfl) dX5_init_194 (fun v9 h9 n9 z9 hq => ?_) (fun _ _ _ _ _ hf => hf.elim)
  obtain ⟨rfl, rfl, rfl, sg92, rfl, hk⟩ := hq
  refine ⟨[], rfl, ?_⟩
  exact r_vret X E (pc := 197) dX5_init_197 ⟨rfl, hk⟩
theorem s_X5_init {K : KT} {l : Launch} {o : Nat} {κ : AH → Nat → Nat → Prop} {χ : QxT} {h : AH} {n : Nat} {z : Nat} (hk : P_X5_init K o κ χ h n z) : Ct K l yX5_init (ws_ yX5_init cX5_init 1 none) 34 748 ([vR (some o)].map cV) h n z (QvV κ) χ :=
  ct_of (by decide +kernel) (Nat.le_of_ble_eq_true rfl) (fun Y X E => w_X5_init X E hk)
set_option maxHeartbeats 4000000 in
theorem w_X5_meanBits_42 {K : KT} {Y : YT} {Qx : QxT} {t n z : Nat} {h0 : AH} {κ : Int → TS → Prop} (X : XY K "TrailMarkersModel" "meanBits" cX5_meanBits (Option.some Jvm.ClassFile.FieldType.int) [] 3 8 199 Y) (E : YE K Y (tQ t h0 n z κ) Qx) (hz : kz K ≤ t) : ∀ (sg : TS) (s0 : Int), P_X5_meanBits_42 κ sg s0 → G K Y (tw t sg h0) n z 42 [(0, vR (some t))] [vI s0] := by
  intro sg s0 hk
  refine r_istore_n X (pc := 42) (lv1 := [(2, vI s0), (0, vR (some t))]) dX5_meanBits_42 rfl (by decide) rfl ?_
  refine r_aload_n X (pc := 43) dX5_meanBits_43 rfl (q := 1) rfl ?_
  refine r_tgI X (pc := 44) (v := sg.1 33) fa_X5_199 (by decide) rfl dX5_meanBits_44 ?_
  obtain ⟨b13, hk⟩ := hk
  refine r_if_eq X (pc := 47) (tgt := 54) dX5_meanBits_47 (by decide) b13 (fun c14 => ?_) (fun c14 => ?_)
  · have hk := hk.1 c14
    refine r_fconst0 X (pc := 54) dX5_meanBits_54 ?_
    refine r_callS X (pc := 55) (As := [vF 0]) (st := []) m_X5_474 (fun _ => s_J26_floatToIntBits hk) ⟨by decide, by decide⟩ (Nat.le_of_ble_eq_true rfl) dX5_meanBits_55 (fun v9 h9 n9 z9 hq => ?_) (fun _ _ _ _ _ hf => hf.elim)
    obtain ⟨r15, rfl, rfl, rfl, rfl, hk⟩ := hq
    refine ⟨[vI r15], rfl, ?_⟩
    exact r_iret X E (pc := 58) dX5_meanBits_58 rfl ⟨_, rfl, rfl, rfl, _, rfl, hk⟩
  · have hk := hk.2 c14
    refine r_iload_n X (pc := 50) dX5_meanBits_50 rfl (q := 0) rfl ?_
    obtain ⟨b16, hk⟩ := hk
    refine r_if_ne X (pc := 51) (tgt := 59) dX5_meanBits_51 (by decide) b16 (fun c17 => ?_) (fun c17 => ?_)
    · have hk := hk.2 c17
      refine r_aload_n X (pc := 59) dX5_meanBits_59 rfl (q := 1) rfl ?_
      refine r_tgI X (pc := 60) (v := sg.1 33) fa_X5_199 (by decide) rfl dX5_meanBits_60 ?_
      refine r_iconst X (pc := 63) dX5_meanBits_63 ?_
      refine r_isub X (pc := 64) dX5_meanBits_64 ?_
      refine r_i2f X (pc := 65) dX5_meanBits_65 ?_
      refine r_iload_n X (pc := 66) dX5_meanBits_66 rfl (q := 0) rfl ?_
      refine r_i2f X (pc := 67) dX5_meanBits_67 ?_
      obtain ⟨b18, hk⟩ := hk
      refine r_fdiv X (pc := 68) dX5_meanBits_68 b18 ?_
      refine r_callS X (pc := 69) (As := [vF (FP.fdiv (i2f ((sg.1 33) - 1)) (i2f s0))]) (st := []) m_X5_474 (fun _ => s_J26_floatToIntBits hk) ⟨by decide, by decide⟩ (Nat.le_of_ble_eq_true rfl) dX5_meanBits_69 (fun v9 h9 n9 z9 hq => ?_) (fun _ _ _ _ _ hf => hf.elim)
      obtain ⟨r19, rfl, rfl, rfl, rfl, hk⟩ := hq
      refine ⟨[vI r19], rfl, ?_⟩
      exact r_iret X E (pc := 72) dX5_meanBits_72 rfl ⟨_, rfl, rfl, rfl, _, rfl, hk⟩
    · have hk := hk.1 c17
      refine r_fconst0 X (pc := 54) dX5_meanBits_54 ?_
      refine r_callS X (pc := 55) (As := [vF 0]) (st := []) m_X5_474 (fun _ => s_J26_floatToIntBits hk) ⟨by decide, by decide⟩ (Nat.le_of_ble_eq_true rfl) dX5_meanBits_55 (fun v9 h9 n9 z9 hq => ?_) (fun _ _ _ _ _ hf => hf.elim)
      obtain ⟨r20, rfl, rfl, rfl, rfl, hk⟩ := hq
      refine ⟨[vI r20], rfl, ?_⟩
      exact r_iret X E (pc := 58) dX5_meanBits_58 rfl ⟨_, rfl, rfl, rfl, _, rfl, hk⟩
set_option maxHeartbeats 4000000 in
theorem w_X5_meanBits {K : KT} {Y : YT} {Qx : QxT} {t n z : Nat} {h0 : AH} {κ : Int → TS → Prop} (X : XY K "TrailMarkersModel" "meanBits" cX5_meanBits (Option.some Jvm.ClassFile.FieldType.int) [] 3 8 199 Y) (E : YE K Y (tQ t h0 n z κ) Qx) (hz : kz K ≤ t) {sg : TS} {x1 : Int} (hk : P_X5_meanBits κ sg x1) : G K Y (tw t sg h0) n z 0 (lv_argsA 0 [vR (some t), vI x1]) [] := by
  show G K Y (tw t sg h0) n z 0 [(0, vR (some t)), (1, vI x1)] []
  refine r_aload_n X (pc := 0) dX5_meanBits_0 rfl (q := 0) rfl ?_
  refine r_aload_n X (pc := 1) dX5_meanBits_1 rfl (q := 0) rfl ?_
  refine r_iload_n X (pc := 2) dX5_meanBits_2 rfl (q := 1) rfl ?_
  refine r_callV X (pc := 3) (As := [vI x1]) (st := [vR (some t)]) rfl rfl rfl (tw_t t _ h0) m_X5_417 (fun _ => s_X5_noPost hz hk) ⟨by decide, by decide⟩ (Nat.le_of_ble_eq_true rfl) dX5_meanBits_3 (fun v9 h9 n9 z9 hq => ?_) (fun _ _ _ _ _ hf => hf.elim)
  obtain ⟨r21, rfl, rfl, rfl, sg22, rfl, hk⟩ := hq
  refine ⟨[vI r21], rfl, ?_⟩
  refine r_iconst X (pc := 6) dX5_meanBits_6 ?_
  refine r_iconst X (pc := 7) dX5_meanBits_7 ?_
  refine r_callV X (pc := 8) (As := [vI r21, vI 0, vI 0]) (st := []) rfl rfl rfl (tw_t t _ h0) m_X5_258 (fun _ => s_X5_fails hz hk) ⟨by decide, by decide⟩ (Nat.le_of_ble_eq_true rfl) dX5_meanBits_8 (fun v9 h9 n9 z9 hq => ?_) (fun _ _ _ _ _ hf => hf.elim)
  obtain ⟨r23, rfl, rfl, rfl, sg24, rfl, hk⟩ := hq
  refine ⟨[vI r23], rfl, ?_⟩
  obtain ⟨b25, hk⟩ := hk
  refine r_if_eq X (pc := 11) (tgt := 16) dX5_meanBits_11 (by decide) b25 (fun c26 => ?_) (fun c26 => ?_)
  · have hk := hk.1 c26
    refine r_aload_n X (pc := 16) dX5_meanBits_16 rfl (q := 0) rfl ?_
    refine r_iload_n X (pc := 17) dX5_meanBits_17 rfl (q := 1) rfl ?_
    refine r_callV X (pc := 18) (As := [vI x1]) (st := []) rfl rfl rfl (tw_t t _ h0) m_X5_243 (fun _ => s_X5_walk hz hk) ⟨by decide, by decide⟩ (Nat.le_of_ble_eq_true rfl) dX5_meanBits_18 (fun v9 h9 n9 z9 hq => ?_) (fun _ _ _ _ _ hf => hf.elim)
    obtain ⟨rfl, rfl, rfl, sg27, rfl, hk⟩ := hq
    refine ⟨[], rfl, ?_⟩
    refine r_aload_n X (pc := 21) dX5_meanBits_21 rfl (q := 0) rfl ?_
    refine r_tgI X (pc := 22) (v := sg27.1 36) fa_X5_214 (by decide) rfl dX5_meanBits_22 ?_
    refine r_iconst X (pc := 25) dX5_meanBits_25 ?_
    obtain ⟨b28, hk⟩ := hk
    refine r_icmp_ne X (pc := 26) (tgt := 36) dX5_meanBits_26 (by decide) ⟨b28, (by decide)⟩ (fun c29 => ?_) (fun c29 => ?_)
    · have hk := hk.2 c29
      refine r_aload_n X (pc := 36) dX5_meanBits_36 rfl (q := 0) rfl ?_
      refine r_tgI X (pc := 37) (v := sg27.1 32) fa_X5_208 (by decide) rfl dX5_meanBits_37 ?_
      refine r_iconst X (pc := 40) dX5_meanBits_40 ?_
      refine r_isub X (pc := 41) dX5_meanBits_41 ?_
      refine G.sub [0] rfl ?_
      exact w_X5_meanBits_42 X E hz sg27 ((sg27.1 32) - 1) hk
    · have hk := hk.1 c29
      refine r_aload_n X (pc := 29) dX5_meanBits_29 rfl (q := 0) rfl ?_
      refine r_tgI X (pc := 30) (v := sg27.1 32) fa_X5_208 (by decide) rfl dX5_meanBits_30 ?_
      refine r_goto X (pc := 33) (tgt := 42) dX5_meanBits_33 (by decide) ?_
      refine G.sub [0] rfl ?_
      exact w_X5_meanBits_42 X E hz sg27 (sg27.1 32) hk
  · have hk := hk.2 c26
    refine r_iconst X (pc := 14) dX5_meanBits_14 ?_
    exact r_iret X E (pc := 15) dX5_meanBits_15 rfl ⟨_, rfl, rfl, rfl, _, rfl, hk⟩
theorem s_X5_meanBits {K : KT} {l : Launch} {t n z : Nat} {h0 : AH} {κ : Int → TS → Prop} (hz : kz K ≤ t) {sg : TS} {x1 : Int} (hk : P_X5_meanBits κ sg x1) : Ct K l yX5_meanBits (ws_ yX5_meanBits cX5_meanBits 3 (Option.some Jvm.ClassFile.FieldType.int)) 8 199 ([vR (some t), vI x1].map cV) (tw t sg h0) n z (tQ t h0 n z κ) noX :=
  ct_of (by decide +kernel) (Nat.le_of_ble_eq_true rfl) (fun Y X E => w_X5_meanBits X E hz hk)
set_option maxHeartbeats 4000000 in
theorem w_X0_truncate {K : KT} {Y : YT} {κ : Int → AH → Nat → Nat → Prop} {χ : QxT} (X : XY K "TrailMarkersLaw" "truncate" cX0_truncate (Option.some Jvm.ClassFile.FieldType.int) (tableOf [((0 : Nat), (9 : Nat), (12 : Nat), (13 : Nat))]) 4 12 324 Y) (E : YE K Y (QvI κ) χ) {h : AH} {n : Nat} {z : Nat} {x0 : Option Nat} {x1 : Int} {x2 : Option Nat} (hk : P_X0_truncate K κ χ h n z x0 x1 x2) : G K Y h n z 0 (lv_argsA 0 [vR x0, vI x1, vR x2]) [] := by
  show G K Y h n z 0 [(0, vR x0), (1, vI x1), (2, vR x2)] []
  refine r_aload_n X (pc := 0) dX0_truncate_0 rfl (q := 2) rfl ?_
  refine r_iconst X (pc := 1) dX0_truncate_1 ?_
  refine r_aload_n X (pc := 2) dX0_truncate_2 rfl (q := 0) rfl ?_
  refine r_iload_n X (pc := 3) dX0_truncate_3 rfl (q := 1) rfl ?_
  obtain ⟨o15, fs16, e9, b17, hk⟩ := hk
  refine r_callV X (pc := 4) (As := [vI x1]) (st := [vI 0, vR x2]) rfl rfl e9 b17 m_X0_7 (fun _ => s_X1_truncate hk) ⟨by decide, by decide⟩ (Nat.le_of_ble_eq_true rfl) dX0_truncate_4 (fun v9 h4 n5 z6 hq => ?_) (fun ci8 q9 h10 n11 z12 hf => ?_)
  · obtain ⟨r3, rfl, hk⟩ := hq
    refine ⟨[vI r3], rfl, ?_⟩
    refine r_i2l X (pc := 7) dX0_truncate_7 ?_
    refine r_hSJ X (pc := 8) dX0_truncate_8 hk (fun h7 hk => ?_)
    refine r_goto X (pc := 9) (tgt := 15) dX0_truncate_9 (by decide) ?_
    refine r_iconst X (pc := 15) dX0_truncate_15 ?_
    exact r_iret X E (pc := 16) dX0_truncate_16 rfl ⟨_, rfl, hk⟩
  · have hk := hf
    by_cases c13 : ci8 = 21
    · replace hk := hk.1 c13
      subst c13
      refine r_catch X (pc := 4) [] ({ startPc := 0, endPc := 9, handlerPc := 12, catchType := 13 } : ExceptionTableEntry) [] rfl (fun _ h9 => nomatch h9) (by decide) (by decide) q1392 co_21_java_lang_IllegalArgumentException ?_
      refine r_astore_n X (pc := 12) (lv1 := [(3, vR (some q9)), (0, vR x0), (1, vI x1), (2, vR x2)]) dX0_truncate_12 rfl (by decide) rfl ?_
      refine r_iconst X (pc := 13) dX0_truncate_13 ?_
      exact r_iret X E (pc := 14) dX0_truncate_14 rfl ⟨_, rfl, hk⟩
    · replace hk := hk.2 c13
      obtain ⟨b14, hk⟩ := hk
      exact r_out X E (List.forall_mem_cons.mpr ⟨Or.inr ⟨by decide, "java/lang/IllegalArgumentException", q1392, cns_java_lang_IllegalArgumentException_22 _ b14⟩, (fun _ h9 => nomatch h9)⟩) hk
theorem s_X0_truncate {K : KT} {l : Launch} {κ : Int → AH → Nat → Nat → Prop} {χ : QxT} {h : AH} {n : Nat} {z : Nat} {x0 : Option Nat} {x1 : Int} {x2 : Option Nat} (hk : P_X0_truncate K κ χ h n z x0 x1 x2) : Ct K l yX0_truncate (wsW_ yX0_truncate cX0_truncate 4 (Option.some Jvm.ClassFile.FieldType.int) [((0 : Nat), (9 : Nat), (12 : Nat), (13 : Nat))]) 12 324 ([vR x0, vI x1, vR x2].map cV) h n z (QvI κ) χ :=
  ct_ofH (by decide +kernel) (Nat.le_of_ble_eq_true rfl) (fun Y X E => w_X0_truncate X E hk)
set_option maxHeartbeats 4000000 in
theorem w_X0_error {K : KT} {Y : YT} {κ : Int → AH → Nat → Nat → Prop} {χ : QxT} (X : XY K "TrailMarkersLaw" "error" cX0_error (Option.some Jvm.ClassFile.FieldType.int) (tableOf [((0 : Nat), (9 : Nat), (12 : Nat), (13 : Nat))]) 4 12 324 Y) (E : YE K Y (QvI κ) χ) {h : AH} {n : Nat} {z : Nat} {x0 : Option Nat} {x1 : Int} {x2 : Option Nat} (hk : P_X0_error K κ χ h n z x0 x1 x2) : G K Y h n z 0 (lv_argsA 0 [vR x0, vI x1, vR x2]) [] := by
  show G K Y h n z 0 [(0, vR x0), (1, vI x1), (2, vR x2)] []
  refine r_aload_n X (pc := 0) dX0_error_0 rfl (q := 2) rfl ?_
  refine r_iconst X (pc := 1) dX0_error_1 ?_
  refine r_aload_n X (pc := 2) dX0_error_2 rfl (q := 0) rfl ?_
  refine r_iload_n X (pc := 3) dX0_error_3 rfl (q := 1) rfl ?_
  obtain ⟨o15, fs16, e9, b17, hk⟩ := hk
  refine r_callV X (pc := 4) (As := [vI x1]) (st := [vI 0, vR x2]) rfl rfl e9 b17 m_X0_15 (fun _ => s_X1_error hk) ⟨by decide, by decide⟩ (Nat.le_of_ble_eq_true rfl) dX0_error_4 (fun v9 h4 n5 z6 hq => ?_) (fun ci8 q9 h10 n11 z12 hf => ?_)
  · obtain ⟨r3, rfl, hk⟩ := hq
    refine ⟨[vI r3], rfl, ?_⟩
    refine r_i2l X (pc := 7) dX0_error_7 ?_
    refine r_hSJ X (pc := 8) dX0_error_8 hk (fun h7 hk => ?_)
    refine r_goto X (pc := 9) (tgt := 15) dX0_error_9 (by decide) ?_
    refine r_iconst X (pc := 15) dX0_error_15 ?_
    exact r_iret X E (pc := 16) dX0_error_16 rfl ⟨_, rfl, hk⟩
  · have hk := hf
    by_cases c13 : ci8 = 21
    · replace hk := hk.1 c13
      subst c13
      refine r_catch X (pc := 4) [] ({ startPc := 0, endPc := 9, handlerPc := 12, catchType := 13 } : ExceptionTableEntry) [] rfl (fun _ h9 => nomatch h9) (by decide) (by decide) q1392 co_21_java_lang_IllegalArgumentException ?_
      refine r_astore_n X (pc := 12) (lv1 := [(3, vR (some q9)), (0, vR x0), (1, vI x1), (2, vR x2)]) dX0_error_12 rfl (by decide) rfl ?_
      refine r_iconst X (pc := 13) dX0_error_13 ?_
      exact r_iret X E (pc := 14) dX0_error_14 rfl ⟨_, rfl, hk⟩
    · replace hk := hk.2 c13
      obtain ⟨b14, hk⟩ := hk
      exact r_out X E (List.forall_mem_cons.mpr ⟨Or.inr ⟨by decide, "java/lang/IllegalArgumentException", q1392, cns_java_lang_IllegalArgumentException_22 _ b14⟩, (fun _ h9 => nomatch h9)⟩) hk
theorem s_X0_error {K : KT} {l : Launch} {κ : Int → AH → Nat → Nat → Prop} {χ : QxT} {h : AH} {n : Nat} {z : Nat} {x0 : Option Nat} {x1 : Int} {x2 : Option Nat} (hk : P_X0_error K κ χ h n z x0 x1 x2) : Ct K l yX0_error (wsW_ yX0_error cX0_error 4 (Option.some Jvm.ClassFile.FieldType.int) [((0 : Nat), (9 : Nat), (12 : Nat), (13 : Nat))]) 12 324 ([vR x0, vI x1, vR x2].map cV) h n z (QvI κ) χ :=
  ct_ofH (by decide +kernel) (Nat.le_of_ble_eq_true rfl) (fun Y X E => w_X0_error X E hk)
set_option maxHeartbeats 4000000 in
theorem w_X0_addPost {K : KT} {Y : YT} {κ : Int → AH → Nat → Nat → Prop} {χ : QxT} (X : XY K "TrailMarkersLaw" "addPost" cX0_addPost (Option.some Jvm.ClassFile.FieldType.int) (tableOf [((0 : Nat), (14 : Nat), (17 : Nat), (22 : Nat)), ((0 : Nat), (14 : Nat), (21 : Nat), (13 : Nat)), ((0 : Nat), (14 : Nat), (25 : Nat), (24 : Nat))]) 7 13 351 Y) (E : YE K Y (QvI κ) χ) {h : AH} {n : Nat} {z : Nat} {x0 : Option Nat} {x1 : Int} {x2 : Int} {x3 : Int} {x4 : Int} {x5 : Option Nat} (hk : P_X0_addPost K κ χ h n z x0 x1 x2 x3 x4 x5) : G K Y h n z 0 (lv_argsA 0 [vR x0, vI x1, vI x2, vI x3, vI x4, vR x5]) [] := by
  show G K Y h n z 0 [(0, vR x0), (1, vI x1), (2, vI x2), (3, vI x3), (4, vI x4), (5, vR x5)] []
  refine r_aload X (pc := 0) dX0_addPost_0 (q := 5) rfl ?_
  refine r_iconst X (pc := 2) dX0_addPost_2 ?_
  refine r_aload_n X (pc := 3) dX0_addPost_3 rfl (q := 0) rfl ?_
  refine r_iload_n X (pc := 4) dX0_addPost_4 rfl (q := 1) rfl ?_
  refine r_iload_n X (pc := 5) dX0_addPost_5 rfl (q := 2) rfl ?_
  refine r_iload_n X (pc := 6) dX0_addPost_6 rfl (q := 3) rfl ?_
  refine r_iload X (pc := 7) dX0_addPost_7 (q := 4) rfl ?_
  obtain ⟨o19, fs20, e9, b21, hk⟩ := hk
  refine r_callVX X (pc := 9) (As := [vI x1, vI x2, vI x3, vI x4]) (st := [vI 0, vR x5]) rfl rfl e9 b21 m_X0_18 (fun _ => s_X1_addPost hk) ⟨by decide, by decide⟩ (Nat.le_of_ble_eq_true rfl) dX0_addPost_9 (fun v9 h4 n5 z6 hq => ?_) (fun ci8 q9 h10 n11 z12 hf => ?_)
  · obtain ⟨r3, rfl, hk⟩ := hq
    refine ⟨[vI r3], rfl, ?_⟩
    refine r_i2l X (pc := 12) dX0_addPost_12 ?_
    refine r_hSJ X (pc := 13) dX0_addPost_13 hk (fun h7 hk => ?_)
    refine r_goto X (pc := 14) (tgt := 29) dX0_addPost_14 (by decide) ?_
    refine r_iconst X (pc := 29) dX0_addPost_29 ?_
    exact r_iret X E (pc := 30) dX0_addPost_30 rfl ⟨_, rfl, hk⟩
  · have hk := hf
    by_cases c13 : ci8 = 23
    · replace hk := hk.1 c13
      subst c13
      refine r_catch X (pc := 9) [] ({ startPc := 0, endPc := 14, handlerPc := 17, catchType := 22 } : ExceptionTableEntry) [({ startPc := 0, endPc := 14, handlerPc := 21, catchType := 13 } : ExceptionTableEntry), ({ startPc := 0, endPc := 14, handlerPc := 25, catchType := 24 } : ExceptionTableEntry)] rfl (fun _ h9 => nomatch h9) (by decide) (by decide) q1419 co_23_java_lang_IndexOutOfBoundsException ?_
      refine r_astore X (pc := 17) (lv1 := [(6, vR (some q9)), (0, vR x0), (1, vI x1), (2, vI x2), (3, vI x3), (4, vI x4), (5, vR x5)]) dX0_addPost_17 (by decide) rfl ?_
      refine r_iconst X (pc := 19) dX0_addPost_19 ?_
      exact r_iret X E (pc := 20) dX0_addPost_20 rfl ⟨_, rfl, hk⟩
    · replace hk := hk.2 c13
      obtain ⟨b14, hk⟩ := hk
      by_cases c15 : ci8 = 21
      · replace hk := hk.1 c15
        subst c15
        refine r_catch X (pc := 9) [({ startPc := 0, endPc := 14, handlerPc := 17, catchType := 22 } : ExceptionTableEntry)] ({ startPc := 0, endPc := 14, handlerPc := 21, catchType := 13 } : ExceptionTableEntry) [({ startPc := 0, endPc := 14, handlerPc := 25, catchType := 24 } : ExceptionTableEntry)] rfl (List.forall_mem_cons.mpr ⟨Or.inr ⟨by decide, "java/lang/IndexOutOfBoundsException", q1419, cns_java_lang_IndexOutOfBoundsException_21_22 _ b14⟩, (fun _ h9 => nomatch h9)⟩) (by decide) (by decide) q1392 co_21_java_lang_IllegalArgumentException ?_
        refine r_astore X (pc := 21) (lv1 := [(6, vR (some q9)), (0, vR x0), (1, vI x1), (2, vI x2), (3, vI x3), (4, vI x4), (5, vR x5)]) dX0_addPost_21 (by decide) rfl ?_
        refine r_iconst X (pc := 23) dX0_addPost_23 ?_
        exact r_iret X E (pc := 24) dX0_addPost_24 rfl ⟨_, rfl, hk⟩
      · replace hk := hk.2 c15
        obtain ⟨b16, hk⟩ := hk
        by_cases c17 : ci8 = 22
        · replace hk := hk.1 c17
          subst c17
          refine r_catch X (pc := 9) [({ startPc := 0, endPc := 14, handlerPc := 17, catchType := 22 } : ExceptionTableEntry), ({ startPc := 0, endPc := 14, handlerPc := 21, catchType := 13 } : ExceptionTableEntry)] ({ startPc := 0, endPc := 14, handlerPc := 25, catchType := 24 } : ExceptionTableEntry) [] rfl (List.forall_mem_cons.mpr ⟨Or.inr ⟨by decide, "java/lang/IndexOutOfBoundsException", q1419, cns_java_lang_IndexOutOfBoundsException_21_22 _ b14⟩, (List.forall_mem_cons.mpr ⟨Or.inr ⟨by decide, "java/lang/IllegalArgumentException", q1392, cns_java_lang_IllegalArgumentException_22 _ b16⟩, (fun _ h9 => nomatch h9)⟩)⟩) (by decide) (by decide) q1438 co_22_java_lang_IllegalStateException ?_
          refine r_astore X (pc := 25) (lv1 := [(6, vR (some q9)), (0, vR x0), (1, vI x1), (2, vI x2), (3, vI x3), (4, vI x4), (5, vR x5)]) dX0_addPost_25 (by decide) rfl ?_
          refine r_iconst X (pc := 27) dX0_addPost_27 ?_
          exact r_iret X E (pc := 28) dX0_addPost_28 rfl ⟨_, rfl, hk⟩
        · replace hk := hk.2 c17
          obtain ⟨b18, hk⟩ := hk
          exact r_out X E (List.forall_mem_cons.mpr ⟨Or.inr ⟨by decide, "java/lang/IndexOutOfBoundsException", q1419, cns_java_lang_IndexOutOfBoundsException_21_22 _ b14⟩, (List.forall_mem_cons.mpr ⟨Or.inr ⟨by decide, "java/lang/IllegalArgumentException", q1392, cns_java_lang_IllegalArgumentException_22 _ b16⟩, (List.forall_mem_cons.mpr ⟨Or.inr ⟨by decide, "java/lang/IllegalStateException", q1438, cns_java_lang_IllegalStateException_ _ b18⟩, (fun _ h9 => nomatch h9)⟩)⟩)⟩) hk
theorem s_X0_addPost {K : KT} {l : Launch} {κ : Int → AH → Nat → Nat → Prop} {χ : QxT} {h : AH} {n : Nat} {z : Nat} {x0 : Option Nat} {x1 : Int} {x2 : Int} {x3 : Int} {x4 : Int} {x5 : Option Nat} (hk : P_X0_addPost K κ χ h n z x0 x1 x2 x3 x4 x5) : Ct K l yX0_addPost (wsW_ yX0_addPost cX0_addPost 7 (Option.some Jvm.ClassFile.FieldType.int) [((0 : Nat), (14 : Nat), (17 : Nat), (22 : Nat)), ((0 : Nat), (14 : Nat), (21 : Nat), (13 : Nat)), ((0 : Nat), (14 : Nat), (25 : Nat), (24 : Nat))]) 13 351 ([vR x0, vI x1, vI x2, vI x3, vI x4, vR x5].map cV) h n z (QvI κ) χ :=
  ct_ofH (by decide +kernel) (Nat.le_of_ble_eq_true rfl) (fun Y X E => w_X0_addPost X E hk)
set_option maxHeartbeats 4000000 in
theorem w_X0_dropPost {K : KT} {Y : YT} {κ : Int → AH → Nat → Nat → Prop} {χ : QxT} (X : XY K "TrailMarkersLaw" "dropPost" cX0_dropPost (Option.some Jvm.ClassFile.FieldType.int) (tableOf [((0 : Nat), (9 : Nat), (12 : Nat), (22 : Nat))]) 4 12 322 Y) (E : YE K Y (QvI κ) χ) {h : AH} {n : Nat} {z : Nat} {x0 : Option Nat} {x1 : Int} {x2 : Option Nat} (hk : P_X0_dropPost K κ χ h n z x0 x1 x2) : G K Y h n z 0 (lv_argsA 0 [vR x0, vI x1, vR x2]) [] := by
  show G K Y h n z 0 [(0, vR x0), (1, vI x1), (2, vR x2)] []
  refine r_aload_n X (pc := 0) dX0_dropPost_0 rfl (q := 2) rfl ?_
  refine r_iconst X (pc := 1) dX0_dropPost_1 ?_
  refine r_aload_n X (pc := 2) dX0_dropPost_2 rfl (q := 0) rfl ?_
  refine r_iload_n X (pc := 3) dX0_dropPost_3 rfl (q := 1) rfl ?_
  obtain ⟨o15, fs16, e9, b17, hk⟩ := hk
  refine r_callV X (pc := 4) (As := [vI x1]) (st := [vI 0, vR x2]) rfl rfl e9 b17 m_X0_26 (fun _ => s_X1_dropPost hk) ⟨by decide, by decide⟩ (Nat.le_of_ble_eq_true rfl) dX0_dropPost_4 (fun v9 h4 n5 z6 hq => ?_) (fun ci8 q9 h10 n11 z12 hf => ?_)
  · obtain ⟨r3, rfl, hk⟩ := hq
    refine ⟨[vI r3], rfl, ?_⟩
    refine r_i2l X (pc := 7) dX0_dropPost_7 ?_
    refine r_hSJ X (pc := 8) dX0_dropPost_8 hk (fun h7 hk => ?_)
    refine r_goto X (pc := 9) (tgt := 15) dX0_dropPost_9 (by decide) ?_
    refine r_iconst X (pc := 15) dX0_dropPost_15 ?_
    exact r_iret X E (pc := 16) dX0_dropPost_16 rfl ⟨_, rfl, hk⟩
  · have hk := hf
    by_cases c13 : ci8 = 23
    · replace hk := hk.1 c13
      subst c13
      refine r_catch X (pc := 4) [] ({ startPc := 0, endPc := 9, handlerPc := 12, catchType := 22 } : ExceptionTableEntry) [] rfl (fun _ h9 => nomatch h9) (by decide) (by decide) q1419 co_23_java_lang_IndexOutOfBoundsException ?_
      refine r_astore_n X (pc := 12) (lv1 := [(3, vR (some q9)), (0, vR x0), (1, vI x1), (2, vR x2)]) dX0_dropPost_12 rfl (by decide) rfl ?_
      refine r_iconst X (pc := 13) dX0_dropPost_13 ?_
      exact r_iret X E (pc := 14) dX0_dropPost_14 rfl ⟨_, rfl, hk⟩
    · replace hk := hk.2 c13
      obtain ⟨b14, hk⟩ := hk
      exact r_out X E (List.forall_mem_cons.mpr ⟨Or.inr ⟨by decide, "java/lang/IndexOutOfBoundsException", q1419, cns_java_lang_IndexOutOfBoundsException_21_22 _ b14⟩, (fun _ h9 => nomatch h9)⟩) hk
theorem s_X0_dropPost {K : KT} {l : Launch} {κ : Int → AH → Nat → Nat → Prop} {χ : QxT} {h : AH} {n : Nat} {z : Nat} {x0 : Option Nat} {x1 : Int} {x2 : Option Nat} (hk : P_X0_dropPost K κ χ h n z x0 x1 x2) : Ct K l yX0_dropPost (wsW_ yX0_dropPost cX0_dropPost 4 (Option.some Jvm.ClassFile.FieldType.int) [((0 : Nat), (9 : Nat), (12 : Nat), (22 : Nat))]) 12 322 ([vR x0, vI x1, vR x2].map cV) h n z (QvI κ) χ :=
  ct_ofH (by decide +kernel) (Nat.le_of_ble_eq_true rfl) (fun Y X E => w_X0_dropPost X E hk)
set_option maxHeartbeats 4000000 in
theorem w_X0_turn {K : KT} {Y : YT} {κ : Int → AH → Nat → Nat → Prop} {χ : QxT} (X : XY K "TrailMarkersLaw" "turn" cX0_turn (Option.some Jvm.ClassFile.FieldType.int) (tableOf [((0 : Nat), (10 : Nat), (13 : Nat), (22 : Nat)), ((0 : Nat), (10 : Nat), (17 : Nat), (13 : Nat))]) 5 12 326 Y) (E : YE K Y (QvI κ) χ) {h : AH} {n : Nat} {z : Nat} {x0 : Option Nat} {x1 : Int} {x2 : Int} {x3 : Option Nat} (hk : P_X0_turn K κ χ h n z x0 x1 x2 x3) : G K Y h n z 0 (lv_argsA 0 [vR x0, vI x1, vI x2, vR x3]) [] := by
  show G K Y h n z 0 [(0, vR x0), (1, vI x1), (2, vI x2), (3, vR x3)] []
  refine r_aload_n X (pc := 0) dX0_turn_0 rfl (q := 3) rfl ?_
  refine r_iconst X (pc := 1) dX0_turn_1 ?_
  refine r_aload_n X (pc := 2) dX0_turn_2 rfl (q := 0) rfl ?_
  refine r_iload_n X (pc := 3) dX0_turn_3 rfl (q := 1) rfl ?_
  refine r_iload_n X (pc := 4) dX0_turn_4 rfl (q := 2) rfl ?_
  obtain ⟨o17, fs18, e9, b19, hk⟩ := hk
  refine r_callV X (pc := 5) (As := [vI x1, vI x2]) (st := [vI 0, vR x3]) rfl rfl e9 b19 m_X0_29 (fun _ => s_X1_turn hk) ⟨by decide, by decide⟩ (Nat.le_of_ble_eq_true rfl) dX0_turn_5 (fun v9 h4 n5 z6 hq => ?_) (fun ci8 q9 h10 n11 z12 hf => ?_)
  · obtain ⟨r3, rfl, hk⟩ := hq
    refine ⟨[vI r3], rfl, ?_⟩
    refine r_i2l X (pc := 8) dX0_turn_8 ?_
    refine r_hSJ X (pc := 9) dX0_turn_9 hk (fun h7 hk => ?_)
    refine r_goto X (pc := 10) (tgt := 21) dX0_turn_10 (by decide) ?_
    refine r_iconst X (pc := 21) dX0_turn_21 ?_
    exact r_iret X E (pc := 22) dX0_turn_22 rfl ⟨_, rfl, hk⟩
  · have hk := hf
    by_cases c13 : ci8 = 23
    · replace hk := hk.1 c13
      subst c13
      refine r_catch X (pc := 5) [] ({ startPc := 0, endPc := 10, handlerPc := 13, catchType := 22 } : ExceptionTableEntry) [({ startPc := 0, endPc := 10, handlerPc := 17, catchType := 13 } : ExceptionTableEntry)] rfl (fun _ h9 => nomatch h9) (by decide) (by decide) q1419 co_23_java_lang_IndexOutOfBoundsException ?_
      refine r_astore X (pc := 13) (lv1 := [(4, vR (some q9)), (0, vR x0), (1, vI x1), (2, vI x2), (3, vR x3)]) dX0_turn_13 (by decide) rfl ?_
      refine r_iconst X (pc := 15) dX0_turn_15 ?_
      exact r_iret X E (pc := 16) dX0_turn_16 rfl ⟨_, rfl, hk⟩
    · replace hk := hk.2 c13
      obtain ⟨b14, hk⟩ := hk
      by_cases c15 : ci8 = 21
      · replace hk := hk.1 c15
        subst c15
        refine r_catch X (pc := 5) [({ startPc := 0, endPc := 10, handlerPc := 13, catchType := 22 } : ExceptionTableEntry)] ({ startPc := 0, endPc := 10, handlerPc := 17, catchType := 13 } : ExceptionTableEntry) [] rfl (List.forall_mem_cons.mpr ⟨Or.inr ⟨by decide, "java/lang/IndexOutOfBoundsException", q1419, cns_java_lang_IndexOutOfBoundsException_21_22 _ b14⟩, (fun _ h9 => nomatch h9)⟩) (by decide) (by decide) q1392 co_21_java_lang_IllegalArgumentException ?_
        refine r_astore X (pc := 17) (lv1 := [(4, vR (some q9)), (0, vR x0), (1, vI x1), (2, vI x2), (3, vR x3)]) dX0_turn_17 (by decide) rfl ?_
        refine r_iconst X (pc := 19) dX0_turn_19 ?_
        exact r_iret X E (pc := 20) dX0_turn_20 rfl ⟨_, rfl, hk⟩
      · replace hk := hk.2 c15
        obtain ⟨b16, hk⟩ := hk
        exact r_out X E (List.forall_mem_cons.mpr ⟨Or.inr ⟨by decide, "java/lang/IndexOutOfBoundsException", q1419, cns_java_lang_IndexOutOfBoundsException_21_22 _ b14⟩, (List.forall_mem_cons.mpr ⟨Or.inr ⟨by decide, "java/lang/IllegalArgumentException", q1392, cns_java_lang_IllegalArgumentException_22 _ b16⟩, (fun _ h9 => nomatch h9)⟩)⟩) hk
theorem s_X0_turn {K : KT} {l : Launch} {κ : Int → AH → Nat → Nat → Prop} {χ : QxT} {h : AH} {n : Nat} {z : Nat} {x0 : Option Nat} {x1 : Int} {x2 : Int} {x3 : Option Nat} (hk : P_X0_turn K κ χ h n z x0 x1 x2 x3) : Ct K l yX0_turn (wsW_ yX0_turn cX0_turn 5 (Option.some Jvm.ClassFile.FieldType.int) [((0 : Nat), (10 : Nat), (13 : Nat), (22 : Nat)), ((0 : Nat), (10 : Nat), (17 : Nat), (13 : Nat))]) 12 326 ([vR x0, vI x1, vI x2, vR x3].map cV) h n z (QvI κ) χ :=
  ct_ofH (by decide +kernel) (Nat.le_of_ble_eq_true rfl) (fun Y X E => w_X0_turn X E hk)
set_option maxHeartbeats 4000000 in
theorem w_X0_lose {K : KT} {Y : YT} {κ : Int → AH → Nat → Nat → Prop} {χ : QxT} (X : XY K "TrailMarkersLaw" "lose" cX0_lose (Option.some Jvm.ClassFile.FieldType.int) (tableOf [((0 : Nat), (9 : Nat), (12 : Nat), (22 : Nat)), ((0 : Nat), (9 : Nat), (15 : Nat), (24 : Nat))]) 4 13 347 Y) (E : YE K Y (QvI κ) χ) {h : AH} {n : Nat} {z : Nat} {x0 : Option Nat} {x1 : Int} {x2 : Option Nat} (hk : P_X0_lose K κ χ h n z x0 x1 x2) : G K Y h n z 0 (lv_argsA 0 [vR x0, vI x1, vR x2]) [] := by
  show G K Y h n z 0 [(0, vR x0), (1, vI x1), (2, vR x2)] []
  refine r_aload_n X (pc := 0) dX0_lose_0 rfl (q := 2) rfl ?_
  refine r_iconst X (pc := 1) dX0_lose_1 ?_
  refine r_aload_n X (pc := 2) dX0_lose_2 rfl (q := 0) rfl ?_
  refine r_iload_n X (pc := 3) dX0_lose_3 rfl (q := 1) rfl ?_
  obtain ⟨o17, fs18, e9, b19, hk⟩ := hk
  refine r_callV X (pc := 4) (As := [vI x1]) (st := [vI 0, vR x2]) rfl rfl e9 b19 m_X0_33 (fun _ => s_X1_lose hk) ⟨by decide, by decide⟩ (Nat.le_of_ble_eq_true rfl) dX0_lose_4 (fun v9 h4 n5 z6 hq => ?_) (fun ci8 q9 h10 n11 z12 hf => ?_)
  · obtain ⟨r3, rfl, hk⟩ := hq
    refine ⟨[vI r3], rfl, ?_⟩
    refine r_i2l X (pc := 7) dX0_lose_7 ?_
    refine r_hSJ X (pc := 8) dX0_lose_8 hk (fun h7 hk => ?_)
    refine r_goto X (pc := 9) (tgt := 18) dX0_lose_9 (by decide) ?_
    refine r_iconst X (pc := 18) dX0_lose_18 ?_
    exact r_iret X E (pc := 19) dX0_lose_19 rfl ⟨_, rfl, hk⟩
  · have hk := hf
    by_cases c13 : ci8 = 23
    · replace hk := hk.1 c13
      subst c13
      refine r_catch X (pc := 4) [] ({ startPc := 0, endPc := 9, handlerPc := 12, catchType := 22 } : ExceptionTableEntry) [({ startPc := 0, endPc := 9, handlerPc := 15, catchType := 24 } : ExceptionTableEntry)] rfl (fun _ h9 => nomatch h9) (by decide) (by decide) q1419 co_23_java_lang_IndexOutOfBoundsException ?_
      refine r_astore_n X (pc := 12) (lv1 := [(3, vR (some q9)), (0, vR x0), (1, vI x1), (2, vR x2)]) dX0_lose_12 rfl (by decide) rfl ?_
      refine r_iconst X (pc := 13) dX0_lose_13 ?_
      exact r_iret X E (pc := 14) dX0_lose_14 rfl ⟨_, rfl, hk⟩
    · replace hk := hk.2 c13
      obtain ⟨b14, hk⟩ := hk
      by_cases c15 : ci8 = 22
      · replace hk := hk.1 c15
        subst c15
        refine r_catch X (pc := 4) [({ startPc := 0, endPc := 9, handlerPc := 12, catchType := 22 } : ExceptionTableEntry)] ({ startPc := 0, endPc := 9, handlerPc := 15, catchType := 24 } : ExceptionTableEntry) [] rfl (List.forall_mem_cons.mpr ⟨Or.inr ⟨by decide, "java/lang/IndexOutOfBoundsException", q1419, cns_java_lang_IndexOutOfBoundsException_21_22 _ b14⟩, (fun _ h9 => nomatch h9)⟩) (by decide) (by decide) q1438 co_22_java_lang_IllegalStateException ?_
        refine r_astore_n X (pc := 15) (lv1 := [(3, vR (some q9)), (0, vR x0), (1, vI x1), (2, vR x2)]) dX0_lose_15 rfl (by decide) rfl ?_
        refine r_iconst X (pc := 16) dX0_lose_16 ?_
        exact r_iret X E (pc := 17) dX0_lose_17 rfl ⟨_, rfl, hk⟩
      · replace hk := hk.2 c15
        obtain ⟨b16, hk⟩ := hk
        exact r_out X E (List.forall_mem_cons.mpr ⟨Or.inr ⟨by decide, "java/lang/IndexOutOfBoundsException", q1419, cns_java_lang_IndexOutOfBoundsException_21_22 _ b14⟩, (List.forall_mem_cons.mpr ⟨Or.inr ⟨by decide, "java/lang/IllegalStateException", q1438, cns_java_lang_IllegalStateException_ _ b16⟩, (fun _ h9 => nomatch h9)⟩)⟩) hk
theorem s_X0_lose {K : KT} {l : Launch} {κ : Int → AH → Nat → Nat → Prop} {χ : QxT} {h : AH} {n : Nat} {z : Nat} {x0 : Option Nat} {x1 : Int} {x2 : Option Nat} (hk : P_X0_lose K κ χ h n z x0 x1 x2) : Ct K l yX0_lose (wsW_ yX0_lose cX0_lose 4 (Option.some Jvm.ClassFile.FieldType.int) [((0 : Nat), (9 : Nat), (12 : Nat), (22 : Nat)), ((0 : Nat), (9 : Nat), (15 : Nat), (24 : Nat))]) 13 347 ([vR x0, vI x1, vR x2].map cV) h n z (QvI κ) χ :=
  ct_ofH (by decide +kernel) (Nat.le_of_ble_eq_true rfl) (fun Y X E => w_X0_lose X E hk)
set_option maxHeartbeats 4000000 in
theorem w_X0_mend {K : KT} {Y : YT} {κ : Int → AH → Nat → Nat → Prop} {χ : QxT} (X : XY K "TrailMarkersLaw" "mend" cX0_mend (Option.some Jvm.ClassFile.FieldType.int) (tableOf [((0 : Nat), (9 : Nat), (12 : Nat), (22 : Nat)), ((0 : Nat), (9 : Nat), (15 : Nat), (24 : Nat))]) 4 13 347 Y) (E : YE K Y (QvI κ) χ) {h : AH} {n : Nat} {z : Nat} {x0 : Option Nat} {x1 : Int} {x2 : Option Nat} (hk : P_X0_mend K κ χ h n z x0 x1 x2) : G K Y h n z 0 (lv_argsA 0 [vR x0, vI x1, vR x2]) [] := by
  show G K Y h n z 0 [(0, vR x0), (1, vI x1), (2, vR x2)] []
  refine r_aload_n X (pc := 0) dX0_mend_0 rfl (q := 2) rfl ?_
  refine r_iconst X (pc := 1) dX0_mend_1 ?_
  refine r_aload_n X (pc := 2) dX0_mend_2 rfl (q := 0) rfl ?_
  refine r_iload_n X (pc := 3) dX0_mend_3 rfl (q := 1) rfl ?_
  obtain ⟨o17, fs18, e9, b19, hk⟩ := hk
  refine r_callV X (pc := 4) (As := [vI x1]) (st := [vI 0, vR x2]) rfl rfl e9 b19 m_X0_36 (fun _ => s_X1_mend hk) ⟨by decide, by decide⟩ (Nat.le_of_ble_eq_true rfl) dX0_mend_4 (fun v9 h4 n5 z6 hq => ?_) (fun ci8 q9 h10 n11 z12 hf => ?_)
  · obtain ⟨r3, rfl, hk⟩ := hq
    refine ⟨[vI r3], rfl, ?_⟩
    refine r_i2l X (pc := 7) dX0_mend_7 ?_
    refine r_hSJ X (pc := 8) dX0_mend_8 hk (fun h7 hk => ?_)
    refine r_goto X (pc := 9) (tgt := 18) dX0_mend_9 (by decide) ?_
    refine r_iconst X (pc := 18) dX0_mend_18 ?_
    exact r_iret X E (pc := 19) dX0_mend_19 rfl ⟨_, rfl, hk⟩
  · have hk := hf
    by_cases c13 : ci8 = 23
    · replace hk := hk.1 c13
      subst c13
      refine r_catch X (pc := 4) [] ({ startPc := 0, endPc := 9, handlerPc := 12, catchType := 22 } : ExceptionTableEntry) [({ startPc := 0, endPc := 9, handlerPc := 15, catchType := 24 } : ExceptionTableEntry)] rfl (fun _ h9 => nomatch h9) (by decide) (by decide) q1419 co_23_java_lang_IndexOutOfBoundsException ?_
      refine r_astore_n X (pc := 12) (lv1 := [(3, vR (some q9)), (0, vR x0), (1, vI x1), (2, vR x2)]) dX0_mend_12 rfl (by decide) rfl ?_
      refine r_iconst X (pc := 13) dX0_mend_13 ?_
      exact r_iret X E (pc := 14) dX0_mend_14 rfl ⟨_, rfl, hk⟩
    · replace hk := hk.2 c13
      obtain ⟨b14, hk⟩ := hk
      by_cases c15 : ci8 = 22
      · replace hk := hk.1 c15
        subst c15
        refine r_catch X (pc := 4) [({ startPc := 0, endPc := 9, handlerPc := 12, catchType := 22 } : ExceptionTableEntry)] ({ startPc := 0, endPc := 9, handlerPc := 15, catchType := 24 } : ExceptionTableEntry) [] rfl (List.forall_mem_cons.mpr ⟨Or.inr ⟨by decide, "java/lang/IndexOutOfBoundsException", q1419, cns_java_lang_IndexOutOfBoundsException_21_22 _ b14⟩, (fun _ h9 => nomatch h9)⟩) (by decide) (by decide) q1438 co_22_java_lang_IllegalStateException ?_
        refine r_astore_n X (pc := 15) (lv1 := [(3, vR (some q9)), (0, vR x0), (1, vI x1), (2, vR x2)]) dX0_mend_15 rfl (by decide) rfl ?_
        refine r_iconst X (pc := 16) dX0_mend_16 ?_
        exact r_iret X E (pc := 17) dX0_mend_17 rfl ⟨_, rfl, hk⟩
      · replace hk := hk.2 c15
        obtain ⟨b16, hk⟩ := hk
        exact r_out X E (List.forall_mem_cons.mpr ⟨Or.inr ⟨by decide, "java/lang/IndexOutOfBoundsException", q1419, cns_java_lang_IndexOutOfBoundsException_21_22 _ b14⟩, (List.forall_mem_cons.mpr ⟨Or.inr ⟨by decide, "java/lang/IllegalStateException", q1438, cns_java_lang_IllegalStateException_ _ b16⟩, (fun _ h9 => nomatch h9)⟩)⟩) hk
theorem s_X0_mend {K : KT} {l : Launch} {κ : Int → AH → Nat → Nat → Prop} {χ : QxT} {h : AH} {n : Nat} {z : Nat} {x0 : Option Nat} {x1 : Int} {x2 : Option Nat} (hk : P_X0_mend K κ χ h n z x0 x1 x2) : Ct K l yX0_mend (wsW_ yX0_mend cX0_mend 4 (Option.some Jvm.ClassFile.FieldType.int) [((0 : Nat), (9 : Nat), (12 : Nat), (22 : Nat)), ((0 : Nat), (9 : Nat), (15 : Nat), (24 : Nat))]) 13 347 ([vR x0, vI x1, vR x2].map cV) h n z (QvI κ) χ :=
  ct_ofH (by decide +kernel) (Nat.le_of_ble_eq_true rfl) (fun Y X E => w_X0_mend X E hk)
set_option maxHeartbeats 4000000 in
theorem w_X0_setBlock {K : KT} {Y : YT} {κ : Int → AH → Nat → Nat → Prop} {χ : QxT} (X : XY K "TrailMarkersLaw" "setBlock" cX0_setBlock (Option.some Jvm.ClassFile.FieldType.int) (tableOf [((0 : Nat), (12 : Nat), (15 : Nat), (13 : Nat)), ((0 : Nat), (12 : Nat), (19 : Nat), (24 : Nat))]) 6 13 350 Y) (E : YE K Y (QvI κ) χ) {h : AH} {n : Nat} {z : Nat} {x0 : Option Nat} {x1 : Int} {x2 : Int} {x3 : Int} {x4 : Option Nat} (hk : P_X0_setBlock K κ χ h n z x0 x1 x2 x3 x4) : G K Y h n z 0 (lv_argsA 0 [vR x0, vI x1, vI x2, vI x3, vR x4]) [] := by
  show G K Y h n z 0 [(0, vR x0), (1, vI x1), (2, vI x2), (3, vI x3), (4, vR x4)] []
  refine r_aload X (pc := 0) dX0_setBlock_0 (q := 4) rfl ?_
  refine r_iconst X (pc := 2) dX0_setBlock_2 ?_
  refine r_aload_n X (pc := 3) dX0_setBlock_3 rfl (q := 0) rfl ?_
  refine r_iload_n X (pc := 4) dX0_setBlock_4 rfl (q := 1) rfl ?_
  refine r_iload_n X (pc := 5) dX0_setBlock_5 rfl (q := 2) rfl ?_
  refine r_iload_n X (pc := 6) dX0_setBlock_6 rfl (q := 3) rfl ?_
  obtain ⟨o17, fs18, e9, b19, hk⟩ := hk
  refine r_callVX X (pc := 7) (As := [vI x1, vI x2, vI x3]) (st := [vI 0, vR x4]) rfl rfl e9 b19 m_X0_39 (fun _ => s_X1_setBlock hk) ⟨by decide, by decide⟩ (Nat.le_of_ble_eq_true rfl) dX0_setBlock_7 (fun v9 h4 n5 z6 hq => ?_) (fun ci8 q9 h10 n11 z12 hf => ?_)
  · obtain ⟨r3, rfl, hk⟩ := hq
    refine ⟨[vI r3], rfl, ?_⟩
    refine r_i2l X (pc := 10) dX0_setBlock_10 ?_
    refine r_hSJ X (pc := 11) dX0_setBlock_11 hk (fun h7 hk => ?_)
    refine r_goto X (pc := 12) (tgt := 23) dX0_setBlock_12 (by decide) ?_
    refine r_iconst X (pc := 23) dX0_setBlock_23 ?_
    exact r_iret X E (pc := 24) dX0_setBlock_24 rfl ⟨_, rfl, hk⟩
  · have hk := hf
    by_cases c13 : ci8 = 21
    · replace hk := hk.1 c13
      subst c13
      refine r_catch X (pc := 7) [] ({ startPc := 0, endPc := 12, handlerPc := 15, catchType := 13 } : ExceptionTableEntry) [({ startPc := 0, endPc := 12, handlerPc := 19, catchType := 24 } : ExceptionTableEntry)] rfl (fun _ h9 => nomatch h9) (by decide) (by decide) q1392 co_21_java_lang_IllegalArgumentException ?_
      refine r_astore X (pc := 15) (lv1 := [(5, vR (some q9)), (0, vR x0), (1, vI x1), (2, vI x2), (3, vI x3), (4, vR x4)]) dX0_setBlock_15 (by decide) rfl ?_
      refine r_iconst X (pc := 17) dX0_setBlock_17 ?_
      exact r_iret X E (pc := 18) dX0_setBlock_18 rfl ⟨_, rfl, hk⟩
    · replace hk := hk.2 c13
      obtain ⟨b14, hk⟩ := hk
      by_cases c15 : ci8 = 22
      · replace hk := hk.1 c15
        subst c15
        refine r_catch X (pc := 7) [({ startPc := 0, endPc := 12, handlerPc := 15, catchType := 13 } : ExceptionTableEntry)] ({ startPc := 0, endPc := 12, handlerPc := 19, catchType := 24 } : ExceptionTableEntry) [] rfl (List.forall_mem_cons.mpr ⟨Or.inr ⟨by decide, "java/lang/IllegalArgumentException", q1392, cns_java_lang_IllegalArgumentException_22 _ b14⟩, (fun _ h9 => nomatch h9)⟩) (by decide) (by decide) q1438 co_22_java_lang_IllegalStateException ?_
        refine r_astore X (pc := 19) (lv1 := [(5, vR (some q9)), (0, vR x0), (1, vI x1), (2, vI x2), (3, vI x3), (4, vR x4)]) dX0_setBlock_19 (by decide) rfl ?_
        refine r_iconst X (pc := 21) dX0_setBlock_21 ?_
        exact r_iret X E (pc := 22) dX0_setBlock_22 rfl ⟨_, rfl, hk⟩
      · replace hk := hk.2 c15
        obtain ⟨b16, hk⟩ := hk
        exact r_out X E (List.forall_mem_cons.mpr ⟨Or.inr ⟨by decide, "java/lang/IllegalArgumentException", q1392, cns_java_lang_IllegalArgumentException_22 _ b14⟩, (List.forall_mem_cons.mpr ⟨Or.inr ⟨by decide, "java/lang/IllegalStateException", q1438, cns_java_lang_IllegalStateException_ _ b16⟩, (fun _ h9 => nomatch h9)⟩)⟩) hk
theorem s_X0_setBlock {K : KT} {l : Launch} {κ : Int → AH → Nat → Nat → Prop} {χ : QxT} {h : AH} {n : Nat} {z : Nat} {x0 : Option Nat} {x1 : Int} {x2 : Int} {x3 : Int} {x4 : Option Nat} (hk : P_X0_setBlock K κ χ h n z x0 x1 x2 x3 x4) : Ct K l yX0_setBlock (wsW_ yX0_setBlock cX0_setBlock 6 (Option.some Jvm.ClassFile.FieldType.int) [((0 : Nat), (12 : Nat), (15 : Nat), (13 : Nat)), ((0 : Nat), (12 : Nat), (19 : Nat), (24 : Nat))]) 13 350 ([vR x0, vI x1, vI x2, vI x3, vR x4].map cV) h n z (QvI κ) χ :=
  ct_ofH (by decide +kernel) (Nat.le_of_ble_eq_true rfl) (fun Y X E => w_X0_setBlock X E hk)
set_option maxHeartbeats 4000000 in
theorem w_X0_set {K : KT} {Y : YT} {κ : Int → AH → Nat → Nat → Prop} {χ : QxT} (X : XY K "TrailMarkersLaw" "set" cX0_set (Option.some Jvm.ClassFile.FieldType.int) (tableOf [((0 : Nat), (10 : Nat), (13 : Nat), (13 : Nat))]) 5 12 326 Y) (E : YE K Y (QvI κ) χ) {h : AH} {n : Nat} {z : Nat} {x0 : Option Nat} {x1 : Int} {x2 : Int} {x3 : Option Nat} (hk : P_X0_set K κ χ h n z x0 x1 x2 x3) : G K Y h n z 0 (lv_argsA 0 [vR x0, vI x1, vI x2, vR x3]) [] := by
  show G K Y h n z 0 [(0, vR x0), (1, vI x1), (2, vI x2), (3, vR x3)] []
  refine r_aload_n X (pc := 0) dX0_set_0 rfl (q := 3) rfl ?_
  refine r_iconst X (pc := 1) dX0_set_1 ?_
  refine r_aload_n X (pc := 2) dX0_set_2 rfl (q := 0) rfl ?_
  refine r_iload_n X (pc := 3) dX0_set_3 rfl (q := 1) rfl ?_
  refine r_iload_n X (pc := 4) dX0_set_4 rfl (q := 2) rfl ?_
  obtain ⟨o15, fs16, e9, b17, hk⟩ := hk
  refine r_callV X (pc := 5) (As := [vI x1, vI x2]) (st := [vI 0, vR x3]) rfl rfl e9 b17 m_X0_43 (fun _ => s_X1_set hk) ⟨by decide, by decide⟩ (Nat.le_of_ble_eq_true rfl) dX0_set_5 (fun v9 h4 n5 z6 hq => ?_) (fun ci8 q9 h10 n11 z12 hf => ?_)
  · obtain ⟨r3, rfl, hk⟩ := hq
    refine ⟨[vI r3], rfl, ?_⟩
    refine r_i2l X (pc := 8) dX0_set_8 ?_
    refine r_hSJ X (pc := 9) dX0_set_9 hk (fun h7 hk => ?_)
    refine r_goto X (pc := 10) (tgt := 17) dX0_set_10 (by decide) ?_
    refine r_iconst X (pc := 17) dX0_set_17 ?_
    exact r_iret X E (pc := 18) dX0_set_18 rfl ⟨_, rfl, hk⟩
  · have hk := hf
    by_cases c13 : ci8 = 21
    · replace hk := hk.1 c13
      subst c13
      refine r_catch X (pc := 5) [] ({ startPc := 0, endPc := 10, handlerPc := 13, catchType := 13 } : ExceptionTableEntry) [] rfl (fun _ h9 => nomatch h9) (by decide) (by decide) q1392 co_21_java_lang_IllegalArgumentException ?_
      refine r_astore X (pc := 13) (lv1 := [(4, vR (some q9)), (0, vR x0), (1, vI x1), (2, vI x2), (3, vR x3)]) dX0_set_13 (by decide) rfl ?_
      refine r_iconst X (pc := 15) dX0_set_15 ?_
      exact r_iret X E (pc := 16) dX0_set_16 rfl ⟨_, rfl, hk⟩
    · replace hk := hk.2 c13
      obtain ⟨b14, hk⟩ := hk
      exact r_out X E (List.forall_mem_cons.mpr ⟨Or.inr ⟨by decide, "java/lang/IllegalArgumentException", q1392, cns_java_lang_IllegalArgumentException_22 _ b14⟩, (fun _ h9 => nomatch h9)⟩) hk
theorem s_X0_set {K : KT} {l : Launch} {κ : Int → AH → Nat → Nat → Prop} {χ : QxT} {h : AH} {n : Nat} {z : Nat} {x0 : Option Nat} {x1 : Int} {x2 : Int} {x3 : Option Nat} (hk : P_X0_set K κ χ h n z x0 x1 x2 x3) : Ct K l yX0_set (wsW_ yX0_set cX0_set 5 (Option.some Jvm.ClassFile.FieldType.int) [((0 : Nat), (10 : Nat), (13 : Nat), (13 : Nat))]) 12 326 ([vR x0, vI x1, vI x2, vR x3].map cV) h n z (QvI κ) χ :=
  ct_ofH (by decide +kernel) (Nat.le_of_ble_eq_true rfl) (fun Y X E => w_X0_set X E hk)
set_option maxHeartbeats 4000000 in
theorem w_X0_undo {K : KT} {Y : YT} {κ : Int → AH → Nat → Nat → Prop} {χ : QxT} (X : XY K "TrailMarkersLaw" "undo" cX0_undo (Option.some Jvm.ClassFile.FieldType.int) (tableOf [((0 : Nat), (8 : Nat), (11 : Nat), (24 : Nat))]) 3 11 300 Y) (E : YE K Y (QvI κ) χ) {h : AH} {n : Nat} {z : Nat} {x0 : Option Nat} {x1 : Option Nat} (hk : P_X0_undo K κ χ h n z x0 x1) : G K Y h n z 0 (lv_argsA 0 [vR x0, vR x1]) [] := by
  show G K Y h n z 0 [(0, vR x0), (1, vR x1)] []
  refine r_aload_n X (pc := 0) dX0_undo_0 rfl (q := 1) rfl ?_
  refine r_iconst X (pc := 1) dX0_undo_1 ?_
  refine r_aload_n X (pc := 2) dX0_undo_2 rfl (q := 0) rfl ?_
  obtain ⟨o15, fs16, e9, b17, hk⟩ := hk
  refine r_callV X (pc := 3) (As := []) (st := [vI 0, vR x1]) rfl rfl e9 b17 m_X0_46 (fun _ => s_X1_undo hk) ⟨by decide, by decide⟩ (Nat.le_of_ble_eq_true rfl) dX0_undo_3 (fun v9 h4 n5 z6 hq => ?_) (fun ci8 q9 h10 n11 z12 hf => ?_)
  · obtain ⟨r3, rfl, hk⟩ := hq
    refine ⟨[vI r3], rfl, ?_⟩
    refine r_i2l X (pc := 6) dX0_undo_6 ?_
    refine r_hSJ X (pc := 7) dX0_undo_7 hk (fun h7 hk => ?_)
    refine r_goto X (pc := 8) (tgt := 14) dX0_undo_8 (by decide) ?_
    refine r_iconst X (pc := 14) dX0_undo_14 ?_
    exact r_iret X E (pc := 15) dX0_undo_15 rfl ⟨_, rfl, hk⟩
  · have hk := hf
    by_cases c13 : ci8 = 22
    · replace hk := hk.1 c13
      subst c13
      refine r_catch X (pc := 3) [] ({ startPc := 0, endPc := 8, handlerPc := 11, catchType := 24 } : ExceptionTableEntry) [] rfl (fun _ h9 => nomatch h9) (by decide) (by decide) q1438 co_22_java_lang_IllegalStateException ?_
      refine r_astore_n X (pc := 11) (lv1 := [(2, vR (some q9)), (0, vR x0), (1, vR x1)]) dX0_undo_11 rfl (by decide) rfl ?_
      refine r_iconst X (pc := 12) dX0_undo_12 ?_
      exact r_iret X E (pc := 13) dX0_undo_13 rfl ⟨_, rfl, hk⟩
    · replace hk := hk.2 c13
      obtain ⟨b14, hk⟩ := hk
      exact r_out X E (List.forall_mem_cons.mpr ⟨Or.inr ⟨by decide, "java/lang/IllegalStateException", q1438, cns_java_lang_IllegalStateException_ _ b14⟩, (fun _ h9 => nomatch h9)⟩) hk
theorem s_X0_undo {K : KT} {l : Launch} {κ : Int → AH → Nat → Nat → Prop} {χ : QxT} {h : AH} {n : Nat} {z : Nat} {x0 : Option Nat} {x1 : Option Nat} (hk : P_X0_undo K κ χ h n z x0 x1) : Ct K l yX0_undo (wsW_ yX0_undo cX0_undo 3 (Option.some Jvm.ClassFile.FieldType.int) [((0 : Nat), (8 : Nat), (11 : Nat), (24 : Nat))]) 11 300 ([vR x0, vR x1].map cV) h n z (QvI κ) χ :=
  ct_ofH (by decide +kernel) (Nat.le_of_ble_eq_true rfl) (fun Y X E => w_X0_undo X E hk)
set_option maxHeartbeats 4000000 in
theorem w_X0_save {K : KT} {Y : YT} {κ : Int → AH → Nat → Nat → Prop} {χ : QxT} (X : XY K "TrailMarkersLaw" "save" cX0_save (Option.some Jvm.ClassFile.FieldType.int) (tableOf [((0 : Nat), (9 : Nat), (12 : Nat), (13 : Nat))]) 4 12 324 Y) (E : YE K Y (QvI κ) χ) {h : AH} {n : Nat} {z : Nat} {x0 : Option Nat} {x1 : Int} {x2 : Option Nat} (hk : P_X0_save K κ χ h n z x0 x1 x2) : G K Y h n z 0 (lv_argsA 0 [vR x0, vI x1, vR x2]) [] := by
  show G K Y h n z 0 [(0, vR x0), (1, vI x1), (2, vR x2)] []
  refine r_aload_n X (pc := 0) dX0_save_0 rfl (q := 2) rfl ?_
  refine r_iconst X (pc := 1) dX0_save_1 ?_
  refine r_aload_n X (pc := 2) dX0_save_2 rfl (q := 0) rfl ?_
  refine r_iload_n X (pc := 3) dX0_save_3 rfl (q := 1) rfl ?_
  obtain ⟨o15, fs16, e9, b17, hk⟩ := hk
  refine r_callV X (pc := 4) (As := [vI x1]) (st := [vI 0, vR x2]) rfl rfl e9 b17 m_X0_50 (fun _ => s_X1_save hk) ⟨by decide, by decide⟩ (Nat.le_of_ble_eq_true rfl) dX0_save_4 (fun v9 h4 n5 z6 hq => ?_) (fun ci8 q9 h10 n11 z12 hf => ?_)
  · obtain ⟨r3, rfl, hk⟩ := hq
    refine ⟨[vI r3], rfl, ?_⟩
    refine r_i2l X (pc := 7) dX0_save_7 ?_
    refine r_hSJ X (pc := 8) dX0_save_8 hk (fun h7 hk => ?_)
    refine r_goto X (pc := 9) (tgt := 15) dX0_save_9 (by decide) ?_
    refine r_iconst X (pc := 15) dX0_save_15 ?_
    exact r_iret X E (pc := 16) dX0_save_16 rfl ⟨_, rfl, hk⟩
  · have hk := hf
    by_cases c13 : ci8 = 21
    · replace hk := hk.1 c13
      subst c13
      refine r_catch X (pc := 4) [] ({ startPc := 0, endPc := 9, handlerPc := 12, catchType := 13 } : ExceptionTableEntry) [] rfl (fun _ h9 => nomatch h9) (by decide) (by decide) q1392 co_21_java_lang_IllegalArgumentException ?_
      refine r_astore_n X (pc := 12) (lv1 := [(3, vR (some q9)), (0, vR x0), (1, vI x1), (2, vR x2)]) dX0_save_12 rfl (by decide) rfl ?_
      refine r_iconst X (pc := 13) dX0_save_13 ?_
      exact r_iret X E (pc := 14) dX0_save_14 rfl ⟨_, rfl, hk⟩
    · replace hk := hk.2 c13
      obtain ⟨b14, hk⟩ := hk
      exact r_out X E (List.forall_mem_cons.mpr ⟨Or.inr ⟨by decide, "java/lang/IllegalArgumentException", q1392, cns_java_lang_IllegalArgumentException_22 _ b14⟩, (fun _ h9 => nomatch h9)⟩) hk
theorem s_X0_save {K : KT} {l : Launch} {κ : Int → AH → Nat → Nat → Prop} {χ : QxT} {h : AH} {n : Nat} {z : Nat} {x0 : Option Nat} {x1 : Int} {x2 : Option Nat} (hk : P_X0_save K κ χ h n z x0 x1 x2) : Ct K l yX0_save (wsW_ yX0_save cX0_save 4 (Option.some Jvm.ClassFile.FieldType.int) [((0 : Nat), (9 : Nat), (12 : Nat), (13 : Nat))]) 12 324 ([vR x0, vI x1, vR x2].map cV) h n z (QvI κ) χ :=
  ct_ofH (by decide +kernel) (Nat.le_of_ble_eq_true rfl) (fun Y X E => w_X0_save X E hk)
set_option maxHeartbeats 4000000 in
theorem w_X0_restore {K : KT} {Y : YT} {κ : Int → AH → Nat → Nat → Prop} {χ : QxT} (X : XY K "TrailMarkersLaw" "restore" cX0_restore (Option.some Jvm.ClassFile.FieldType.int) (tableOf [((0 : Nat), (9 : Nat), (12 : Nat), (13 : Nat)), ((0 : Nat), (9 : Nat), (15 : Nat), (24 : Nat))]) 4 12 324 Y) (E : YE K Y (QvI κ) χ) {h : AH} {n : Nat} {z : Nat} {x0 : Option Nat} {x1 : Int} {x2 : Option Nat} (hk : P_X0_restore K κ χ h n z x0 x1 x2) : G K Y h n z 0 (lv_argsA 0 [vR x0, vI x1, vR x2]) [] := by
  show G K Y h n z 0 [(0, vR x0), (1, vI x1), (2, vR x2)] []
  refine r_aload_n X (pc := 0) dX0_restore_0 rfl (q := 2) rfl ?_
  refine r_iconst X (pc := 1) dX0_restore_1 ?_
  refine r_aload_n X (pc := 2) dX0_restore_2 rfl (q := 0) rfl ?_
  refine r_iload_n X (pc := 3) dX0_restore_3 rfl (q := 1) rfl ?_
  obtain ⟨o17, fs18, e9, b19, hk⟩ := hk
  refine r_callV X (pc := 4) (As := [vI x1]) (st := [vI 0, vR x2]) rfl rfl e9 b19 m_X0_53 (fun _ => s_X1_restore hk) ⟨by decide, by decide⟩ (Nat.le_of_ble_eq_true rfl) dX0_restore_4 (fun v9 h4 n5 z6 hq => ?_) (fun ci8 q9 h10 n11 z12 hf => ?_)
  · obtain ⟨r3, rfl, hk⟩ := hq
    refine ⟨[vI r3], rfl, ?_⟩
    refine r_i2l X (pc := 7) dX0_restore_7 ?_
    refine r_hSJ X (pc := 8) dX0_restore_8 hk (fun h7 hk => ?_)
    refine r_goto X (pc := 9) (tgt := 18) dX0_restore_9 (by decide) ?_
    refine r_iconst X (pc := 18) dX0_restore_18 ?_
    exact r_iret X E (pc := 19) dX0_restore_19 rfl ⟨_, rfl, hk⟩
  · have hk := hf
    by_cases c13 : ci8 = 21
    · replace hk := hk.1 c13
      subst c13
      refine r_catch X (pc := 4) [] ({ startPc := 0, endPc := 9, handlerPc := 12, catchType := 13 } : ExceptionTableEntry) [({ startPc := 0, endPc := 9, handlerPc := 15, catchType := 24 } : ExceptionTableEntry)] rfl (fun _ h9 => nomatch h9) (by decide) (by decide) q1392 co_21_java_lang_IllegalArgumentException ?_
      refine r_astore_n X (pc := 12) (lv1 := [(3, vR (some q9)), (0, vR x0), (1, vI x1), (2, vR x2)]) dX0_restore_12 rfl (by decide) rfl ?_
      refine r_iconst X (pc := 13) dX0_restore_13 ?_
      exact r_iret X E (pc := 14) dX0_restore_14 rfl ⟨_, rfl, hk⟩
    · replace hk := hk.2 c13
      obtain ⟨b14, hk⟩ := hk
      by_cases c15 : ci8 = 22
      · replace hk := hk.1 c15
        subst c15
        refine r_catch X (pc := 4) [({ startPc := 0, endPc := 9, handlerPc := 12, catchType := 13 } : ExceptionTableEntry)] ({ startPc := 0, endPc := 9, handlerPc := 15, catchType := 24 } : ExceptionTableEntry) [] rfl (List.forall_mem_cons.mpr ⟨Or.inr ⟨by decide, "java/lang/IllegalArgumentException", q1392, cns_java_lang_IllegalArgumentException_22 _ b14⟩, (fun _ h9 => nomatch h9)⟩) (by decide) (by decide) q1438 co_22_java_lang_IllegalStateException ?_
        refine r_astore_n X (pc := 15) (lv1 := [(3, vR (some q9)), (0, vR x0), (1, vI x1), (2, vR x2)]) dX0_restore_15 rfl (by decide) rfl ?_
        refine r_iconst X (pc := 16) dX0_restore_16 ?_
        exact r_iret X E (pc := 17) dX0_restore_17 rfl ⟨_, rfl, hk⟩
      · replace hk := hk.2 c15
        obtain ⟨b16, hk⟩ := hk
        exact r_out X E (List.forall_mem_cons.mpr ⟨Or.inr ⟨by decide, "java/lang/IllegalArgumentException", q1392, cns_java_lang_IllegalArgumentException_22 _ b14⟩, (List.forall_mem_cons.mpr ⟨Or.inr ⟨by decide, "java/lang/IllegalStateException", q1438, cns_java_lang_IllegalStateException_ _ b16⟩, (fun _ h9 => nomatch h9)⟩)⟩) hk
theorem s_X0_restore {K : KT} {l : Launch} {κ : Int → AH → Nat → Nat → Prop} {χ : QxT} {h : AH} {n : Nat} {z : Nat} {x0 : Option Nat} {x1 : Int} {x2 : Option Nat} (hk : P_X0_restore K κ χ h n z x0 x1 x2) : Ct K l yX0_restore (wsW_ yX0_restore cX0_restore 4 (Option.some Jvm.ClassFile.FieldType.int) [((0 : Nat), (9 : Nat), (12 : Nat), (13 : Nat)), ((0 : Nat), (9 : Nat), (15 : Nat), (24 : Nat))]) 12 324 ([vR x0, vI x1, vR x2].map cV) h n z (QvI κ) χ :=
  ct_ofH (by decide +kernel) (Nat.le_of_ble_eq_true rfl) (fun Y X E => w_X0_restore X E hk)
set_option maxHeartbeats 4000000 in
theorem w_X0_count {K : KT} {Y : YT} {κ : Int → AH → Nat → Nat → Prop} {χ : QxT} (X : XY K "TrailMarkersLaw" "count" cX0_count (Option.some Jvm.ClassFile.FieldType.int) (tableOf [((0 : Nat), (9 : Nat), (12 : Nat), (13 : Nat))]) 4 12 324 Y) (E : YE K Y (QvI κ) χ) {h : AH} {n : Nat} {z : Nat} {x0 : Option Nat} {x1 : Int} {x2 : Option Nat} (hk : P_X0_count K κ χ h n z x0 x1 x2) : G K Y h n z 0 (lv_argsA 0 [vR x0, vI x1, vR x2]) [] := by
  show G K Y h n z 0 [(0, vR x0), (1, vI x1), (2, vR x2)] []
  refine r_aload_n X (pc := 0) dX0_count_0 rfl (q := 2) rfl ?_
  refine r_iconst X (pc := 1) dX0_count_1 ?_
  refine r_aload_n X (pc := 2) dX0_count_2 rfl (q := 0) rfl ?_
  refine r_iload_n X (pc := 3) dX0_count_3 rfl (q := 1) rfl ?_
  obtain ⟨o15, fs16, e9, b17, hk⟩ := hk
  refine r_callV X (pc := 4) (As := [vI x1]) (st := [vI 0, vR x2]) rfl rfl e9 b17 m_X0_56 (fun _ => s_X1_count hk) ⟨by decide, by decide⟩ (Nat.le_of_ble_eq_true rfl) dX0_count_4 (fun v9 h4 n5 z6 hq => ?_) (fun ci8 q9 h10 n11 z12 hf => ?_)
  · obtain ⟨r3, rfl, hk⟩ := hq
    refine ⟨[vI r3], rfl, ?_⟩
    refine r_i2l X (pc := 7) dX0_count_7 ?_
    refine r_hSJ X (pc := 8) dX0_count_8 hk (fun h7 hk => ?_)
    refine r_goto X (pc := 9) (tgt := 15) dX0_count_9 (by decide) ?_
    refine r_iconst X (pc := 15) dX0_count_15 ?_
    exact r_iret X E (pc := 16) dX0_count_16 rfl ⟨_, rfl, hk⟩
  · have hk := hf
    by_cases c13 : ci8 = 21
    · replace hk := hk.1 c13
      subst c13
      refine r_catch X (pc := 4) [] ({ startPc := 0, endPc := 9, handlerPc := 12, catchType := 13 } : ExceptionTableEntry) [] rfl (fun _ h9 => nomatch h9) (by decide) (by decide) q1392 co_21_java_lang_IllegalArgumentException ?_
      refine r_astore_n X (pc := 12) (lv1 := [(3, vR (some q9)), (0, vR x0), (1, vI x1), (2, vR x2)]) dX0_count_12 rfl (by decide) rfl ?_
      refine r_iconst X (pc := 13) dX0_count_13 ?_
      exact r_iret X E (pc := 14) dX0_count_14 rfl ⟨_, rfl, hk⟩
    · replace hk := hk.2 c13
      obtain ⟨b14, hk⟩ := hk
      exact r_out X E (List.forall_mem_cons.mpr ⟨Or.inr ⟨by decide, "java/lang/IllegalArgumentException", q1392, cns_java_lang_IllegalArgumentException_22 _ b14⟩, (fun _ h9 => nomatch h9)⟩) hk
theorem s_X0_count {K : KT} {l : Launch} {κ : Int → AH → Nat → Nat → Prop} {χ : QxT} {h : AH} {n : Nat} {z : Nat} {x0 : Option Nat} {x1 : Int} {x2 : Option Nat} (hk : P_X0_count K κ χ h n z x0 x1 x2) : Ct K l yX0_count (wsW_ yX0_count cX0_count 4 (Option.some Jvm.ClassFile.FieldType.int) [((0 : Nat), (9 : Nat), (12 : Nat), (13 : Nat))]) 12 324 ([vR x0, vI x1, vR x2].map cV) h n z (QvI κ) χ :=
  ct_ofH (by decide +kernel) (Nat.le_of_ble_eq_true rfl) (fun Y X E => w_X0_count X E hk)
set_option maxHeartbeats 4000000 in
theorem w_X0_post {K : KT} {Y : YT} {κ : Int → AH → Nat → Nat → Prop} {χ : QxT} (X : XY K "TrailMarkersLaw" "post" cX0_post (Option.some Jvm.ClassFile.FieldType.int) (tableOf [((0 : Nat), (10 : Nat), (13 : Nat), (22 : Nat)), ((0 : Nat), (10 : Nat), (17 : Nat), (13 : Nat))]) 5 12 326 Y) (E : YE K Y (QvI κ) χ) {h : AH} {n : Nat} {z : Nat} {x0 : Option Nat} {x1 : Int} {x2 : Int} {x3 : Option Nat} (hk : P_X0_post K κ χ h n z x0 x1 x2 x3) : G K Y h n z 0 (lv_argsA 0 [vR x0, vI x1, vI x2, vR x3]) [] := by
  show G K Y h n z 0 [(0, vR x0), (1, vI x1), (2, vI x2), (3, vR x3)] []
  refine r_aload_n X (pc := 0) dX0_post_0 rfl (q := 3) rfl ?_
  refine r_iconst X (pc := 1) dX0_post_1 ?_
  refine r_aload_n X (pc := 2) dX0_post_2 rfl (q := 0) rfl ?_
  refine r_iload_n X (pc := 3) dX0_post_3 rfl (q := 1) rfl ?_
  refine r_iload_n X (pc := 4) dX0_post_4 rfl (q := 2) rfl ?_
  obtain ⟨o17, fs18, e9, b19, hk⟩ := hk
  refine r_callV X (pc := 5) (As := [vI x1, vI x2]) (st := [vI 0, vR x3]) rfl rfl e9 b19 m_X0_59 (fun _ => s_X1_post hk) ⟨by decide, by decide⟩ (Nat.le_of_ble_eq_true rfl) dX0_post_5 (fun v9 h4 n5 z6 hq => ?_) (fun ci8 q9 h10 n11 z12 hf => ?_)
  · obtain ⟨r3, rfl, hk⟩ := hq
    refine ⟨[vI r3], rfl, ?_⟩
    refine r_i2l X (pc := 8) dX0_post_8 ?_
    refine r_hSJ X (pc := 9) dX0_post_9 hk (fun h7 hk => ?_)
    refine r_goto X (pc := 10) (tgt := 21) dX0_post_10 (by decide) ?_
    refine r_iconst X (pc := 21) dX0_post_21 ?_
    exact r_iret X E (pc := 22) dX0_post_22 rfl ⟨_, rfl, hk⟩
  · have hk := hf
    by_cases c13 : ci8 = 23
    · replace hk := hk.1 c13
      subst c13
      refine r_catch X (pc := 5) [] ({ startPc := 0, endPc := 10, handlerPc := 13, catchType := 22 } : ExceptionTableEntry) [({ startPc := 0, endPc := 10, handlerPc := 17, catchType := 13 } : ExceptionTableEntry)] rfl (fun _ h9 => nomatch h9) (by decide) (by decide) q1419 co_23_java_lang_IndexOutOfBoundsException ?_
      refine r_astore X (pc := 13) (lv1 := [(4, vR (some q9)), (0, vR x0), (1, vI x1), (2, vI x2), (3, vR x3)]) dX0_post_13 (by decide) rfl ?_
      refine r_iconst X (pc := 15) dX0_post_15 ?_
      exact r_iret X E (pc := 16) dX0_post_16 rfl ⟨_, rfl, hk⟩
    · replace hk := hk.2 c13
      obtain ⟨b14, hk⟩ := hk
      by_cases c15 : ci8 = 21
      · replace hk := hk.1 c15
        subst c15
        refine r_catch X (pc := 5) [({ startPc := 0, endPc := 10, handlerPc := 13, catchType := 22 } : ExceptionTableEntry)] ({ startPc := 0, endPc := 10, handlerPc := 17, catchType := 13 } : ExceptionTableEntry) [] rfl (List.forall_mem_cons.mpr ⟨Or.inr ⟨by decide, "java/lang/IndexOutOfBoundsException", q1419, cns_java_lang_IndexOutOfBoundsException_21_22 _ b14⟩, (fun _ h9 => nomatch h9)⟩) (by decide) (by decide) q1392 co_21_java_lang_IllegalArgumentException ?_
        refine r_astore X (pc := 17) (lv1 := [(4, vR (some q9)), (0, vR x0), (1, vI x1), (2, vI x2), (3, vR x3)]) dX0_post_17 (by decide) rfl ?_
        refine r_iconst X (pc := 19) dX0_post_19 ?_
        exact r_iret X E (pc := 20) dX0_post_20 rfl ⟨_, rfl, hk⟩
      · replace hk := hk.2 c15
        obtain ⟨b16, hk⟩ := hk
        exact r_out X E (List.forall_mem_cons.mpr ⟨Or.inr ⟨by decide, "java/lang/IndexOutOfBoundsException", q1419, cns_java_lang_IndexOutOfBoundsException_21_22 _ b14⟩, (List.forall_mem_cons.mpr ⟨Or.inr ⟨by decide, "java/lang/IllegalArgumentException", q1392, cns_java_lang_IllegalArgumentException_22 _ b16⟩, (fun _ h9 => nomatch h9)⟩)⟩) hk
theorem s_X0_post {K : KT} {l : Launch} {κ : Int → AH → Nat → Nat → Prop} {χ : QxT} {h : AH} {n : Nat} {z : Nat} {x0 : Option Nat} {x1 : Int} {x2 : Int} {x3 : Option Nat} (hk : P_X0_post K κ χ h n z x0 x1 x2 x3) : Ct K l yX0_post (wsW_ yX0_post cX0_post 5 (Option.some Jvm.ClassFile.FieldType.int) [((0 : Nat), (10 : Nat), (13 : Nat), (22 : Nat)), ((0 : Nat), (10 : Nat), (17 : Nat), (13 : Nat))]) 12 326 ([vR x0, vI x1, vI x2, vR x3].map cV) h n z (QvI κ) χ :=
  ct_ofH (by decide +kernel) (Nat.le_of_ble_eq_true rfl) (fun Y X E => w_X0_post X E hk)
set_option maxHeartbeats 4000000 in
theorem w_X0_at {K : KT} {Y : YT} {κ : Int → AH → Nat → Nat → Prop} {χ : QxT} (X : XY K "TrailMarkersLaw" "at" cX0_at (Option.some Jvm.ClassFile.FieldType.int) (tableOf [((0 : Nat), (10 : Nat), (13 : Nat), (13 : Nat))]) 5 13 347 Y) (E : YE K Y (QvI κ) χ) {h : AH} {n : Nat} {z : Nat} {x0 : Option Nat} {x1 : Int} {x2 : Int} {x3 : Option Nat} (hk : P_X0_at K κ χ h n z x0 x1 x2 x3) : G K Y h n z 0 (lv_argsA 0 [vR x0, vI x1, vI x2, vR x3]) [] := by
  show G K Y h n z 0 [(0, vR x0), (1, vI x1), (2, vI x2), (3, vR x3)] []
  refine r_aload_n X (pc := 0) dX0_at_0 rfl (q := 3) rfl ?_
  refine r_iconst X (pc := 1) dX0_at_1 ?_
  refine r_aload_n X (pc := 2) dX0_at_2 rfl (q := 0) rfl ?_
  refine r_iload_n X (pc := 3) dX0_at_3 rfl (q := 1) rfl ?_
  refine r_iload_n X (pc := 4) dX0_at_4 rfl (q := 2) rfl ?_
  obtain ⟨o15, fs16, e9, b17, hk⟩ := hk
  refine r_callV X (pc := 5) (As := [vI x1, vI x2]) (st := [vI 0, vR x3]) rfl rfl e9 b17 m_X0_62 (fun _ => s_X1_at hk) ⟨by decide, by decide⟩ (Nat.le_of_ble_eq_true rfl) dX0_at_5 (fun v9 h4 n5 z6 hq => ?_) (fun ci8 q9 h10 n11 z12 hf => ?_)
  · obtain ⟨r3, rfl, hk⟩ := hq
    refine ⟨[vI r3], rfl, ?_⟩
    refine r_i2l X (pc := 8) dX0_at_8 ?_
    refine r_hSJ X (pc := 9) dX0_at_9 hk (fun h7 hk => ?_)
    refine r_goto X (pc := 10) (tgt := 17) dX0_at_10 (by decide) ?_
    refine r_iconst X (pc := 17) dX0_at_17 ?_
    exact r_iret X E (pc := 18) dX0_at_18 rfl ⟨_, rfl, hk⟩
  · have hk := hf
    by_cases c13 : ci8 = 21
    · replace hk := hk.1 c13
      subst c13
      refine r_catch X (pc := 5) [] ({ startPc := 0, endPc := 10, handlerPc := 13, catchType := 13 } : ExceptionTableEntry) [] rfl (fun _ h9 => nomatch h9) (by decide) (by decide) q1392 co_21_java_lang_IllegalArgumentException ?_
      refine r_astore X (pc := 13) (lv1 := [(4, vR (some q9)), (0, vR x0), (1, vI x1), (2, vI x2), (3, vR x3)]) dX0_at_13 (by decide) rfl ?_
      refine r_iconst X (pc := 15) dX0_at_15 ?_
      exact r_iret X E (pc := 16) dX0_at_16 rfl ⟨_, rfl, hk⟩
    · replace hk := hk.2 c13
      obtain ⟨b14, hk⟩ := hk
      exact r_out X E (List.forall_mem_cons.mpr ⟨Or.inr ⟨by decide, "java/lang/IllegalArgumentException", q1392, cns_java_lang_IllegalArgumentException_22 _ b14⟩, (fun _ h9 => nomatch h9)⟩) hk
theorem s_X0_at {K : KT} {l : Launch} {κ : Int → AH → Nat → Nat → Prop} {χ : QxT} {h : AH} {n : Nat} {z : Nat} {x0 : Option Nat} {x1 : Int} {x2 : Int} {x3 : Option Nat} (hk : P_X0_at K κ χ h n z x0 x1 x2 x3) : Ct K l yX0_at (wsW_ yX0_at cX0_at 5 (Option.some Jvm.ClassFile.FieldType.int) [((0 : Nat), (10 : Nat), (13 : Nat), (13 : Nat))]) 13 347 ([vR x0, vI x1, vI x2, vR x3].map cV) h n z (QvI κ) χ :=
  ct_ofH (by decide +kernel) (Nat.le_of_ble_eq_true rfl) (fun Y X E => w_X0_at X E hk)
set_option maxHeartbeats 4000000 in
theorem w_X0_colour {K : KT} {Y : YT} {κ : Int → AH → Nat → Nat → Prop} {χ : QxT} (X : XY K "TrailMarkersLaw" "colour" cX0_colour (Option.some Jvm.ClassFile.FieldType.int) (tableOf [((0 : Nat), (10 : Nat), (13 : Nat), (22 : Nat)), ((0 : Nat), (10 : Nat), (17 : Nat), (13 : Nat))]) 5 12 327 Y) (E : YE K Y (QvI κ) χ) {h : AH} {n : Nat} {z : Nat} {x0 : Option Nat} {x1 : Int} {x2 : Int} {x3 : Option Nat} (hk : P_X0_colour K κ χ h n z x0 x1 x2 x3) : G K Y h n z 0 (lv_argsA 0 [vR x0, vI x1, vI x2, vR x3]) [] := by
  show G K Y h n z 0 [(0, vR x0), (1, vI x1), (2, vI x2), (3, vR x3)] []
  refine r_aload_n X (pc := 0) dX0_colour_0 rfl (q := 3) rfl ?_
  refine r_iconst X (pc := 1) dX0_colour_1 ?_
  refine r_aload_n X (pc := 2) dX0_colour_2 rfl (q := 0) rfl ?_
  refine r_iload_n X (pc := 3) dX0_colour_3 rfl (q := 1) rfl ?_
  refine r_iload_n X (pc := 4) dX0_colour_4 rfl (q := 2) rfl ?_
  obtain ⟨o17, fs18, e9, b19, hk⟩ := hk
  refine r_callV X (pc := 5) (As := [vI x1, vI x2]) (st := [vI 0, vR x3]) rfl rfl e9 b19 m_X0_65 (fun _ => s_X1_colour hk) ⟨by decide, by decide⟩ (Nat.le_of_ble_eq_true rfl) dX0_colour_5 (fun v9 h4 n5 z6 hq => ?_) (fun ci8 q9 h10 n11 z12 hf => ?_)
  · obtain ⟨r3, rfl, hk⟩ := hq
    refine ⟨[vI r3], rfl, ?_⟩
    refine r_i2l X (pc := 8) dX0_colour_8 ?_
    refine r_hSJ X (pc := 9) dX0_colour_9 hk (fun h7 hk => ?_)
    refine r_goto X (pc := 10) (tgt := 21) dX0_colour_10 (by decide) ?_
    refine r_iconst X (pc := 21) dX0_colour_21 ?_
    exact r_iret X E (pc := 22) dX0_colour_22 rfl ⟨_, rfl, hk⟩
  · have hk := hf
    by_cases c13 : ci8 = 23
    · replace hk := hk.1 c13
      subst c13
      refine r_catch X (pc := 5) [] ({ startPc := 0, endPc := 10, handlerPc := 13, catchType := 22 } : ExceptionTableEntry) [({ startPc := 0, endPc := 10, handlerPc := 17, catchType := 13 } : ExceptionTableEntry)] rfl (fun _ h9 => nomatch h9) (by decide) (by decide) q1419 co_23_java_lang_IndexOutOfBoundsException ?_
      refine r_astore X (pc := 13) (lv1 := [(4, vR (some q9)), (0, vR x0), (1, vI x1), (2, vI x2), (3, vR x3)]) dX0_colour_13 (by decide) rfl ?_
      refine r_iconst X (pc := 15) dX0_colour_15 ?_
      exact r_iret X E (pc := 16) dX0_colour_16 rfl ⟨_, rfl, hk⟩
    · replace hk := hk.2 c13
      obtain ⟨b14, hk⟩ := hk
      by_cases c15 : ci8 = 21
      · replace hk := hk.1 c15
        subst c15
        refine r_catch X (pc := 5) [({ startPc := 0, endPc := 10, handlerPc := 13, catchType := 22 } : ExceptionTableEntry)] ({ startPc := 0, endPc := 10, handlerPc := 17, catchType := 13 } : ExceptionTableEntry) [] rfl (List.forall_mem_cons.mpr ⟨Or.inr ⟨by decide, "java/lang/IndexOutOfBoundsException", q1419, cns_java_lang_IndexOutOfBoundsException_21_22 _ b14⟩, (fun _ h9 => nomatch h9)⟩) (by decide) (by decide) q1392 co_21_java_lang_IllegalArgumentException ?_
        refine r_astore X (pc := 17) (lv1 := [(4, vR (some q9)), (0, vR x0), (1, vI x1), (2, vI x2), (3, vR x3)]) dX0_colour_17 (by decide) rfl ?_
        refine r_iconst X (pc := 19) dX0_colour_19 ?_
        exact r_iret X E (pc := 20) dX0_colour_20 rfl ⟨_, rfl, hk⟩
      · replace hk := hk.2 c15
        obtain ⟨b16, hk⟩ := hk
        exact r_out X E (List.forall_mem_cons.mpr ⟨Or.inr ⟨by decide, "java/lang/IndexOutOfBoundsException", q1419, cns_java_lang_IndexOutOfBoundsException_21_22 _ b14⟩, (List.forall_mem_cons.mpr ⟨Or.inr ⟨by decide, "java/lang/IllegalArgumentException", q1392, cns_java_lang_IllegalArgumentException_22 _ b16⟩, (fun _ h9 => nomatch h9)⟩)⟩) hk
theorem s_X0_colour {K : KT} {l : Launch} {κ : Int → AH → Nat → Nat → Prop} {χ : QxT} {h : AH} {n : Nat} {z : Nat} {x0 : Option Nat} {x1 : Int} {x2 : Int} {x3 : Option Nat} (hk : P_X0_colour K κ χ h n z x0 x1 x2 x3) : Ct K l yX0_colour (wsW_ yX0_colour cX0_colour 5 (Option.some Jvm.ClassFile.FieldType.int) [((0 : Nat), (10 : Nat), (13 : Nat), (22 : Nat)), ((0 : Nat), (10 : Nat), (17 : Nat), (13 : Nat))]) 12 327 ([vR x0, vI x1, vI x2, vR x3].map cV) h n z (QvI κ) χ :=
  ct_ofH (by decide +kernel) (Nat.le_of_ble_eq_true rfl) (fun Y X E => w_X0_colour X E hk)
set_option maxHeartbeats 4000000 in
theorem w_X0_met {K : KT} {Y : YT} {κ : Int → AH → Nat → Nat → Prop} {χ : QxT} (X : XY K "TrailMarkersLaw" "met" cX0_met (Option.some Jvm.ClassFile.FieldType.int) (tableOf [((0 : Nat), (8 : Nat), (11 : Nat), (22 : Nat))]) 4 12 327 Y) (E : YE K Y (QvI κ) χ) {h : AH} {n : Nat} {z : Nat} {x0 : Option Nat} {x1 : Int} {x2 : Option Nat} (hk : P_X0_met K κ χ h n z x0 x1 x2) : G K Y h n z 0 (lv_argsA 0 [vR x0, vI x1, vR x2]) [] := by
  show G K Y h n z 0 [(0, vR x0), (1, vI x1), (2, vR x2)] []
  refine r_aload_n X (pc := 0) dX0_met_0 rfl (q := 2) rfl ?_
  refine r_iconst X (pc := 1) dX0_met_1 ?_
  refine r_aload_n X (pc := 2) dX0_met_2 rfl (q := 0) rfl ?_
  refine r_iload_n X (pc := 3) dX0_met_3 rfl (q := 1) rfl ?_
  obtain ⟨o15, fs16, e9, b17, hk⟩ := hk
  refine r_callV X (pc := 4) (As := [vI x1]) (st := [vI 0, vR x2]) rfl rfl e9 b17 m_X0_68 (fun _ => s_X1_met hk) ⟨by decide, by decide⟩ (Nat.le_of_ble_eq_true rfl) dX0_met_4 (fun v9 h4 n5 z6 hq => ?_) (fun ci8 q9 h10 n11 z12 hf => ?_)
  · obtain ⟨r3, rfl, hk⟩ := hq
    refine ⟨[vJ r3], rfl, ?_⟩
    refine r_hSJ X (pc := 7) dX0_met_7 hk (fun h7 hk => ?_)
    refine r_goto X (pc := 8) (tgt := 14) dX0_met_8 (by decide) ?_
    refine r_iconst X (pc := 14) dX0_met_14 ?_
    exact r_iret X E (pc := 15) dX0_met_15 rfl ⟨_, rfl, hk⟩
  · have hk := hf
    by_cases c13 : ci8 = 23
    · replace hk := hk.1 c13
      subst c13
      refine r_catch X (pc := 4) [] ({ startPc := 0, endPc := 8, handlerPc := 11, catchType := 22 } : ExceptionTableEntry) [] rfl (fun _ h9 => nomatch h9) (by decide) (by decide) q1419 co_23_java_lang_IndexOutOfBoundsException ?_
      refine r_astore_n X (pc := 11) (lv1 := [(3, vR (some q9)), (0, vR x0), (1, vI x1), (2, vR x2)]) dX0_met_11 rfl (by decide) rfl ?_
      refine r_iconst X (pc := 12) dX0_met_12 ?_
      exact r_iret X E (pc := 13) dX0_met_13 rfl ⟨_, rfl, hk⟩
    · replace hk := hk.2 c13
      obtain ⟨b14, hk⟩ := hk
      exact r_out X E (List.forall_mem_cons.mpr ⟨Or.inr ⟨by decide, "java/lang/IndexOutOfBoundsException", q1419, cns_java_lang_IndexOutOfBoundsException_21_22 _ b14⟩, (fun _ h9 => nomatch h9)⟩) hk
theorem s_X0_met {K : KT} {l : Launch} {κ : Int → AH → Nat → Nat → Prop} {χ : QxT} {h : AH} {n : Nat} {z : Nat} {x0 : Option Nat} {x1 : Int} {x2 : Option Nat} (hk : P_X0_met K κ χ h n z x0 x1 x2) : Ct K l yX0_met (wsW_ yX0_met cX0_met 4 (Option.some Jvm.ClassFile.FieldType.int) [((0 : Nat), (8 : Nat), (11 : Nat), (22 : Nat))]) 12 327 ([vR x0, vI x1, vR x2].map cV) h n z (QvI κ) χ :=
  ct_ofH (by decide +kernel) (Nat.le_of_ble_eq_true rfl) (fun Y X E => w_X0_met X E hk)
set_option maxHeartbeats 4000000 in
theorem w_X0_route {K : KT} {Y : YT} {κ : Int → AH → Nat → Nat → Prop} {χ : QxT} (X : XY K "TrailMarkersLaw" "route" cX0_route (Option.some Jvm.ClassFile.FieldType.int) (tableOf [((0 : Nat), (10 : Nat), (13 : Nat), (22 : Nat)), ((0 : Nat), (10 : Nat), (17 : Nat), (13 : Nat))]) 5 13 345 Y) (E : YE K Y (QvI κ) χ) {h : AH} {n : Nat} {z : Nat} {x0 : Option Nat} {x1 : Int} {x2 : Int} {x3 : Option Nat} (hk : P_X0_route K κ χ h n z x0 x1 x2 x3) : G K Y h n z 0 (lv_argsA 0 [vR x0, vI x1, vI x2, vR x3]) [] := by
  show G K Y h n z 0 [(0, vR x0), (1, vI x1), (2, vI x2), (3, vR x3)] []
  refine r_aload_n X (pc := 0) dX0_route_0 rfl (q := 3) rfl ?_
  refine r_iconst X (pc := 1) dX0_route_1 ?_
  refine r_aload_n X (pc := 2) dX0_route_2 rfl (q := 0) rfl ?_
  refine r_iload_n X (pc := 3) dX0_route_3 rfl (q := 1) rfl ?_
  refine r_iload_n X (pc := 4) dX0_route_4 rfl (q := 2) rfl ?_
  obtain ⟨o17, fs18, e9, b19, hk⟩ := hk
  refine r_callV X (pc := 5) (As := [vI x1, vI x2]) (st := [vI 0, vR x3]) rfl rfl e9 b19 m_X0_72 (fun _ => s_X1_route hk) ⟨by decide, by decide⟩ (Nat.le_of_ble_eq_true rfl) dX0_route_5 (fun v9 h4 n5 z6 hq => ?_) (fun ci8 q9 h10 n11 z12 hf => ?_)
  · obtain ⟨r3, rfl, hk⟩ := hq
    refine ⟨[vI r3], rfl, ?_⟩
    refine r_i2l X (pc := 8) dX0_route_8 ?_
    refine r_hSJ X (pc := 9) dX0_route_9 hk (fun h7 hk => ?_)
    refine r_goto X (pc := 10) (tgt := 21) dX0_route_10 (by decide) ?_
    refine r_iconst X (pc := 21) dX0_route_21 ?_
    exact r_iret X E (pc := 22) dX0_route_22 rfl ⟨_, rfl, hk⟩
  · have hk := hf
    by_cases c13 : ci8 = 23
    · replace hk := hk.1 c13
      subst c13
      refine r_catch X (pc := 5) [] ({ startPc := 0, endPc := 10, handlerPc := 13, catchType := 22 } : ExceptionTableEntry) [({ startPc := 0, endPc := 10, handlerPc := 17, catchType := 13 } : ExceptionTableEntry)] rfl (fun _ h9 => nomatch h9) (by decide) (by decide) q1419 co_23_java_lang_IndexOutOfBoundsException ?_
      refine r_astore X (pc := 13) (lv1 := [(4, vR (some q9)), (0, vR x0), (1, vI x1), (2, vI x2), (3, vR x3)]) dX0_route_13 (by decide) rfl ?_
      refine r_iconst X (pc := 15) dX0_route_15 ?_
      exact r_iret X E (pc := 16) dX0_route_16 rfl ⟨_, rfl, hk⟩
    · replace hk := hk.2 c13
      obtain ⟨b14, hk⟩ := hk
      by_cases c15 : ci8 = 21
      · replace hk := hk.1 c15
        subst c15
        refine r_catch X (pc := 5) [({ startPc := 0, endPc := 10, handlerPc := 13, catchType := 22 } : ExceptionTableEntry)] ({ startPc := 0, endPc := 10, handlerPc := 17, catchType := 13 } : ExceptionTableEntry) [] rfl (List.forall_mem_cons.mpr ⟨Or.inr ⟨by decide, "java/lang/IndexOutOfBoundsException", q1419, cns_java_lang_IndexOutOfBoundsException_21_22 _ b14⟩, (fun _ h9 => nomatch h9)⟩) (by decide) (by decide) q1392 co_21_java_lang_IllegalArgumentException ?_
        refine r_astore X (pc := 17) (lv1 := [(4, vR (some q9)), (0, vR x0), (1, vI x1), (2, vI x2), (3, vR x3)]) dX0_route_17 (by decide) rfl ?_
        refine r_iconst X (pc := 19) dX0_route_19 ?_
        exact r_iret X E (pc := 20) dX0_route_20 rfl ⟨_, rfl, hk⟩
      · replace hk := hk.2 c15
        obtain ⟨b16, hk⟩ := hk
        exact r_out X E (List.forall_mem_cons.mpr ⟨Or.inr ⟨by decide, "java/lang/IndexOutOfBoundsException", q1419, cns_java_lang_IndexOutOfBoundsException_21_22 _ b14⟩, (List.forall_mem_cons.mpr ⟨Or.inr ⟨by decide, "java/lang/IllegalArgumentException", q1392, cns_java_lang_IllegalArgumentException_22 _ b16⟩, (fun _ h9 => nomatch h9)⟩)⟩) hk
theorem s_X0_route {K : KT} {l : Launch} {κ : Int → AH → Nat → Nat → Prop} {χ : QxT} {h : AH} {n : Nat} {z : Nat} {x0 : Option Nat} {x1 : Int} {x2 : Int} {x3 : Option Nat} (hk : P_X0_route K κ χ h n z x0 x1 x2 x3) : Ct K l yX0_route (wsW_ yX0_route cX0_route 5 (Option.some Jvm.ClassFile.FieldType.int) [((0 : Nat), (10 : Nat), (13 : Nat), (22 : Nat)), ((0 : Nat), (10 : Nat), (17 : Nat), (13 : Nat))]) 13 345 ([vR x0, vI x1, vI x2, vR x3].map cV) h n z (QvI κ) χ :=
  ct_ofH (by decide +kernel) (Nat.le_of_ble_eq_true rfl) (fun Y X E => w_X0_route X E hk)
set_option maxHeartbeats 4000000 in
theorem w_X0_routePost {K : KT} {Y : YT} {κ : Int → AH → Nat → Nat → Prop} {χ : QxT} (X : XY K "TrailMarkersLaw" "routePost" cX0_routePost (Option.some Jvm.ClassFile.FieldType.int) (tableOf [((0 : Nat), (10 : Nat), (13 : Nat), (22 : Nat))]) 5 13 345 Y) (E : YE K Y (QvI κ) χ) {h : AH} {n : Nat} {z : Nat} {x0 : Option Nat} {x1 : Int} {x2 : Int} {x3 : Option Nat} (hk : P_X0_routePost K κ χ h n z x0 x1 x2 x3) : G K Y h n z 0 (lv_argsA 0 [vR x0, vI x1, vI x2, vR x3]) [] := by
  show G K Y h n z 0 [(0, vR x0), (1, vI x1), (2, vI x2), (3, vR x3)] []
  refine r_aload_n X (pc := 0) dX0_routePost_0 rfl (q := 3) rfl ?_
  refine r_iconst X (pc := 1) dX0_routePost_1 ?_
  refine r_aload_n X (pc := 2) dX0_routePost_2 rfl (q := 0) rfl ?_
  refine r_iload_n X (pc := 3) dX0_routePost_3 rfl (q := 1) rfl ?_
  refine r_iload_n X (pc := 4) dX0_routePost_4 rfl (q := 2) rfl ?_
  obtain ⟨o15, fs16, e9, b17, hk⟩ := hk
  refine r_callV X (pc := 5) (As := [vI x1, vI x2]) (st := [vI 0, vR x3]) rfl rfl e9 b17 m_X0_75 (fun _ => s_X1_routePost hk) ⟨by decide, by decide⟩ (Nat.le_of_ble_eq_true rfl) dX0_routePost_5 (fun v9 h4 n5 z6 hq => ?_) (fun ci8 q9 h10 n11 z12 hf => ?_)
  · obtain ⟨r3, rfl, hk⟩ := hq
    refine ⟨[vI r3], rfl, ?_⟩
    refine r_i2l X (pc := 8) dX0_routePost_8 ?_
    refine r_hSJ X (pc := 9) dX0_routePost_9 hk (fun h7 hk => ?_)
    refine r_goto X (pc := 10) (tgt := 17) dX0_routePost_10 (by decide) ?_
    refine r_iconst X (pc := 17) dX0_routePost_17 ?_
    exact r_iret X E (pc := 18) dX0_routePost_18 rfl ⟨_, rfl, hk⟩
  · have hk := hf
    by_cases c13 : ci8 = 23
    · replace hk := hk.1 c13
      subst c13
      refine r_catch X (pc := 5) [] ({ startPc := 0, endPc := 10, handlerPc := 13, catchType := 22 } : ExceptionTableEntry) [] rfl (fun _ h9 => nomatch h9) (by decide) (by decide) q1419 co_23_java_lang_IndexOutOfBoundsException ?_
      refine r_astore X (pc := 13) (lv1 := [(4, vR (some q9)), (0, vR x0), (1, vI x1), (2, vI x2), (3, vR x3)]) dX0_routePost_13 (by decide) rfl ?_
      refine r_iconst X (pc := 15) dX0_routePost_15 ?_
      exact r_iret X E (pc := 16) dX0_routePost_16 rfl ⟨_, rfl, hk⟩
    · replace hk := hk.2 c13
      obtain ⟨b14, hk⟩ := hk
      exact r_out X E (List.forall_mem_cons.mpr ⟨Or.inr ⟨by decide, "java/lang/IndexOutOfBoundsException", q1419, cns_java_lang_IndexOutOfBoundsException_21_22 _ b14⟩, (fun _ h9 => nomatch h9)⟩) hk
theorem s_X0_routePost {K : KT} {l : Launch} {κ : Int → AH → Nat → Nat → Prop} {χ : QxT} {h : AH} {n : Nat} {z : Nat} {x0 : Option Nat} {x1 : Int} {x2 : Int} {x3 : Option Nat} (hk : P_X0_routePost K κ χ h n z x0 x1 x2 x3) : Ct K l yX0_routePost (wsW_ yX0_routePost cX0_routePost 5 (Option.some Jvm.ClassFile.FieldType.int) [((0 : Nat), (10 : Nat), (13 : Nat), (22 : Nat))]) 13 345 ([vR x0, vI x1, vI x2, vR x3].map cV) h n z (QvI κ) χ :=
  ct_ofH (by decide +kernel) (Nat.le_of_ble_eq_true rfl) (fun Y X E => w_X0_routePost X E hk)
set_option maxHeartbeats 4000000 in
theorem w_X0_routeCell {K : KT} {Y : YT} {κ : Int → AH → Nat → Nat → Prop} {χ : QxT} (X : XY K "TrailMarkersLaw" "routeCell" cX0_routeCell (Option.some Jvm.ClassFile.FieldType.int) (tableOf [((0 : Nat), (10 : Nat), (13 : Nat), (22 : Nat))]) 5 13 345 Y) (E : YE K Y (QvI κ) χ) {h : AH} {n : Nat} {z : Nat} {x0 : Option Nat} {x1 : Int} {x2 : Int} {x3 : Option Nat} (hk : P_X0_routeCell K κ χ h n z x0 x1 x2 x3) : G K Y h n z 0 (lv_argsA 0 [vR x0, vI x1, vI x2, vR x3]) [] := by
  show G K Y h n z 0 [(0, vR x0), (1, vI x1), (2, vI x2), (3, vR x3)] []
  refine r_aload_n X (pc := 0) dX0_routeCell_0 rfl (q := 3) rfl ?_
  refine r_iconst X (pc := 1) dX0_routeCell_1 ?_
  refine r_aload_n X (pc := 2) dX0_routeCell_2 rfl (q := 0) rfl ?_
  refine r_iload_n X (pc := 3) dX0_routeCell_3 rfl (q := 1) rfl ?_
  refine r_iload_n X (pc := 4) dX0_routeCell_4 rfl (q := 2) rfl ?_
  obtain ⟨o15, fs16, e9, b17, hk⟩ := hk
  refine r_callV X (pc := 5) (As := [vI x1, vI x2]) (st := [vI 0, vR x3]) rfl rfl e9 b17 m_X0_78 (fun _ => s_X1_routeCell hk) ⟨by decide, by decide⟩ (Nat.le_of_ble_eq_true rfl) dX0_routeCell_5 (fun v9 h4 n5 z6 hq => ?_) (fun ci8 q9 h10 n11 z12 hf => ?_)
  · obtain ⟨r3, rfl, hk⟩ := hq
    refine ⟨[vI r3], rfl, ?_⟩
    refine r_i2l X (pc := 8) dX0_routeCell_8 ?_
    refine r_hSJ X (pc := 9) dX0_routeCell_9 hk (fun h7 hk => ?_)
    refine r_goto X (pc := 10) (tgt := 17) dX0_routeCell_10 (by decide) ?_
    refine r_iconst X (pc := 17) dX0_routeCell_17 ?_
    exact r_iret X E (pc := 18) dX0_routeCell_18 rfl ⟨_, rfl, hk⟩
  · have hk := hf
    by_cases c13 : ci8 = 23
    · replace hk := hk.1 c13
      subst c13
      refine r_catch X (pc := 5) [] ({ startPc := 0, endPc := 10, handlerPc := 13, catchType := 22 } : ExceptionTableEntry) [] rfl (fun _ h9 => nomatch h9) (by decide) (by decide) q1419 co_23_java_lang_IndexOutOfBoundsException ?_
      refine r_astore X (pc := 13) (lv1 := [(4, vR (some q9)), (0, vR x0), (1, vI x1), (2, vI x2), (3, vR x3)]) dX0_routeCell_13 (by decide) rfl ?_
      refine r_iconst X (pc := 15) dX0_routeCell_15 ?_
      exact r_iret X E (pc := 16) dX0_routeCell_16 rfl ⟨_, rfl, hk⟩
    · replace hk := hk.2 c13
      obtain ⟨b14, hk⟩ := hk
      exact r_out X E (List.forall_mem_cons.mpr ⟨Or.inr ⟨by decide, "java/lang/IndexOutOfBoundsException", q1419, cns_java_lang_IndexOutOfBoundsException_21_22 _ b14⟩, (fun _ h9 => nomatch h9)⟩) hk
theorem s_X0_routeCell {K : KT} {l : Launch} {κ : Int → AH → Nat → Nat → Prop} {χ : QxT} {h : AH} {n : Nat} {z : Nat} {x0 : Option Nat} {x1 : Int} {x2 : Int} {x3 : Option Nat} (hk : P_X0_routeCell K κ χ h n z x0 x1 x2 x3) : Ct K l yX0_routeCell (wsW_ yX0_routeCell cX0_routeCell 5 (Option.some Jvm.ClassFile.FieldType.int) [((0 : Nat), (10 : Nat), (13 : Nat), (22 : Nat))]) 13 345 ([vR x0, vI x1, vI x2, vR x3].map cV) h n z (QvI κ) χ :=
  ct_ofH (by decide +kernel) (Nat.le_of_ble_eq_true rfl) (fun Y X E => w_X0_routeCell X E hk)
set_option maxHeartbeats 4000000 in
theorem w_X0_inferred {K : KT} {Y : YT} {κ : Int → AH → Nat → Nat → Prop} {χ : QxT} (X : XY K "TrailMarkersLaw" "inferred" cX0_inferred (Option.some Jvm.ClassFile.FieldType.int) (tableOf [((0 : Nat), (10 : Nat), (13 : Nat), (22 : Nat))]) 5 13 345 Y) (E : YE K Y (QvI κ) χ) {h : AH} {n : Nat} {z : Nat} {x0 : Option Nat} {x1 : Int} {x2 : Int} {x3 : Option Nat} (hk : P_X0_inferred K κ χ h n z x0 x1 x2 x3) : G K Y h n z 0 (lv_argsA 0 [vR x0, vI x1, vI x2, vR x3]) [] := by
  show G K Y h n z 0 [(0, vR x0), (1, vI x1), (2, vI x2), (3, vR x3)] []
  refine r_aload_n X (pc := 0) dX0_inferred_0 rfl (q := 3) rfl ?_
  refine r_iconst X (pc := 1) dX0_inferred_1 ?_
  refine r_aload_n X (pc := 2) dX0_inferred_2 rfl (q := 0) rfl ?_
  refine r_iload_n X (pc := 3) dX0_inferred_3 rfl (q := 1) rfl ?_
  refine r_iload_n X (pc := 4) dX0_inferred_4 rfl (q := 2) rfl ?_
  obtain ⟨o15, fs16, e9, b17, hk⟩ := hk
  refine r_callV X (pc := 5) (As := [vI x1, vI x2]) (st := [vI 0, vR x3]) rfl rfl e9 b17 m_X0_81 (fun _ => s_X1_inferred hk) ⟨by decide, by decide⟩ (Nat.le_of_ble_eq_true rfl) dX0_inferred_5 (fun v9 h4 n5 z6 hq => ?_) (fun ci8 q9 h10 n11 z12 hf => ?_)
  · obtain ⟨r3, rfl, hk⟩ := hq
    refine ⟨[vI r3], rfl, ?_⟩
    refine r_i2l X (pc := 8) dX0_inferred_8 ?_
    refine r_hSJ X (pc := 9) dX0_inferred_9 hk (fun h7 hk => ?_)
    refine r_goto X (pc := 10) (tgt := 17) dX0_inferred_10 (by decide) ?_
    refine r_iconst X (pc := 17) dX0_inferred_17 ?_
    exact r_iret X E (pc := 18) dX0_inferred_18 rfl ⟨_, rfl, hk⟩
  · have hk := hf
    by_cases c13 : ci8 = 23
    · replace hk := hk.1 c13
      subst c13
      refine r_catch X (pc := 5) [] ({ startPc := 0, endPc := 10, handlerPc := 13, catchType := 22 } : ExceptionTableEntry) [] rfl (fun _ h9 => nomatch h9) (by decide) (by decide) q1419 co_23_java_lang_IndexOutOfBoundsException ?_
      refine r_astore X (pc := 13) (lv1 := [(4, vR (some q9)), (0, vR x0), (1, vI x1), (2, vI x2), (3, vR x3)]) dX0_inferred_13 (by decide) rfl ?_
      refine r_iconst X (pc := 15) dX0_inferred_15 ?_
      exact r_iret X E (pc := 16) dX0_inferred_16 rfl ⟨_, rfl, hk⟩
    · replace hk := hk.2 c13
      obtain ⟨b14, hk⟩ := hk
      exact r_out X E (List.forall_mem_cons.mpr ⟨Or.inr ⟨by decide, "java/lang/IndexOutOfBoundsException", q1419, cns_java_lang_IndexOutOfBoundsException_21_22 _ b14⟩, (fun _ h9 => nomatch h9)⟩) hk
theorem s_X0_inferred {K : KT} {l : Launch} {κ : Int → AH → Nat → Nat → Prop} {χ : QxT} {h : AH} {n : Nat} {z : Nat} {x0 : Option Nat} {x1 : Int} {x2 : Int} {x3 : Option Nat} (hk : P_X0_inferred K κ χ h n z x0 x1 x2 x3) : Ct K l yX0_inferred (wsW_ yX0_inferred cX0_inferred 5 (Option.some Jvm.ClassFile.FieldType.int) [((0 : Nat), (10 : Nat), (13 : Nat), (22 : Nat))]) 13 345 ([vR x0, vI x1, vI x2, vR x3].map cV) h n z (QvI κ) χ :=
  ct_ofH (by decide +kernel) (Nat.le_of_ble_eq_true rfl) (fun Y X E => w_X0_inferred X E hk)
set_option maxHeartbeats 4000000 in
theorem w_X0_shared {K : KT} {Y : YT} {κ : Int → AH → Nat → Nat → Prop} {χ : QxT} (X : XY K "TrailMarkersLaw" "shared" cX0_shared (Option.some Jvm.ClassFile.FieldType.int) (tableOf [((0 : Nat), (10 : Nat), (13 : Nat), (22 : Nat))]) 5 12 327 Y) (E : YE K Y (QvI κ) χ) {h : AH} {n : Nat} {z : Nat} {x0 : Option Nat} {x1 : Int} {x2 : Int} {x3 : Option Nat} (hk : P_X0_shared K κ χ h n z x0 x1 x2 x3) : G K Y h n z 0 (lv_argsA 0 [vR x0, vI x1, vI x2, vR x3]) [] := by
  show G K Y h n z 0 [(0, vR x0), (1, vI x1), (2, vI x2), (3, vR x3)] []
  refine r_aload_n X (pc := 0) dX0_shared_0 rfl (q := 3) rfl ?_
  refine r_iconst X (pc := 1) dX0_shared_1 ?_
  refine r_aload_n X (pc := 2) dX0_shared_2 rfl (q := 0) rfl ?_
  refine r_iload_n X (pc := 3) dX0_shared_3 rfl (q := 1) rfl ?_
  refine r_iload_n X (pc := 4) dX0_shared_4 rfl (q := 2) rfl ?_
  obtain ⟨o15, fs16, e9, b17, hk⟩ := hk
  refine r_callV X (pc := 5) (As := [vI x1, vI x2]) (st := [vI 0, vR x3]) rfl rfl e9 b17 m_X0_84 (fun _ => s_X1_shared hk) ⟨by decide, by decide⟩ (Nat.le_of_ble_eq_true rfl) dX0_shared_5 (fun v9 h4 n5 z6 hq => ?_) (fun ci8 q9 h10 n11 z12 hf => ?_)
  · obtain ⟨r3, rfl, hk⟩ := hq
    refine ⟨[vI r3], rfl, ?_⟩
    refine r_i2l X (pc := 8) dX0_shared_8 ?_
    refine r_hSJ X (pc := 9) dX0_shared_9 hk (fun h7 hk => ?_)
    refine r_goto X (pc := 10) (tgt := 17) dX0_shared_10 (by decide) ?_
    refine r_iconst X (pc := 17) dX0_shared_17 ?_
    exact r_iret X E (pc := 18) dX0_shared_18 rfl ⟨_, rfl, hk⟩
  · have hk := hf
    by_cases c13 : ci8 = 23
    · replace hk := hk.1 c13
      subst c13
      refine r_catch X (pc := 5) [] ({ startPc := 0, endPc := 10, handlerPc := 13, catchType := 22 } : ExceptionTableEntry) [] rfl (fun _ h9 => nomatch h9) (by decide) (by decide) q1419 co_23_java_lang_IndexOutOfBoundsException ?_
      refine r_astore X (pc := 13) (lv1 := [(4, vR (some q9)), (0, vR x0), (1, vI x1), (2, vI x2), (3, vR x3)]) dX0_shared_13 (by decide) rfl ?_
      refine r_iconst X (pc := 15) dX0_shared_15 ?_
      exact r_iret X E (pc := 16) dX0_shared_16 rfl ⟨_, rfl, hk⟩
    · replace hk := hk.2 c13
      obtain ⟨b14, hk⟩ := hk
      exact r_out X E (List.forall_mem_cons.mpr ⟨Or.inr ⟨by decide, "java/lang/IndexOutOfBoundsException", q1419, cns_java_lang_IndexOutOfBoundsException_21_22 _ b14⟩, (fun _ h9 => nomatch h9)⟩) hk
theorem s_X0_shared {K : KT} {l : Launch} {κ : Int → AH → Nat → Nat → Prop} {χ : QxT} {h : AH} {n : Nat} {z : Nat} {x0 : Option Nat} {x1 : Int} {x2 : Int} {x3 : Option Nat} (hk : P_X0_shared K κ χ h n z x0 x1 x2 x3) : Ct K l yX0_shared (wsW_ yX0_shared cX0_shared 5 (Option.some Jvm.ClassFile.FieldType.int) [((0 : Nat), (10 : Nat), (13 : Nat), (22 : Nat))]) 12 327 ([vR x0, vI x1, vI x2, vR x3].map cV) h n z (QvI κ) χ :=
  ct_ofH (by decide +kernel) (Nat.le_of_ble_eq_true rfl) (fun Y X E => w_X0_shared X E hk)
set_option maxHeartbeats 4000000 in
theorem w_X0_why {K : KT} {Y : YT} {κ : Int → AH → Nat → Nat → Prop} {χ : QxT} (X : XY K "TrailMarkersLaw" "why" cX0_why (Option.some Jvm.ClassFile.FieldType.int) (tableOf [((0 : Nat), (10 : Nat), (13 : Nat), (22 : Nat)), ((0 : Nat), (10 : Nat), (17 : Nat), (13 : Nat))]) 5 12 329 Y) (E : YE K Y (QvI κ) χ) {h : AH} {n : Nat} {z : Nat} {x0 : Option Nat} {x1 : Int} {x2 : Int} {x3 : Option Nat} (hk : P_X0_why K κ χ h n z x0 x1 x2 x3) : G K Y h n z 0 (lv_argsA 0 [vR x0, vI x1, vI x2, vR x3]) [] := by
  show G K Y h n z 0 [(0, vR x0), (1, vI x1), (2, vI x2), (3, vR x3)] []
  refine r_aload_n X (pc := 0) dX0_why_0 rfl (q := 3) rfl ?_
  refine r_iconst X (pc := 1) dX0_why_1 ?_
  refine r_aload_n X (pc := 2) dX0_why_2 rfl (q := 0) rfl ?_
  refine r_iload_n X (pc := 3) dX0_why_3 rfl (q := 1) rfl ?_
  refine r_iload_n X (pc := 4) dX0_why_4 rfl (q := 2) rfl ?_
  obtain ⟨o17, fs18, e9, b19, hk⟩ := hk
  refine r_callV X (pc := 5) (As := [vI x1, vI x2]) (st := [vI 0, vR x3]) rfl rfl e9 b19 m_X0_87 (fun _ => s_X1_why hk) ⟨by decide, by decide⟩ (Nat.le_of_ble_eq_true rfl) dX0_why_5 (fun v9 h4 n5 z6 hq => ?_) (fun ci8 q9 h10 n11 z12 hf => ?_)
  · obtain ⟨r3, rfl, hk⟩ := hq
    refine ⟨[vI r3], rfl, ?_⟩
    refine r_i2l X (pc := 8) dX0_why_8 ?_
    refine r_hSJ X (pc := 9) dX0_why_9 hk (fun h7 hk => ?_)
    refine r_goto X (pc := 10) (tgt := 21) dX0_why_10 (by decide) ?_
    refine r_iconst X (pc := 21) dX0_why_21 ?_
    exact r_iret X E (pc := 22) dX0_why_22 rfl ⟨_, rfl, hk⟩
  · have hk := hf
    by_cases c13 : ci8 = 23
    · replace hk := hk.1 c13
      subst c13
      refine r_catch X (pc := 5) [] ({ startPc := 0, endPc := 10, handlerPc := 13, catchType := 22 } : ExceptionTableEntry) [({ startPc := 0, endPc := 10, handlerPc := 17, catchType := 13 } : ExceptionTableEntry)] rfl (fun _ h9 => nomatch h9) (by decide) (by decide) q1419 co_23_java_lang_IndexOutOfBoundsException ?_
      refine r_astore X (pc := 13) (lv1 := [(4, vR (some q9)), (0, vR x0), (1, vI x1), (2, vI x2), (3, vR x3)]) dX0_why_13 (by decide) rfl ?_
      refine r_iconst X (pc := 15) dX0_why_15 ?_
      exact r_iret X E (pc := 16) dX0_why_16 rfl ⟨_, rfl, hk⟩
    · replace hk := hk.2 c13
      obtain ⟨b14, hk⟩ := hk
      by_cases c15 : ci8 = 21
      · replace hk := hk.1 c15
        subst c15
        refine r_catch X (pc := 5) [({ startPc := 0, endPc := 10, handlerPc := 13, catchType := 22 } : ExceptionTableEntry)] ({ startPc := 0, endPc := 10, handlerPc := 17, catchType := 13 } : ExceptionTableEntry) [] rfl (List.forall_mem_cons.mpr ⟨Or.inr ⟨by decide, "java/lang/IndexOutOfBoundsException", q1419, cns_java_lang_IndexOutOfBoundsException_21_22 _ b14⟩, (fun _ h9 => nomatch h9)⟩) (by decide) (by decide) q1392 co_21_java_lang_IllegalArgumentException ?_
        refine r_astore X (pc := 17) (lv1 := [(4, vR (some q9)), (0, vR x0), (1, vI x1), (2, vI x2), (3, vR x3)]) dX0_why_17 (by decide) rfl ?_
        refine r_iconst X (pc := 19) dX0_why_19 ?_
        exact r_iret X E (pc := 20) dX0_why_20 rfl ⟨_, rfl, hk⟩
      · replace hk := hk.2 c15
        obtain ⟨b16, hk⟩ := hk
        exact r_out X E (List.forall_mem_cons.mpr ⟨Or.inr ⟨by decide, "java/lang/IndexOutOfBoundsException", q1419, cns_java_lang_IndexOutOfBoundsException_21_22 _ b14⟩, (List.forall_mem_cons.mpr ⟨Or.inr ⟨by decide, "java/lang/IllegalArgumentException", q1392, cns_java_lang_IllegalArgumentException_22 _ b16⟩, (fun _ h9 => nomatch h9)⟩)⟩) hk
theorem s_X0_why {K : KT} {l : Launch} {κ : Int → AH → Nat → Nat → Prop} {χ : QxT} {h : AH} {n : Nat} {z : Nat} {x0 : Option Nat} {x1 : Int} {x2 : Int} {x3 : Option Nat} (hk : P_X0_why K κ χ h n z x0 x1 x2 x3) : Ct K l yX0_why (wsW_ yX0_why cX0_why 5 (Option.some Jvm.ClassFile.FieldType.int) [((0 : Nat), (10 : Nat), (13 : Nat), (22 : Nat)), ((0 : Nat), (10 : Nat), (17 : Nat), (13 : Nat))]) 12 329 ([vR x0, vI x1, vI x2, vR x3].map cV) h n z (QvI κ) χ :=
  ct_ofH (by decide +kernel) (Nat.le_of_ble_eq_true rfl) (fun Y X E => w_X0_why X E hk)
set_option maxHeartbeats 4000000 in
theorem w_X0_ifOther {K : KT} {Y : YT} {κ : Int → AH → Nat → Nat → Prop} {χ : QxT} (X : XY K "TrailMarkersLaw" "ifOther" cX0_ifOther (Option.some Jvm.ClassFile.FieldType.int) (tableOf [((0 : Nat), (12 : Nat), (15 : Nat), (22 : Nat)), ((0 : Nat), (12 : Nat), (19 : Nat), (13 : Nat))]) 6 12 326 Y) (E : YE K Y (QvI κ) χ) {h : AH} {n : Nat} {z : Nat} {x0 : Option Nat} {x1 : Int} {x2 : Int} {x3 : Int} {x4 : Option Nat} (hk : P_X0_ifOther K κ χ h n z x0 x1 x2 x3 x4) : G K Y h n z 0 (lv_argsA 0 [vR x0, vI x1, vI x2, vI x3, vR x4]) [] := by
  show G K Y h n z 0 [(0, vR x0), (1, vI x1), (2, vI x2), (3, vI x3), (4, vR x4)] []
  refine r_aload X (pc := 0) dX0_ifOther_0 (q := 4) rfl ?_
  refine r_iconst X (pc := 2) dX0_ifOther_2 ?_
  refine r_aload_n X (pc := 3) dX0_ifOther_3 rfl (q := 0) rfl ?_
  refine r_iload_n X (pc := 4) dX0_ifOther_4 rfl (q := 1) rfl ?_
  refine r_iload_n X (pc := 5) dX0_ifOther_5 rfl (q := 2) rfl ?_
  refine r_iload_n X (pc := 6) dX0_ifOther_6 rfl (q := 3) rfl ?_
  obtain ⟨o17, fs18, e9, b19, hk⟩ := hk
  refine r_callV X (pc := 7) (As := [vI x1, vI x2, vI x3]) (st := [vI 0, vR x4]) rfl rfl e9 b19 m_X0_90 (fun _ => s_X1_ifOther hk) ⟨by decide, by decide⟩ (Nat.le_of_ble_eq_true rfl) dX0_ifOther_7 (fun v9 h4 n5 z6 hq => ?_) (fun ci8 q9 h10 n11 z12 hf => ?_)
  · obtain ⟨r3, rfl, hk⟩ := hq
    refine ⟨[vI r3], rfl, ?_⟩
    refine r_i2l X (pc := 10) dX0_ifOther_10 ?_
    refine r_hSJ X (pc := 11) dX0_ifOther_11 hk (fun h7 hk => ?_)
    refine r_goto X (pc := 12) (tgt := 23) dX0_ifOther_12 (by decide) ?_
    refine r_iconst X (pc := 23) dX0_ifOther_23 ?_
    exact r_iret X E (pc := 24) dX0_ifOther_24 rfl ⟨_, rfl, hk⟩
  · have hk := hf
    by_cases c13 : ci8 = 23
    · replace hk := hk.1 c13
      subst c13
      refine r_catch X (pc := 7) [] ({ startPc := 0, endPc := 12, handlerPc := 15, catchType := 22 } : ExceptionTableEntry) [({ startPc := 0, endPc := 12, handlerPc := 19, catchType := 13 } : ExceptionTableEntry)] rfl (fun _ h9 => nomatch h9) (by decide) (by decide) q1419 co_23_java_lang_IndexOutOfBoundsException ?_
      refine r_astore X (pc := 15) (lv1 := [(5, vR (some q9)), (0, vR x0), (1, vI x1), (2, vI x2), (3, vI x3), (4, vR x4)]) dX0_ifOther_15 (by decide) rfl ?_
      refine r_iconst X (pc := 17) dX0_ifOther_17 ?_
      exact r_iret X E (pc := 18) dX0_ifOther_18 rfl ⟨_, rfl, hk⟩
    · replace hk := hk.2 c13
      obtain ⟨b14, hk⟩ := hk
      by_cases c15 : ci8 = 21
      · replace hk := hk.1 c15
        subst c15
        refine r_catch X (pc := 7) [({ startPc := 0, endPc := 12, handlerPc := 15, catchType := 22 } : ExceptionTableEntry)] ({ startPc := 0, endPc := 12, handlerPc := 19, catchType := 13 } : ExceptionTableEntry) [] rfl (List.forall_mem_cons.mpr ⟨Or.inr ⟨by decide, "java/lang/IndexOutOfBoundsException", q1419, cns_java_lang_IndexOutOfBoundsException_21_22 _ b14⟩, (fun _ h9 => nomatch h9)⟩) (by decide) (by decide) q1392 co_21_java_lang_IllegalArgumentException ?_
        refine r_astore X (pc := 19) (lv1 := [(5, vR (some q9)), (0, vR x0), (1, vI x1), (2, vI x2), (3, vI x3), (4, vR x4)]) dX0_ifOther_19 (by decide) rfl ?_
        refine r_iconst X (pc := 21) dX0_ifOther_21 ?_
        exact r_iret X E (pc := 22) dX0_ifOther_22 rfl ⟨_, rfl, hk⟩
      · replace hk := hk.2 c15
        obtain ⟨b16, hk⟩ := hk
        exact r_out X E (List.forall_mem_cons.mpr ⟨Or.inr ⟨by decide, "java/lang/IndexOutOfBoundsException", q1419, cns_java_lang_IndexOutOfBoundsException_21_22 _ b14⟩, (List.forall_mem_cons.mpr ⟨Or.inr ⟨by decide, "java/lang/IllegalArgumentException", q1392, cns_java_lang_IllegalArgumentException_22 _ b16⟩, (fun _ h9 => nomatch h9)⟩)⟩) hk
theorem s_X0_ifOther {K : KT} {l : Launch} {κ : Int → AH → Nat → Nat → Prop} {χ : QxT} {h : AH} {n : Nat} {z : Nat} {x0 : Option Nat} {x1 : Int} {x2 : Int} {x3 : Int} {x4 : Option Nat} (hk : P_X0_ifOther K κ χ h n z x0 x1 x2 x3 x4) : Ct K l yX0_ifOther (wsW_ yX0_ifOther cX0_ifOther 6 (Option.some Jvm.ClassFile.FieldType.int) [((0 : Nat), (12 : Nat), (15 : Nat), (22 : Nat)), ((0 : Nat), (12 : Nat), (19 : Nat), (13 : Nat))]) 12 326 ([vR x0, vI x1, vI x2, vI x3, vR x4].map cV) h n z (QvI κ) χ :=
  ct_ofH (by decide +kernel) (Nat.le_of_ble_eq_true rfl) (fun Y X E => w_X0_ifOther X E hk)
set_option maxHeartbeats 4000000 in
theorem w_X0_ifSet {K : KT} {Y : YT} {κ : Int → AH → Nat → Nat → Prop} {χ : QxT} (X : XY K "TrailMarkersLaw" "ifSet" cX0_ifSet (Option.some Jvm.ClassFile.FieldType.int) (tableOf [((0 : Nat), (14 : Nat), (17 : Nat), (22 : Nat)), ((0 : Nat), (14 : Nat), (21 : Nat), (13 : Nat))]) 7 12 328 Y) (E : YE K Y (QvI κ) χ) {h : AH} {n : Nat} {z : Nat} {x0 : Option Nat} {x1 : Int} {x2 : Int} {x3 : Int} {x4 : Int} {x5 : Option Nat} (hk : P_X0_ifSet K κ χ h n z x0 x1 x2 x3 x4 x5) : G K Y h n z 0 (lv_argsA 0 [vR x0, vI x1, vI x2, vI x3, vI x4, vR x5]) [] := by
  show G K Y h n z 0 [(0, vR x0), (1, vI x1), (2, vI x2), (3, vI x3), (4, vI x4), (5, vR x5)] []
  refine r_aload X (pc := 0) dX0_ifSet_0 (q := 5) rfl ?_
  refine r_iconst X (pc := 2) dX0_ifSet_2 ?_
  refine r_aload_n X (pc := 3) dX0_ifSet_3 rfl (q := 0) rfl ?_
  refine r_iload_n X (pc := 4) dX0_ifSet_4 rfl (q := 1) rfl ?_
  refine r_iload_n X (pc := 5) dX0_ifSet_5 rfl (q := 2) rfl ?_
  refine r_iload_n X (pc := 6) dX0_ifSet_6 rfl (q := 3) rfl ?_
  refine r_iload X (pc := 7) dX0_ifSet_7 (q := 4) rfl ?_
  obtain ⟨o17, fs18, e9, b19, hk⟩ := hk
  refine r_callV X (pc := 9) (As := [vI x1, vI x2, vI x3, vI x4]) (st := [vI 0, vR x5]) rfl rfl e9 b19 m_X0_94 (fun _ => s_X1_ifSet hk) ⟨by decide, by decide⟩ (Nat.le_of_ble_eq_true rfl) dX0_ifSet_9 (fun v9 h4 n5 z6 hq => ?_) (fun ci8 q9 h10 n11 z12 hf => ?_)
  · obtain ⟨r3, rfl, hk⟩ := hq
    refine ⟨[vI r3], rfl, ?_⟩
    refine r_i2l X (pc := 12) dX0_ifSet_12 ?_
    refine r_hSJ X (pc := 13) dX0_ifSet_13 hk (fun h7 hk => ?_)
    refine r_goto X (pc := 14) (tgt := 25) dX0_ifSet_14 (by decide) ?_
    refine r_iconst X (pc := 25) dX0_ifSet_25 ?_
    exact r_iret X E (pc := 26) dX0_ifSet_26 rfl ⟨_, rfl, hk⟩
  · have hk := hf
    by_cases c13 : ci8 = 23
    · replace hk := hk.1 c13
      subst c13
      refine r_catch X (pc := 9) [] ({ startPc := 0, endPc := 14, handlerPc := 17, catchType := 22 } : ExceptionTableEntry) [({ startPc := 0, endPc := 14, handlerPc := 21, catchType := 13 } : ExceptionTableEntry)] rfl (fun _ h9 => nomatch h9) (by decide) (by decide) q1419 co_23_java_lang_IndexOutOfBoundsException ?_
      refine r_astore X (pc := 17) (lv1 := [(6, vR (some q9)), (0, vR x0), (1, vI x1), (2, vI x2), (3, vI x3), (4, vI x4), (5, vR x5)]) dX0_ifSet_17 (by decide) rfl ?_
      refine r_iconst X (pc := 19) dX0_ifSet_19 ?_
      exact r_iret X E (pc := 20) dX0_ifSet_20 rfl ⟨_, rfl, hk⟩
    · replace hk := hk.2 c13
      obtain ⟨b14, hk⟩ := hk
      by_cases c15 : ci8 = 21
      · replace hk := hk.1 c15
        subst c15
        refine r_catch X (pc := 9) [({ startPc := 0, endPc := 14, handlerPc := 17, catchType := 22 } : ExceptionTableEntry)] ({ startPc := 0, endPc := 14, handlerPc := 21, catchType := 13 } : ExceptionTableEntry) [] rfl (List.forall_mem_cons.mpr ⟨Or.inr ⟨by decide, "java/lang/IndexOutOfBoundsException", q1419, cns_java_lang_IndexOutOfBoundsException_21_22 _ b14⟩, (fun _ h9 => nomatch h9)⟩) (by decide) (by decide) q1392 co_21_java_lang_IllegalArgumentException ?_
        refine r_astore X (pc := 21) (lv1 := [(6, vR (some q9)), (0, vR x0), (1, vI x1), (2, vI x2), (3, vI x3), (4, vI x4), (5, vR x5)]) dX0_ifSet_21 (by decide) rfl ?_
        refine r_iconst X (pc := 23) dX0_ifSet_23 ?_
        exact r_iret X E (pc := 24) dX0_ifSet_24 rfl ⟨_, rfl, hk⟩
      · replace hk := hk.2 c15
        obtain ⟨b16, hk⟩ := hk
        exact r_out X E (List.forall_mem_cons.mpr ⟨Or.inr ⟨by decide, "java/lang/IndexOutOfBoundsException", q1419, cns_java_lang_IndexOutOfBoundsException_21_22 _ b14⟩, (List.forall_mem_cons.mpr ⟨Or.inr ⟨by decide, "java/lang/IllegalArgumentException", q1392, cns_java_lang_IllegalArgumentException_22 _ b16⟩, (fun _ h9 => nomatch h9)⟩)⟩) hk
theorem s_X0_ifSet {K : KT} {l : Launch} {κ : Int → AH → Nat → Nat → Prop} {χ : QxT} {h : AH} {n : Nat} {z : Nat} {x0 : Option Nat} {x1 : Int} {x2 : Int} {x3 : Int} {x4 : Int} {x5 : Option Nat} (hk : P_X0_ifSet K κ χ h n z x0 x1 x2 x3 x4 x5) : Ct K l yX0_ifSet (wsW_ yX0_ifSet cX0_ifSet 7 (Option.some Jvm.ClassFile.FieldType.int) [((0 : Nat), (14 : Nat), (17 : Nat), (22 : Nat)), ((0 : Nat), (14 : Nat), (21 : Nat), (13 : Nat))]) 12 328 ([vR x0, vI x1, vI x2, vI x3, vI x4, vR x5].map cV) h n z (QvI κ) χ :=
  ct_ofH (by decide +kernel) (Nat.le_of_ble_eq_true rfl) (fun Y X E => w_X0_ifSet X E hk)
set_option maxHeartbeats 4000000 in
theorem w_X0_bestMend {K : KT} {Y : YT} {κ : Int → AH → Nat → Nat → Prop} {χ : QxT} (X : XY K "TrailMarkersLaw" "bestMend" cX0_bestMend (Option.some Jvm.ClassFile.FieldType.int) (tableOf [((0 : Nat), (9 : Nat), (12 : Nat), (22 : Nat))]) 4 12 322 Y) (E : YE K Y (QvI κ) χ) {h : AH} {n : Nat} {z : Nat} {x0 : Option Nat} {x1 : Int} {x2 : Option Nat} (hk : P_X0_bestMend K κ χ h n z x0 x1 x2) : G K Y h n z 0 (lv_argsA 0 [vR x0, vI x1, vR x2]) [] := by
  show G K Y h n z 0 [(0, vR x0), (1, vI x1), (2, vR x2)] []
  refine r_aload_n X (pc := 0) dX0_bestMend_0 rfl (q := 2) rfl ?_
  refine r_iconst X (pc := 1) dX0_bestMend_1 ?_
  refine r_aload_n X (pc := 2) dX0_bestMend_2 rfl (q := 0) rfl ?_
  refine r_iload_n X (pc := 3) dX0_bestMend_3 rfl (q := 1) rfl ?_
  obtain ⟨o15, fs16, e9, b17, hk⟩ := hk
  refine r_callV X (pc := 4) (As := [vI x1]) (st := [vI 0, vR x2]) rfl rfl e9 b17 m_X0_97 (fun _ => s_X1_bestMend hk) ⟨by decide, by decide⟩ (Nat.le_of_ble_eq_true rfl) dX0_bestMend_4 (fun v9 h4 n5 z6 hq => ?_) (fun ci8 q9 h10 n11 z12 hf => ?_)
  · obtain ⟨r3, rfl, hk⟩ := hq
    refine ⟨[vI r3], rfl, ?_⟩
    refine r_i2l X (pc := 7) dX0_bestMend_7 ?_
    refine r_hSJ X (pc := 8) dX0_bestMend_8 hk (fun h7 hk => ?_)
    refine r_goto X (pc := 9) (tgt := 15) dX0_bestMend_9 (by decide) ?_
    refine r_iconst X (pc := 15) dX0_bestMend_15 ?_
    exact r_iret X E (pc := 16) dX0_bestMend_16 rfl ⟨_, rfl, hk⟩
  · have hk := hf
    by_cases c13 : ci8 = 23
    · replace hk := hk.1 c13
      subst c13
      refine r_catch X (pc := 4) [] ({ startPc := 0, endPc := 9, handlerPc := 12, catchType := 22 } : ExceptionTableEntry) [] rfl (fun _ h9 => nomatch h9) (by decide) (by decide) q1419 co_23_java_lang_IndexOutOfBoundsException ?_
      refine r_astore_n X (pc := 12) (lv1 := [(3, vR (some q9)), (0, vR x0), (1, vI x1), (2, vR x2)]) dX0_bestMend_12 rfl (by decide) rfl ?_
      refine r_iconst X (pc := 13) dX0_bestMend_13 ?_
      exact r_iret X E (pc := 14) dX0_bestMend_14 rfl ⟨_, rfl, hk⟩
    · replace hk := hk.2 c13
      obtain ⟨b14, hk⟩ := hk
      exact r_out X E (List.forall_mem_cons.mpr ⟨Or.inr ⟨by decide, "java/lang/IndexOutOfBoundsException", q1419, cns_java_lang_IndexOutOfBoundsException_21_22 _ b14⟩, (fun _ h9 => nomatch h9)⟩) hk
theorem s_X0_bestMend {K : KT} {l : Launch} {κ : Int → AH → Nat → Nat → Prop} {χ : QxT} {h : AH} {n : Nat} {z : Nat} {x0 : Option Nat} {x1 : Int} {x2 : Option Nat} (hk : P_X0_bestMend K κ χ h n z x0 x1 x2) : Ct K l yX0_bestMend (wsW_ yX0_bestMend cX0_bestMend 4 (Option.some Jvm.ClassFile.FieldType.int) [((0 : Nat), (9 : Nat), (12 : Nat), (22 : Nat))]) 12 322 ([vR x0, vI x1, vR x2].map cV) h n z (QvI κ) χ :=
  ct_ofH (by decide +kernel) (Nat.le_of_ble_eq_true rfl) (fun Y X E => w_X0_bestMend X E hk)
set_option maxHeartbeats 4000000 in
theorem w_X0_worstLoss {K : KT} {Y : YT} {κ : Int → AH → Nat → Nat → Prop} {χ : QxT} (X : XY K "TrailMarkersLaw" "worstLoss" cX0_worstLoss (Option.some Jvm.ClassFile.FieldType.int) (tableOf [((0 : Nat), (9 : Nat), (12 : Nat), (22 : Nat))]) 4 12 322 Y) (E : YE K Y (QvI κ) χ) {h : AH} {n : Nat} {z : Nat} {x0 : Option Nat} {x1 : Int} {x2 : Option Nat} (hk : P_X0_worstLoss K κ χ h n z x0 x1 x2) : G K Y h n z 0 (lv_argsA 0 [vR x0, vI x1, vR x2]) [] := by
  show G K Y h n z 0 [(0, vR x0), (1, vI x1), (2, vR x2)] []
  refine r_aload_n X (pc := 0) dX0_worstLoss_0 rfl (q := 2) rfl ?_
  refine r_iconst X (pc := 1) dX0_worstLoss_1 ?_
  refine r_aload_n X (pc := 2) dX0_worstLoss_2 rfl (q := 0) rfl ?_
  refine r_iload_n X (pc := 3) dX0_worstLoss_3 rfl (q := 1) rfl ?_
  obtain ⟨o15, fs16, e9, b17, hk⟩ := hk
  refine r_callV X (pc := 4) (As := [vI x1]) (st := [vI 0, vR x2]) rfl rfl e9 b17 m_X0_100 (fun _ => s_X1_worstLoss hk) ⟨by decide, by decide⟩ (Nat.le_of_ble_eq_true rfl) dX0_worstLoss_4 (fun v9 h4 n5 z6 hq => ?_) (fun ci8 q9 h10 n11 z12 hf => ?_)
  · obtain ⟨r3, rfl, hk⟩ := hq
    refine ⟨[vI r3], rfl, ?_⟩
    refine r_i2l X (pc := 7) dX0_worstLoss_7 ?_
    refine r_hSJ X (pc := 8) dX0_worstLoss_8 hk (fun h7 hk => ?_)
    refine r_goto X (pc := 9) (tgt := 15) dX0_worstLoss_9 (by decide) ?_
    refine r_iconst X (pc := 15) dX0_worstLoss_15 ?_
    exact r_iret X E (pc := 16) dX0_worstLoss_16 rfl ⟨_, rfl, hk⟩
  · have hk := hf
    by_cases c13 : ci8 = 23
    · replace hk := hk.1 c13
      subst c13
      refine r_catch X (pc := 4) [] ({ startPc := 0, endPc := 9, handlerPc := 12, catchType := 22 } : ExceptionTableEntry) [] rfl (fun _ h9 => nomatch h9) (by decide) (by decide) q1419 co_23_java_lang_IndexOutOfBoundsException ?_
      refine r_astore_n X (pc := 12) (lv1 := [(3, vR (some q9)), (0, vR x0), (1, vI x1), (2, vR x2)]) dX0_worstLoss_12 rfl (by decide) rfl ?_
      refine r_iconst X (pc := 13) dX0_worstLoss_13 ?_
      exact r_iret X E (pc := 14) dX0_worstLoss_14 rfl ⟨_, rfl, hk⟩
    · replace hk := hk.2 c13
      obtain ⟨b14, hk⟩ := hk
      exact r_out X E (List.forall_mem_cons.mpr ⟨Or.inr ⟨by decide, "java/lang/IndexOutOfBoundsException", q1419, cns_java_lang_IndexOutOfBoundsException_21_22 _ b14⟩, (fun _ h9 => nomatch h9)⟩) hk
theorem s_X0_worstLoss {K : KT} {l : Launch} {κ : Int → AH → Nat → Nat → Prop} {χ : QxT} {h : AH} {n : Nat} {z : Nat} {x0 : Option Nat} {x1 : Int} {x2 : Option Nat} (hk : P_X0_worstLoss K κ χ h n z x0 x1 x2) : Ct K l yX0_worstLoss (wsW_ yX0_worstLoss cX0_worstLoss 4 (Option.some Jvm.ClassFile.FieldType.int) [((0 : Nat), (9 : Nat), (12 : Nat), (22 : Nat))]) 12 322 ([vR x0, vI x1, vR x2].map cV) h n z (QvI κ) χ :=
  ct_ofH (by decide +kernel) (Nat.le_of_ble_eq_true rfl) (fun Y X E => w_X0_worstLoss X E hk)
set_option maxHeartbeats 4000000 in
theorem w_X0_leastGap {K : KT} {Y : YT} {κ : Int → AH → Nat → Nat → Prop} {χ : QxT} (X : XY K "TrailMarkersLaw" "leastGap" cX0_leastGap (Option.some Jvm.ClassFile.FieldType.int) (tableOf [((0 : Nat), (9 : Nat), (12 : Nat), (22 : Nat))]) 4 12 325 Y) (E : YE K Y (QvI κ) χ) {h : AH} {n : Nat} {z : Nat} {x0 : Option Nat} {x1 : Int} {x2 : Option Nat} (hk : P_X0_leastGap K κ χ h n z x0 x1 x2) : G K Y h n z 0 (lv_argsA 0 [vR x0, vI x1, vR x2]) [] := by
  show G K Y h n z 0 [(0, vR x0), (1, vI x1), (2, vR x2)] []
  refine r_aload_n X (pc := 0) dX0_leastGap_0 rfl (q := 2) rfl ?_
  refine r_iconst X (pc := 1) dX0_leastGap_1 ?_
  refine r_aload_n X (pc := 2) dX0_leastGap_2 rfl (q := 0) rfl ?_
  refine r_iload_n X (pc := 3) dX0_leastGap_3 rfl (q := 1) rfl ?_
  obtain ⟨o15, fs16, e9, b17, hk⟩ := hk
  refine r_callV X (pc := 4) (As := [vI x1]) (st := [vI 0, vR x2]) rfl rfl e9 b17 m_X0_103 (fun _ => s_X1_leastGap hk) ⟨by decide, by decide⟩ (Nat.le_of_ble_eq_true rfl) dX0_leastGap_4 (fun v9 h4 n5 z6 hq => ?_) (fun ci8 q9 h10 n11 z12 hf => ?_)
  · obtain ⟨r3, rfl, hk⟩ := hq
    refine ⟨[vI r3], rfl, ?_⟩
    refine r_i2l X (pc := 7) dX0_leastGap_7 ?_
    refine r_hSJ X (pc := 8) dX0_leastGap_8 hk (fun h7 hk => ?_)
    refine r_goto X (pc := 9) (tgt := 15) dX0_leastGap_9 (by decide) ?_
    refine r_iconst X (pc := 15) dX0_leastGap_15 ?_
    exact r_iret X E (pc := 16) dX0_leastGap_16 rfl ⟨_, rfl, hk⟩
  · have hk := hf
    by_cases c13 : ci8 = 23
    · replace hk := hk.1 c13
      subst c13
      refine r_catch X (pc := 4) [] ({ startPc := 0, endPc := 9, handlerPc := 12, catchType := 22 } : ExceptionTableEntry) [] rfl (fun _ h9 => nomatch h9) (by decide) (by decide) q1419 co_23_java_lang_IndexOutOfBoundsException ?_
      refine r_astore_n X (pc := 12) (lv1 := [(3, vR (some q9)), (0, vR x0), (1, vI x1), (2, vR x2)]) dX0_leastGap_12 rfl (by decide) rfl ?_
      refine r_iconst X (pc := 13) dX0_leastGap_13 ?_
      exact r_iret X E (pc := 14) dX0_leastGap_14 rfl ⟨_, rfl, hk⟩
    · replace hk := hk.2 c13
      obtain ⟨b14, hk⟩ := hk
      exact r_out X E (List.forall_mem_cons.mpr ⟨Or.inr ⟨by decide, "java/lang/IndexOutOfBoundsException", q1419, cns_java_lang_IndexOutOfBoundsException_21_22 _ b14⟩, (fun _ h9 => nomatch h9)⟩) hk
theorem s_X0_leastGap {K : KT} {l : Launch} {κ : Int → AH → Nat → Nat → Prop} {χ : QxT} {h : AH} {n : Nat} {z : Nat} {x0 : Option Nat} {x1 : Int} {x2 : Option Nat} (hk : P_X0_leastGap K κ χ h n z x0 x1 x2) : Ct K l yX0_leastGap (wsW_ yX0_leastGap cX0_leastGap 4 (Option.some Jvm.ClassFile.FieldType.int) [((0 : Nat), (9 : Nat), (12 : Nat), (22 : Nat))]) 12 325 ([vR x0, vI x1, vR x2].map cV) h n z (QvI κ) χ :=
  ct_ofH (by decide +kernel) (Nat.le_of_ble_eq_true rfl) (fun Y X E => w_X0_leastGap X E hk)
set_option maxHeartbeats 4000000 in
theorem w_X0_meanBits {K : KT} {Y : YT} {κ : Int → AH → Nat → Nat → Prop} {χ : QxT} (X : XY K "TrailMarkersLaw" "meanBits" cX0_meanBits (Option.some Jvm.ClassFile.FieldType.int) (tableOf [((0 : Nat), (9 : Nat), (12 : Nat), (22 : Nat))]) 4 13 344 Y) (E : YE K Y (QvI κ) χ) {h : AH} {n : Nat} {z : Nat} {x0 : Option Nat} {x1 : Int} {x2 : Option Nat} (hk : P_X0_meanBits K κ χ h n z x0 x1 x2) : G K Y h n z 0 (lv_argsA 0 [vR x0, vI x1, vR x2]) [] := by
  show G K Y h n z 0 [(0, vR x0), (1, vI x1), (2, vR x2)] []
  refine r_aload_n X (pc := 0) dX0_meanBits_0 rfl (q := 2) rfl ?_
  refine r_iconst X (pc := 1) dX0_meanBits_1 ?_
  refine r_aload_n X (pc := 2) dX0_meanBits_2 rfl (q := 0) rfl ?_
  refine r_iload_n X (pc := 3) dX0_meanBits_3 rfl (q := 1) rfl ?_
  obtain ⟨o15, fs16, e9, b17, hk⟩ := hk
  refine r_callV X (pc := 4) (As := [vI x1]) (st := [vI 0, vR x2]) rfl rfl e9 b17 m_X0_106 (fun _ => s_X1_meanBits hk) ⟨by decide, by decide⟩ (Nat.le_of_ble_eq_true rfl) dX0_meanBits_4 (fun v9 h4 n5 z6 hq => ?_) (fun ci8 q9 h10 n11 z12 hf => ?_)
  · obtain ⟨r3, rfl, hk⟩ := hq
    refine ⟨[vI r3], rfl, ?_⟩
    refine r_i2l X (pc := 7) dX0_meanBits_7 ?_
    refine r_hSJ X (pc := 8) dX0_meanBits_8 hk (fun h7 hk => ?_)
    refine r_goto X (pc := 9) (tgt := 15) dX0_meanBits_9 (by decide) ?_
    refine r_iconst X (pc := 15) dX0_meanBits_15 ?_
    exact r_iret X E (pc := 16) dX0_meanBits_16 rfl ⟨_, rfl, hk⟩
  · have hk := hf
    by_cases c13 : ci8 = 23
    · replace hk := hk.1 c13
      subst c13
      refine r_catch X (pc := 4) [] ({ startPc := 0, endPc := 9, handlerPc := 12, catchType := 22 } : ExceptionTableEntry) [] rfl (fun _ h9 => nomatch h9) (by decide) (by decide) q1419 co_23_java_lang_IndexOutOfBoundsException ?_
      refine r_astore_n X (pc := 12) (lv1 := [(3, vR (some q9)), (0, vR x0), (1, vI x1), (2, vR x2)]) dX0_meanBits_12 rfl (by decide) rfl ?_
      refine r_iconst X (pc := 13) dX0_meanBits_13 ?_
      exact r_iret X E (pc := 14) dX0_meanBits_14 rfl ⟨_, rfl, hk⟩
    · replace hk := hk.2 c13
      obtain ⟨b14, hk⟩ := hk
      exact r_out X E (List.forall_mem_cons.mpr ⟨Or.inr ⟨by decide, "java/lang/IndexOutOfBoundsException", q1419, cns_java_lang_IndexOutOfBoundsException_21_22 _ b14⟩, (fun _ h9 => nomatch h9)⟩) hk
theorem s_X0_meanBits {K : KT} {l : Launch} {κ : Int → AH → Nat → Nat → Prop} {χ : QxT} {h : AH} {n : Nat} {z : Nat} {x0 : Option Nat} {x1 : Int} {x2 : Option Nat} (hk : P_X0_meanBits K κ χ h n z x0 x1 x2) : Ct K l yX0_meanBits (wsW_ yX0_meanBits cX0_meanBits 4 (Option.some Jvm.ClassFile.FieldType.int) [((0 : Nat), (9 : Nat), (12 : Nat), (22 : Nat))]) 13 344 ([vR x0, vI x1, vR x2].map cV) h n z (QvI κ) χ :=
  ct_ofH (by decide +kernel) (Nat.le_of_ble_eq_true rfl) (fun Y X E => w_X0_meanBits X E hk)
set_option maxHeartbeats 4000000 in
theorem w_X0_writeRoute {K : KT} {Y : YT} {κ : Int → AH → Nat → Nat → Prop} {χ : QxT} (X : XY K "TrailMarkersLaw" "writeRoute" cX0_writeRoute (Option.some Jvm.ClassFile.FieldType.int) (tableOf [((0 : Nat), (9 : Nat), (12 : Nat), (22 : Nat))]) 4 14 357 Y) (E : YE K Y (QvI κ) χ) {h : AH} {n : Nat} {z : Nat} {x0 : Option Nat} {x1 : Int} {x2 : Option Nat} (hk : P_X0_writeRoute K κ χ h n z x0 x1 x2) : G K Y h n z 0 (lv_argsA 0 [vR x0, vI x1, vR x2]) [] := by
  show G K Y h n z 0 [(0, vR x0), (1, vI x1), (2, vR x2)] []
  refine r_aload_n X (pc := 0) dX0_writeRoute_0 rfl (q := 2) rfl ?_
  refine r_iconst X (pc := 1) dX0_writeRoute_1 ?_
  refine r_aload_n X (pc := 2) dX0_writeRoute_2 rfl (q := 0) rfl ?_
  refine r_iload_n X (pc := 3) dX0_writeRoute_3 rfl (q := 1) rfl ?_
  obtain ⟨o15, fs16, e9, b17, hk⟩ := hk
  refine r_callV X (pc := 4) (As := [vI x1]) (st := [vI 0, vR x2]) rfl rfl e9 b17 m_X0_109 (fun _ => s_X1_writeRoute hk) ⟨by decide, by decide⟩ (Nat.le_of_ble_eq_true rfl) dX0_writeRoute_4 (fun v9 h4 n5 z6 hq => ?_) (fun ci8 q9 h10 n11 z12 hf => ?_)
  · obtain ⟨r3, rfl, hk⟩ := hq
    refine ⟨[vI r3], rfl, ?_⟩
    refine r_i2l X (pc := 7) dX0_writeRoute_7 ?_
    refine r_hSJ X (pc := 8) dX0_writeRoute_8 hk (fun h7 hk => ?_)
    refine r_goto X (pc := 9) (tgt := 15) dX0_writeRoute_9 (by decide) ?_
    refine r_iconst X (pc := 15) dX0_writeRoute_15 ?_
    exact r_iret X E (pc := 16) dX0_writeRoute_16 rfl ⟨_, rfl, hk⟩
  · have hk := hf
    by_cases c13 : ci8 = 23
    · replace hk := hk.1 c13
      subst c13
      refine r_catch X (pc := 4) [] ({ startPc := 0, endPc := 9, handlerPc := 12, catchType := 22 } : ExceptionTableEntry) [] rfl (fun _ h9 => nomatch h9) (by decide) (by decide) q1419 co_23_java_lang_IndexOutOfBoundsException ?_
      refine r_astore_n X (pc := 12) (lv1 := [(3, vR (some q9)), (0, vR x0), (1, vI x1), (2, vR x2)]) dX0_writeRoute_12 rfl (by decide) rfl ?_
      refine r_iconst X (pc := 13) dX0_writeRoute_13 ?_
      exact r_iret X E (pc := 14) dX0_writeRoute_14 rfl ⟨_, rfl, hk⟩
    · replace hk := hk.2 c13
      obtain ⟨b14, hk⟩ := hk
      exact r_out X E (List.forall_mem_cons.mpr ⟨Or.inr ⟨by decide, "java/lang/IndexOutOfBoundsException", q1419, cns_java_lang_IndexOutOfBoundsException_21_22 _ b14⟩, (fun _ h9 => nomatch h9)⟩) hk
theorem s_X0_writeRoute {K : KT} {l : Launch} {κ : Int → AH → Nat → Nat → Prop} {χ : QxT} {h : AH} {n : Nat} {z : Nat} {x0 : Option Nat} {x1 : Int} {x2 : Option Nat} (hk : P_X0_writeRoute K κ χ h n z x0 x1 x2) : Ct K l yX0_writeRoute (wsW_ yX0_writeRoute cX0_writeRoute 4 (Option.some Jvm.ClassFile.FieldType.int) [((0 : Nat), (9 : Nat), (12 : Nat), (22 : Nat))]) 14 357 ([vR x0, vI x1, vR x2].map cV) h n z (QvI κ) χ :=
  ct_ofH (by decide +kernel) (Nat.le_of_ble_eq_true rfl) (fun Y X E => w_X0_writeRoute X E hk)
set_option maxHeartbeats 4000000 in
theorem w_X0_writeRow {K : KT} {Y : YT} {κ : Int → AH → Nat → Nat → Prop} {χ : QxT} (X : XY K "TrailMarkersLaw" "writeRow" cX0_writeRow (Option.some Jvm.ClassFile.FieldType.int) (tableOf [((0 : Nat), (9 : Nat), (12 : Nat), (13 : Nat))]) 4 14 351 Y) (E : YE K Y (QvI κ) χ) {h : AH} {n : Nat} {z : Nat} {x0 : Option Nat} {x1 : Int} {x2 : Option Nat} (hk : P_X0_writeRow K κ χ h n z x0 x1 x2) : G K Y h n z 0 (lv_argsA 0 [vR x0, vI x1, vR x2]) [] := by
  show G K Y h n z 0 [(0, vR x0), (1, vI x1), (2, vR x2)] []
  refine r_aload_n X (pc := 0) dX0_writeRow_0 rfl (q := 2) rfl ?_
  refine r_iconst X (pc := 1) dX0_writeRow_1 ?_
  refine r_aload_n X (pc := 2) dX0_writeRow_2 rfl (q := 0) rfl ?_
  refine r_iload_n X (pc := 3) dX0_writeRow_3 rfl (q := 1) rfl ?_
  obtain ⟨o15, fs16, e9, b17, hk⟩ := hk
  refine r_callV X (pc := 4) (As := [vI x1]) (st := [vI 0, vR x2]) rfl rfl e9 b17 m_X0_112 (fun _ => s_X1_writeRow hk) ⟨by decide, by decide⟩ (Nat.le_of_ble_eq_true rfl) dX0_writeRow_4 (fun v9 h4 n5 z6 hq => ?_) (fun ci8 q9 h10 n11 z12 hf => ?_)
  · obtain ⟨r3, rfl, hk⟩ := hq
    refine ⟨[vI r3], rfl, ?_⟩
    refine r_i2l X (pc := 7) dX0_writeRow_7 ?_
    refine r_hSJ X (pc := 8) dX0_writeRow_8 hk (fun h7 hk => ?_)
    refine r_goto X (pc := 9) (tgt := 15) dX0_writeRow_9 (by decide) ?_
    refine r_iconst X (pc := 15) dX0_writeRow_15 ?_
    exact r_iret X E (pc := 16) dX0_writeRow_16 rfl ⟨_, rfl, hk⟩
  · have hk := hf
    by_cases c13 : ci8 = 21
    · replace hk := hk.1 c13
      subst c13
      refine r_catch X (pc := 4) [] ({ startPc := 0, endPc := 9, handlerPc := 12, catchType := 13 } : ExceptionTableEntry) [] rfl (fun _ h9 => nomatch h9) (by decide) (by decide) q1392 co_21_java_lang_IllegalArgumentException ?_
      refine r_astore_n X (pc := 12) (lv1 := [(3, vR (some q9)), (0, vR x0), (1, vI x1), (2, vR x2)]) dX0_writeRow_12 rfl (by decide) rfl ?_
      refine r_iconst X (pc := 13) dX0_writeRow_13 ?_
      exact r_iret X E (pc := 14) dX0_writeRow_14 rfl ⟨_, rfl, hk⟩
    · replace hk := hk.2 c13
      obtain ⟨b14, hk⟩ := hk
      exact r_out X E (List.forall_mem_cons.mpr ⟨Or.inr ⟨by decide, "java/lang/IllegalArgumentException", q1392, cns_java_lang_IllegalArgumentException_22 _ b14⟩, (fun _ h9 => nomatch h9)⟩) hk
theorem s_X0_writeRow {K : KT} {l : Launch} {κ : Int → AH → Nat → Nat → Prop} {χ : QxT} {h : AH} {n : Nat} {z : Nat} {x0 : Option Nat} {x1 : Int} {x2 : Option Nat} (hk : P_X0_writeRow K κ χ h n z x0 x1 x2) : Ct K l yX0_writeRow (wsW_ yX0_writeRow cX0_writeRow 4 (Option.some Jvm.ClassFile.FieldType.int) [((0 : Nat), (9 : Nat), (12 : Nat), (13 : Nat))]) 14 351 ([vR x0, vI x1, vR x2].map cV) h n z (QvI κ) χ :=
  ct_ofH (by decide +kernel) (Nat.le_of_ble_eq_true rfl) (fun Y X E => w_X0_writeRow X E hk)
