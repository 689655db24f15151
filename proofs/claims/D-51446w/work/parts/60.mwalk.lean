set_option maxRecDepth 100000
set_option maxHeartbeats 4000000 in
theorem w_X1_lay_2 {K : KT} {Y : YT} {o : Nat} {κ : AH → Nat → Nat → Prop} {χ : QxT} (X : XY K "TrailMarkers" "lay" cX1_lay (Option.none : Option Jvm.ClassFile.FieldType) [] 4 11 306 Y) (E : YE K Y (QvV κ) χ) {k_48 : AH → Nat → Nat → Prop} (H_48 : ∀ (h : AH) (n : Nat) (z : Nat), k_48 h n z → G K Y h n z 48 [(0, vR (some o))] []) : ∀ (f : Nat) (h : AH) (n : Nat) (z : Nat) (x1 : Option Nat) (x2 : Int) (x3 : Int), L_X1_lay_2 K o k_48 κ χ f h n z x1 x2 x3 → G K Y h n z 2 [(0, vR (some o)), (1, vR x1), (2, vI x2), (3, vI x3)] [] := by
  intro f
  induction f with
  | zero => intro h n z x1 x2 x3 hk; exact hk.elim
  | succ f ih =>
    intro h n z x1 x2 x3 hk
    refine r_iload_n X (pc := 2) dX1_lay_2 rfl (q := 3) rfl ?_
    refine r_aload_n X (pc := 3) dX1_lay_3 rfl (q := 1) rfl ?_
    refine r_hLen X (pc := 4) (t := 0) rfl dX1_lay_4 hk (fun y13 hk => ?_)
    obtain ⟨b14, b15, hk⟩ := hk
    refine r_icmp_ge X (pc := 5) (tgt := 48) dX1_lay_5 (by decide) ⟨b14, b15⟩ (fun c16 => ?_) (fun c16 => ?_)
    · have hk := hk.2 c16
      refine G.sub [0] rfl ?_
      exact H_48 h n z hk
    · have hk := hk.1 c16
      refine r_aload_n X (pc := 8) dX1_lay_8 rfl (q := 0) rfl ?_
      refine r_hGR X (pc := 9) fa_X1_14 dX1_lay_9 hk (fun y17 hk => ?_)
      refine r_hNew X (pc := 12) nw_X1_60 dX1_lay_12 hk (fun h18 hk => ?_)
      refine r_dup X (pc := 15) dX1_lay_15 rfl ?_
      refine r_aload_n X (pc := 16) dX1_lay_16 rfl (q := 1) rfl ?_
      refine r_iload_n X (pc := 17) dX1_lay_17 rfl (q := 3) rfl ?_
      refine r_hAI X (pc := 18) dX1_lay_18 hk (fun y19 hk => ?_)
      refine r_bipush X (pc := 19) dX1_lay_19 (by decide) ?_
      obtain ⟨b20, hk⟩ := hk
      refine r_idiv X (pc := 21) dX1_lay_21 ⟨⟨b20, (by decide)⟩, (by decide)⟩ ?_
      refine r_aload_n X (pc := 22) dX1_lay_22 rfl (q := 1) rfl ?_
      refine r_iload_n X (pc := 23) dX1_lay_23 rfl (q := 3) rfl ?_
      refine r_hAI X (pc := 24) dX1_lay_24 hk (fun y21 hk => ?_)
      refine r_bipush X (pc := 25) dX1_lay_25 (by decide) ?_
      obtain ⟨b22, hk⟩ := hk
      refine r_irem X (pc := 27) dX1_lay_27 ⟨⟨b22, (by decide)⟩, (by decide)⟩ ?_
      refine r_iload_n X (pc := 28) dX1_lay_28 rfl (q := 2) rfl ?_
      refine r_aload_n X (pc := 29) dX1_lay_29 rfl (q := 1) rfl ?_
      refine r_iload_n X (pc := 30) dX1_lay_30 rfl (q := 3) rfl ?_
      refine r_iconst X (pc := 31) dX1_lay_31 ?_
      refine r_iadd X (pc := 32) dX1_lay_32 ?_
      refine r_hAI X (pc := 33) dX1_lay_33 hk (fun y23 hk => ?_)
      refine r_iconst X (pc := 34) dX1_lay_34 ?_
      refine r_callI X (pc := 35) (As := [vI (y19.tdiv 100), vI (y21.tmod 100), vI x2, vI y23, vI 0]) (st := [vR (some n), vR y17]) m_X1_62 (fun _ => s_X3_init hk) ⟨by decide, by decide⟩ (Nat.le_of_ble_eq_true rfl) dX1_lay_35 (fun v9 h24 n25 z26 hq => ?_) (fun ci39 q40 h41 n42 z43 hf => ?_)
      · obtain ⟨rfl, hk⟩ := hq
        refine ⟨[], rfl, ?_⟩
        obtain ⟨o36, fs37, e9, b38, hk⟩ := hk
        refine r_callV X (pc := 38) (As := [vR (some n)]) (st := []) rfl rfl e9 b38 m_X1_65 (fun _ => s_X2_add hk) ⟨by decide, by decide⟩ (Nat.le_of_ble_eq_true rfl) dX1_lay_38 (fun v9 h28 n29 z30 hq => ?_) (fun ci31 q32 h33 n34 z35 hf => ?_)
        · obtain ⟨r27, rfl, hk⟩ := hq
          refine ⟨[vI r27], rfl, ?_⟩
          refine r_pop X (pc := 41) dX1_lay_41 rfl ?_
          refine r_iinc X (pc := 42) (q := 3) (lv1 := [(3, vI (x3 + 2)), (0, vR (some o)), (1, vR x1), (2, vI x2)]) dX1_lay_42 rfl (by decide) rfl ?_
          refine r_goto X (pc := 45) (tgt := 2) dX1_lay_45 (by decide) ?_
          refine G.sub [1, 2, 3, 0] rfl ?_
          exact ih h28 n29 z30 x1 x2 (x3 + 2) hk
        · have hk := hf
          exact r_out X E (fun _ h9 => nomatch h9) hk
      · have hk := hf
        exact r_out X E (fun _ h9 => nomatch h9) hk
set_option maxHeartbeats 4000000 in
theorem w_X1_lay_48 {K : KT} {Y : YT} {o : Nat} {κ : AH → Nat → Nat → Prop} {χ : QxT} (X : XY K "TrailMarkers" "lay" cX1_lay (Option.none : Option Jvm.ClassFile.FieldType) [] 4 11 306 Y) (E : YE K Y (QvV κ) χ) : ∀ (h : AH) (n : Nat) (z : Nat), P_X1_lay_48 K o κ χ h n z → G K Y h n z 48 [(0, vR (some o))] [] := by
  intro h n z hk
  exact r_vret X E (pc := 48) dX1_lay_48 ⟨rfl, hk⟩
set_option maxHeartbeats 4000000 in
theorem w_X1_lay {K : KT} {Y : YT} {o : Nat} {κ : AH → Nat → Nat → Prop} {χ : QxT} (X : XY K "TrailMarkers" "lay" cX1_lay (Option.none : Option Jvm.ClassFile.FieldType) [] 4 11 306 Y) (E : YE K Y (QvV κ) χ) {h : AH} {n : Nat} {z : Nat} {x1 : Option Nat} {x2 : Int} (hk : P_X1_lay K o κ χ h n z x1 x2) : G K Y h n z 0 (lv_argsA 0 [vR (some o), vR x1, vI x2]) [] := by
  show G K Y h n z 0 [(0, vR (some o)), (1, vR x1), (2, vI x2)] []
  refine r_iconst X (pc := 0) dX1_lay_0 ?_
  refine r_istore_n X (pc := 1) (lv1 := [(3, vI 0), (0, vR (some o)), (1, vR x1), (2, vI x2)]) dX1_lay_1 rfl (by decide) rfl ?_
  refine G.sub [1, 2, 3, 0] rfl ?_
  have HH44 : ∀ (h : AH) (n : Nat) (z : Nat), (P_X1_lay_48 K o κ χ h n z) → G K Y h n z 48 [(0, vR (some o))] [] := by
      intro h n z hk
      exact w_X1_lay_48 X E h n z hk
  obtain ⟨f9, hk⟩ := hk
  exact w_X1_lay_2 X E HH44 f9 h n z x1 x2 0 hk
theorem s_X1_lay {K : KT} {l : Launch} {o : Nat} {κ : AH → Nat → Nat → Prop} {χ : QxT} {h : AH} {n : Nat} {z : Nat} {x1 : Option Nat} {x2 : Int} (hk : P_X1_lay K o κ χ h n z x1 x2) : Ct K l yX1_lay (ws_ yX1_lay cX1_lay 4 (Option.none : Option Jvm.ClassFile.FieldType)) 11 306 ([vR (some o), vR x1, vI x2].map cV) h n z (QvV κ) χ :=
  ct_of (by decide +kernel) (Nat.le_of_ble_eq_true rfl) (fun Y X E => w_X1_lay X E hk)
set_option maxHeartbeats 4000000 in
theorem w_X1_init {K : KT} {Y : YT} {o : Nat} {κ : AH → Nat → Nat → Prop} {χ : QxT} (X : XY K "TrailMarkers" "<init>" cX1_init none (tableOf [((65 : Nat), (230 : Nat), (233 : Nat), (58 : Nat))]) 3 12 329 Y) (E : YE K Y (QvV κ) χ) {h : AH} {n : Nat} {z : Nat} (hk : P_X1_init K o κ χ h n z) : G K Y h n z 0 (lv_argsA 0 [vR (some o)]) [] := by
  show G K Y h n z 0 [(0, vR (some o))] []
  refine r_aload_n X (pc := 0) dX1_init_0 rfl (q := 0) rfl ?_
  refine r_objinit X (pc := 1) q202 q203 q204 ⟨by decide, Nat.le_of_ble_eq_true rfl⟩ dX1_init_1 ?_
  refine r_aload_n X (pc := 4) dX1_init_4 rfl (q := 0) rfl ?_
  refine r_hNew X (pc := 5) nw_X1_9 dX1_init_5 hk (fun h40 hk => ?_)
  refine r_dup X (pc := 8) dX1_init_8 rfl ?_
  refine r_bipush X (pc := 9) dX1_init_9 (by decide) ?_
  refine r_bipush X (pc := 11) dX1_init_11 (by decide) ?_
  refine r_iconst X (pc := 13) dX1_init_13 ?_
  refine r_iconst X (pc := 14) dX1_init_14 ?_
  refine r_callI X (pc := 15) (As := [vI 12, vI 10, vI 5, vI 1]) (st := [vR (some n), vR (some o)]) m_X1_11 (fun _ => s_X2_init hk) ⟨by decide, by decide⟩ (Nat.le_of_ble_eq_true rfl) dX1_init_15 (fun v9 h41 n42 z43 hq => ?_) (fun ci159 q160 h161 n162 z163 hf => ?_)
  · obtain ⟨rfl, hk⟩ := hq
    refine ⟨[], rfl, ?_⟩
    refine r_hPut X (pc := 18) fp_X1_14 (fit_ref (some n)).1 (fit_ref (some n)).2 dX1_init_18 hk (fun h44 hk => ?_)
    refine r_aload_n X (pc := 21) dX1_init_21 rfl (q := 0) rfl ?_
    refine r_sipush X (pc := 22) dX1_init_22 (by decide) ?_
    refine r_hNewA X (pc := 25) (t := 1) rfl rfl q250 (fun _ _ h9 => h9) (fun _ => rfl) (by decide) dX1_init_25 hk (fun h45 hk => ?_)
    refine r_hPutF X (pc := 27) fp_X1_18 rfl (fit_arr (some n42)).1 (fit_arr (some n42)).2 dX1_init_27 hk (fun h46 hk => ?_)
    refine r_aload_n X (pc := 30) dX1_init_30 rfl (q := 0) rfl ?_
    refine r_iconst X (pc := 31) dX1_init_31 ?_
    refine r_hPut X (pc := 32) fp_X1_22 rfl rfl dX1_init_32 hk (fun h47 hk => ?_)
    refine r_aload_n X (pc := 35) dX1_init_35 rfl (q := 0) rfl ?_
    refine r_iconst X (pc := 36) dX1_init_36 ?_
    refine r_hPut X (pc := 37) fp_X1_26 rfl rfl dX1_init_37 hk (fun h48 hk => ?_)
    refine r_aload_n X (pc := 40) dX1_init_40 rfl (q := 0) rfl ?_
    refine r_ldcS X (pc := 41) (j := 0) rfl dX1_init_41 ?_
    refine r_hPut X (pc := 43) fp_X1_31 (fit_ref (some (kl K 0))).1 (fit_ref (some (kl K 0))).2 dX1_init_43 hk (fun h49 hk => ?_)
    refine r_aload_n X (pc := 46) dX1_init_46 rfl (q := 0) rfl ?_
    refine r_hNew X (pc := 47) nw_X1_35 dX1_init_47 hk (fun h50 hk => ?_)
    refine r_dup X (pc := 50) dX1_init_50 rfl ?_
    refine r_callI X (pc := 51) (As := []) (st := [vR (some (n42 + 1)), vR (some o)]) m_X1_37 (fun _ => s_J1_init hk) ⟨by decide, by decide⟩ (Nat.le_of_ble_eq_true rfl) dX1_init_51 (fun v9 h51 n52 z53 hq => ?_) (fun ci154 q155 h156 n157 z158 hf => ?_)
    · obtain ⟨rfl, hk⟩ := hq
      refine ⟨[], rfl, ?_⟩
      refine r_hPutF X (pc := 54) fp_X1_38 rfl (fit_ref (some (n42 + 1))).1 (fit_ref (some (n42 + 1))).2 dX1_init_54 hk (fun h54 hk => ?_)
      refine r_aload_n X (pc := 57) dX1_init_57 rfl (q := 0) rfl ?_
      refine r_iconst X (pc := 58) dX1_init_58 ?_
      refine r_hAnew X (pc := 59) (t := 6) rfl q205 q274 dX1_init_59 hk (fun h55 hk => ?_)
      refine r_hPutF X (pc := 62) fp_X1_42 rfl (fit_arr (some n52)).1 (fit_arr (some n52)).2 dX1_init_62 hk (fun h56 hk => ?_)
      refine r_bipush X (pc := 65) dX1_init_65 (by decide) ?_
      refine r_hNewA X (pc := 67) (t := 0) rfl rfl q251 (fun _ _ h9 => h9) (fun _ => rfl) (by decide) dX1_init_67 hk (fun h57 hk => ?_)
      refine r_dup X (pc := 69) dX1_init_69 rfl ?_
      refine r_iconst X (pc := 70) dX1_init_70 ?_
      refine r_bipush X (pc := 71) dX1_init_71 (by decide) ?_
      refine r_hSI X (pc := 73) dX1_init_73 hk (fun h58 hk => ?_)
      refine r_dup X (pc := 74) dX1_init_74 rfl ?_
      refine r_iconst X (pc := 75) dX1_init_75 ?_
      refine r_iconst X (pc := 76) dX1_init_76 ?_
      refine r_hSI X (pc := 77) dX1_init_77 hk (fun h59 hk => ?_)
      refine r_dup X (pc := 78) dX1_init_78 rfl ?_
      refine r_iconst X (pc := 79) dX1_init_79 ?_
      refine r_sipush X (pc := 80) dX1_init_80 (by decide) ?_
      refine r_hSI X (pc := 83) dX1_init_83 hk (fun h60 hk => ?_)
      refine r_dup X (pc := 84) dX1_init_84 rfl ?_
      refine r_iconst X (pc := 85) dX1_init_85 ?_
      refine r_iconst X (pc := 86) dX1_init_86 ?_
      refine r_hSI X (pc := 87) dX1_init_87 hk (fun h61 hk => ?_)
      refine r_dup X (pc := 88) dX1_init_88 rfl ?_
      refine r_iconst X (pc := 89) dX1_init_89 ?_
      refine r_sipush X (pc := 90) dX1_init_90 (by decide) ?_
      refine r_hSI X (pc := 93) dX1_init_93 hk (fun h62 hk => ?_)
      refine r_dup X (pc := 94) dX1_init_94 rfl ?_
      refine r_iconst X (pc := 95) dX1_init_95 ?_
      refine r_iconst X (pc := 96) dX1_init_96 ?_
      refine r_hSI X (pc := 97) dX1_init_97 hk (fun h63 hk => ?_)
      refine r_dup X (pc := 98) dX1_init_98 rfl ?_
      refine r_bipush X (pc := 99) dX1_init_99 (by decide) ?_
      refine r_sipush X (pc := 101) dX1_init_101 (by decide) ?_
      refine r_hSI X (pc := 104) dX1_init_104 hk (fun h64 hk => ?_)
      refine r_dup X (pc := 105) dX1_init_105 rfl ?_
      refine r_bipush X (pc := 106) dX1_init_106 (by decide) ?_
      refine r_iconst X (pc := 108) dX1_init_108 ?_
      refine r_hSI X (pc := 109) dX1_init_109 hk (fun h65 hk => ?_)
      refine r_dup X (pc := 110) dX1_init_110 rfl ?_
      refine r_bipush X (pc := 111) dX1_init_111 (by decide) ?_
      refine r_sipush X (pc := 113) dX1_init_113 (by decide) ?_
      refine r_hSI X (pc := 116) dX1_init_116 hk (fun h66 hk => ?_)
      refine r_dup X (pc := 117) dX1_init_117 rfl ?_
      refine r_bipush X (pc := 118) dX1_init_118 (by decide) ?_
      refine r_iconst X (pc := 120) dX1_init_120 ?_
      refine r_hSI X (pc := 121) dX1_init_121 hk (fun h67 hk => ?_)
      refine r_astore_n X (pc := 122) (lv1 := [(1, vR (some (n52 + 1))), (0, vR (some o))]) dX1_init_122 rfl (by decide) rfl ?_
      refine r_bipush X (pc := 123) dX1_init_123 (by decide) ?_
      refine r_hNewA X (pc := 125) (t := 0) rfl rfl q251 (fun _ _ h9 => h9) (fun _ => rfl) (by decide) dX1_init_125 hk (fun h68 hk => ?_)
      refine r_dup X (pc := 127) dX1_init_127 rfl ?_
      refine r_iconst X (pc := 128) dX1_init_128 ?_
      refine r_bipush X (pc := 129) dX1_init_129 (by decide) ?_
      refine r_hSI X (pc := 131) dX1_init_131 hk (fun h69 hk => ?_)
      refine r_dup X (pc := 132) dX1_init_132 rfl ?_
      refine r_iconst X (pc := 133) dX1_init_133 ?_
      refine r_iconst X (pc := 134) dX1_init_134 ?_
      refine r_hSI X (pc := 135) dX1_init_135 hk (fun h70 hk => ?_)
      refine r_dup X (pc := 136) dX1_init_136 rfl ?_
      refine r_iconst X (pc := 137) dX1_init_137 ?_
      refine r_bipush X (pc := 138) dX1_init_138 (by decide) ?_
      refine r_hSI X (pc := 140) dX1_init_140 hk (fun h71 hk => ?_)
      refine r_dup X (pc := 141) dX1_init_141 rfl ?_
      refine r_iconst X (pc := 142) dX1_init_142 ?_
      refine r_iconst X (pc := 143) dX1_init_143 ?_
      refine r_hSI X (pc := 144) dX1_init_144 hk (fun h72 hk => ?_)
      refine r_dup X (pc := 145) dX1_init_145 rfl ?_
      refine r_iconst X (pc := 146) dX1_init_146 ?_
      refine r_bipush X (pc := 147) dX1_init_147 (by decide) ?_
      refine r_hSI X (pc := 149) dX1_init_149 hk (fun h73 hk => ?_)
      refine r_dup X (pc := 150) dX1_init_150 rfl ?_
      refine r_iconst X (pc := 151) dX1_init_151 ?_
      refine r_iconst X (pc := 152) dX1_init_152 ?_
      refine r_hSI X (pc := 153) dX1_init_153 hk (fun h74 hk => ?_)
      refine r_dup X (pc := 154) dX1_init_154 rfl ?_
      refine r_bipush X (pc := 155) dX1_init_155 (by decide) ?_
      refine r_bipush X (pc := 157) dX1_init_157 (by decide) ?_
      refine r_hSI X (pc := 159) dX1_init_159 hk (fun h75 hk => ?_)
      refine r_dup X (pc := 160) dX1_init_160 rfl ?_
      refine r_bipush X (pc := 161) dX1_init_161 (by decide) ?_
      refine r_iconst X (pc := 163) dX1_init_163 ?_
      refine r_hSI X (pc := 164) dX1_init_164 hk (fun h76 hk => ?_)
      refine r_dup X (pc := 165) dX1_init_165 rfl ?_
      refine r_bipush X (pc := 166) dX1_init_166 (by decide) ?_
      refine r_sipush X (pc := 168) dX1_init_168 (by decide) ?_
      refine r_hSI X (pc := 171) dX1_init_171 hk (fun h77 hk => ?_)
      refine r_dup X (pc := 172) dX1_init_172 rfl ?_
      refine r_bipush X (pc := 173) dX1_init_173 (by decide) ?_
      refine r_iconst X (pc := 175) dX1_init_175 ?_
      refine r_hSI X (pc := 176) dX1_init_176 hk (fun h78 hk => ?_)
      refine r_dup X (pc := 177) dX1_init_177 rfl ?_
      refine r_bipush X (pc := 178) dX1_init_178 (by decide) ?_
      refine r_sipush X (pc := 180) dX1_init_180 (by decide) ?_
      refine r_hSI X (pc := 183) dX1_init_183 hk (fun h79 hk => ?_)
      refine r_dup X (pc := 184) dX1_init_184 rfl ?_
      refine r_bipush X (pc := 185) dX1_init_185 (by decide) ?_
      refine r_iconst X (pc := 187) dX1_init_187 ?_
      refine r_hSI X (pc := 188) dX1_init_188 hk (fun h80 hk => ?_)
      refine r_astore_n X (pc := 189) (lv1 := [(2, vR (some ((n52 + 1) + 1))), (1, vR (some (n52 + 1))), (0, vR (some o))]) dX1_init_189 rfl (by decide) rfl ?_
      refine r_aload_n X (pc := 190) dX1_init_190 rfl (q := 2) rfl ?_
      refine r_aload_n X (pc := 191) dX1_init_191 rfl (q := 1) rfl ?_
      refine r_iconst X (pc := 192) dX1_init_192 ?_
      obtain ⟨o151, fs152, e9, b153, hk⟩ := hk
      refine r_callV X (pc := 193) (As := [vR (some (n52 + 1)), vI 0]) (st := []) rfl rfl e9 b153 m_X1_46 (fun _ => s_X1_lay hk) ⟨by decide, by decide⟩ (Nat.le_of_ble_eq_true rfl) dX1_init_193 (fun v9 h81 n82 z83 hq => ?_) (fun ci143 q144 h145 n146 z147 hf => ?_)
      · obtain ⟨rfl, hk⟩ := hq
        refine ⟨[], rfl, ?_⟩
        refine r_aload_n X (pc := 196) dX1_init_196 rfl (q := 2) rfl ?_
        refine r_aload_n X (pc := 197) dX1_init_197 rfl (q := 0) rfl ?_
        refine r_iconst X (pc := 198) dX1_init_198 ?_
        obtain ⟨o140, fs141, e9, b142, hk⟩ := hk
        refine r_callV X (pc := 199) (As := [vR (some ((n52 + 1) + 1)), vI 1]) (st := []) rfl rfl e9 b142 m_X1_46 (fun _ => s_X1_lay hk) ⟨by decide, by decide⟩ (Nat.le_of_ble_eq_true rfl) dX1_init_199 (fun v9 h84 n85 z86 hq => ?_) (fun ci132 q133 h134 n135 z136 hf => ?_)
        · obtain ⟨rfl, hk⟩ := hq
          refine ⟨[], rfl, ?_⟩
          refine r_aload_n X (pc := 202) dX1_init_202 rfl (q := 2) rfl ?_
          refine r_hGR X (pc := 203) fa_X1_14 dX1_init_203 hk (fun y87 hk => ?_)
          refine r_iconst X (pc := 206) dX1_init_206 ?_
          refine r_iconst X (pc := 207) dX1_init_207 ?_
          obtain ⟨o129, fs130, e9, b131, hk⟩ := hk
          refine r_callV X (pc := 208) (As := [vI 2, vI 1]) (st := []) rfl rfl e9 b131 m_X1_50 (fun _ => s_X2_change hk) ⟨by decide, by decide⟩ (Nat.le_of_ble_eq_true rfl) dX1_init_208 (fun v9 h88 n89 z90 hq => ?_) (fun ci121 q122 h123 n124 z125 hf => ?_)
          · obtain ⟨rfl, hk⟩ := hq
            refine ⟨[], rfl, ?_⟩
            refine r_aload_n X (pc := 211) dX1_init_211 rfl (q := 2) rfl ?_
            refine r_hGR X (pc := 212) fa_X1_14 dX1_init_212 hk (fun y91 hk => ?_)
            refine r_iconst X (pc := 215) dX1_init_215 ?_
            refine r_iconst X (pc := 216) dX1_init_216 ?_
            obtain ⟨o118, fs119, e9, b120, hk⟩ := hk
            refine r_callV X (pc := 217) (As := [vI 5, vI 0]) (st := []) rfl rfl e9 b120 m_X1_54 (fun _ => s_X2_layBlock hk) ⟨by decide, by decide⟩ (Nat.le_of_ble_eq_true rfl) dX1_init_217 (fun v9 h92 n93 z94 hq => ?_) (fun ci110 q111 h112 n113 z114 hf => ?_)
            · obtain ⟨rfl, hk⟩ := hq
              refine ⟨[], rfl, ?_⟩
              refine r_aload_n X (pc := 220) dX1_init_220 rfl (q := 2) rfl ?_
              refine r_hGR X (pc := 221) fa_X1_14 dX1_init_221 hk (fun y95 hk => ?_)
              refine r_iconst X (pc := 224) dX1_init_224 ?_
              refine r_bipush X (pc := 225) dX1_init_225 (by decide) ?_
              obtain ⟨o107, fs108, e9, b109, hk⟩ := hk
              refine r_callV X (pc := 227) (As := [vI 2, vI 6]) (st := []) rfl rfl e9 b109 m_X1_54 (fun _ => s_X2_layBlock hk) ⟨by decide, by decide⟩ (Nat.le_of_ble_eq_true rfl) dX1_init_227 (fun v9 h96 n97 z98 hq => ?_) (fun ci99 q100 h101 n102 z103 hf => ?_)
              · obtain ⟨rfl, hk⟩ := hq
                refine ⟨[], rfl, ?_⟩
                refine r_goto X (pc := 230) (tgt := 240) dX1_init_230 (by decide) ?_
                exact r_vret X E (pc := 240) dX1_init_240 ⟨rfl, hk⟩
              · have hk := hf
                by_cases c105 : ci99 = 3
                · replace hk := hk.1 c105
                  subst c105
                  refine r_catch X (pc := 227) [] ({ startPc := 65, endPc := 230, handlerPc := 233, catchType := 58 } : ExceptionTableEntry) [] rfl (fun _ h9 => nomatch h9) (by decide) (by decide) q201 co_3_TrailMarkers_PlaceException ?_
                  refine r_astore_n X (pc := 233) (lv1 := [(1, vR (some q100)), (2, vR (some ((n52 + 1) + 1))), (0, vR (some o))]) dX1_init_233 rfl (by decide) rfl ?_
                  refine r_aload_n X (pc := 234) dX1_init_234 rfl (q := 2) rfl ?_
                  refine r_ldcS X (pc := 235) (j := 0) rfl dX1_init_235 ?_
                  refine r_hPut X (pc := 237) fp_X1_31 (fit_ref (some (kl K 0))).1 (fit_ref (some (kl K 0))).2 dX1_init_237 hk (fun h104 hk => ?_)
                  exact r_vret X E (pc := 240) dX1_init_240 ⟨rfl, hk⟩
                · replace hk := hk.2 c105
                  obtain ⟨b106, hk⟩ := hk
                  exact r_out X E (List.forall_mem_cons.mpr ⟨Or.inr ⟨by decide, "TrailMarkers$PlaceException", q201, cns_TrailMarkers_PlaceException_6_22_21_23 _ b106⟩, (fun _ h9 => nomatch h9)⟩) hk
            · have hk := hf
              by_cases c116 : ci110 = 3
              · replace hk := hk.1 c116
                subst c116
                refine r_catch X (pc := 217) [] ({ startPc := 65, endPc := 230, handlerPc := 233, catchType := 58 } : ExceptionTableEntry) [] rfl (fun _ h9 => nomatch h9) (by decide) (by decide) q201 co_3_TrailMarkers_PlaceException ?_
                refine r_astore_n X (pc := 233) (lv1 := [(1, vR (some q111)), (2, vR (some ((n52 + 1) + 1))), (0, vR (some o))]) dX1_init_233 rfl (by decide) rfl ?_
                refine r_aload_n X (pc := 234) dX1_init_234 rfl (q := 2) rfl ?_
                refine r_ldcS X (pc := 235) (j := 0) rfl dX1_init_235 ?_
                refine r_hPut X (pc := 237) fp_X1_31 (fit_ref (some (kl K 0))).1 (fit_ref (some (kl K 0))).2 dX1_init_237 hk (fun h115 hk => ?_)
                exact r_vret X E (pc := 240) dX1_init_240 ⟨rfl, hk⟩
              · replace hk := hk.2 c116
                obtain ⟨b117, hk⟩ := hk
                exact r_out X E (List.forall_mem_cons.mpr ⟨Or.inr ⟨by decide, "TrailMarkers$PlaceException", q201, cns_TrailMarkers_PlaceException_6_22_21_23 _ b117⟩, (fun _ h9 => nomatch h9)⟩) hk
          · have hk := hf
            by_cases c127 : ci121 = 3
            · replace hk := hk.1 c127
              subst c127
              refine r_catch X (pc := 208) [] ({ startPc := 65, endPc := 230, handlerPc := 233, catchType := 58 } : ExceptionTableEntry) [] rfl (fun _ h9 => nomatch h9) (by decide) (by decide) q201 co_3_TrailMarkers_PlaceException ?_
              refine r_astore_n X (pc := 233) (lv1 := [(1, vR (some q122)), (2, vR (some ((n52 + 1) + 1))), (0, vR (some o))]) dX1_init_233 rfl (by decide) rfl ?_
              refine r_aload_n X (pc := 234) dX1_init_234 rfl (q := 2) rfl ?_
              refine r_ldcS X (pc := 235) (j := 0) rfl dX1_init_235 ?_
              refine r_hPut X (pc := 237) fp_X1_31 (fit_ref (some (kl K 0))).1 (fit_ref (some (kl K 0))).2 dX1_init_237 hk (fun h126 hk => ?_)
              exact r_vret X E (pc := 240) dX1_init_240 ⟨rfl, hk⟩
            · replace hk := hk.2 c127
              obtain ⟨b128, hk⟩ := hk
              exact r_out X E (List.forall_mem_cons.mpr ⟨Or.inr ⟨by decide, "TrailMarkers$PlaceException", q201, cns_TrailMarkers_PlaceException_6_22_21_23 _ b128⟩, (fun _ h9 => nomatch h9)⟩) hk
        · have hk := hf
          by_cases c138 : ci132 = 3
          · replace hk := hk.1 c138
            subst c138
            refine r_catch X (pc := 199) [] ({ startPc := 65, endPc := 230, handlerPc := 233, catchType := 58 } : ExceptionTableEntry) [] rfl (fun _ h9 => nomatch h9) (by decide) (by decide) q201 co_3_TrailMarkers_PlaceException ?_
            refine r_astore_n X (pc := 233) (lv1 := [(1, vR (some q133)), (2, vR (some ((n52 + 1) + 1))), (0, vR (some o))]) dX1_init_233 rfl (by decide) rfl ?_
            refine r_aload_n X (pc := 234) dX1_init_234 rfl (q := 2) rfl ?_
            refine r_ldcS X (pc := 235) (j := 0) rfl dX1_init_235 ?_
            refine r_hPut X (pc := 237) fp_X1_31 (fit_ref (some (kl K 0))).1 (fit_ref (some (kl K 0))).2 dX1_init_237 hk (fun h137 hk => ?_)
            exact r_vret X E (pc := 240) dX1_init_240 ⟨rfl, hk⟩
          · replace hk := hk.2 c138
            obtain ⟨b139, hk⟩ := hk
            exact r_out X E (List.forall_mem_cons.mpr ⟨Or.inr ⟨by decide, "TrailMarkers$PlaceException", q201, cns_TrailMarkers_PlaceException_6_22_21_23 _ b139⟩, (fun _ h9 => nomatch h9)⟩) hk
      · have hk := hf
        by_cases c149 : ci143 = 3
        · replace hk := hk.1 c149
          subst c149
          refine r_catch X (pc := 193) [] ({ startPc := 65, endPc := 230, handlerPc := 233, catchType := 58 } : ExceptionTableEntry) [] rfl (fun _ h9 => nomatch h9) (by decide) (by decide) q201 co_3_TrailMarkers_PlaceException ?_
          refine r_astore_n X (pc := 233) (lv1 := [(1, vR (some q144)), (2, vR (some ((n52 + 1) + 1))), (0, vR (some o))]) dX1_init_233 rfl (by decide) rfl ?_
          refine r_aload_n X (pc := 234) dX1_init_234 rfl (q := 2) rfl ?_
          refine r_ldcS X (pc := 235) (j := 0) rfl dX1_init_235 ?_
          refine r_hPut X (pc := 237) fp_X1_31 (fit_ref (some (kl K 0))).1 (fit_ref (some (kl K 0))).2 dX1_init_237 hk (fun h148 hk => ?_)
          exact r_vret X E (pc := 240) dX1_init_240 ⟨rfl, hk⟩
        · replace hk := hk.2 c149
          obtain ⟨b150, hk⟩ := hk
          exact r_out X E (List.forall_mem_cons.mpr ⟨Or.inr ⟨by decide, "TrailMarkers$PlaceException", q201, cns_TrailMarkers_PlaceException_6_22_21_23 _ b150⟩, (fun _ h9 => nomatch h9)⟩) hk
    · have hk := hf
      exact r_out X E (List.forall_mem_cons.mpr ⟨Or.inl (by decide), (fun _ h9 => nomatch h9)⟩) hk
  · have hk := hf
    exact r_out X E (List.forall_mem_cons.mpr ⟨Or.inl (by decide), (fun _ h9 => nomatch h9)⟩) hk
theorem s_X1_init {K : KT} {l : Launch} {o : Nat} {κ : AH → Nat → Nat → Prop} {χ : QxT} {h : AH} {n : Nat} {z : Nat} (hk : P_X1_init K o κ χ h n z) : Ct K l yX1_init (wsW_ yX1_init cX1_init 3 none [((65 : Nat), (230 : Nat), (233 : Nat), (58 : Nat))]) 12 329 ([vR (some o)].map cV) h n z (QvV κ) χ :=
  ct_ofH (by decide +kernel) (Nat.le_of_ble_eq_true rfl) (fun Y X E => w_X1_init X E hk)
set_option maxHeartbeats 4000000 in
theorem w_X1_putBytes_3 {K : KT} {Y : YT} {o : Nat} {κ : AH → Nat → Nat → Prop} {χ : QxT} (X : XY K "TrailMarkers" "putBytes" cX1_putBytes (Option.none : Option Jvm.ClassFile.FieldType) [] 3 0 0 Y) (E : YE K Y (QvV κ) χ) {k_36 : AH → Nat → Nat → Prop} (H_36 : ∀ (h : AH) (n : Nat) (z : Nat), k_36 h n z → G K Y h n z 36 [(0, vR (some o))] []) : ∀ (f : Nat) (h : AH) (n : Nat) (z : Nat) (x1 : Int) (x2 : Int), L_X1_putBytes_3 K o k_36 κ χ f h n z x1 x2 → G K Y h n z 3 [(0, vR (some o)), (1, vI x1), (2, vI x2)] [] := by
  intro f
  induction f with
  | zero => intro h n z x1 x2 hk; exact hk.elim
  | succ f ih =>
    intro h n z x1 x2 hk
    refine r_iload_n X (pc := 3) dX1_putBytes_3 rfl (q := 2) rfl ?_
    obtain ⟨b8, hk⟩ := hk
    refine r_if_lt X (pc := 4) (tgt := 36) dX1_putBytes_4 (by decide) b8 (fun c9 => ?_) (fun c9 => ?_)
    · have hk := hk.1 c9
      refine G.sub [0] rfl ?_
      exact H_36 h n z hk
    · have hk := hk.2 c9
      refine r_aload_n X (pc := 7) dX1_putBytes_7 rfl (q := 0) rfl ?_
      refine r_hGR X (pc := 8) fa_X1_18 dX1_putBytes_8 hk (fun y10 hk => ?_)
      refine r_aload_n X (pc := 11) dX1_putBytes_11 rfl (q := 0) rfl ?_
      refine r_hGI X (pc := 12) fa_X1_81 dX1_putBytes_12 hk (fun y11 hk => ?_)
      refine r_iload_n X (pc := 15) dX1_putBytes_15 rfl (q := 1) rfl ?_
      refine r_iload_n X (pc := 16) dX1_putBytes_16 rfl (q := 2) rfl ?_
      refine r_ishr X (pc := 17) dX1_putBytes_17 ?_
      refine r_i2b X (pc := 18) dX1_putBytes_18 ?_
      refine r_hSB X (pc := 19) dX1_putBytes_19 hk (fun h12 hk => ?_)
      refine r_aload_n X (pc := 20) dX1_putBytes_20 rfl (q := 0) rfl ?_
      refine r_dup X (pc := 21) dX1_putBytes_21 rfl ?_
      refine r_hGI X (pc := 22) fa_X1_81 dX1_putBytes_22 hk (fun y13 hk => ?_)
      refine r_iconst X (pc := 25) dX1_putBytes_25 ?_
      refine r_iadd X (pc := 26) dX1_putBytes_26 ?_
      refine r_hPut X (pc := 27) fp_X1_81 rfl rfl dX1_putBytes_27 hk (fun h14 hk => ?_)
      refine r_iinc X (pc := 30) (q := 2) (lv1 := [(2, vI (x2 + (-8))), (0, vR (some o)), (1, vI x1)]) dX1_putBytes_30 rfl (by decide) rfl ?_
      refine r_goto X (pc := 33) (tgt := 3) dX1_putBytes_33 (by decide) ?_
      refine G.sub [1, 2, 0] rfl ?_
      exact ih h14 n z x1 (x2 + (-8)) hk
set_option maxHeartbeats 4000000 in
theorem w_X1_putBytes_36 {K : KT} {Y : YT} {o : Nat} {κ : AH → Nat → Nat → Prop} {χ : QxT} (X : XY K "TrailMarkers" "putBytes" cX1_putBytes (Option.none : Option Jvm.ClassFile.FieldType) [] 3 0 0 Y) (E : YE K Y (QvV κ) χ) : ∀ (h : AH) (n : Nat) (z : Nat), P_X1_putBytes_36 K o κ χ h n z → G K Y h n z 36 [(0, vR (some o))] [] := by
  intro h n z hk
  exact r_vret X E (pc := 36) dX1_putBytes_36 ⟨rfl, hk⟩
set_option maxHeartbeats 4000000 in
theorem w_X1_putBytes {K : KT} {Y : YT} {o : Nat} {κ : AH → Nat → Nat → Prop} {χ : QxT} (X : XY K "TrailMarkers" "putBytes" cX1_putBytes (Option.none : Option Jvm.ClassFile.FieldType) [] 3 0 0 Y) (E : YE K Y (QvV κ) χ) {h : AH} {n : Nat} {z : Nat} {x1 : Int} (hk : P_X1_putBytes K o κ χ h n z x1) : G K Y h n z 0 (lv_argsA 0 [vR (some o), vI x1]) [] := by
  show G K Y h n z 0 [(0, vR (some o)), (1, vI x1)] []
  refine r_bipush X (pc := 0) dX1_putBytes_0 (by decide) ?_
  refine r_istore_n X (pc := 2) (lv1 := [(2, vI 24), (0, vR (some o)), (1, vI x1)]) dX1_putBytes_2 rfl (by decide) rfl ?_
  refine G.sub [1, 2, 0] rfl ?_
  have HH15 : ∀ (h : AH) (n : Nat) (z : Nat), (P_X1_putBytes_36 K o κ χ h n z) → G K Y h n z 36 [(0, vR (some o))] [] := by
      intro h n z hk
      exact w_X1_putBytes_36 X E h n z hk
  obtain ⟨f9, hk⟩ := hk
  exact w_X1_putBytes_3 X E HH15 f9 h n z x1 24 hk
theorem s_X1_putBytes {K : KT} {l : Launch} {o : Nat} {κ : AH → Nat → Nat → Prop} {χ : QxT} {h : AH} {n : Nat} {z : Nat} {x1 : Int} (hk : P_X1_putBytes K o κ χ h n z x1) : Ct K l yX1_putBytes (ws_ yX1_putBytes cX1_putBytes 3 (Option.none : Option Jvm.ClassFile.FieldType)) 0 0 ([vR (some o), vI x1].map cV) h n z (QvV κ) χ :=
  ct_of (by decide +kernel) (Nat.le_of_ble_eq_true rfl) (fun Y X E => w_X1_putBytes X E hk)
set_option maxHeartbeats 4000000 in
theorem w_X1_append {K : KT} {Y : YT} {o : Nat} {κ : Int → AH → Nat → Nat → Prop} {χ : QxT} (X : XY K "TrailMarkers" "append" cX1_append (Option.some Jvm.ClassFile.FieldType.int) [] 6 1 22 Y) (E : YE K Y (QvI κ) χ) {h : AH} {n : Nat} {z : Nat} {x1 : Int} {x2 : Int} {x3 : Int} {x4 : Int} {x5 : Int} (hk : P_X1_append K o κ χ h n z x1 x2 x3 x4 x5) : G K Y h n z 0 (lv_argsA 0 [vR (some o), vI x1, vI x2, vI x3, vI x4, vI x5]) [] := by
  show G K Y h n z 0 [(0, vR (some o)), (1, vI x1), (2, vI x2), (3, vI x3), (4, vI x4), (5, vI x5)] []
  refine r_aload_n X (pc := 0) dX1_append_0 rfl (q := 0) rfl ?_
  refine r_hGI X (pc := 1) fa_X1_81 dX1_append_1 hk (fun y5 hk => ?_)
  refine r_bipush X (pc := 4) dX1_append_4 (by decide) ?_
  refine r_iadd X (pc := 6) dX1_append_6 ?_
  refine r_sipush X (pc := 7) dX1_append_7 (by decide) ?_
  obtain ⟨b6, hk⟩ := hk
  refine r_icmp_le X (pc := 10) (tgt := 15) dX1_append_10 (by decide) ⟨b6, (by decide)⟩ (fun c7 => ?_) (fun c7 => ?_)
  · have hk := hk.2 c7
    refine r_aload_n X (pc := 15) dX1_append_15 rfl (q := 0) rfl ?_
    refine r_iload_n X (pc := 16) dX1_append_16 rfl (q := 1) rfl ?_
    obtain ⟨o61, fs62, e9, b63, hk⟩ := hk
    refine r_callV X (pc := 17) (As := [vI x1]) (st := []) rfl rfl e9 b63 m_X1_84 (fun _ => s_X1_putBytes hk) ⟨by decide, by decide⟩ (Nat.le_of_ble_eq_true rfl) dX1_append_17 (fun v9 h8 n9 z10 hq => ?_) (fun ci56 q57 h58 n59 z60 hf => ?_)
    · obtain ⟨rfl, hk⟩ := hq
      refine ⟨[], rfl, ?_⟩
      refine r_aload_n X (pc := 20) dX1_append_20 rfl (q := 0) rfl ?_
      refine r_iload_n X (pc := 21) dX1_append_21 rfl (q := 2) rfl ?_
      obtain ⟨o53, fs54, e9, b55, hk⟩ := hk
      refine r_callV X (pc := 22) (As := [vI x2]) (st := []) rfl rfl e9 b55 m_X1_84 (fun _ => s_X1_putBytes hk) ⟨by decide, by decide⟩ (Nat.le_of_ble_eq_true rfl) dX1_append_22 (fun v9 h11 n12 z13 hq => ?_) (fun ci48 q49 h50 n51 z52 hf => ?_)
      · obtain ⟨rfl, hk⟩ := hq
        refine ⟨[], rfl, ?_⟩
        refine r_aload_n X (pc := 25) dX1_append_25 rfl (q := 0) rfl ?_
        refine r_iload_n X (pc := 26) dX1_append_26 rfl (q := 3) rfl ?_
        obtain ⟨o45, fs46, e9, b47, hk⟩ := hk
        refine r_callV X (pc := 27) (As := [vI x3]) (st := []) rfl rfl e9 b47 m_X1_84 (fun _ => s_X1_putBytes hk) ⟨by decide, by decide⟩ (Nat.le_of_ble_eq_true rfl) dX1_append_27 (fun v9 h14 n15 z16 hq => ?_) (fun ci40 q41 h42 n43 z44 hf => ?_)
        · obtain ⟨rfl, hk⟩ := hq
          refine ⟨[], rfl, ?_⟩
          refine r_aload_n X (pc := 30) dX1_append_30 rfl (q := 0) rfl ?_
          refine r_iload X (pc := 31) dX1_append_31 (q := 4) rfl ?_
          obtain ⟨o37, fs38, e9, b39, hk⟩ := hk
          refine r_callV X (pc := 33) (As := [vI x4]) (st := []) rfl rfl e9 b39 m_X1_84 (fun _ => s_X1_putBytes hk) ⟨by decide, by decide⟩ (Nat.le_of_ble_eq_true rfl) dX1_append_33 (fun v9 h17 n18 z19 hq => ?_) (fun ci32 q33 h34 n35 z36 hf => ?_)
          · obtain ⟨rfl, hk⟩ := hq
            refine ⟨[], rfl, ?_⟩
            refine r_aload_n X (pc := 36) dX1_append_36 rfl (q := 0) rfl ?_
            refine r_iload X (pc := 37) dX1_append_37 (q := 5) rfl ?_
            obtain ⟨o29, fs30, e9, b31, hk⟩ := hk
            refine r_callV X (pc := 39) (As := [vI x5]) (st := []) rfl rfl e9 b31 m_X1_84 (fun _ => s_X1_putBytes hk) ⟨by decide, by decide⟩ (Nat.le_of_ble_eq_true rfl) dX1_append_39 (fun v9 h20 n21 z22 hq => ?_) (fun ci24 q25 h26 n27 z28 hf => ?_)
            · obtain ⟨rfl, hk⟩ := hq
              refine ⟨[], rfl, ?_⟩
              refine r_aload_n X (pc := 42) dX1_append_42 rfl (q := 0) rfl ?_
              refine r_hGI X (pc := 43) fa_X1_81 dX1_append_43 hk (fun y23 hk => ?_)
              exact r_iret X E (pc := 46) dX1_append_46 rfl ⟨_, rfl, hk⟩
            · have hk := hf
              exact r_out X E (fun _ h9 => nomatch h9) hk
          · have hk := hf
            exact r_out X E (fun _ h9 => nomatch h9) hk
        · have hk := hf
          exact r_out X E (fun _ h9 => nomatch h9) hk
      · have hk := hf
        exact r_out X E (fun _ h9 => nomatch h9) hk
    · have hk := hf
      exact r_out X E (fun _ h9 => nomatch h9) hk
  · have hk := hk.1 c7
    refine r_iconst X (pc := 13) dX1_append_13 ?_
    exact r_iret X E (pc := 14) dX1_append_14 rfl ⟨_, rfl, hk⟩
theorem s_X1_append {K : KT} {l : Launch} {o : Nat} {κ : Int → AH → Nat → Nat → Prop} {χ : QxT} {h : AH} {n : Nat} {z : Nat} {x1 : Int} {x2 : Int} {x3 : Int} {x4 : Int} {x5 : Int} (hk : P_X1_append K o κ χ h n z x1 x2 x3 x4 x5) : Ct K l yX1_append (ws_ yX1_append cX1_append 6 (Option.some Jvm.ClassFile.FieldType.int)) 1 22 ([vR (some o), vI x1, vI x2, vI x3, vI x4, vI x5].map cV) h n z (QvI κ) χ :=
  ct_of (by decide +kernel) (Nat.le_of_ble_eq_true rfl) (fun Y X E => w_X1_append X E hk)
set_option maxHeartbeats 4000000 in
theorem w_X1_become_20 {K : KT} {Y : YT} {o : Nat} {κ : AH → Nat → Nat → Prop} {χ : QxT} (X : XY K "TrailMarkers" "become" cX1_become (Option.none : Option Jvm.ClassFile.FieldType) [] 2 3 65 Y) (E : YE K Y (QvV κ) χ) : ∀ (h : AH) (n : Nat) (z : Nat) (x1 : Option Nat), P_X1_become_20 K o κ χ h n z x1 → G K Y h n z 20 [(0, vR (some o)), (1, vR x1)] [] := by
  intro h n z x1 hk
  refine r_aload_n X (pc := 20) dX1_become_20 rfl (q := 0) rfl ?_
  refine r_hGR X (pc := 21) fa_X1_38 dX1_become_21 hk (fun y10 hk => ?_)
  refine r_aload_n X (pc := 24) dX1_become_24 rfl (q := 0) rfl ?_
  refine r_hGR X (pc := 25) fa_X1_14 dX1_become_25 hk (fun y11 hk => ?_)
  obtain ⟨o21, fs22, e9, b23, hk⟩ := hk
  refine r_callV X (pc := 28) (As := [vR y11]) (st := []) rfl rfl e9 b23 m_X1_77 (fun _ => s_J1_addLast hk) ⟨by decide, by decide⟩ (Nat.le_of_ble_eq_true rfl) dX1_become_28 (fun v9 h12 n13 z14 hq => ?_) (fun ci16 q17 h18 n19 z20 hf => ?_)
  · obtain ⟨rfl, hk⟩ := hq
    refine ⟨[], rfl, ?_⟩
    refine r_aload_n X (pc := 31) dX1_become_31 rfl (q := 0) rfl ?_
    refine r_aload_n X (pc := 32) dX1_become_32 rfl (q := 1) rfl ?_
    refine r_hPut X (pc := 33) fp_X1_14 (fit_ref x1).1 (fit_ref x1).2 dX1_become_33 hk (fun h15 hk => ?_)
    exact r_vret X E (pc := 36) dX1_become_36 ⟨rfl, hk⟩
  · have hk := hf
    exact r_out X E (fun _ h9 => nomatch h9) hk
set_option maxHeartbeats 4000000 in
theorem w_X1_become {K : KT} {Y : YT} {o : Nat} {κ : AH → Nat → Nat → Prop} {χ : QxT} (X : XY K "TrailMarkers" "become" cX1_become (Option.none : Option Jvm.ClassFile.FieldType) [] 2 3 65 Y) (E : YE K Y (QvV κ) χ) {h : AH} {n : Nat} {z : Nat} {x1 : Option Nat} (hk : P_X1_become K o κ χ h n z x1) : G K Y h n z 0 (lv_argsA 0 [vR (some o), vR x1]) [] := by
  show G K Y h n z 0 [(0, vR (some o)), (1, vR x1)] []
  refine r_aload_n X (pc := 0) dX1_become_0 rfl (q := 0) rfl ?_
  refine r_hGR X (pc := 1) fa_X1_38 dX1_become_1 hk (fun y24 hk => ?_)
  obtain ⟨o49, fs50, e9, b51, hk⟩ := hk
  refine r_callV X (pc := 4) (As := []) (st := []) rfl rfl e9 b51 m_X1_69 (fun _ => s_J1_size hk) ⟨by decide, by decide⟩ (Nat.le_of_ble_eq_true rfl) dX1_become_4 (fun v9 h26 n27 z28 hq => ?_) (fun ci44 q45 h46 n47 z48 hf => ?_)
  · obtain ⟨r25, rfl, hk⟩ := hq
    refine ⟨[vI r25], rfl, ?_⟩
    refine r_bipush X (pc := 7) dX1_become_7 (by decide) ?_
    obtain ⟨b29, hk⟩ := hk
    refine r_icmp_ne X (pc := 9) (tgt := 20) dX1_become_9 (by decide) ⟨b29, (by decide)⟩ (fun c30 => ?_) (fun c30 => ?_)
    · have hk := hk.2 c30
      exact w_X1_become_20 X E h26 n27 z28 x1 hk
    · have hk := hk.1 c30
      refine r_aload_n X (pc := 12) dX1_become_12 rfl (q := 0) rfl ?_
      refine r_hGR X (pc := 13) fa_X1_38 dX1_become_13 hk (fun y31 hk => ?_)
      obtain ⟨o41, fs42, e9, b43, hk⟩ := hk
      refine r_callV X (pc := 16) (As := []) (st := []) rfl rfl e9 b43 m_X1_73 (fun _ => s_J1_removeFirst hk) ⟨by decide, by decide⟩ (Nat.le_of_ble_eq_true rfl) dX1_become_16 (fun v9 h33 n34 z35 hq => ?_) (fun ci36 q37 h38 n39 z40 hf => ?_)
      · obtain ⟨r32, rfl, hk⟩ := hq
        refine ⟨[vR r32], rfl, ?_⟩
        refine r_pop X (pc := 19) dX1_become_19 rfl ?_
        exact w_X1_become_20 X E h33 n34 z35 x1 hk
      · have hk := hf
        exact r_out X E (fun _ h9 => nomatch h9) hk
  · have hk := hf
    exact r_out X E (fun _ h9 => nomatch h9) hk
theorem s_X1_become {K : KT} {l : Launch} {o : Nat} {κ : AH → Nat → Nat → Prop} {χ : QxT} {h : AH} {n : Nat} {z : Nat} {x1 : Option Nat} (hk : P_X1_become K o κ χ h n z x1) : Ct K l yX1_become (ws_ yX1_become cX1_become 2 (Option.none : Option Jvm.ClassFile.FieldType)) 3 65 ([vR (some o), vR x1].map cV) h n z (QvV κ) χ :=
  ct_of (by decide +kernel) (Nat.le_of_ble_eq_true rfl) (fun Y X E => w_X1_become X E hk)
set_option maxHeartbeats 4000000 in
theorem w_X1_report {K : KT} {Y : YT} {o : Nat} {κ : AH → Nat → Nat → Prop} {χ : QxT} (X : XY K "TrailMarkers" "report" cX1_report (Option.none : Option Jvm.ClassFile.FieldType) [] 4 0 0 Y) (E : YE K Y (QvV κ) χ) {h : AH} {n : Nat} {z : Nat} {x1 : Int} {x2 : Int} {x3 : Int} (hk : P_X1_report K o κ χ h n z x1 x2 x3) : G K Y h n z 0 (lv_argsA 0 [vR (some o), vI x1, vI x2, vI x3]) [] := by
  show G K Y h n z 0 [(0, vR (some o)), (1, vI x1), (2, vI x2), (3, vI x3)] []
  refine r_aload_n X (pc := 0) dX1_report_0 rfl (q := 0) rfl ?_
  refine r_iload_n X (pc := 1) dX1_report_1 rfl (q := 1) rfl ?_
  refine r_hPut X (pc := 2) fp_X1_131 rfl rfl dX1_report_2 hk (fun h4 hk => ?_)
  refine r_aload_n X (pc := 5) dX1_report_5 rfl (q := 0) rfl ?_
  refine r_iload_n X (pc := 6) dX1_report_6 rfl (q := 2) rfl ?_
  refine r_hPut X (pc := 7) fp_X1_22 rfl rfl dX1_report_7 hk (fun h5 hk => ?_)
  refine r_aload_n X (pc := 10) dX1_report_10 rfl (q := 0) rfl ?_
  refine r_iload_n X (pc := 11) dX1_report_11 rfl (q := 3) rfl ?_
  refine r_hPut X (pc := 12) fp_X1_26 rfl rfl dX1_report_12 hk (fun h6 hk => ?_)
  exact r_vret X E (pc := 15) dX1_report_15 ⟨rfl, hk⟩
theorem s_X1_report {K : KT} {l : Launch} {o : Nat} {κ : AH → Nat → Nat → Prop} {χ : QxT} {h : AH} {n : Nat} {z : Nat} {x1 : Int} {x2 : Int} {x3 : Int} (hk : P_X1_report K o κ χ h n z x1 x2 x3) : Ct K l yX1_report (ws_ yX1_report cX1_report 4 (Option.none : Option Jvm.ClassFile.FieldType)) 0 0 ([vR (some o), vI x1, vI x2, vI x3].map cV) h n z (QvV κ) χ :=
  ct_of (by decide +kernel) (Nat.le_of_ble_eq_true rfl) (fun Y X E => w_X1_report X E hk)
set_option maxHeartbeats 4000000 in
theorem w_X1_load {K : KT} {Y : YT} {o : Nat} {κ : Int → AH → Nat → Nat → Prop} {χ : QxT} (X : XY K "TrailMarkers" "load" cX1_load (Option.some Jvm.ClassFile.FieldType.int) (tableOf [((0 : Nat), (40 : Nat), (47 : Nat), (114 : Nat)), ((0 : Nat), (40 : Nat), (73 : Nat), (0 : Nat)), ((47 : Nat), (66 : Nat), (73 : Nat), (0 : Nat)), ((73 : Nat), (75 : Nat), (73 : Nat), (0 : Nat))]) 5 30 750 Y) (E : YE K Y (QvI κ) χ) {h : AH} {n : Nat} {z : Nat} (hk : P_X1_load K o κ χ h n z) : G K Y h n z 0 (lv_argsA 0 [vR (some o)]) [] := by
  show G K Y h n z 0 [(0, vR (some o))] []
  refine r_hNew X (pc := 0) nw_X1_92 dX1_load_0 hk (fun h11 hk => ?_)
  refine r_dup X (pc := 3) dX1_load_3 rfl ?_
  refine r_aload_n X (pc := 4) dX1_load_4 rfl (q := 0) rfl ?_
  refine r_null X (pc := 5) dX1_load_5 ?_
  refine r_callI X (pc := 6) (As := [vR (some o), vR none]) (st := [vR (some n)]) m_X1_94 (fun _ => s_X6_init hk) ⟨by decide, by decide⟩ (Nat.le_of_ble_eq_true rfl) dX1_load_6 (fun v9 h12 n13 z14 hq => ?_) (fun ci176 q177 h178 n179 z180 hf => ?_)
  · obtain ⟨rfl, hk⟩ := hq
    refine ⟨[], rfl, ?_⟩
    refine r_astore_n X (pc := 9) (lv1 := [(1, vR (some n)), (0, vR (some o))]) dX1_load_9 rfl (by decide) rfl ?_
    refine r_aload_n X (pc := 10) dX1_load_10 rfl (q := 0) rfl ?_
    obtain ⟨o173, fs174, e9, b175, hk⟩ := hk
    refine r_callV X (pc := 11) (As := []) (st := []) rfl rfl e9 b175 m_X1_97 (fun _ => s_X6_head hk) ⟨by decide, by decide⟩ (Nat.le_of_ble_eq_true rfl) dX1_load_11 (fun v9 h16 n17 z18 hq => ?_) (fun ci140 q141 h142 n143 z144 hf => ?_)
    · obtain ⟨r15, rfl, hk⟩ := hq
      refine ⟨[vR r15], rfl, ?_⟩
      refine r_astore_n X (pc := 14) (lv1 := [(2, vR r15), (1, vR (some n)), (0, vR (some o))]) dX1_load_14 rfl (by decide) rfl ?_
      refine r_aload_n X (pc := 15) dX1_load_15 rfl (q := 1) rfl ?_
      obtain ⟨o137, fs138, e9, b139, hk⟩ := hk
      refine r_callVX X (pc := 16) (As := []) (st := []) rfl rfl e9 b139 m_X1_101 (fun _ => s_X6_commands hk) ⟨by decide, by decide⟩ (Nat.le_of_ble_eq_true rfl) dX1_load_16 (fun v9 h20 n21 z22 hq => ?_) (fun ci104 q105 h106 n107 z108 hf => ?_)
      · obtain ⟨r19, rfl, hk⟩ := hq
        refine ⟨[vI r19], rfl, ?_⟩
        refine r_pop X (pc := 19) dX1_load_19 rfl ?_
        refine r_aload_n X (pc := 20) dX1_load_20 rfl (q := 2) rfl ?_
        refine r_iconst X (pc := 21) dX1_load_21 ?_
        refine r_iconst X (pc := 22) dX1_load_22 ?_
        refine r_iconst X (pc := 23) dX1_load_23 ?_
        obtain ⟨o101, fs102, e9, b103, hk⟩ := hk
        refine r_callV X (pc := 24) (As := [vI 0, vI (-1), vI (-1)]) (st := []) rfl rfl e9 b103 m_X1_104 (fun _ => s_X1_report hk) ⟨by decide, by decide⟩ (Nat.le_of_ble_eq_true rfl) dX1_load_24 (fun v9 h23 n24 z25 hq => ?_) (fun ci68 q69 h70 n71 z72 hf => ?_)
        · obtain ⟨rfl, hk⟩ := hq
          refine ⟨[], rfl, ?_⟩
          refine r_aload_n X (pc := 27) dX1_load_27 rfl (q := 2) rfl ?_
          refine r_aload_n X (pc := 28) dX1_load_28 rfl (q := 0) rfl ?_
          obtain ⟨o65, fs66, e9, b67, hk⟩ := hk
          refine r_callV X (pc := 29) (As := [vR r15]) (st := []) rfl rfl e9 b67 m_X1_107 (fun _ => s_X1_become hk) ⟨by decide, by decide⟩ (Nat.le_of_ble_eq_true rfl) dX1_load_29 (fun v9 h26 n27 z28 hq => ?_) (fun ci32 q33 h34 n35 z36 hf => ?_)
          · obtain ⟨rfl, hk⟩ := hq
            refine ⟨[], rfl, ?_⟩
            refine r_aload_n X (pc := 32) dX1_load_32 rfl (q := 2) rfl ?_
            refine r_hGR X (pc := 33) fa_X1_14 dX1_load_33 hk (fun y29 hk => ?_)
            refine r_hGI X (pc := 36) fa_X1_111_X2 dX1_load_36 hk (fun y30 hk => ?_)
            refine r_istore_n X (pc := 39) (lv1 := [(3, vI y30), (2, vR r15), (1, vR (some n)), (0, vR (some o))]) dX1_load_39 rfl (by decide) rfl ?_
            refine r_aload_n X (pc := 40) dX1_load_40 rfl (q := 3) rfl ?_
            refine r_iconst X (pc := 41) dX1_load_41 ?_
            refine r_hPut X (pc := 42) fp_X1_81 rfl rfl dX1_load_42 hk (fun h31 hk => ?_)
            refine r_iload_n X (pc := 45) dX1_load_45 rfl (q := 0) rfl ?_
            exact r_iret X E (pc := 46) dX1_load_46 rfl ⟨_, rfl, hk⟩
          · have hk := hf
            by_cases c63 : ci32 = 6
            · replace hk := hk.1 c63
              subst c63
              refine r_catch X (pc := 29) [] ({ startPc := 0, endPc := 40, handlerPc := 47, catchType := 114 } : ExceptionTableEntry) [({ startPc := 0, endPc := 40, handlerPc := 73, catchType := 0 } : ExceptionTableEntry), ({ startPc := 47, endPc := 66, handlerPc := 73, catchType := 0 } : ExceptionTableEntry), ({ startPc := 73, endPc := 75, handlerPc := 73, catchType := 0 } : ExceptionTableEntry)] rfl (fun _ h9 => nomatch h9) (by decide) (by decide) q466 co_6_TrailMarkers_TextException ?_
              refine r_astore_n X (pc := 47) (lv1 := [(1, vR (some q33)), (2, vR r15), (0, vR (some o))]) dX1_load_47 rfl (by decide) rfl ?_
              refine r_aload_n X (pc := 48) dX1_load_48 rfl (q := 2) rfl ?_
              refine r_aload_n X (pc := 49) dX1_load_49 rfl (q := 0) rfl ?_
              refine r_hGI X (pc := 50) fa_X1_116_X7 dX1_load_50 hk (fun y37 hk => ?_)
              refine r_aload_n X (pc := 53) dX1_load_53 rfl (q := 0) rfl ?_
              refine r_hGI X (pc := 54) fa_X1_119_X7 dX1_load_54 hk (fun y38 hk => ?_)
              refine r_aload_n X (pc := 57) dX1_load_57 rfl (q := 0) rfl ?_
              obtain ⟨o60, fs61, e9, b62, hk⟩ := hk
              refine r_callV X (pc := 58) (As := []) (st := [vI y38, vI y37, vR (some o)]) rfl rfl e9 b62 m_X1_122 (fun _ => s_X7_reason hk) ⟨by decide, by decide⟩ (Nat.le_of_ble_eq_true rfl) dX1_load_58 (fun v9 h40 n41 z42 hq => ?_) (fun ci55 q56 h57 n58 z59 hf => ?_)
              · obtain ⟨r39, rfl, hk⟩ := hq
                refine ⟨[vI r39], rfl, ?_⟩
                obtain ⟨o52, fs53, e9, b54, hk⟩ := hk
                refine r_callV X (pc := 61) (As := [vI y37, vI y38, vI r39]) (st := []) rfl rfl e9 b54 m_X1_104 (fun _ => s_X1_report hk) ⟨by decide, by decide⟩ (Nat.le_of_ble_eq_true rfl) dX1_load_61 (fun v9 h43 n44 z45 hq => ?_) (fun ci47 q48 h49 n50 z51 hf => ?_)
                · obtain ⟨rfl, hk⟩ := hq
                  refine ⟨[], rfl, ?_⟩
                  refine r_iconst X (pc := 64) dX1_load_64 ?_
                  refine r_istore_n X (pc := 65) (lv1 := [(2, vI (-1)), (1, vR (some q33)), (0, vR (some o))]) dX1_load_65 rfl (by decide) rfl ?_
                  refine r_aload_n X (pc := 66) dX1_load_66 rfl (q := 2) rfl ?_
                  refine r_iconst X (pc := 67) dX1_load_67 ?_
                  refine r_hPut X (pc := 68) fp_X1_81 rfl rfl dX1_load_68 hk (fun h46 hk => ?_)
                  refine r_iload_n X (pc := 71) dX1_load_71 rfl (q := 0) rfl ?_
                  exact r_iret X E (pc := 72) dX1_load_72 rfl ⟨_, rfl, hk⟩
                · have hk := hf
                  exact hk.elim
              · have hk := hf
                exact hk.elim
            · replace hk := hk.2 c63
              obtain ⟨b64, hk⟩ := hk
              exact hk.elim
        · have hk := hf
          by_cases c99 : ci68 = 6
          · replace hk := hk.1 c99
            subst c99
            refine r_catch X (pc := 24) [] ({ startPc := 0, endPc := 40, handlerPc := 47, catchType := 114 } : ExceptionTableEntry) [({ startPc := 0, endPc := 40, handlerPc := 73, catchType := 0 } : ExceptionTableEntry), ({ startPc := 47, endPc := 66, handlerPc := 73, catchType := 0 } : ExceptionTableEntry), ({ startPc := 73, endPc := 75, handlerPc := 73, catchType := 0 } : ExceptionTableEntry)] rfl (fun _ h9 => nomatch h9) (by decide) (by decide) q466 co_6_TrailMarkers_TextException ?_
            refine r_astore_n X (pc := 47) (lv1 := [(1, vR (some q69)), (2, vR r15), (0, vR (some o))]) dX1_load_47 rfl (by decide) rfl ?_
            refine r_aload_n X (pc := 48) dX1_load_48 rfl (q := 2) rfl ?_
            refine r_aload_n X (pc := 49) dX1_load_49 rfl (q := 0) rfl ?_
            refine r_hGI X (pc := 50) fa_X1_116_X7 dX1_load_50 hk (fun y73 hk => ?_)
            refine r_aload_n X (pc := 53) dX1_load_53 rfl (q := 0) rfl ?_
            refine r_hGI X (pc := 54) fa_X1_119_X7 dX1_load_54 hk (fun y74 hk => ?_)
            refine r_aload_n X (pc := 57) dX1_load_57 rfl (q := 0) rfl ?_
            obtain ⟨o96, fs97, e9, b98, hk⟩ := hk
            refine r_callV X (pc := 58) (As := []) (st := [vI y74, vI y73, vR (some o)]) rfl rfl e9 b98 m_X1_122 (fun _ => s_X7_reason hk) ⟨by decide, by decide⟩ (Nat.le_of_ble_eq_true rfl) dX1_load_58 (fun v9 h76 n77 z78 hq => ?_) (fun ci91 q92 h93 n94 z95 hf => ?_)
            · obtain ⟨r75, rfl, hk⟩ := hq
              refine ⟨[vI r75], rfl, ?_⟩
              obtain ⟨o88, fs89, e9, b90, hk⟩ := hk
              refine r_callV X (pc := 61) (As := [vI y73, vI y74, vI r75]) (st := []) rfl rfl e9 b90 m_X1_104 (fun _ => s_X1_report hk) ⟨by decide, by decide⟩ (Nat.le_of_ble_eq_true rfl) dX1_load_61 (fun v9 h79 n80 z81 hq => ?_) (fun ci83 q84 h85 n86 z87 hf => ?_)
              · obtain ⟨rfl, hk⟩ := hq
                refine ⟨[], rfl, ?_⟩
                refine r_iconst X (pc := 64) dX1_load_64 ?_
                refine r_istore_n X (pc := 65) (lv1 := [(2, vI (-1)), (1, vR (some q69)), (0, vR (some o))]) dX1_load_65 rfl (by decide) rfl ?_
                refine r_aload_n X (pc := 66) dX1_load_66 rfl (q := 2) rfl ?_
                refine r_iconst X (pc := 67) dX1_load_67 ?_
                refine r_hPut X (pc := 68) fp_X1_81 rfl rfl dX1_load_68 hk (fun h82 hk => ?_)
                refine r_iload_n X (pc := 71) dX1_load_71 rfl (q := 0) rfl ?_
                exact r_iret X E (pc := 72) dX1_load_72 rfl ⟨_, rfl, hk⟩
              · have hk := hf
                exact hk.elim
            · have hk := hf
              exact hk.elim
          · replace hk := hk.2 c99
            obtain ⟨b100, hk⟩ := hk
            exact hk.elim
      · have hk := hf
        by_cases c135 : ci104 = 6
        · replace hk := hk.1 c135
          subst c135
          refine r_catch X (pc := 16) [] ({ startPc := 0, endPc := 40, handlerPc := 47, catchType := 114 } : ExceptionTableEntry) [({ startPc := 0, endPc := 40, handlerPc := 73, catchType := 0 } : ExceptionTableEntry), ({ startPc := 47, endPc := 66, handlerPc := 73, catchType := 0 } : ExceptionTableEntry), ({ startPc := 73, endPc := 75, handlerPc := 73, catchType := 0 } : ExceptionTableEntry)] rfl (fun _ h9 => nomatch h9) (by decide) (by decide) q466 co_6_TrailMarkers_TextException ?_
          refine r_astore_n X (pc := 47) (lv1 := [(1, vR (some q105)), (2, vR r15), (0, vR (some o))]) dX1_load_47 rfl (by decide) rfl ?_
          refine r_aload_n X (pc := 48) dX1_load_48 rfl (q := 2) rfl ?_
          refine r_aload_n X (pc := 49) dX1_load_49 rfl (q := 0) rfl ?_
          refine r_hGI X (pc := 50) fa_X1_116_X7 dX1_load_50 hk (fun y109 hk => ?_)
          refine r_aload_n X (pc := 53) dX1_load_53 rfl (q := 0) rfl ?_
          refine r_hGI X (pc := 54) fa_X1_119_X7 dX1_load_54 hk (fun y110 hk => ?_)
          refine r_aload_n X (pc := 57) dX1_load_57 rfl (q := 0) rfl ?_
          obtain ⟨o132, fs133, e9, b134, hk⟩ := hk
          refine r_callV X (pc := 58) (As := []) (st := [vI y110, vI y109, vR (some o)]) rfl rfl e9 b134 m_X1_122 (fun _ => s_X7_reason hk) ⟨by decide, by decide⟩ (Nat.le_of_ble_eq_true rfl) dX1_load_58 (fun v9 h112 n113 z114 hq => ?_) (fun ci127 q128 h129 n130 z131 hf => ?_)
          · obtain ⟨r111, rfl, hk⟩ := hq
            refine ⟨[vI r111], rfl, ?_⟩
            obtain ⟨o124, fs125, e9, b126, hk⟩ := hk
            refine r_callV X (pc := 61) (As := [vI y109, vI y110, vI r111]) (st := []) rfl rfl e9 b126 m_X1_104 (fun _ => s_X1_report hk) ⟨by decide, by decide⟩ (Nat.le_of_ble_eq_true rfl) dX1_load_61 (fun v9 h115 n116 z117 hq => ?_) (fun ci119 q120 h121 n122 z123 hf => ?_)
            · obtain ⟨rfl, hk⟩ := hq
              refine ⟨[], rfl, ?_⟩
              refine r_iconst X (pc := 64) dX1_load_64 ?_
              refine r_istore_n X (pc := 65) (lv1 := [(2, vI (-1)), (1, vR (some q105)), (0, vR (some o))]) dX1_load_65 rfl (by decide) rfl ?_
              refine r_aload_n X (pc := 66) dX1_load_66 rfl (q := 2) rfl ?_
              refine r_iconst X (pc := 67) dX1_load_67 ?_
              refine r_hPut X (pc := 68) fp_X1_81 rfl rfl dX1_load_68 hk (fun h118 hk => ?_)
              refine r_iload_n X (pc := 71) dX1_load_71 rfl (q := 0) rfl ?_
              exact r_iret X E (pc := 72) dX1_load_72 rfl ⟨_, rfl, hk⟩
            · have hk := hf
              exact hk.elim
          · have hk := hf
            exact hk.elim
        · replace hk := hk.2 c135
          obtain ⟨b136, hk⟩ := hk
          exact hk.elim
    · have hk := hf
      by_cases c171 : ci140 = 6
      · replace hk := hk.1 c171
        subst c171
        refine r_catch X (pc := 11) [] ({ startPc := 0, endPc := 40, handlerPc := 47, catchType := 114 } : ExceptionTableEntry) [({ startPc := 0, endPc := 40, handlerPc := 73, catchType := 0 } : ExceptionTableEntry), ({ startPc := 47, endPc := 66, handlerPc := 73, catchType := 0 } : ExceptionTableEntry), ({ startPc := 73, endPc := 75, handlerPc := 73, catchType := 0 } : ExceptionTableEntry)] rfl (fun _ h9 => nomatch h9) (by decide) (by decide) q466 co_6_TrailMarkers_TextException ?_
        refine r_astore_n X (pc := 47) (lv1 := [(1, vR (some q141)), (0, vR (some o))]) dX1_load_47 rfl (by decide) rfl ?_
        refine r_aload_n X (pc := 48) dX1_load_48 rfl (q := 1) rfl ?_
        refine r_aload_n X (pc := 49) dX1_load_49 rfl (q := 0) rfl ?_
        refine r_hGI X (pc := 50) fa_X1_116_X7 dX1_load_50 hk (fun y145 hk => ?_)
        refine r_aload_n X (pc := 53) dX1_load_53 rfl (q := 0) rfl ?_
        refine r_hGI X (pc := 54) fa_X1_119_X7 dX1_load_54 hk (fun y146 hk => ?_)
        refine r_aload_n X (pc := 57) dX1_load_57 rfl (q := 0) rfl ?_
        obtain ⟨o168, fs169, e9, b170, hk⟩ := hk
        refine r_callV X (pc := 58) (As := []) (st := [vI y146, vI y145, vR (some o)]) rfl rfl e9 b170 m_X1_122 (fun _ => s_X7_reason hk) ⟨by decide, by decide⟩ (Nat.le_of_ble_eq_true rfl) dX1_load_58 (fun v9 h148 n149 z150 hq => ?_) (fun ci163 q164 h165 n166 z167 hf => ?_)
        · obtain ⟨r147, rfl, hk⟩ := hq
          refine ⟨[vI r147], rfl, ?_⟩
          obtain ⟨o160, fs161, e9, b162, hk⟩ := hk
          refine r_callV X (pc := 61) (As := [vI y145, vI y146, vI r147]) (st := []) rfl rfl e9 b162 m_X1_104 (fun _ => s_X1_report hk) ⟨by decide, by decide⟩ (Nat.le_of_ble_eq_true rfl) dX1_load_61 (fun v9 h151 n152 z153 hq => ?_) (fun ci155 q156 h157 n158 z159 hf => ?_)
          · obtain ⟨rfl, hk⟩ := hq
            refine ⟨[], rfl, ?_⟩
            refine r_iconst X (pc := 64) dX1_load_64 ?_
            refine r_istore_n X (pc := 65) (lv1 := [(2, vI (-1)), (1, vR (some q141)), (0, vR (some o))]) dX1_load_65 rfl (by decide) rfl ?_
            refine r_aload_n X (pc := 66) dX1_load_66 rfl (q := 2) rfl ?_
            refine r_iconst X (pc := 67) dX1_load_67 ?_
            refine r_hPut X (pc := 68) fp_X1_81 rfl rfl dX1_load_68 hk (fun h154 hk => ?_)
            refine r_iload_n X (pc := 71) dX1_load_71 rfl (q := 0) rfl ?_
            exact r_iret X E (pc := 72) dX1_load_72 rfl ⟨_, rfl, hk⟩
          · have hk := hf
            exact hk.elim
        · have hk := hf
          exact hk.elim
      · replace hk := hk.2 c171
        obtain ⟨b172, hk⟩ := hk
        exact hk.elim
  · have hk := hf
    by_cases c207 : ci176 = 6
    · replace hk := hk.1 c207
      subst c207
      refine r_catch X (pc := 6) [] ({ startPc := 0, endPc := 40, handlerPc := 47, catchType := 114 } : ExceptionTableEntry) [({ startPc := 0, endPc := 40, handlerPc := 73, catchType := 0 } : ExceptionTableEntry), ({ startPc := 47, endPc := 66, handlerPc := 73, catchType := 0 } : ExceptionTableEntry), ({ startPc := 73, endPc := 75, handlerPc := 73, catchType := 0 } : ExceptionTableEntry)] rfl (fun _ h9 => nomatch h9) (by decide) (by decide) q466 co_6_TrailMarkers_TextException ?_
      refine r_astore_n X (pc := 47) (lv1 := [(1, vR (some q177)), (0, vR (some o))]) dX1_load_47 rfl (by decide) rfl ?_
      refine r_aload_n X (pc := 48) dX1_load_48 rfl (q := 1) rfl ?_
      refine r_aload_n X (pc := 49) dX1_load_49 rfl (q := 0) rfl ?_
      refine r_hGI X (pc := 50) fa_X1_116_X7 dX1_load_50 hk (fun y181 hk => ?_)
      refine r_aload_n X (pc := 53) dX1_load_53 rfl (q := 0) rfl ?_
      refine r_hGI X (pc := 54) fa_X1_119_X7 dX1_load_54 hk (fun y182 hk => ?_)
      refine r_aload_n X (pc := 57) dX1_load_57 rfl (q := 0) rfl ?_
      obtain ⟨o204, fs205, e9, b206, hk⟩ := hk
      refine r_callV X (pc := 58) (As := []) (st := [vI y182, vI y181, vR (some o)]) rfl rfl e9 b206 m_X1_122 (fun _ => s_X7_reason hk) ⟨by decide, by decide⟩ (Nat.le_of_ble_eq_true rfl) dX1_load_58 (fun v9 h184 n185 z186 hq => ?_) (fun ci199 q200 h201 n202 z203 hf => ?_)
      · obtain ⟨r183, rfl, hk⟩ := hq
        refine ⟨[vI r183], rfl, ?_⟩
        obtain ⟨o196, fs197, e9, b198, hk⟩ := hk
        refine r_callV X (pc := 61) (As := [vI y181, vI y182, vI r183]) (st := []) rfl rfl e9 b198 m_X1_104 (fun _ => s_X1_report hk) ⟨by decide, by decide⟩ (Nat.le_of_ble_eq_true rfl) dX1_load_61 (fun v9 h187 n188 z189 hq => ?_) (fun ci191 q192 h193 n194 z195 hf => ?_)
        · obtain ⟨rfl, hk⟩ := hq
          refine ⟨[], rfl, ?_⟩
          refine r_iconst X (pc := 64) dX1_load_64 ?_
          refine r_istore_n X (pc := 65) (lv1 := [(2, vI (-1)), (1, vR (some q177)), (0, vR (some o))]) dX1_load_65 rfl (by decide) rfl ?_
          refine r_aload_n X (pc := 66) dX1_load_66 rfl (q := 2) rfl ?_
          refine r_iconst X (pc := 67) dX1_load_67 ?_
          refine r_hPut X (pc := 68) fp_X1_81 rfl rfl dX1_load_68 hk (fun h190 hk => ?_)
          refine r_iload_n X (pc := 71) dX1_load_71 rfl (q := 0) rfl ?_
          exact r_iret X E (pc := 72) dX1_load_72 rfl ⟨_, rfl, hk⟩
        · have hk := hf
          exact hk.elim
      · have hk := hf
        exact hk.elim
    · replace hk := hk.2 c207
      obtain ⟨b208, hk⟩ := hk
      exact hk.elim
theorem s_X1_load {K : KT} {l : Launch} {o : Nat} {κ : Int → AH → Nat → Nat → Prop} {χ : QxT} {h : AH} {n : Nat} {z : Nat} (hk : P_X1_load K o κ χ h n z) : Ct K l yX1_load (wsW_ yX1_load cX1_load 5 (Option.some Jvm.ClassFile.FieldType.int) [((0 : Nat), (40 : Nat), (47 : Nat), (114 : Nat)), ((0 : Nat), (40 : Nat), (73 : Nat), (0 : Nat)), ((47 : Nat), (66 : Nat), (73 : Nat), (0 : Nat)), ((73 : Nat), (75 : Nat), (73 : Nat), (0 : Nat))]) 30 750 ([vR (some o)].map cV) h n z (QvI κ) χ :=
  ct_ofH (by decide +kernel) (Nat.le_of_ble_eq_true rfl) (fun Y X E => w_X1_load X E hk)
set_option maxHeartbeats 4000000 in
theorem w_X1_play {K : KT} {Y : YT} {o : Nat} {κ : Int → AH → Nat → Nat → Prop} {χ : QxT} (X : XY K "TrailMarkers" "play" cX1_play (Option.some Jvm.ClassFile.FieldType.int) (tableOf [((8 : Nat), (42 : Nat), (50 : Nat), (114 : Nat)), ((8 : Nat), (42 : Nat), (76 : Nat), (0 : Nat)), ((50 : Nat), (69 : Nat), (76 : Nat), (0 : Nat)), ((76 : Nat), (78 : Nat), (76 : Nat), (0 : Nat))]) 6 30 750 Y) (E : YE K Y (QvI κ) χ) {h : AH} {n : Nat} {z : Nat} (hk : P_X1_play K o κ χ h n z) : G K Y h n z 0 (lv_argsA 0 [vR (some o)]) [] := by
  show G K Y h n z 0 [(0, vR (some o))] []
  refine r_aload_n X (pc := 0) dX1_play_0 rfl (q := 0) rfl ?_
  refine r_hGR X (pc := 1) fa_X1_14 dX1_play_1 hk (fun y10 hk => ?_)
  obtain ⟨o215, fs216, e9, b217, hk⟩ := hk
  refine r_callV X (pc := 4) (As := []) (st := []) rfl rfl e9 b217 m_X1_125 (fun _ => s_X2_copy hk) ⟨by decide, by decide⟩ (Nat.le_of_ble_eq_true rfl) dX1_play_4 (fun v9 h12 n13 z14 hq => ?_) (fun ci210 q211 h212 n213 z214 hf => ?_)
  · obtain ⟨r11, rfl, hk⟩ := hq
    refine ⟨[vR r11], rfl, ?_⟩
    refine r_astore_n X (pc := 7) (lv1 := [(1, vR r11), (0, vR (some o))]) dX1_play_7 rfl (by decide) rfl ?_
    refine r_hNew X (pc := 8) nw_X1_92 dX1_play_8 hk (fun h15 hk => ?_)
    refine r_dup X (pc := 11) dX1_play_11 rfl ?_
    refine r_aload_n X (pc := 12) dX1_play_12 rfl (q := 1) rfl ?_
    refine r_aload_n X (pc := 13) dX1_play_13 rfl (q := 0) rfl ?_
    refine r_callI X (pc := 14) (As := [vR (some o), vR r11]) (st := [vR (some n13)]) m_X1_94 (fun _ => s_X6_init hk) ⟨by decide, by decide⟩ (Nat.le_of_ble_eq_true rfl) dX1_play_14 (fun v9 h16 n17 z18 hq => ?_) (fun ci177 q178 h179 n180 z181 hf => ?_)
    · obtain ⟨rfl, hk⟩ := hq
      refine ⟨[], rfl, ?_⟩
      refine r_astore_n X (pc := 17) (lv1 := [(2, vR (some n13)), (1, vR r11), (0, vR (some o))]) dX1_play_17 rfl (by decide) rfl ?_
      refine r_aload_n X (pc := 18) dX1_play_18 rfl (q := 0) rfl ?_
      obtain ⟨o174, fs175, e9, b176, hk⟩ := hk
      refine r_callV X (pc := 19) (As := []) (st := []) rfl rfl e9 b176 m_X1_128 (fun _ => s_X6_advance hk) ⟨by decide, by decide⟩ (Nat.le_of_ble_eq_true rfl) dX1_play_19 (fun v9 h19 n20 z21 hq => ?_) (fun ci141 q142 h143 n144 z145 hf => ?_)
      · obtain ⟨rfl, hk⟩ := hq
        refine ⟨[], rfl, ?_⟩
        refine r_aload_n X (pc := 22) dX1_play_22 rfl (q := 0) rfl ?_
        obtain ⟨o138, fs139, e9, b140, hk⟩ := hk
        refine r_callVX X (pc := 23) (As := []) (st := []) rfl rfl e9 b140 m_X1_101 (fun _ => s_X6_commands hk) ⟨by decide, by decide⟩ (Nat.le_of_ble_eq_true rfl) dX1_play_23 (fun v9 h23 n24 z25 hq => ?_) (fun ci105 q106 h107 n108 z109 hf => ?_)
        · obtain ⟨r22, rfl, hk⟩ := hq
          refine ⟨[vI r22], rfl, ?_⟩
          refine r_istore_n X (pc := 26) (lv1 := [(3, vI r22), (2, vR (some n13)), (1, vR r11), (0, vR (some o))]) dX1_play_26 rfl (by decide) rfl ?_
          refine r_aload_n X (pc := 27) dX1_play_27 rfl (q := 3) rfl ?_
          refine r_iconst X (pc := 28) dX1_play_28 ?_
          refine r_iconst X (pc := 29) dX1_play_29 ?_
          refine r_iconst X (pc := 30) dX1_play_30 ?_
          obtain ⟨o102, fs103, e9, b104, hk⟩ := hk
          refine r_callV X (pc := 31) (As := [vI 0, vI (-1), vI (-1)]) (st := []) rfl rfl e9 b104 m_X1_104 (fun _ => s_X1_report hk) ⟨by decide, by decide⟩ (Nat.le_of_ble_eq_true rfl) dX1_play_31 (fun v9 h26 n27 z28 hq => ?_) (fun ci69 q70 h71 n72 z73 hf => ?_)
          · obtain ⟨rfl, hk⟩ := hq
            refine ⟨[], rfl, ?_⟩
            refine r_aload_n X (pc := 34) dX1_play_34 rfl (q := 3) rfl ?_
            refine r_aload_n X (pc := 35) dX1_play_35 rfl (q := 2) rfl ?_
            obtain ⟨o66, fs67, e9, b68, hk⟩ := hk
            refine r_callV X (pc := 36) (As := [vR r11]) (st := []) rfl rfl e9 b68 m_X1_107 (fun _ => s_X1_become hk) ⟨by decide, by decide⟩ (Nat.le_of_ble_eq_true rfl) dX1_play_36 (fun v9 h29 n30 z31 hq => ?_) (fun ci33 q34 h35 n36 z37 hf => ?_)
            · obtain ⟨rfl, hk⟩ := hq
              refine ⟨[], rfl, ?_⟩
              refine r_iload_n X (pc := 39) dX1_play_39 rfl (q := 0) rfl ?_
              refine r_istore X (pc := 40) (lv1 := [(4, vI r22), (3, vI r22), (2, vR (some n13)), (1, vR r11), (0, vR (some o))]) dX1_play_40 (by decide) rfl ?_
              refine r_aload_n X (pc := 42) dX1_play_42 rfl (q := 4) rfl ?_
              refine r_iconst X (pc := 43) dX1_play_43 ?_
              refine r_hPut X (pc := 44) fp_X1_81 rfl rfl dX1_play_44 hk (fun h32 hk => ?_)
              refine r_iload X (pc := 47) dX1_play_47 (q := 0) rfl ?_
              exact r_iret X E (pc := 49) dX1_play_49 rfl ⟨_, rfl, hk⟩
            · have hk := hf
              by_cases c64 : ci33 = 6
              · replace hk := hk.1 c64
                subst c64
                refine r_catch X (pc := 36) [] ({ startPc := 8, endPc := 42, handlerPc := 50, catchType := 114 } : ExceptionTableEntry) [({ startPc := 8, endPc := 42, handlerPc := 76, catchType := 0 } : ExceptionTableEntry), ({ startPc := 50, endPc := 69, handlerPc := 76, catchType := 0 } : ExceptionTableEntry), ({ startPc := 76, endPc := 78, handlerPc := 76, catchType := 0 } : ExceptionTableEntry)] rfl (fun _ h9 => nomatch h9) (by decide) (by decide) q466 co_6_TrailMarkers_TextException ?_
                refine r_astore_n X (pc := 50) (lv1 := [(2, vR (some q34)), (3, vI r22), (1, vR r11), (0, vR (some o))]) dX1_play_50 rfl (by decide) rfl ?_
                refine r_aload_n X (pc := 51) dX1_play_51 rfl (q := 3) rfl ?_
                refine r_aload_n X (pc := 52) dX1_play_52 rfl (q := 0) rfl ?_
                refine r_hGI X (pc := 53) fa_X1_116_X7 dX1_play_53 hk (fun y38 hk => ?_)
                refine r_aload_n X (pc := 56) dX1_play_56 rfl (q := 0) rfl ?_
                refine r_hGI X (pc := 57) fa_X1_119_X7 dX1_play_57 hk (fun y39 hk => ?_)
                refine r_aload_n X (pc := 60) dX1_play_60 rfl (q := 0) rfl ?_
                obtain ⟨o61, fs62, e9, b63, hk⟩ := hk
                refine r_callV X (pc := 61) (As := []) (st := [vI y39, vI y38, vR (some o)]) rfl rfl e9 b63 m_X1_122 (fun _ => s_X7_reason hk) ⟨by decide, by decide⟩ (Nat.le_of_ble_eq_true rfl) dX1_play_61 (fun v9 h41 n42 z43 hq => ?_) (fun ci56 q57 h58 n59 z60 hf => ?_)
                · obtain ⟨r40, rfl, hk⟩ := hq
                  refine ⟨[vI r40], rfl, ?_⟩
                  obtain ⟨o53, fs54, e9, b55, hk⟩ := hk
                  refine r_callV X (pc := 64) (As := [vI y38, vI y39, vI r40]) (st := []) rfl rfl e9 b55 m_X1_104 (fun _ => s_X1_report hk) ⟨by decide, by decide⟩ (Nat.le_of_ble_eq_true rfl) dX1_play_64 (fun v9 h44 n45 z46 hq => ?_) (fun ci48 q49 h50 n51 z52 hf => ?_)
                  · obtain ⟨rfl, hk⟩ := hq
                    refine ⟨[], rfl, ?_⟩
                    refine r_iconst X (pc := 67) dX1_play_67 ?_
                    refine r_istore_n X (pc := 68) (lv1 := [(3, vI (-1)), (2, vR (some q34)), (1, vR r11), (0, vR (some o))]) dX1_play_68 rfl (by decide) rfl ?_
                    refine r_aload_n X (pc := 69) dX1_play_69 rfl (q := 3) rfl ?_
                    refine r_iconst X (pc := 70) dX1_play_70 ?_
                    refine r_hPut X (pc := 71) fp_X1_81 rfl rfl dX1_play_71 hk (fun h47 hk => ?_)
                    refine r_iload_n X (pc := 74) dX1_play_74 rfl (q := 0) rfl ?_
                    exact r_iret X E (pc := 75) dX1_play_75 rfl ⟨_, rfl, hk⟩
                  · have hk := hf
                    exact hk.elim
                · have hk := hf
                  exact hk.elim
              · replace hk := hk.2 c64
                obtain ⟨b65, hk⟩ := hk
                exact hk.elim
          · have hk := hf
            by_cases c100 : ci69 = 6
            · replace hk := hk.1 c100
              subst c100
              refine r_catch X (pc := 31) [] ({ startPc := 8, endPc := 42, handlerPc := 50, catchType := 114 } : ExceptionTableEntry) [({ startPc := 8, endPc := 42, handlerPc := 76, catchType := 0 } : ExceptionTableEntry), ({ startPc := 50, endPc := 69, handlerPc := 76, catchType := 0 } : ExceptionTableEntry), ({ startPc := 76, endPc := 78, handlerPc := 76, catchType := 0 } : ExceptionTableEntry)] rfl (fun _ h9 => nomatch h9) (by decide) (by decide) q466 co_6_TrailMarkers_TextException ?_
              refine r_astore_n X (pc := 50) (lv1 := [(2, vR (some q70)), (3, vI r22), (1, vR r11), (0, vR (some o))]) dX1_play_50 rfl (by decide) rfl ?_
              refine r_aload_n X (pc := 51) dX1_play_51 rfl (q := 3) rfl ?_
              refine r_aload_n X (pc := 52) dX1_play_52 rfl (q := 0) rfl ?_
              refine r_hGI X (pc := 53) fa_X1_116_X7 dX1_play_53 hk (fun y74 hk => ?_)
              refine r_aload_n X (pc := 56) dX1_play_56 rfl (q := 0) rfl ?_
              refine r_hGI X (pc := 57) fa_X1_119_X7 dX1_play_57 hk (fun y75 hk => ?_)
              refine r_aload_n X (pc := 60) dX1_play_60 rfl (q := 0) rfl ?_
              obtain ⟨o97, fs98, e9, b99, hk⟩ := hk
              refine r_callV X (pc := 61) (As := []) (st := [vI y75, vI y74, vR (some o)]) rfl rfl e9 b99 m_X1_122 (fun _ => s_X7_reason hk) ⟨by decide, by decide⟩ (Nat.le_of_ble_eq_true rfl) dX1_play_61 (fun v9 h77 n78 z79 hq => ?_) (fun ci92 q93 h94 n95 z96 hf => ?_)
              · obtain ⟨r76, rfl, hk⟩ := hq
                refine ⟨[vI r76], rfl, ?_⟩
                obtain ⟨o89, fs90, e9, b91, hk⟩ := hk
                refine r_callV X (pc := 64) (As := [vI y74, vI y75, vI r76]) (st := []) rfl rfl e9 b91 m_X1_104 (fun _ => s_X1_report hk) ⟨by decide, by decide⟩ (Nat.le_of_ble_eq_true rfl) dX1_play_64 (fun v9 h80 n81 z82 hq => ?_) (fun ci84 q85 h86 n87 z88 hf => ?_)
                · obtain ⟨rfl, hk⟩ := hq
                  refine ⟨[], rfl, ?_⟩
                  refine r_iconst X (pc := 67) dX1_play_67 ?_
                  refine r_istore_n X (pc := 68) (lv1 := [(3, vI (-1)), (2, vR (some q70)), (1, vR r11), (0, vR (some o))]) dX1_play_68 rfl (by decide) rfl ?_
                  refine r_aload_n X (pc := 69) dX1_play_69 rfl (q := 3) rfl ?_
                  refine r_iconst X (pc := 70) dX1_play_70 ?_
                  refine r_hPut X (pc := 71) fp_X1_81 rfl rfl dX1_play_71 hk (fun h83 hk => ?_)
                  refine r_iload_n X (pc := 74) dX1_play_74 rfl (q := 0) rfl ?_
                  exact r_iret X E (pc := 75) dX1_play_75 rfl ⟨_, rfl, hk⟩
                · have hk := hf
                  exact hk.elim
              · have hk := hf
                exact hk.elim
            · replace hk := hk.2 c100
              obtain ⟨b101, hk⟩ := hk
              exact hk.elim
        · have hk := hf
          by_cases c136 : ci105 = 6
          · replace hk := hk.1 c136
            subst c136
            refine r_catch X (pc := 23) [] ({ startPc := 8, endPc := 42, handlerPc := 50, catchType := 114 } : ExceptionTableEntry) [({ startPc := 8, endPc := 42, handlerPc := 76, catchType := 0 } : ExceptionTableEntry), ({ startPc := 50, endPc := 69, handlerPc := 76, catchType := 0 } : ExceptionTableEntry), ({ startPc := 76, endPc := 78, handlerPc := 76, catchType := 0 } : ExceptionTableEntry)] rfl (fun _ h9 => nomatch h9) (by decide) (by decide) q466 co_6_TrailMarkers_TextException ?_
            refine r_astore_n X (pc := 50) (lv1 := [(2, vR (some q106)), (1, vR r11), (0, vR (some o))]) dX1_play_50 rfl (by decide) rfl ?_
            refine r_aload_n X (pc := 51) dX1_play_51 rfl (q := 2) rfl ?_
            refine r_aload_n X (pc := 52) dX1_play_52 rfl (q := 0) rfl ?_
            refine r_hGI X (pc := 53) fa_X1_116_X7 dX1_play_53 hk (fun y110 hk => ?_)
            refine r_aload_n X (pc := 56) dX1_play_56 rfl (q := 0) rfl ?_
            refine r_hGI X (pc := 57) fa_X1_119_X7 dX1_play_57 hk (fun y111 hk => ?_)
            refine r_aload_n X (pc := 60) dX1_play_60 rfl (q := 0) rfl ?_
            obtain ⟨o133, fs134, e9, b135, hk⟩ := hk
            refine r_callV X (pc := 61) (As := []) (st := [vI y111, vI y110, vR (some o)]) rfl rfl e9 b135 m_X1_122 (fun _ => s_X7_reason hk) ⟨by decide, by decide⟩ (Nat.le_of_ble_eq_true rfl) dX1_play_61 (fun v9 h113 n114 z115 hq => ?_) (fun ci128 q129 h130 n131 z132 hf => ?_)
            · obtain ⟨r112, rfl, hk⟩ := hq
              refine ⟨[vI r112], rfl, ?_⟩
              obtain ⟨o125, fs126, e9, b127, hk⟩ := hk
              refine r_callV X (pc := 64) (As := [vI y110, vI y111, vI r112]) (st := []) rfl rfl e9 b127 m_X1_104 (fun _ => s_X1_report hk) ⟨by decide, by decide⟩ (Nat.le_of_ble_eq_true rfl) dX1_play_64 (fun v9 h116 n117 z118 hq => ?_) (fun ci120 q121 h122 n123 z124 hf => ?_)
              · obtain ⟨rfl, hk⟩ := hq
                refine ⟨[], rfl, ?_⟩
                refine r_iconst X (pc := 67) dX1_play_67 ?_
                refine r_istore_n X (pc := 68) (lv1 := [(3, vI (-1)), (2, vR (some q106)), (1, vR r11), (0, vR (some o))]) dX1_play_68 rfl (by decide) rfl ?_
                refine r_aload_n X (pc := 69) dX1_play_69 rfl (q := 3) rfl ?_
                refine r_iconst X (pc := 70) dX1_play_70 ?_
                refine r_hPut X (pc := 71) fp_X1_81 rfl rfl dX1_play_71 hk (fun h119 hk => ?_)
                refine r_iload_n X (pc := 74) dX1_play_74 rfl (q := 0) rfl ?_
                exact r_iret X E (pc := 75) dX1_play_75 rfl ⟨_, rfl, hk⟩
              · have hk := hf
                exact hk.elim
            · have hk := hf
              exact hk.elim
          · replace hk := hk.2 c136
            obtain ⟨b137, hk⟩ := hk
            exact hk.elim
      · have hk := hf
        by_cases c172 : ci141 = 6
        · replace hk := hk.1 c172
          subst c172
          refine r_catch X (pc := 19) [] ({ startPc := 8, endPc := 42, handlerPc := 50, catchType := 114 } : ExceptionTableEntry) [({ startPc := 8, endPc := 42, handlerPc := 76, catchType := 0 } : ExceptionTableEntry), ({ startPc := 50, endPc := 69, handlerPc := 76, catchType := 0 } : ExceptionTableEntry), ({ startPc := 76, endPc := 78, handlerPc := 76, catchType := 0 } : ExceptionTableEntry)] rfl (fun _ h9 => nomatch h9) (by decide) (by decide) q466 co_6_TrailMarkers_TextException ?_
          refine r_astore_n X (pc := 50) (lv1 := [(2, vR (some q142)), (1, vR r11), (0, vR (some o))]) dX1_play_50 rfl (by decide) rfl ?_
          refine r_aload_n X (pc := 51) dX1_play_51 rfl (q := 2) rfl ?_
          refine r_aload_n X (pc := 52) dX1_play_52 rfl (q := 0) rfl ?_
          refine r_hGI X (pc := 53) fa_X1_116_X7 dX1_play_53 hk (fun y146 hk => ?_)
          refine r_aload_n X (pc := 56) dX1_play_56 rfl (q := 0) rfl ?_
          refine r_hGI X (pc := 57) fa_X1_119_X7 dX1_play_57 hk (fun y147 hk => ?_)
          refine r_aload_n X (pc := 60) dX1_play_60 rfl (q := 0) rfl ?_
          obtain ⟨o169, fs170, e9, b171, hk⟩ := hk
          refine r_callV X (pc := 61) (As := []) (st := [vI y147, vI y146, vR (some o)]) rfl rfl e9 b171 m_X1_122 (fun _ => s_X7_reason hk) ⟨by decide, by decide⟩ (Nat.le_of_ble_eq_true rfl) dX1_play_61 (fun v9 h149 n150 z151 hq => ?_) (fun ci164 q165 h166 n167 z168 hf => ?_)
          · obtain ⟨r148, rfl, hk⟩ := hq
            refine ⟨[vI r148], rfl, ?_⟩
            obtain ⟨o161, fs162, e9, b163, hk⟩ := hk
            refine r_callV X (pc := 64) (As := [vI y146, vI y147, vI r148]) (st := []) rfl rfl e9 b163 m_X1_104 (fun _ => s_X1_report hk) ⟨by decide, by decide⟩ (Nat.le_of_ble_eq_true rfl) dX1_play_64 (fun v9 h152 n153 z154 hq => ?_) (fun ci156 q157 h158 n159 z160 hf => ?_)
            · obtain ⟨rfl, hk⟩ := hq
              refine ⟨[], rfl, ?_⟩
              refine r_iconst X (pc := 67) dX1_play_67 ?_
              refine r_istore_n X (pc := 68) (lv1 := [(3, vI (-1)), (2, vR (some q142)), (1, vR r11), (0, vR (some o))]) dX1_play_68 rfl (by decide) rfl ?_
              refine r_aload_n X (pc := 69) dX1_play_69 rfl (q := 3) rfl ?_
              refine r_iconst X (pc := 70) dX1_play_70 ?_
              refine r_hPut X (pc := 71) fp_X1_81 rfl rfl dX1_play_71 hk (fun h155 hk => ?_)
              refine r_iload_n X (pc := 74) dX1_play_74 rfl (q := 0) rfl ?_
              exact r_iret X E (pc := 75) dX1_play_75 rfl ⟨_, rfl, hk⟩
            · have hk := hf
              exact hk.elim
          · have hk := hf
            exact hk.elim
        · replace hk := hk.2 c172
          obtain ⟨b173, hk⟩ := hk
          exact hk.elim
    · have hk := hf
      by_cases c208 : ci177 = 6
      · replace hk := hk.1 c208
        subst c208
        refine r_catch X (pc := 14) [] ({ startPc := 8, endPc := 42, handlerPc := 50, catchType := 114 } : ExceptionTableEntry) [({ startPc := 8, endPc := 42, handlerPc := 76, catchType := 0 } : ExceptionTableEntry), ({ startPc := 50, endPc := 69, handlerPc := 76, catchType := 0 } : ExceptionTableEntry), ({ startPc := 76, endPc := 78, handlerPc := 76, catchType := 0 } : ExceptionTableEntry)] rfl (fun _ h9 => nomatch h9) (by decide) (by decide) q466 co_6_TrailMarkers_TextException ?_
        refine r_astore_n X (pc := 50) (lv1 := [(2, vR (some q178)), (1, vR r11), (0, vR (some o))]) dX1_play_50 rfl (by decide) rfl ?_
        refine r_aload_n X (pc := 51) dX1_play_51 rfl (q := 2) rfl ?_
        refine r_aload_n X (pc := 52) dX1_play_52 rfl (q := 0) rfl ?_
        refine r_hGI X (pc := 53) fa_X1_116_X7 dX1_play_53 hk (fun y182 hk => ?_)
        refine r_aload_n X (pc := 56) dX1_play_56 rfl (q := 0) rfl ?_
        refine r_hGI X (pc := 57) fa_X1_119_X7 dX1_play_57 hk (fun y183 hk => ?_)
        refine r_aload_n X (pc := 60) dX1_play_60 rfl (q := 0) rfl ?_
        obtain ⟨o205, fs206, e9, b207, hk⟩ := hk
        refine r_callV X (pc := 61) (As := []) (st := [vI y183, vI y182, vR (some o)]) rfl rfl e9 b207 m_X1_122 (fun _ => s_X7_reason hk) ⟨by decide, by decide⟩ (Nat.le_of_ble_eq_true rfl) dX1_play_61 (fun v9 h185 n186 z187 hq => ?_) (fun ci200 q201 h202 n203 z204 hf => ?_)
        · obtain ⟨r184, rfl, hk⟩ := hq
          refine ⟨[vI r184], rfl, ?_⟩
          obtain ⟨o197, fs198, e9, b199, hk⟩ := hk
          refine r_callV X (pc := 64) (As := [vI y182, vI y183, vI r184]) (st := []) rfl rfl e9 b199 m_X1_104 (fun _ => s_X1_report hk) ⟨by decide, by decide⟩ (Nat.le_of_ble_eq_true rfl) dX1_play_64 (fun v9 h188 n189 z190 hq => ?_) (fun ci192 q193 h194 n195 z196 hf => ?_)
          · obtain ⟨rfl, hk⟩ := hq
            refine ⟨[], rfl, ?_⟩
            refine r_iconst X (pc := 67) dX1_play_67 ?_
            refine r_istore_n X (pc := 68) (lv1 := [(3, vI (-1)), (2, vR (some q178)), (1, vR r11), (0, vR (some o))]) dX1_play_68 rfl (by decide) rfl ?_
            refine r_aload_n X (pc := 69) dX1_play_69 rfl (q := 3) rfl ?_
            refine r_iconst X (pc := 70) dX1_play_70 ?_
            refine r_hPut X (pc := 71) fp_X1_81 rfl rfl dX1_play_71 hk (fun h191 hk => ?_)
            refine r_iload_n X (pc := 74) dX1_play_74 rfl (q := 0) rfl ?_
            exact r_iret X E (pc := 75) dX1_play_75 rfl ⟨_, rfl, hk⟩
          · have hk := hf
            exact hk.elim
        · have hk := hf
          exact hk.elim
      · replace hk := hk.2 c208
        obtain ⟨b209, hk⟩ := hk
        exact hk.elim
  · have hk := hf
    exact r_out X E (List.forall_mem_cons.mpr ⟨Or.inl (by decide), (List.forall_mem_cons.mpr ⟨Or.inl (by decide), (List.forall_mem_cons.mpr ⟨Or.inl (by decide), (List.forall_mem_cons.mpr ⟨Or.inl (by decide), (fun _ h9 => nomatch h9)⟩)⟩)⟩)⟩) hk
theorem s_X1_play {K : KT} {l : Launch} {o : Nat} {κ : Int → AH → Nat → Nat → Prop} {χ : QxT} {h : AH} {n : Nat} {z : Nat} (hk : P_X1_play K o κ χ h n z) : Ct K l yX1_play (wsW_ yX1_play cX1_play 6 (Option.some Jvm.ClassFile.FieldType.int) [((8 : Nat), (42 : Nat), (50 : Nat), (114 : Nat)), ((8 : Nat), (42 : Nat), (76 : Nat), (0 : Nat)), ((50 : Nat), (69 : Nat), (76 : Nat), (0 : Nat)), ((76 : Nat), (78 : Nat), (76 : Nat), (0 : Nat))]) 30 750 ([vR (some o)].map cV) h n z (QvI κ) χ :=
  ct_ofH (by decide +kernel) (Nat.le_of_ble_eq_true rfl) (fun Y X E => w_X1_play X E hk)
set_option maxHeartbeats 4000000 in
theorem w_X1_faults_65 {K : KT} {Y : YT} {o : Nat} {κ : Int → AH → Nat → Nat → Prop} {χ : QxT} (X : XY K "TrailMarkers" "faults" cX1_faults (Option.some Jvm.ClassFile.FieldType.int) [] 6 1 60 Y) (E : YE K Y (QvI κ) χ) {k_4 : AH → Nat → Nat → Option Nat → Int → Int → Prop} {k_89 : AH → Nat → Nat → Int → Prop} (H_4 : ∀ (h : AH) (n : Nat) (z : Nat) (x1 : Option Nat) (x2 : Int) (x3 : Int), k_4 h n z x1 x2 x3 → G K Y h n z 4 [(0, vR (some o)), (1, vR x1), (2, vI x2), (3, vI x3)] []) (H_89 : ∀ (h : AH) (n : Nat) (z : Nat) (x2 : Int), k_89 h n z x2 → G K Y h n z 89 [(0, vR (some o)), (2, vI x2)] []) : ∀ (h : AH) (n : Nat) (z : Nat) (x1 : Option Nat) (x2 : Int) (x3 : Int) (s0 : Int), P_X1_faults_65 K o k_4 k_89 κ χ h n z x1 x2 x3 s0 → G K Y h n z 65 [(0, vR (some o)), (1, vR x1), (2, vI x2), (3, vI x3)] [vI s0] := by
  intro h n z x1 x2 x3 s0 hk
  refine r_istore X (pc := 65) (lv1 := [(5, vI s0), (0, vR (some o)), (1, vR x1), (2, vI x2), (3, vI x3)]) dX1_faults_65 (by decide) rfl ?_
  refine r_iload X (pc := 67) dX1_faults_67 (q := 0) rfl ?_
  refine r_iconst X (pc := 69) dX1_faults_69 ?_
  obtain ⟨b21, hk⟩ := hk
  refine r_icmp_eq X (pc := 70) (tgt := 83) dX1_faults_70 (by decide) ⟨b21, (by decide)⟩ (fun c22 => ?_) (fun c22 => ?_)
  · have hk := hk.1 c22
    refine r_iinc X (pc := 83) (q := 4) (lv1 := [(3, vI (x3 + 1)), (5, vI s0), (0, vR (some o)), (1, vR x1), (2, vI x2)]) dX1_faults_83 rfl (by decide) rfl ?_
    refine r_goto X (pc := 86) (tgt := 4) dX1_faults_86 (by decide) ?_
    refine G.sub [2, 3, 4, 0] rfl ?_
    exact H_4 h n z x1 x2 (x3 + 1) hk
  · have hk := hk.2 c22
    refine r_iload X (pc := 73) dX1_faults_73 (q := 0) rfl ?_
    refine r_bipush X (pc := 75) dX1_faults_75 (by decide) ?_
    refine r_icmp_eq X (pc := 77) (tgt := 83) dX1_faults_77 (by decide) ⟨b21, (by decide)⟩ (fun c23 => ?_) (fun c23 => ?_)
    · have hk := hk.1 c23
      refine r_iinc X (pc := 83) (q := 4) (lv1 := [(3, vI (x3 + 1)), (5, vI s0), (0, vR (some o)), (1, vR x1), (2, vI x2)]) dX1_faults_83 rfl (by decide) rfl ?_
      refine r_goto X (pc := 86) (tgt := 4) dX1_faults_86 (by decide) ?_
      refine G.sub [2, 3, 4, 0] rfl ?_
      exact H_4 h n z x1 x2 (x3 + 1) hk
    · have hk := hk.2 c23
      refine r_iinc X (pc := 80) (q := 3) (lv1 := [(2, vI (x2 + 1)), (5, vI s0), (0, vR (some o)), (1, vR x1), (3, vI x3)]) dX1_faults_80 rfl (by decide) rfl ?_
      refine r_iinc X (pc := 83) (q := 4) (lv1 := [(3, vI (x3 + 1)), (2, vI (x2 + 1)), (5, vI s0), (0, vR (some o)), (1, vR x1)]) dX1_faults_83 rfl (by decide) rfl ?_
      refine r_goto X (pc := 86) (tgt := 4) dX1_faults_86 (by decide) ?_
      refine G.sub [3, 4, 1, 0] rfl ?_
      exact H_4 h n z x1 (x2 + 1) (x3 + 1) hk
set_option maxHeartbeats 4000000 in
theorem w_X1_faults_43 {K : KT} {Y : YT} {o : Nat} {κ : Int → AH → Nat → Nat → Prop} {χ : QxT} (X : XY K "TrailMarkers" "faults" cX1_faults (Option.some Jvm.ClassFile.FieldType.int) [] 6 1 60 Y) (E : YE K Y (QvI κ) χ) {k_4 : AH → Nat → Nat → Option Nat → Int → Int → Prop} {k_89 : AH → Nat → Nat → Int → Prop} (H_4 : ∀ (h : AH) (n : Nat) (z : Nat) (x1 : Option Nat) (x2 : Int) (x3 : Int), k_4 h n z x1 x2 x3 → G K Y h n z 4 [(0, vR (some o)), (1, vR x1), (2, vI x2), (3, vI x3)] []) (H_89 : ∀ (h : AH) (n : Nat) (z : Nat) (x2 : Int), k_89 h n z x2 → G K Y h n z 89 [(0, vR (some o)), (2, vI x2)] []) : ∀ (h : AH) (n : Nat) (z : Nat) (x1 : Option Nat) (x2 : Int) (x3 : Int) (x4 : Int), P_X1_faults_43 K o k_4 k_89 κ χ h n z x1 x2 x3 x4 → G K Y h n z 43 [(0, vR (some o)), (1, vR x1), (2, vI x2), (3, vI x3), (4, vI x4)] [] := by
  intro h n z x1 x2 x3 x4 hk
  refine r_iload_n X (pc := 43) dX1_faults_43 rfl (q := 3) rfl ?_
  obtain ⟨b24, hk⟩ := hk
  refine r_if_ne X (pc := 44) (tgt := 51) dX1_faults_44 (by decide) b24 (fun c25 => ?_) (fun c25 => ?_)
  · have hk := hk.2 c25
    refine r_iload X (pc := 51) dX1_faults_51 (q := 4) rfl ?_
    refine r_aload_n X (pc := 53) dX1_faults_53 rfl (q := 1) rfl ?_
    refine r_hGR X (pc := 54) fa_X1_300_X8 dX1_faults_54 hk (fun y26 hk => ?_)
    refine r_iload_n X (pc := 57) dX1_faults_57 rfl (q := 3) rfl ?_
    refine r_iconst X (pc := 58) dX1_faults_58 ?_
    refine r_isub X (pc := 59) dX1_faults_59 ?_
    refine r_hAI X (pc := 60) dX1_faults_60 hk (fun y27 hk => ?_)
    refine r_isub X (pc := 61) dX1_faults_61 ?_
    obtain ⟨b28, hk⟩ := hk
    refine r_mabs X (pc := 62) q1353 q1354 q152 q1355 b28 ⟨by decide, Nat.le_of_ble_eq_true rfl⟩ dX1_faults_62 ?_
    refine G.sub [0, 1, 2, 3] rfl ?_
    exact w_X1_faults_65 X E H_4 H_89 h n z x1 x2 x3 (jabs (x4 - y27)) hk
  · have hk := hk.1 c25
    refine r_iconst X (pc := 47) dX1_faults_47 ?_
    refine r_goto X (pc := 48) (tgt := 65) dX1_faults_48 (by decide) ?_
    refine G.sub [0, 1, 2, 3] rfl ?_
    exact w_X1_faults_65 X E H_4 H_89 h n z x1 x2 x3 1 hk
set_option maxHeartbeats 4000000 in
theorem w_X1_faults_4 {K : KT} {Y : YT} {o : Nat} {κ : Int → AH → Nat → Nat → Prop} {χ : QxT} (X : XY K "TrailMarkers" "faults" cX1_faults (Option.some Jvm.ClassFile.FieldType.int) [] 6 1 60 Y) (E : YE K Y (QvI κ) χ) {k_89 : AH → Nat → Nat → Int → Prop} (H_89 : ∀ (h : AH) (n : Nat) (z : Nat) (x2 : Int), k_89 h n z x2 → G K Y h n z 89 [(0, vR (some o)), (2, vI x2)] []) : ∀ (f : Nat) (h : AH) (n : Nat) (z : Nat) (x1 : Option Nat) (x2 : Int) (x3 : Int), L_X1_faults_4 K o k_89 κ χ f h n z x1 x2 x3 → G K Y h n z 4 [(0, vR (some o)), (1, vR x1), (2, vI x2), (3, vI x3)] [] := by
  intro f
  induction f with
  | zero => intro h n z x1 x2 x3 hk; exact hk.elim
  | succ f ih =>
    intro h n z x1 x2 x3 hk
    refine r_iload_n X (pc := 4) dX1_faults_4 rfl (q := 3) rfl ?_
    refine r_aload_n X (pc := 5) dX1_faults_5 rfl (q := 1) rfl ?_
    refine r_hGI X (pc := 6) fa_X1_297_X8 dX1_faults_6 hk (fun y29 hk => ?_)
    obtain ⟨b30, b31, hk⟩ := hk
    refine r_icmp_ge X (pc := 9) (tgt := 89) dX1_faults_9 (by decide) ⟨b30, b31⟩ (fun c32 => ?_) (fun c32 => ?_)
    · have hk := hk.2 c32
      refine G.sub [0, 2] rfl ?_
      exact H_89 h n z x2 hk
    · have hk := hk.1 c32
      refine r_aload_n X (pc := 12) dX1_faults_12 rfl (q := 1) rfl ?_
      refine r_hGR X (pc := 13) fa_X1_300_X8 dX1_faults_13 hk (fun y33 hk => ?_)
      refine r_iload_n X (pc := 16) dX1_faults_16 rfl (q := 3) rfl ?_
      refine r_hAI X (pc := 17) dX1_faults_17 hk (fun y34 hk => ?_)
      refine r_istore X (pc := 18) (lv1 := [(4, vI y34), (0, vR (some o)), (1, vR x1), (2, vI x2), (3, vI x3)]) dX1_faults_18 (by decide) rfl ?_
      refine r_aload_n X (pc := 20) dX1_faults_20 rfl (q := 1) rfl ?_
      refine r_hGR X (pc := 21) fa_X1_14 dX1_faults_21 hk (fun y35 hk => ?_)
      refine r_iload X (pc := 24) dX1_faults_24 (q := 0) rfl ?_
      refine r_bipush X (pc := 26) dX1_faults_26 (by decide) ?_
      obtain ⟨b36, hk⟩ := hk
      refine r_idiv X (pc := 28) dX1_faults_28 ⟨⟨b36, (by decide)⟩, (by decide)⟩ ?_
      refine r_iload X (pc := 29) dX1_faults_29 (q := 0) rfl ?_
      refine r_bipush X (pc := 31) dX1_faults_31 (by decide) ?_
      refine r_irem X (pc := 33) dX1_faults_33 ⟨⟨b36, (by decide)⟩, (by decide)⟩ ?_
      obtain ⟨o50, fs51, e9, b52, hk⟩ := hk
      refine r_callV X (pc := 34) (As := [vI (y34.tdiv 100), vI (y34.tmod 100)]) (st := []) rfl rfl e9 b52 m_X1_183 (fun _ => s_X2_isBlock hk) ⟨by decide, by decide⟩ (Nat.le_of_ble_eq_true rfl) dX1_faults_34 (fun v9 h38 n39 z40 hq => ?_) (fun ci45 q46 h47 n48 z49 hf => ?_)
      · obtain ⟨r37, rfl, hk⟩ := hq
        refine ⟨[vI r37], rfl, ?_⟩
        obtain ⟨b41, hk⟩ := hk
        refine r_if_eq X (pc := 37) (tgt := 43) dX1_faults_37 (by decide) b41 (fun c42 => ?_) (fun c42 => ?_)
        · have hk := hk.1 c42
          refine G.sub [1, 2, 3, 4, 0] rfl ?_
          have HH43 : ∀ (h : AH) (n : Nat) (z : Nat) (x1 : Option Nat) (x2 : Int) (x3 : Int), (L_X1_faults_4 K o k_89 κ χ f h n z x1 x2 x3) → G K Y h n z 4 [(0, vR (some o)), (1, vR x1), (2, vI x2), (3, vI x3)] [] := by
              intro h n z x1 x2 x3 hk
              exact ih h n z x1 x2 x3 hk
          exact w_X1_faults_43 X E HH43 H_89 h38 n39 z40 x1 x2 x3 y34 hk
        · have hk := hk.2 c42
          refine r_iinc X (pc := 40) (q := 3) (lv1 := [(2, vI (x2 + 1)), (4, vI y34), (0, vR (some o)), (1, vR x1), (3, vI x3)]) dX1_faults_40 rfl (by decide) rfl ?_
          refine G.sub [2, 3, 0, 4, 1] rfl ?_
          have HH44 : ∀ (h : AH) (n : Nat) (z : Nat) (x1 : Option Nat) (x2 : Int) (x3 : Int), (L_X1_faults_4 K o k_89 κ χ f h n z x1 x2 x3) → G K Y h n z 4 [(0, vR (some o)), (1, vR x1), (2, vI x2), (3, vI x3)] [] := by
              intro h n z x1 x2 x3 hk
              exact ih h n z x1 x2 x3 hk
          exact w_X1_faults_43 X E HH44 H_89 h38 n39 z40 x1 (x2 + 1) x3 y34 hk
      · have hk := hf
        exact r_out X E (fun _ h9 => nomatch h9) hk
set_option maxHeartbeats 4000000 in
theorem w_X1_faults_89 {K : KT} {Y : YT} {o : Nat} {κ : Int → AH → Nat → Nat → Prop} {χ : QxT} (X : XY K "TrailMarkers" "faults" cX1_faults (Option.some Jvm.ClassFile.FieldType.int) [] 6 1 60 Y) (E : YE K Y (QvI κ) χ) : ∀ (h : AH) (n : Nat) (z : Nat) (x2 : Int), P_X1_faults_89 K o κ χ h n z x2 → G K Y h n z 89 [(0, vR (some o)), (2, vI x2)] [] := by
  intro h n z x2 hk
  refine r_iload_n X (pc := 89) dX1_faults_89 rfl (q := 1) rfl ?_
  exact r_iret X E (pc := 90) dX1_faults_90 rfl ⟨_, rfl, hk⟩
set_option maxHeartbeats 4000000 in
theorem w_X1_faults {K : KT} {Y : YT} {o : Nat} {κ : Int → AH → Nat → Nat → Prop} {χ : QxT} (X : XY K "TrailMarkers" "faults" cX1_faults (Option.some Jvm.ClassFile.FieldType.int) [] 6 1 60 Y) (E : YE K Y (QvI κ) χ) {h : AH} {n : Nat} {z : Nat} {x1 : Option Nat} (hk : P_X1_faults K o κ χ h n z x1) : G K Y h n z 0 (lv_argsA 0 [vR (some o), vR x1]) [] := by
  show G K Y h n z 0 [(0, vR (some o)), (1, vR x1)] []
  refine r_iconst X (pc := 0) dX1_faults_0 ?_
  refine r_istore_n X (pc := 1) (lv1 := [(2, vI 0), (0, vR (some o)), (1, vR x1)]) dX1_faults_1 rfl (by decide) rfl ?_
  refine r_iconst X (pc := 2) dX1_faults_2 ?_
  refine r_istore_n X (pc := 3) (lv1 := [(3, vI 0), (2, vI 0), (0, vR (some o)), (1, vR x1)]) dX1_faults_3 rfl (by decide) rfl ?_
  refine G.sub [2, 3, 1, 0] rfl ?_
  have HH53 : ∀ (h : AH) (n : Nat) (z : Nat) (x2 : Int), (P_X1_faults_89 K o κ χ h n z x2) → G K Y h n z 89 [(0, vR (some o)), (2, vI x2)] [] := by
      intro h n z x2 hk
      exact w_X1_faults_89 X E h n z x2 hk
  obtain ⟨f9, hk⟩ := hk
  exact w_X1_faults_4 X E HH53 f9 h n z x1 0 0 hk
theorem s_X1_faults {K : KT} {l : Launch} {o : Nat} {κ : Int → AH → Nat → Nat → Prop} {χ : QxT} {h : AH} {n : Nat} {z : Nat} {x1 : Option Nat} (hk : P_X1_faults K o κ χ h n z x1) : Ct K l yX1_faults (ws_ yX1_faults cX1_faults 6 (Option.some Jvm.ClassFile.FieldType.int)) 1 60 ([vR (some o), vR x1].map cV) h n z (QvI κ) χ :=
  ct_of (by decide +kernel) (Nat.le_of_ble_eq_true rfl) (fun Y X E => w_X1_faults X E hk)
set_option maxHeartbeats 4000000 in
theorem w_X1_gap_57 {K : KT} {Y : YT} {o : Nat} {κ : Int → AH → Nat → Nat → Prop} {χ : QxT} (X : XY K "TrailMarkers" "gap" cX1_gap (Option.some Jvm.ClassFile.FieldType.int) [] 6 7 210 Y) (E : YE K Y (QvI κ) χ) {k_87 : AH → Nat → Nat → Option Nat → Int → Int → Int → Prop} (H_87 : ∀ (h : AH) (n : Nat) (z : Nat) (x1 : Option Nat) (x2 : Int) (x3 : Int) (x4 : Int), k_87 h n z x1 x2 x3 x4 → G K Y h n z 87 [(0, vR (some o)), (1, vR x1), (2, vI x2), (3, vI x3), (4, vI x4)] []) : ∀ (f : Nat) (h : AH) (n : Nat) (z : Nat) (x1 : Option Nat) (x2 : Int) (x3 : Int) (x4 : Int) (x5 : Int), L_X1_gap_57 K o k_87 κ χ f h n z x1 x2 x3 x4 x5 → G K Y h n z 57 [(0, vR (some o)), (1, vR x1), (2, vI x2), (3, vI x3), (4, vI x4), (5, vI x5)] [] := by
  intro f
  induction f with
  | zero => intro h n z x1 x2 x3 x4 x5 hk; exact hk.elim
  | succ f ih =>
    intro h n z x1 x2 x3 x4 x5 hk
    refine r_iload X (pc := 57) dX1_gap_57 (q := 5) rfl ?_
    refine r_aload_n X (pc := 59) dX1_gap_59 rfl (q := 1) rfl ?_
    refine r_hGI X (pc := 60) fa_X1_370_X8 dX1_gap_60 hk (fun y25 hk => ?_)
    obtain ⟨b26, b27, hk⟩ := hk
    refine r_icmp_ge X (pc := 63) (tgt := 87) dX1_gap_63 (by decide) ⟨b26, b27⟩ (fun c28 => ?_) (fun c28 => ?_)
    · have hk := hk.2 c28
      refine G.sub [0, 1, 2, 3, 4] rfl ?_
      exact H_87 h n z x1 x2 x3 x4 hk
    · have hk := hk.1 c28
      refine r_iload X (pc := 66) dX1_gap_66 (q := 4) rfl ?_
      refine r_aload_n X (pc := 68) dX1_gap_68 rfl (q := 1) rfl ?_
      refine r_hGR X (pc := 69) fa_X1_373_X8 dX1_gap_69 hk (fun y29 hk => ?_)
      refine r_iload X (pc := 72) dX1_gap_72 (q := 5) rfl ?_
      refine r_hAR X (pc := 74) (t := 7) rfl dX1_gap_74 hk (fun y30 hk => ?_)
      refine r_hGI X (pc := 75) fa_X1_377_X11 dX1_gap_75 hk (fun y31 hk => ?_)
      refine r_iadd X (pc := 78) dX1_gap_78 ?_
      refine r_istore X (pc := 79) (lv1 := [(4, vI (x4 + y31)), (0, vR (some o)), (1, vR x1), (2, vI x2), (3, vI x3), (5, vI x5)]) dX1_gap_79 (by decide) rfl ?_
      refine r_iinc X (pc := 81) (q := 5) (lv1 := [(5, vI (x5 + 1)), (4, vI (x4 + y31)), (0, vR (some o)), (1, vR x1), (2, vI x2), (3, vI x3)]) dX1_gap_81 rfl (by decide) rfl ?_
      refine r_goto X (pc := 84) (tgt := 57) dX1_gap_84 (by decide) ?_
      refine G.sub [2, 3, 4, 5, 1, 0] rfl ?_
      exact ih h n z x1 x2 x3 (x4 + y31) (x5 + 1) hk
set_option maxHeartbeats 4000000 in
theorem w_X1_gap_87 {K : KT} {Y : YT} {o : Nat} {κ : Int → AH → Nat → Nat → Prop} {χ : QxT} (X : XY K "TrailMarkers" "gap" cX1_gap (Option.some Jvm.ClassFile.FieldType.int) [] 6 7 210 Y) (E : YE K Y (QvI κ) χ) {k_16 : AH → Nat → Nat → Option Nat → Int → Int → Prop} {k_114 : AH → Nat → Nat → Int → Prop} (H_16 : ∀ (h : AH) (n : Nat) (z : Nat) (x1 : Option Nat) (x2 : Int) (x3 : Int), k_16 h n z x1 x2 x3 → G K Y h n z 16 [(0, vR (some o)), (1, vR x1), (2, vI x2), (3, vI x3)] []) (H_114 : ∀ (h : AH) (n : Nat) (z : Nat) (x2 : Int), k_114 h n z x2 → G K Y h n z 114 [(0, vR (some o)), (2, vI x2)] []) : ∀ (h : AH) (n : Nat) (z : Nat) (x1 : Option Nat) (x2 : Int) (x3 : Int) (x4 : Int), P_X1_gap_87 K o k_16 k_114 κ χ h n z x1 x2 x3 x4 → G K Y h n z 87 [(0, vR (some o)), (1, vR x1), (2, vI x2), (3, vI x3), (4, vI x4)] [] := by
  intro h n z x1 x2 x3 x4 hk
  refine r_iload_n X (pc := 87) dX1_gap_87 rfl (q := 2) rfl ?_
  refine r_iload X (pc := 88) dX1_gap_88 (q := 4) rfl ?_
  refine r_iconst X (pc := 90) dX1_gap_90 ?_
  refine r_iadd X (pc := 91) dX1_gap_91 ?_
  refine r_aload_n X (pc := 92) dX1_gap_92 rfl (q := 1) rfl ?_
  refine r_hGI X (pc := 93) fa_X1_297_X8 dX1_gap_93 hk (fun y32 hk => ?_)
  refine r_isub X (pc := 96) dX1_gap_96 ?_
  obtain ⟨b33, hk⟩ := hk
  refine r_mabs X (pc := 97) q1353 q1354 q152 q1355 b33 ⟨by decide, Nat.le_of_ble_eq_true rfl⟩ dX1_gap_97 ?_
  refine r_aload_n X (pc := 100) dX1_gap_100 rfl (q := 0) rfl ?_
  refine r_aload_n X (pc := 101) dX1_gap_101 rfl (q := 1) rfl ?_
  obtain ⟨o43, fs44, e9, b45, hk⟩ := hk
  refine r_callV X (pc := 102) (As := [vR x1]) (st := [vI (jabs ((x4 + 1) - y32)), vI x2]) rfl rfl e9 b45 m_X1_385 (fun _ => s_X1_faults hk) ⟨by decide, by decide⟩ (Nat.le_of_ble_eq_true rfl) dX1_gap_102 (fun v9 h35 n36 z37 hq => ?_) (fun ci38 q39 h40 n41 z42 hf => ?_)
  · obtain ⟨r34, rfl, hk⟩ := hq
    refine ⟨[vI r34], rfl, ?_⟩
    refine r_iadd X (pc := 105) dX1_gap_105 ?_
    refine r_iadd X (pc := 106) dX1_gap_106 ?_
    refine r_istore_n X (pc := 107) (lv1 := [(2, vI (x2 + ((jabs ((x4 + 1) - y32)) + r34))), (0, vR (some o)), (1, vR x1), (3, vI x3), (4, vI x4)]) dX1_gap_107 rfl (by decide) rfl ?_
    refine r_iinc X (pc := 108) (q := 3) (lv1 := [(3, vI (x3 + 1)), (2, vI (x2 + ((jabs ((x4 + 1) - y32)) + r34))), (0, vR (some o)), (1, vR x1), (4, vI x4)]) dX1_gap_108 rfl (by decide) rfl ?_
    refine r_goto X (pc := 111) (tgt := 16) dX1_gap_111 (by decide) ?_
    refine G.sub [2, 3, 1, 0] rfl ?_
    exact H_16 h35 n36 z37 x1 (x2 + ((jabs ((x4 + 1) - y32)) + r34)) (x3 + 1) hk
  · have hk := hf
    exact r_out X E (fun _ h9 => nomatch h9) hk
set_option maxHeartbeats 4000000 in
theorem w_X1_gap_16 {K : KT} {Y : YT} {o : Nat} {κ : Int → AH → Nat → Nat → Prop} {χ : QxT} (X : XY K "TrailMarkers" "gap" cX1_gap (Option.some Jvm.ClassFile.FieldType.int) [] 6 7 210 Y) (E : YE K Y (QvI κ) χ) {k_114 : AH → Nat → Nat → Int → Prop} (H_114 : ∀ (h : AH) (n : Nat) (z : Nat) (x2 : Int), k_114 h n z x2 → G K Y h n z 114 [(0, vR (some o)), (2, vI x2)] []) : ∀ (f : Nat) (h : AH) (n : Nat) (z : Nat) (x1 : Option Nat) (x2 : Int) (x3 : Int), L_X1_gap_16 K o k_114 κ χ f h n z x1 x2 x3 → G K Y h n z 16 [(0, vR (some o)), (1, vR x1), (2, vI x2), (3, vI x3)] [] := by
  intro f
  induction f with
  | zero => intro h n z x1 x2 x3 hk; exact hk.elim
  | succ f ih =>
    intro h n z x1 x2 x3 hk
    refine r_iload_n X (pc := 16) dX1_gap_16 rfl (q := 3) rfl ?_
    refine r_aload_n X (pc := 17) dX1_gap_17 rfl (q := 0) rfl ?_
    refine r_hGR X (pc := 18) fa_X1_14 dX1_gap_18 hk (fun y46 hk => ?_)
    refine r_hGI X (pc := 21) fa_X1_111_X2 dX1_gap_21 hk (fun y47 hk => ?_)
    obtain ⟨b48, b49, hk⟩ := hk
    refine r_icmp_ge X (pc := 24) (tgt := 114) dX1_gap_24 (by decide) ⟨b48, b49⟩ (fun c50 => ?_) (fun c50 => ?_)
    · have hk := hk.2 c50
      refine G.sub [0, 2] rfl ?_
      exact H_114 h n z x2 hk
    · have hk := hk.1 c50
      refine r_aload_n X (pc := 27) dX1_gap_27 rfl (q := 0) rfl ?_
      refine r_hGR X (pc := 28) fa_X1_14 dX1_gap_28 hk (fun y51 hk => ?_)
      refine r_hGR X (pc := 31) fa_X1_146_X2 dX1_gap_31 hk (fun y52 hk => ?_)
      refine r_iload_n X (pc := 34) dX1_gap_34 rfl (q := 3) rfl ?_
      refine r_hAR X (pc := 35) (t := 5) rfl dX1_gap_35 hk (fun y53 hk => ?_)
      refine r_hGI X (pc := 36) fa_X1_227_X3 dX1_gap_36 hk (fun y54 hk => ?_)
      obtain ⟨b55, hk⟩ := hk
      refine r_if_eq X (pc := 39) (tgt := 45) dX1_gap_39 (by decide) b55 (fun c56 => ?_) (fun c56 => ?_)
      · have hk := hk.1 c56
        refine r_aload_n X (pc := 45) dX1_gap_45 rfl (q := 1) rfl ?_
        refine r_iload_n X (pc := 46) dX1_gap_46 rfl (q := 3) rfl ?_
        obtain ⟨o69, fs70, e9, b71, hk⟩ := hk
        refine r_callV X (pc := 47) (As := [vI x3]) (st := []) rfl rfl e9 b71 m_X1_284 (fun _ => s_X8_follow hk) ⟨by decide, by decide⟩ (Nat.le_of_ble_eq_true rfl) dX1_gap_47 (fun v9 h58 n59 z60 hq => ?_) (fun ci64 q65 h66 n67 z68 hf => ?_)
        · obtain ⟨r57, rfl, hk⟩ := hq
          refine ⟨[vR r57], rfl, ?_⟩
          refine r_pop X (pc := 50) dX1_gap_50 rfl ?_
          refine r_iconst X (pc := 51) dX1_gap_51 ?_
          refine r_istore X (pc := 52) (lv1 := [(4, vI 0), (0, vR (some o)), (1, vR x1), (2, vI x2), (3, vI x3)]) dX1_gap_52 (by decide) rfl ?_
          refine r_iconst X (pc := 54) dX1_gap_54 ?_
          refine r_istore X (pc := 55) (lv1 := [(5, vI 0), (4, vI 0), (0, vR (some o)), (1, vR x1), (2, vI x2), (3, vI x3)]) dX1_gap_55 (by decide) rfl ?_
          refine G.sub [2, 3, 4, 5, 1, 0] rfl ?_
          have HH63 : ∀ (h : AH) (n : Nat) (z : Nat) (x1 : Option Nat) (x2 : Int) (x3 : Int) (x4 : Int), (P_X1_gap_87 K o (fun h n z x1 x2 x3 => L_X1_gap_16 K o k_114 κ χ f h n z x1 x2 x3) k_114 κ χ h n z x1 x2 x3 x4) → G K Y h n z 87 [(0, vR (some o)), (1, vR x1), (2, vI x2), (3, vI x3), (4, vI x4)] [] := by
              intro h n z x1 x2 x3 x4 hk
              have HH62 : ∀ (h : AH) (n : Nat) (z : Nat) (x1 : Option Nat) (x2 : Int) (x3 : Int), (L_X1_gap_16 K o k_114 κ χ f h n z x1 x2 x3) → G K Y h n z 16 [(0, vR (some o)), (1, vR x1), (2, vI x2), (3, vI x3)] [] := by
                  intro h n z x1 x2 x3 hk
                  exact ih h n z x1 x2 x3 hk
              exact w_X1_gap_87 X E HH62 H_114 h n z x1 x2 x3 x4 hk
          obtain ⟨f9, hk⟩ := hk
          exact w_X1_gap_57 X E HH63 f9 h58 n59 z60 x1 x2 x3 0 0 hk
        · have hk := hf
          exact r_out X E (fun _ h9 => nomatch h9) hk
      · have hk := hk.2 c56
        refine r_goto X (pc := 42) (tgt := 108) dX1_gap_42 (by decide) ?_
        refine r_iinc X (pc := 108) (q := 3) (lv1 := [(3, vI (x3 + 1)), (0, vR (some o)), (1, vR x1), (2, vI x2)]) dX1_gap_108 rfl (by decide) rfl ?_
        refine r_goto X (pc := 111) (tgt := 16) dX1_gap_111 (by decide) ?_
        refine G.sub [1, 2, 3, 0] rfl ?_
        exact ih h n z x1 x2 (x3 + 1) hk
set_option maxHeartbeats 4000000 in
theorem w_X1_gap_114 {K : KT} {Y : YT} {o : Nat} {κ : Int → AH → Nat → Nat → Prop} {χ : QxT} (X : XY K "TrailMarkers" "gap" cX1_gap (Option.some Jvm.ClassFile.FieldType.int) [] 6 7 210 Y) (E : YE K Y (QvI κ) χ) : ∀ (h : AH) (n : Nat) (z : Nat) (x2 : Int), P_X1_gap_114 K o κ χ h n z x2 → G K Y h n z 114 [(0, vR (some o)), (2, vI x2)] [] := by
  intro h n z x2 hk
  refine r_iload_n X (pc := 114) dX1_gap_114 rfl (q := 1) rfl ?_
  exact r_iret X E (pc := 115) dX1_gap_115 rfl ⟨_, rfl, hk⟩
set_option maxHeartbeats 4000000 in
theorem w_X1_gap {K : KT} {Y : YT} {o : Nat} {κ : Int → AH → Nat → Nat → Prop} {χ : QxT} (X : XY K "TrailMarkers" "gap" cX1_gap (Option.some Jvm.ClassFile.FieldType.int) [] 6 7 210 Y) (E : YE K Y (QvI κ) χ) {h : AH} {n : Nat} {z : Nat} (hk : P_X1_gap K o κ χ h n z) : G K Y h n z 0 (lv_argsA 0 [vR (some o)]) [] := by
  show G K Y h n z 0 [(0, vR (some o))] []
  refine r_hNew X (pc := 0) nw_X1_216 dX1_gap_0 hk (fun h72 hk => ?_)
  refine r_dup X (pc := 3) dX1_gap_3 rfl ?_
  refine r_aload_n X (pc := 4) dX1_gap_4 rfl (q := 0) rfl ?_
  refine r_hGR X (pc := 5) fa_X1_14 dX1_gap_5 hk (fun y73 hk => ?_)
  refine r_callI X (pc := 8) (As := [vR y73]) (st := [vR (some n)]) m_X1_218 (fun _ => s_X8_init hk) ⟨by decide, by decide⟩ (Nat.le_of_ble_eq_true rfl) dX1_gap_8 (fun v9 h74 n75 z76 hq => ?_) (fun ci78 q79 h80 n81 z82 hf => ?_)
  · obtain ⟨rfl, hk⟩ := hq
    refine ⟨[], rfl, ?_⟩
    refine r_astore_n X (pc := 11) (lv1 := [(1, vR (some n)), (0, vR (some o))]) dX1_gap_11 rfl (by decide) rfl ?_
    refine r_iconst X (pc := 12) dX1_gap_12 ?_
    refine r_istore_n X (pc := 13) (lv1 := [(2, vI 0), (1, vR (some n)), (0, vR (some o))]) dX1_gap_13 rfl (by decide) rfl ?_
    refine r_iconst X (pc := 14) dX1_gap_14 ?_
    refine r_istore_n X (pc := 15) (lv1 := [(3, vI 0), (2, vI 0), (1, vR (some n)), (0, vR (some o))]) dX1_gap_15 rfl (by decide) rfl ?_
    refine G.sub [3, 2, 1, 0] rfl ?_
    have HH77 : ∀ (h : AH) (n : Nat) (z : Nat) (x2 : Int), (P_X1_gap_114 K o κ χ h n z x2) → G K Y h n z 114 [(0, vR (some o)), (2, vI x2)] [] := by
        intro h n z x2 hk
        exact w_X1_gap_114 X E h n z x2 hk
    obtain ⟨f9, hk⟩ := hk
    exact w_X1_gap_16 X E HH77 f9 h74 n75 z76 (some n) 0 0 hk
  · have hk := hf
    exact r_out X E (fun _ h9 => nomatch h9) hk
theorem s_X1_gap {K : KT} {l : Launch} {o : Nat} {κ : Int → AH → Nat → Nat → Prop} {χ : QxT} {h : AH} {n : Nat} {z : Nat} (hk : P_X1_gap K o κ χ h n z) : Ct K l yX1_gap (ws_ yX1_gap cX1_gap 6 (Option.some Jvm.ClassFile.FieldType.int)) 7 210 ([vR (some o)].map cV) h n z (QvI κ) χ :=
  ct_of (by decide +kernel) (Nat.le_of_ble_eq_true rfl) (fun Y X E => w_X1_gap X E hk)
set_option maxHeartbeats 4000000 in
theorem w_X1_allStanding_4 {K : KT} {Y : YT} {o : Nat} {κ : Int → AH → Nat → Nat → Prop} {χ : QxT} (X : XY K "TrailMarkers" "allStanding" cX1_allStanding (Option.some Jvm.ClassFile.FieldType.int) [] 3 2 44 Y) (E : YE K Y (QvI κ) χ) {k_26 : AH → Nat → Nat → Int → Prop} (H_26 : ∀ (h : AH) (n : Nat) (z : Nat) (x1 : Int), k_26 h n z x1 → G K Y h n z 26 [(0, vR (some o)), (1, vI x1)] []) : ∀ (f : Nat) (h : AH) (n : Nat) (z : Nat) (x1 : Int) (x2 : Int), L_X1_allStanding_4 K o k_26 κ χ f h n z x1 x2 → G K Y h n z 4 [(0, vR (some o)), (1, vI x1), (2, vI x2)] [] := by
  intro f
  induction f with
  | zero => intro h n z x1 x2 hk; exact hk.elim
  | succ f ih =>
    intro h n z x1 x2 hk
    refine r_iload_n X (pc := 4) dX1_allStanding_4 rfl (q := 2) rfl ?_
    refine r_iconst X (pc := 5) dX1_allStanding_5 ?_
    obtain ⟨b5, hk⟩ := hk
    refine r_icmp_ge X (pc := 6) (tgt := 26) dX1_allStanding_6 (by decide) ⟨b5, (by decide)⟩ (fun c6 => ?_) (fun c6 => ?_)
    · have hk := hk.2 c6
      refine G.sub [0, 1] rfl ?_
      exact H_26 h n z x1 hk
    · have hk := hk.1 c6
      refine r_iload_n X (pc := 9) dX1_allStanding_9 rfl (q := 1) rfl ?_
      refine r_aload_n X (pc := 10) dX1_allStanding_10 rfl (q := 0) rfl ?_
      refine r_hGR X (pc := 11) fa_X1_14 dX1_allStanding_11 hk (fun y7 hk => ?_)
      refine r_iload_n X (pc := 14) dX1_allStanding_14 rfl (q := 2) rfl ?_
      obtain ⟨o17, fs18, e9, b19, hk⟩ := hk
      refine r_callV X (pc := 15) (As := [vI x2]) (st := [vI x1]) rfl rfl e9 b19 m_X1_175 (fun _ => s_X2_standing hk) ⟨by decide, by decide⟩ (Nat.le_of_ble_eq_true rfl) dX1_allStanding_15 (fun v9 h9 n10 z11 hq => ?_) (fun ci12 q13 h14 n15 z16 hf => ?_)
      · obtain ⟨r8, rfl, hk⟩ := hq
        refine ⟨[vI r8], rfl, ?_⟩
        refine r_iadd X (pc := 18) dX1_allStanding_18 ?_
        refine r_istore_n X (pc := 19) (lv1 := [(1, vI (x1 + r8)), (0, vR (some o)), (2, vI x2)]) dX1_allStanding_19 rfl (by decide) rfl ?_
        refine r_iinc X (pc := 20) (q := 2) (lv1 := [(2, vI (x2 + 1)), (1, vI (x1 + r8)), (0, vR (some o))]) dX1_allStanding_20 rfl (by decide) rfl ?_
        refine r_goto X (pc := 23) (tgt := 4) dX1_allStanding_23 (by decide) ?_
        refine G.sub [2, 1, 0] rfl ?_
        exact ih h9 n10 z11 (x1 + r8) (x2 + 1) hk
      · have hk := hf
        exact r_out X E (fun _ h9 => nomatch h9) hk
set_option maxHeartbeats 4000000 in
theorem w_X1_allStanding_26 {K : KT} {Y : YT} {o : Nat} {κ : Int → AH → Nat → Nat → Prop} {χ : QxT} (X : XY K "TrailMarkers" "allStanding" cX1_allStanding (Option.some Jvm.ClassFile.FieldType.int) [] 3 2 44 Y) (E : YE K Y (QvI κ) χ) : ∀ (h : AH) (n : Nat) (z : Nat) (x1 : Int), P_X1_allStanding_26 K o κ χ h n z x1 → G K Y h n z 26 [(0, vR (some o)), (1, vI x1)] [] := by
  intro h n z x1 hk
  refine r_iload_n X (pc := 26) dX1_allStanding_26 rfl (q := 1) rfl ?_
  exact r_iret X E (pc := 27) dX1_allStanding_27 rfl ⟨_, rfl, hk⟩
set_option maxHeartbeats 4000000 in
theorem w_X1_allStanding {K : KT} {Y : YT} {o : Nat} {κ : Int → AH → Nat → Nat → Prop} {χ : QxT} (X : XY K "TrailMarkers" "allStanding" cX1_allStanding (Option.some Jvm.ClassFile.FieldType.int) [] 3 2 44 Y) (E : YE K Y (QvI κ) χ) {h : AH} {n : Nat} {z : Nat} (hk : P_X1_allStanding K o κ χ h n z) : G K Y h n z 0 (lv_argsA 0 [vR (some o)]) [] := by
  show G K Y h n z 0 [(0, vR (some o))] []
  refine r_iconst X (pc := 0) dX1_allStanding_0 ?_
  refine r_istore_n X (pc := 1) (lv1 := [(1, vI 0), (0, vR (some o))]) dX1_allStanding_1 rfl (by decide) rfl ?_
  refine r_iconst X (pc := 2) dX1_allStanding_2 ?_
  refine r_istore_n X (pc := 3) (lv1 := [(2, vI 0), (1, vI 0), (0, vR (some o))]) dX1_allStanding_3 rfl (by decide) rfl ?_
  refine G.sub [2, 1, 0] rfl ?_
  have HH20 : ∀ (h : AH) (n : Nat) (z : Nat) (x1 : Int), (P_X1_allStanding_26 K o κ χ h n z x1) → G K Y h n z 26 [(0, vR (some o)), (1, vI x1)] [] := by
      intro h n z x1 hk
      exact w_X1_allStanding_26 X E h n z x1 hk
  obtain ⟨f9, hk⟩ := hk
  exact w_X1_allStanding_4 X E HH20 f9 h n z 0 0 hk
theorem s_X1_allStanding {K : KT} {l : Launch} {o : Nat} {κ : Int → AH → Nat → Nat → Prop} {χ : QxT} {h : AH} {n : Nat} {z : Nat} (hk : P_X1_allStanding K o κ χ h n z) : Ct K l yX1_allStanding (ws_ yX1_allStanding cX1_allStanding 3 (Option.some Jvm.ClassFile.FieldType.int)) 2 44 ([vR (some o)].map cV) h n z (QvI κ) χ :=
  ct_of (by decide +kernel) (Nat.le_of_ble_eq_true rfl) (fun Y X E => w_X1_allStanding X E hk)
set_option maxHeartbeats 4000000 in
theorem w_X1_reached_22 {K : KT} {Y : YT} {o : Nat} {κ : UInt64 → AH → Nat → Nat → Prop} {χ : QxT} (X : XY K "TrailMarkers" "reached" cX1_reached (Option.some Jvm.ClassFile.FieldType.double) [] 5 8 232 Y) (E : YE K Y (QvD κ) χ) {k_43 : AH → Nat → Nat → Int → Int → Prop} (H_43 : ∀ (h : AH) (n : Nat) (z : Nat) (x1 : Int) (x3 : Int), k_43 h n z x1 x3 → G K Y h n z 43 [(0, vR (some o)), (1, vI x1), (3, vI x3)] []) : ∀ (f : Nat) (h : AH) (n : Nat) (z : Nat) (x1 : Int) (x2 : Option Nat) (x3 : Int) (x4 : Int), L_X1_reached_22 K o k_43 κ χ f h n z x1 x2 x3 x4 → G K Y h n z 22 [(0, vR (some o)), (1, vI x1), (2, vR x2), (3, vI x3), (4, vI x4)] [] := by
  intro f
  induction f with
  | zero => intro h n z x1 x2 x3 x4 hk; exact hk.elim
  | succ f ih =>
    intro h n z x1 x2 x3 x4 hk
    refine r_iload X (pc := 22) dX1_reached_22 (q := 4) rfl ?_
    refine r_iconst X (pc := 24) dX1_reached_24 ?_
    obtain ⟨b10, hk⟩ := hk
    refine r_icmp_ge X (pc := 25) (tgt := 43) dX1_reached_25 (by decide) ⟨b10, (by decide)⟩ (fun c11 => ?_) (fun c11 => ?_)
    · have hk := hk.2 c11
      refine G.sub [0, 1, 3] rfl ?_
      exact H_43 h n z x1 x3 hk
    · have hk := hk.1 c11
      refine r_iload_n X (pc := 28) dX1_reached_28 rfl (q := 3) rfl ?_
      refine r_aload_n X (pc := 29) dX1_reached_29 rfl (q := 2) rfl ?_
      refine r_iload X (pc := 30) dX1_reached_30 (q := 4) rfl ?_
      obtain ⟨o21, fs22, e9, b23, hk⟩ := hk
      refine r_callV X (pc := 32) (As := [vI x4]) (st := [vI x3]) rfl rfl e9 b23 m_X1_259 (fun _ => s_X8_metOf hk) ⟨by decide, by decide⟩ (Nat.le_of_ble_eq_true rfl) dX1_reached_32 (fun v9 h13 n14 z15 hq => ?_) (fun ci16 q17 h18 n19 z20 hf => ?_)
      · obtain ⟨r12, rfl, hk⟩ := hq
        refine ⟨[vI r12], rfl, ?_⟩
        refine r_iadd X (pc := 35) dX1_reached_35 ?_
        refine r_istore_n X (pc := 36) (lv1 := [(3, vI (x3 + r12)), (0, vR (some o)), (1, vI x1), (2, vR x2), (4, vI x4)]) dX1_reached_36 rfl (by decide) rfl ?_
        refine r_iinc X (pc := 37) (q := 4) (lv1 := [(4, vI (x4 + 1)), (3, vI (x3 + r12)), (0, vR (some o)), (1, vI x1), (2, vR x2)]) dX1_reached_37 rfl (by decide) rfl ?_
        refine r_goto X (pc := 40) (tgt := 22) dX1_reached_40 (by decide) ?_
        refine G.sub [2, 3, 4, 1, 0] rfl ?_
        exact ih h13 n14 z15 x1 x2 (x3 + r12) (x4 + 1) hk
      · have hk := hf
        exact r_out X E (fun _ h9 => nomatch h9) hk
set_option maxHeartbeats 4000000 in
theorem w_X1_reached_43 {K : KT} {Y : YT} {o : Nat} {κ : UInt64 → AH → Nat → Nat → Prop} {χ : QxT} (X : XY K "TrailMarkers" "reached" cX1_reached (Option.some Jvm.ClassFile.FieldType.double) [] 5 8 232 Y) (E : YE K Y (QvD κ) χ) : ∀ (h : AH) (n : Nat) (z : Nat) (x1 : Int) (x3 : Int), P_X1_reached_43 K o κ χ h n z x1 x3 → G K Y h n z 43 [(0, vR (some o)), (1, vI x1), (3, vI x3)] [] := by
  intro h n z x1 x3 hk
  refine r_iload_n X (pc := 43) dX1_reached_43 rfl (q := 1) rfl ?_
  obtain ⟨b24, hk⟩ := hk
  refine r_if_ne X (pc := 44) (tgt := 51) dX1_reached_44 (by decide) b24 (fun c25 => ?_) (fun c25 => ?_)
  · have hk := hk.2 c25
    refine r_iload_n X (pc := 51) dX1_reached_51 rfl (q := 2) rfl ?_
    refine r_i2d X (pc := 52) dX1_reached_52 ?_
    refine r_iload_n X (pc := 53) dX1_reached_53 rfl (q := 1) rfl ?_
    refine r_i2d X (pc := 54) dX1_reached_54 ?_
    obtain ⟨b26, hk⟩ := hk
    refine r_ddiv X (pc := 55) dX1_reached_55 b26 ?_
    exact r_dret X E (pc := 56) dX1_reached_56 ⟨_, rfl, hk⟩
  · have hk := hk.1 c25
    refine r_dconst1 X (pc := 47) dX1_reached_47 ?_
    refine r_goto X (pc := 48) (tgt := 56) dX1_reached_48 (by decide) ?_
    exact r_dret X E (pc := 56) dX1_reached_56 ⟨_, rfl, hk⟩
set_option maxHeartbeats 4000000 in
theorem w_X1_reached {K : KT} {Y : YT} {o : Nat} {κ : UInt64 → AH → Nat → Nat → Prop} {χ : QxT} (X : XY K "TrailMarkers" "reached" cX1_reached (Option.some Jvm.ClassFile.FieldType.double) [] 5 8 232 Y) (E : YE K Y (QvD κ) χ) {h : AH} {n : Nat} {z : Nat} (hk : P_X1_reached K o κ χ h n z) : G K Y h n z 0 (lv_argsA 0 [vR (some o)]) [] := by
  show G K Y h n z 0 [(0, vR (some o))] []
  refine r_aload_n X (pc := 0) dX1_reached_0 rfl (q := 0) rfl ?_
  obtain ⟨o47, fs48, e9, b49, hk⟩ := hk
  refine r_callV X (pc := 1) (As := []) (st := []) rfl rfl e9 b49 m_X1_210 (fun _ => s_X1_allStanding hk) ⟨by decide, by decide⟩ (Nat.le_of_ble_eq_true rfl) dX1_reached_1 (fun v9 h28 n29 z30 hq => ?_) (fun ci42 q43 h44 n45 z46 hf => ?_)
  · obtain ⟨r27, rfl, hk⟩ := hq
    refine ⟨[vI r27], rfl, ?_⟩
    refine r_istore_n X (pc := 4) (lv1 := [(1, vI r27), (0, vR (some o))]) dX1_reached_4 rfl (by decide) rfl ?_
    refine r_hNew X (pc := 5) nw_X1_216 dX1_reached_5 hk (fun h31 hk => ?_)
    refine r_dup X (pc := 8) dX1_reached_8 rfl ?_
    refine r_aload_n X (pc := 9) dX1_reached_9 rfl (q := 1) rfl ?_
    refine r_hGR X (pc := 10) fa_X1_14 dX1_reached_10 hk (fun y32 hk => ?_)
    refine r_callI X (pc := 13) (As := [vR y32]) (st := [vR (some n29)]) m_X1_218 (fun _ => s_X8_init hk) ⟨by decide, by decide⟩ (Nat.le_of_ble_eq_true rfl) dX1_reached_13 (fun v9 h33 n34 z35 hq => ?_) (fun ci37 q38 h39 n40 z41 hf => ?_)
    · obtain ⟨rfl, hk⟩ := hq
      refine ⟨[], rfl, ?_⟩
      refine r_astore_n X (pc := 16) (lv1 := [(2, vR (some n29)), (1, vI r27), (0, vR (some o))]) dX1_reached_16 rfl (by decide) rfl ?_
      refine r_iconst X (pc := 17) dX1_reached_17 ?_
      refine r_istore_n X (pc := 18) (lv1 := [(3, vI 0), (2, vR (some n29)), (1, vI r27), (0, vR (some o))]) dX1_reached_18 rfl (by decide) rfl ?_
      refine r_iconst X (pc := 19) dX1_reached_19 ?_
      refine r_istore X (pc := 20) (lv1 := [(4, vI 0), (3, vI 0), (2, vR (some n29)), (1, vI r27), (0, vR (some o))]) dX1_reached_20 (by decide) rfl ?_
      refine G.sub [4, 3, 2, 1, 0] rfl ?_
      have HH36 : ∀ (h : AH) (n : Nat) (z : Nat) (x1 : Int) (x3 : Int), (P_X1_reached_43 K o κ χ h n z x1 x3) → G K Y h n z 43 [(0, vR (some o)), (1, vI x1), (3, vI x3)] [] := by
          intro h n z x1 x3 hk
          exact w_X1_reached_43 X E h n z x1 x3 hk
      obtain ⟨f9, hk⟩ := hk
      exact w_X1_reached_22 X E HH36 f9 h33 n34 z35 r27 (some n29) 0 0 hk
    · have hk := hf
      exact r_out X E (fun _ h9 => nomatch h9) hk
  · have hk := hf
    exact r_out X E (fun _ h9 => nomatch h9) hk
theorem s_X1_reached {K : KT} {l : Launch} {o : Nat} {κ : UInt64 → AH → Nat → Nat → Prop} {χ : QxT} {h : AH} {n : Nat} {z : Nat} (hk : P_X1_reached K o κ χ h n z) : Ct K l yX1_reached (ws_ yX1_reached cX1_reached 5 (Option.some Jvm.ClassFile.FieldType.double)) 8 232 ([vR (some o)].map cV) h n z (QvD κ) χ :=
  ct_of (by decide +kernel) (Nat.le_of_ble_eq_true rfl) (fun Y X E => w_X1_reached X E hk)
set_option maxHeartbeats 4000000 in
theorem w_X1_outputByte {K : KT} {Y : YT} {o : Nat} {κ : Int → AH → Nat → Nat → Prop} {χ : QxT} (X : XY K "TrailMarkers" "outputByte" cX1_outputByte (Option.some Jvm.ClassFile.FieldType.int) [] 2 4 85 Y) (E : YE K Y (QvI κ) χ) {h : AH} {n : Nat} {z : Nat} {x1 : Int} (hk : P_X1_outputByte K o κ χ h n z x1) : G K Y h n z 0 (lv_argsA 0 [vR (some o), vI x1]) [] := by
  show G K Y h n z 0 [(0, vR (some o)), (1, vI x1)] []
  refine r_iload_n X (pc := 0) dX1_outputByte_0 rfl (q := 1) rfl ?_
  obtain ⟨b10, hk⟩ := hk
  refine r_if_lt X (pc := 1) (tgt := 15) dX1_outputByte_1 (by decide) b10 (fun c11 => ?_) (fun c11 => ?_)
  · have hk := hk.1 c11
    refine r_iconst X (pc := 15) dX1_outputByte_15 ?_
    refine r_goto X (pc := 16) (tgt := 27) dX1_outputByte_16 (by decide) ?_
    exact r_iret X E (pc := 27) dX1_outputByte_27 rfl ⟨_, rfl, hk⟩
  · have hk := hk.2 c11
    refine r_iload_n X (pc := 4) dX1_outputByte_4 rfl (q := 1) rfl ?_
    refine r_aload_n X (pc := 5) dX1_outputByte_5 rfl (q := 0) rfl ?_
    refine r_hGR X (pc := 6) fa_X1_31 dX1_outputByte_6 hk (fun y12 hk => ?_)
    obtain ⟨o37, fs38, e9, b39, hk⟩ := hk
    refine r_callV X (pc := 9) (As := []) (st := [vI x1]) rfl rfl e9 b39 m_X1_406 (fun _ => s_J4_length hk) ⟨by decide, by decide⟩ (Nat.le_of_ble_eq_true rfl) dX1_outputByte_9 (fun v9 h14 n15 z16 hq => ?_) (fun ci32 q33 h34 n35 z36 hf => ?_)
    · obtain ⟨r13, rfl, hk⟩ := hq
      refine ⟨[vI r13], rfl, ?_⟩
      obtain ⟨b17, hk⟩ := hk
      refine r_icmp_lt X (pc := 12) (tgt := 19) dX1_outputByte_12 (by decide) ⟨b10, b17⟩ (fun c18 => ?_) (fun c18 => ?_)
      · have hk := hk.1 c18
        refine r_aload_n X (pc := 19) dX1_outputByte_19 rfl (q := 0) rfl ?_
        refine r_hGR X (pc := 20) fa_X1_31 dX1_outputByte_20 hk (fun y19 hk => ?_)
        refine r_iload_n X (pc := 23) dX1_outputByte_23 rfl (q := 1) rfl ?_
        obtain ⟨o29, fs30, e9, b31, hk⟩ := hk
        refine r_callV X (pc := 24) (As := [vI x1]) (st := []) rfl rfl e9 b31 m_X1_462 (fun _ => s_J4_charAt hk) ⟨by decide, by decide⟩ (Nat.le_of_ble_eq_true rfl) dX1_outputByte_24 (fun v9 h21 n22 z23 hq => ?_) (fun ci24 q25 h26 n27 z28 hf => ?_)
        · obtain ⟨r20, rfl, hk⟩ := hq
          refine ⟨[vI r20], rfl, ?_⟩
          exact r_iret X E (pc := 27) dX1_outputByte_27 rfl ⟨_, rfl, hk⟩
        · have hk := hf
          exact r_out X E (fun _ h9 => nomatch h9) hk
      · have hk := hk.2 c18
        refine r_iconst X (pc := 15) dX1_outputByte_15 ?_
        refine r_goto X (pc := 16) (tgt := 27) dX1_outputByte_16 (by decide) ?_
        exact r_iret X E (pc := 27) dX1_outputByte_27 rfl ⟨_, rfl, hk⟩
    · have hk := hf
      exact r_out X E (fun _ h9 => nomatch h9) hk
theorem s_X1_outputByte {K : KT} {l : Launch} {o : Nat} {κ : Int → AH → Nat → Nat → Prop} {χ : QxT} {h : AH} {n : Nat} {z : Nat} {x1 : Int} (hk : P_X1_outputByte K o κ χ h n z x1) : Ct K l yX1_outputByte (ws_ yX1_outputByte cX1_outputByte 2 (Option.some Jvm.ClassFile.FieldType.int)) 4 85 ([vR (some o), vI x1].map cV) h n z (QvI κ) χ :=
  ct_of (by decide +kernel) (Nat.le_of_ble_eq_true rfl) (fun Y X E => w_X1_outputByte X E hk)
set_option maxHeartbeats 4000000 in
theorem w_X1_need {K : KT} {Y : YT} {o : Nat} {κ : AH → Nat → Nat → Prop} {χ : QxT} (X : XY K "TrailMarkers" "need" cX1_need (Option.none : Option Jvm.ClassFile.FieldType) [] 4 10 280 Y) (E : YE K Y (QvV κ) χ) {h : AH} {n : Nat} {z : Nat} {x1 : Int} {x2 : Int} {x3 : Int} (hk : P_X1_need K o κ χ h n z x1 x2 x3) : G K Y h n z 0 (lv_argsA 0 [vR (some o), vI x1, vI x2, vI x3]) [] := by
  show G K Y h n z 0 [(0, vR (some o)), (1, vI x1), (2, vI x2), (3, vI x3)] []
  refine r_iload_n X (pc := 0) dX1_need_0 rfl (q := 1) rfl ?_
  refine r_iload_n X (pc := 1) dX1_need_1 rfl (q := 2) rfl ?_
  obtain ⟨b8, b9, hk⟩ := hk
  refine r_icmp_lt X (pc := 2) (tgt := 10) dX1_need_2 (by decide) ⟨b8, b9⟩ (fun c10 => ?_) (fun c10 => ?_)
  · have hk := hk.1 c10
    refine r_hNew X (pc := 10) nw_X1_134 dX1_need_10 hk (fun h11 hk => ?_)
    refine r_dup X (pc := 13) dX1_need_13 rfl ?_
    refine r_callI X (pc := 14) (As := []) (st := [vR (some n)]) m_X1_136 (fun _ => s_J10_init_2 hk) ⟨by decide, by decide⟩ (Nat.le_of_ble_eq_true rfl) dX1_need_14 (fun v9 h12 n13 z14 hq => ?_) (fun ci17 q18 h19 n20 z21 hf => ?_)
    · obtain ⟨rfl, hk⟩ := hq
      refine ⟨[], rfl, ?_⟩
      refine r_hThrow X (pc := 17) dX1_need_17 hk (fun ci15 q16 hk => ?_)
      exact r_out X E (fun _ h9 => nomatch h9) hk
    · have hk := hf
      exact r_out X E (fun _ h9 => nomatch h9) hk
  · have hk := hk.2 c10
    refine r_iload_n X (pc := 5) dX1_need_5 rfl (q := 1) rfl ?_
    refine r_iload_n X (pc := 6) dX1_need_6 rfl (q := 3) rfl ?_
    obtain ⟨b22, hk⟩ := hk
    refine r_icmp_le X (pc := 7) (tgt := 18) dX1_need_7 (by decide) ⟨b8, b22⟩ (fun c23 => ?_) (fun c23 => ?_)
    · have hk := hk.2 c23
      exact r_vret X E (pc := 18) dX1_need_18 ⟨rfl, hk⟩
    · have hk := hk.1 c23
      refine r_hNew X (pc := 10) nw_X1_134 dX1_need_10 hk (fun h24 hk => ?_)
      refine r_dup X (pc := 13) dX1_need_13 rfl ?_
      refine r_callI X (pc := 14) (As := []) (st := [vR (some n)]) m_X1_136 (fun _ => s_J10_init_2 hk) ⟨by decide, by decide⟩ (Nat.le_of_ble_eq_true rfl) dX1_need_14 (fun v9 h25 n26 z27 hq => ?_) (fun ci30 q31 h32 n33 z34 hf => ?_)
      · obtain ⟨rfl, hk⟩ := hq
        refine ⟨[], rfl, ?_⟩
        refine r_hThrow X (pc := 17) dX1_need_17 hk (fun ci28 q29 hk => ?_)
        exact r_out X E (fun _ h9 => nomatch h9) hk
      · have hk := hf
        exact r_out X E (fun _ h9 => nomatch h9) hk
theorem s_X1_need {K : KT} {l : Launch} {o : Nat} {κ : AH → Nat → Nat → Prop} {χ : QxT} {h : AH} {n : Nat} {z : Nat} {x1 : Int} {x2 : Int} {x3 : Int} (hk : P_X1_need K o κ χ h n z x1 x2 x3) : Ct K l yX1_need (ws_ yX1_need cX1_need 4 (Option.none : Option Jvm.ClassFile.FieldType)) 10 280 ([vR (some o), vI x1, vI x2, vI x3].map cV) h n z (QvV κ) χ :=
  ct_of (by decide +kernel) (Nat.le_of_ble_eq_true rfl) (fun Y X E => w_X1_need X E hk)
set_option maxHeartbeats 4000000 in
theorem w_X1_truncate {K : KT} {Y : YT} {o : Nat} {κ : Int → AH → Nat → Nat → Prop} {χ : QxT} (X : XY K "TrailMarkers" "truncate" cX1_truncate (Option.some Jvm.ClassFile.FieldType.int) [] 2 11 303 Y) (E : YE K Y (QvI κ) χ) {h : AH} {n : Nat} {z : Nat} {x1 : Int} (hk : P_X1_truncate K o κ χ h n z x1) : G K Y h n z 0 (lv_argsA 0 [vR (some o), vI x1]) [] := by
  show G K Y h n z 0 [(0, vR (some o)), (1, vI x1)] []
  refine r_aload_n X (pc := 0) dX1_truncate_0 rfl (q := 0) rfl ?_
  refine r_iload_n X (pc := 1) dX1_truncate_1 rfl (q := 1) rfl ?_
  refine r_iconst X (pc := 2) dX1_truncate_2 ?_
  refine r_aload_n X (pc := 3) dX1_truncate_3 rfl (q := 0) rfl ?_
  refine r_hGI X (pc := 4) fa_X1_81 dX1_truncate_4 hk (fun y4 hk => ?_)
  obtain ⟨o15, fs16, e9, b17, hk⟩ := hk
  refine r_callV X (pc := 7) (As := [vI x1, vI 0, vI y4]) (st := []) rfl rfl e9 b17 m_X1_88 (fun _ => s_X1_need hk) ⟨by decide, by decide⟩ (Nat.le_of_ble_eq_true rfl) dX1_truncate_7 (fun v9 h5 n6 z7 hq => ?_) (fun ci10 q11 h12 n13 z14 hf => ?_)
  · obtain ⟨rfl, hk⟩ := hq
    refine ⟨[], rfl, ?_⟩
    refine r_aload_n X (pc := 10) dX1_truncate_10 rfl (q := 0) rfl ?_
    refine r_iload_n X (pc := 11) dX1_truncate_11 rfl (q := 1) rfl ?_
    refine r_hPut X (pc := 12) fp_X1_81 rfl rfl dX1_truncate_12 hk (fun h8 hk => ?_)
    refine r_aload_n X (pc := 15) dX1_truncate_15 rfl (q := 0) rfl ?_
    refine r_hGI X (pc := 16) fa_X1_81 dX1_truncate_16 hk (fun y9 hk => ?_)
    exact r_iret X E (pc := 19) dX1_truncate_19 rfl ⟨_, rfl, hk⟩
  · have hk := hf
    exact r_out X E (fun _ h9 => nomatch h9) hk
theorem s_X1_truncate {K : KT} {l : Launch} {o : Nat} {κ : Int → AH → Nat → Nat → Prop} {χ : QxT} {h : AH} {n : Nat} {z : Nat} {x1 : Int} (hk : P_X1_truncate K o κ χ h n z x1) : Ct K l yX1_truncate (ws_ yX1_truncate cX1_truncate 2 (Option.some Jvm.ClassFile.FieldType.int)) 11 303 ([vR (some o), vI x1].map cV) h n z (QvI κ) χ :=
  ct_of (by decide +kernel) (Nat.le_of_ble_eq_true rfl) (fun Y X E => w_X1_truncate X E hk)
set_option maxHeartbeats 4000000 in
theorem w_X1_error {K : KT} {Y : YT} {o : Nat} {κ : Int → AH → Nat → Nat → Prop} {χ : QxT} (X : XY K "TrailMarkers" "error" cX1_error (Option.some Jvm.ClassFile.FieldType.int) [] 2 11 303 Y) (E : YE K Y (QvI κ) χ) {h : AH} {n : Nat} {z : Nat} {x1 : Int} (hk : P_X1_error K o κ χ h n z x1) : G K Y h n z 0 (lv_argsA 0 [vR (some o), vI x1]) [] := by
  show G K Y h n z 0 [(0, vR (some o)), (1, vI x1)] []
  refine r_aload_n X (pc := 0) dX1_error_0 rfl (q := 0) rfl ?_
  refine r_iload_n X (pc := 1) dX1_error_1 rfl (q := 1) rfl ?_
  refine r_iconst X (pc := 2) dX1_error_2 ?_
  refine r_iconst X (pc := 3) dX1_error_3 ?_
  obtain ⟨o22, fs23, e9, b24, hk⟩ := hk
  refine r_callV X (pc := 4) (As := [vI x1, vI 0, vI 2]) (st := []) rfl rfl e9 b24 m_X1_88 (fun _ => s_X1_need hk) ⟨by decide, by decide⟩ (Nat.le_of_ble_eq_true rfl) dX1_error_4 (fun v9 h8 n9 z10 hq => ?_) (fun ci17 q18 h19 n20 z21 hf => ?_)
  · obtain ⟨rfl, hk⟩ := hq
    refine ⟨[], rfl, ?_⟩
    refine r_iload_n X (pc := 7) dX1_error_7 rfl (q := 1) rfl ?_
    obtain ⟨b11, hk⟩ := hk
    refine r_if_ne X (pc := 8) (tgt := 18) dX1_error_8 (by decide) b11 (fun c12 => ?_) (fun c12 => ?_)
    · have hk := hk.2 c12
      refine r_iload_n X (pc := 18) dX1_error_18 rfl (q := 1) rfl ?_
      refine r_iconst X (pc := 19) dX1_error_19 ?_
      refine r_icmp_ne X (pc := 20) (tgt := 30) dX1_error_20 (by decide) ⟨b11, (by decide)⟩ (fun c13 => ?_) (fun c13 => ?_)
      · have hk := hk.2 c13
        refine r_aload_n X (pc := 30) dX1_error_30 rfl (q := 0) rfl ?_
        refine r_hGI X (pc := 31) fa_X1_26 dX1_error_31 hk (fun y14 hk => ?_)
        exact r_iret X E (pc := 34) dX1_error_34 rfl ⟨_, rfl, hk⟩
      · have hk := hk.1 c13
        refine r_aload_n X (pc := 23) dX1_error_23 rfl (q := 0) rfl ?_
        refine r_hGI X (pc := 24) fa_X1_22 dX1_error_24 hk (fun y15 hk => ?_)
        refine r_goto X (pc := 27) (tgt := 34) dX1_error_27 (by decide) ?_
        exact r_iret X E (pc := 34) dX1_error_34 rfl ⟨_, rfl, hk⟩
    · have hk := hk.1 c12
      refine r_aload_n X (pc := 11) dX1_error_11 rfl (q := 0) rfl ?_
      refine r_hGI X (pc := 12) fa_X1_131 dX1_error_12 hk (fun y16 hk => ?_)
      refine r_goto X (pc := 15) (tgt := 34) dX1_error_15 (by decide) ?_
      exact r_iret X E (pc := 34) dX1_error_34 rfl ⟨_, rfl, hk⟩
  · have hk := hf
    exact r_out X E (fun _ h9 => nomatch h9) hk
theorem s_X1_error {K : KT} {l : Launch} {o : Nat} {κ : Int → AH → Nat → Nat → Prop} {χ : QxT} {h : AH} {n : Nat} {z : Nat} {x1 : Int} (hk : P_X1_error K o κ χ h n z x1) : Ct K l yX1_error (ws_ yX1_error cX1_error 2 (Option.some Jvm.ClassFile.FieldType.int)) 11 303 ([vR (some o), vI x1].map cV) h n z (QvI κ) χ :=
  ct_of (by decide +kernel) (Nat.le_of_ble_eq_true rfl) (fun Y X E => w_X1_error X E hk)
set_option maxHeartbeats 4000000 in
theorem w_X1_needCell {K : KT} {Y : YT} {o : Nat} {κ : AH → Nat → Nat → Prop} {χ : QxT} (X : XY K "TrailMarkers" "needCell" cX1_needCell (Option.none : Option Jvm.ClassFile.FieldType) [] 3 11 303 Y) (E : YE K Y (QvV κ) χ) {h : AH} {n : Nat} {z : Nat} {x1 : Int} {x2 : Int} (hk : P_X1_needCell K o κ χ h n z x1 x2) : G K Y h n z 0 (lv_argsA 0 [vR (some o), vI x1, vI x2]) [] := by
  show G K Y h n z 0 [(0, vR (some o)), (1, vI x1), (2, vI x2)] []
  refine r_aload_n X (pc := 0) dX1_needCell_0 rfl (q := 0) rfl ?_
  refine r_iload_n X (pc := 1) dX1_needCell_1 rfl (q := 1) rfl ?_
  refine r_iconst X (pc := 2) dX1_needCell_2 ?_
  refine r_aload_n X (pc := 3) dX1_needCell_3 rfl (q := 0) rfl ?_
  refine r_hGR X (pc := 4) fa_X1_14 dX1_needCell_4 hk (fun y5 hk => ?_)
  refine r_hGI X (pc := 7) fa_X1_137_X2 dX1_needCell_7 hk (fun y6 hk => ?_)
  refine r_iconst X (pc := 10) dX1_needCell_10 ?_
  refine r_isub X (pc := 11) dX1_needCell_11 ?_
  obtain ⟨o28, fs29, e9, b30, hk⟩ := hk
  refine r_callV X (pc := 12) (As := [vI x1, vI 0, vI (y6 - 1)]) (st := []) rfl rfl e9 b30 m_X1_88 (fun _ => s_X1_need hk) ⟨by decide, by decide⟩ (Nat.le_of_ble_eq_true rfl) dX1_needCell_12 (fun v9 h7 n8 z9 hq => ?_) (fun ci23 q24 h25 n26 z27 hf => ?_)
  · obtain ⟨rfl, hk⟩ := hq
    refine ⟨[], rfl, ?_⟩
    refine r_aload_n X (pc := 15) dX1_needCell_15 rfl (q := 0) rfl ?_
    refine r_iload_n X (pc := 16) dX1_needCell_16 rfl (q := 2) rfl ?_
    refine r_iconst X (pc := 17) dX1_needCell_17 ?_
    refine r_aload_n X (pc := 18) dX1_needCell_18 rfl (q := 0) rfl ?_
    refine r_hGR X (pc := 19) fa_X1_14 dX1_needCell_19 hk (fun y10 hk => ?_)
    refine r_hGI X (pc := 22) fa_X1_140_X2 dX1_needCell_22 hk (fun y11 hk => ?_)
    refine r_iconst X (pc := 25) dX1_needCell_25 ?_
    refine r_isub X (pc := 26) dX1_needCell_26 ?_
    obtain ⟨o20, fs21, e9, b22, hk⟩ := hk
    refine r_callV X (pc := 27) (As := [vI x2, vI 0, vI (y11 - 1)]) (st := []) rfl rfl e9 b22 m_X1_88 (fun _ => s_X1_need hk) ⟨by decide, by decide⟩ (Nat.le_of_ble_eq_true rfl) dX1_needCell_27 (fun v9 h12 n13 z14 hq => ?_) (fun ci15 q16 h17 n18 z19 hf => ?_)
    · obtain ⟨rfl, hk⟩ := hq
      refine ⟨[], rfl, ?_⟩
      exact r_vret X E (pc := 30) dX1_needCell_30 ⟨rfl, hk⟩
    · have hk := hf
      exact r_out X E (fun _ h9 => nomatch h9) hk
  · have hk := hf
    exact r_out X E (fun _ h9 => nomatch h9) hk
theorem s_X1_needCell {K : KT} {l : Launch} {o : Nat} {κ : AH → Nat → Nat → Prop} {χ : QxT} {h : AH} {n : Nat} {z : Nat} {x1 : Int} {x2 : Int} (hk : P_X1_needCell K o κ χ h n z x1 x2) : Ct K l yX1_needCell (ws_ yX1_needCell cX1_needCell 3 (Option.none : Option Jvm.ClassFile.FieldType)) 11 303 ([vR (some o), vI x1, vI x2].map cV) h n z (QvV κ) χ :=
  ct_of (by decide +kernel) (Nat.le_of_ble_eq_true rfl) (fun Y X E => w_X1_needCell X E hk)
set_option maxHeartbeats 4000000 in
theorem w_X1_needColour {K : KT} {Y : YT} {o : Nat} {κ : AH → Nat → Nat → Prop} {χ : QxT} (X : XY K "TrailMarkers" "needColour" cX1_needColour (Option.none : Option Jvm.ClassFile.FieldType) [] 2 10 280 Y) (E : YE K Y (QvV κ) χ) {h : AH} {n : Nat} {z : Nat} {x1 : Int} (hk : P_X1_needColour K o κ χ h n z x1) : G K Y h n z 0 (lv_argsA 0 [vR (some o), vI x1]) [] := by
  show G K Y h n z 0 [(0, vR (some o)), (1, vI x1)] []
  refine r_iload_n X (pc := 0) dX1_needColour_0 rfl (q := 1) rfl ?_
  obtain ⟨b6, hk⟩ := hk
  refine r_if_lt X (pc := 1) (tgt := 9) dX1_needColour_1 (by decide) b6 (fun c7 => ?_) (fun c7 => ?_)
  · have hk := hk.1 c7
    refine r_hNew X (pc := 9) nw_X1_143 dX1_needColour_9 hk (fun h8 hk => ?_)
    refine r_dup X (pc := 12) dX1_needColour_12 rfl ?_
    refine r_callI X (pc := 13) (As := []) (st := [vR (some n)]) m_X1_145 (fun _ => s_J18_init_2 hk) ⟨by decide, by decide⟩ (Nat.le_of_ble_eq_true rfl) dX1_needColour_13 (fun v9 h9 n10 z11 hq => ?_) (fun ci14 q15 h16 n17 z18 hf => ?_)
    · obtain ⟨rfl, hk⟩ := hq
      refine ⟨[], rfl, ?_⟩
      refine r_hThrow X (pc := 16) dX1_needColour_16 hk (fun ci12 q13 hk => ?_)
      exact r_out X E (fun _ h9 => nomatch h9) hk
    · have hk := hf
      exact r_out X E (fun _ h9 => nomatch h9) hk
  · have hk := hk.2 c7
    refine r_iload_n X (pc := 4) dX1_needColour_4 rfl (q := 1) rfl ?_
    refine r_iconst X (pc := 5) dX1_needColour_5 ?_
    refine r_icmp_lt X (pc := 6) (tgt := 17) dX1_needColour_6 (by decide) ⟨b6, (by decide)⟩ (fun c19 => ?_) (fun c19 => ?_)
    · have hk := hk.1 c19
      exact r_vret X E (pc := 17) dX1_needColour_17 ⟨rfl, hk⟩
    · have hk := hk.2 c19
      refine r_hNew X (pc := 9) nw_X1_143 dX1_needColour_9 hk (fun h20 hk => ?_)
      refine r_dup X (pc := 12) dX1_needColour_12 rfl ?_
      refine r_callI X (pc := 13) (As := []) (st := [vR (some n)]) m_X1_145 (fun _ => s_J18_init_2 hk) ⟨by decide, by decide⟩ (Nat.le_of_ble_eq_true rfl) dX1_needColour_13 (fun v9 h21 n22 z23 hq => ?_) (fun ci26 q27 h28 n29 z30 hf => ?_)
      · obtain ⟨rfl, hk⟩ := hq
        refine ⟨[], rfl, ?_⟩
        refine r_hThrow X (pc := 16) dX1_needColour_16 hk (fun ci24 q25 hk => ?_)
        exact r_out X E (fun _ h9 => nomatch h9) hk
      · have hk := hf
        exact r_out X E (fun _ h9 => nomatch h9) hk
theorem s_X1_needColour {K : KT} {l : Launch} {o : Nat} {κ : AH → Nat → Nat → Prop} {χ : QxT} {h : AH} {n : Nat} {z : Nat} {x1 : Int} (hk : P_X1_needColour K o κ χ h n z x1) : Ct K l yX1_needColour (ws_ yX1_needColour cX1_needColour 2 (Option.none : Option Jvm.ClassFile.FieldType)) 10 280 ([vR (some o), vI x1].map cV) h n z (QvV κ) χ :=
  ct_of (by decide +kernel) (Nat.le_of_ble_eq_true rfl) (fun Y X E => w_X1_needColour X E hk)
set_option maxHeartbeats 4000000 in
theorem w_X1_addPost {K : KT} {Y : YT} {o : Nat} {κ : Int → AH → Nat → Nat → Prop} {χ : QxT} (X : XY K "TrailMarkers" "addPost" cX1_addPost (Option.some Jvm.ClassFile.FieldType.int) (tableOf [((28 : Nat), (56 : Nat), (57 : Nat), (58 : Nat))]) 7 12 325 Y) (E : YE K Y (QvI κ) χ) {h : AH} {n : Nat} {z : Nat} {x1 : Int} {x2 : Int} {x3 : Int} {x4 : Int} (hk : P_X1_addPost K o κ χ h n z x1 x2 x3 x4) : G K Y h n z 0 (lv_argsA 0 [vR (some o), vI x1, vI x2, vI x3, vI x4]) [] := by
  show G K Y h n z 0 [(0, vR (some o)), (1, vI x1), (2, vI x2), (3, vI x3), (4, vI x4)] []
  refine r_aload_n X (pc := 0) dX1_addPost_0 rfl (q := 0) rfl ?_
  refine r_iload_n X (pc := 1) dX1_addPost_1 rfl (q := 3) rfl ?_
  obtain ⟨o120, fs121, e9, b122, hk⟩ := hk
  refine r_callV X (pc := 2) (As := [vI x3]) (st := []) rfl rfl e9 b122 m_X1_150 (fun _ => s_X1_needColour hk) ⟨by decide, by decide⟩ (Nat.le_of_ble_eq_true rfl) dX1_addPost_2 (fun v9 h6 n7 z8 hq => ?_) (fun ci115 q116 h117 n118 z119 hf => ?_)
  · obtain ⟨rfl, hk⟩ := hq
    refine ⟨[], rfl, ?_⟩
    refine r_aload_n X (pc := 5) dX1_addPost_5 rfl (q := 0) rfl ?_
    refine r_iload_n X (pc := 6) dX1_addPost_6 rfl (q := 1) rfl ?_
    refine r_iload_n X (pc := 7) dX1_addPost_7 rfl (q := 2) rfl ?_
    obtain ⟨o112, fs113, e9, b114, hk⟩ := hk
    refine r_callV X (pc := 8) (As := [vI x1, vI x2]) (st := []) rfl rfl e9 b114 m_X1_153 (fun _ => s_X1_needCell hk) ⟨by decide, by decide⟩ (Nat.le_of_ble_eq_true rfl) dX1_addPost_8 (fun v9 h9 n10 z11 hq => ?_) (fun ci107 q108 h109 n110 z111 hf => ?_)
    · obtain ⟨rfl, hk⟩ := hq
      refine ⟨[], rfl, ?_⟩
      refine r_aload_n X (pc := 11) dX1_addPost_11 rfl (q := 0) rfl ?_
      refine r_iload X (pc := 12) dX1_addPost_12 (q := 4) rfl ?_
      refine r_iconst X (pc := 14) dX1_addPost_14 ?_
      refine r_iconst X (pc := 15) dX1_addPost_15 ?_
      obtain ⟨o104, fs105, e9, b106, hk⟩ := hk
      refine r_callV X (pc := 16) (As := [vI x4, vI 0, vI 4]) (st := []) rfl rfl e9 b106 m_X1_88 (fun _ => s_X1_need hk) ⟨by decide, by decide⟩ (Nat.le_of_ble_eq_true rfl) dX1_addPost_16 (fun v9 h12 n13 z14 hq => ?_) (fun ci99 q100 h101 n102 z103 hf => ?_)
      · obtain ⟨rfl, hk⟩ := hq
        refine ⟨[], rfl, ?_⟩
        refine r_aload_n X (pc := 19) dX1_addPost_19 rfl (q := 0) rfl ?_
        refine r_hGR X (pc := 20) fa_X1_14 dX1_addPost_20 hk (fun y15 hk => ?_)
        obtain ⟨o96, fs97, e9, b98, hk⟩ := hk
        refine r_callV X (pc := 23) (As := []) (st := []) rfl rfl e9 b98 m_X1_125 (fun _ => s_X2_copy hk) ⟨by decide, by decide⟩ (Nat.le_of_ble_eq_true rfl) dX1_addPost_23 (fun v9 h17 n18 z19 hq => ?_) (fun ci91 q92 h93 n94 z95 hf => ?_)
        · obtain ⟨r16, rfl, hk⟩ := hq
          refine ⟨[vR r16], rfl, ?_⟩
          refine r_astore X (pc := 26) (lv1 := [(5, vR r16), (0, vR (some o)), (1, vI x1), (2, vI x2), (3, vI x3), (4, vI x4)]) dX1_addPost_26 (by decide) rfl ?_
          refine r_aload X (pc := 28) dX1_addPost_28 (q := 0) rfl ?_
          refine r_hNew X (pc := 30) nw_X1_60 dX1_addPost_30 hk (fun h20 hk => ?_)
          refine r_dup X (pc := 33) dX1_addPost_33 rfl ?_
          refine r_iload_n X (pc := 34) dX1_addPost_34 rfl (q := 2) rfl ?_
          refine r_iload_n X (pc := 35) dX1_addPost_35 rfl (q := 3) rfl ?_
          refine r_iload_n X (pc := 36) dX1_addPost_36 rfl (q := 4) rfl ?_
          refine r_iload X (pc := 37) dX1_addPost_37 (q := 5) rfl ?_
          refine r_iconst X (pc := 39) dX1_addPost_39 ?_
          refine r_callI X (pc := 40) (As := [vI x1, vI x2, vI x3, vI x4, vI 0]) (st := [vR (some n18), vR r16]) m_X1_62 (fun _ => s_X3_init hk) ⟨by decide, by decide⟩ (Nat.le_of_ble_eq_true rfl) dX1_addPost_40 (fun v9 h21 n22 z23 hq => ?_) (fun ci73 q74 h75 n76 z77 hf => ?_)
          · obtain ⟨rfl, hk⟩ := hq
            refine ⟨[], rfl, ?_⟩
            obtain ⟨o70, fs71, e9, b72, hk⟩ := hk
            refine r_callV X (pc := 43) (As := [vR (some n18)]) (st := []) rfl rfl e9 b72 m_X1_65 (fun _ => s_X2_add hk) ⟨by decide, by decide⟩ (Nat.le_of_ble_eq_true rfl) dX1_addPost_43 (fun v9 h25 n26 z27 hq => ?_) (fun ci52 q53 h54 n55 z56 hf => ?_)
            · obtain ⟨r24, rfl, hk⟩ := hq
              refine ⟨[vI r24], rfl, ?_⟩
              refine r_istore X (pc := 46) (lv1 := [(6, vI r24), (5, vR r16), (0, vR (some o)), (1, vI x1), (2, vI x2), (3, vI x3), (4, vI x4)]) dX1_addPost_46 (by decide) rfl ?_
              refine r_aload_n X (pc := 48) dX1_addPost_48 rfl (q := 2) rfl ?_
              refine r_aload X (pc := 49) dX1_addPost_49 (q := 1) rfl ?_
              obtain ⟨o49, fs50, e9, b51, hk⟩ := hk
              refine r_callV X (pc := 51) (As := [vR r16]) (st := []) rfl rfl e9 b51 m_X1_107 (fun _ => s_X1_become hk) ⟨by decide, by decide⟩ (Nat.le_of_ble_eq_true rfl) dX1_addPost_51 (fun v9 h28 n29 z30 hq => ?_) (fun ci31 q32 h33 n34 z35 hf => ?_)
              · obtain ⟨rfl, hk⟩ := hq
                refine ⟨[], rfl, ?_⟩
                refine r_iload X (pc := 54) dX1_addPost_54 (q := 0) rfl ?_
                exact r_iret X E (pc := 56) dX1_addPost_56 rfl ⟨_, rfl, hk⟩
              · have hk := hf
                by_cases c47 : ci31 = 3
                · replace hk := hk.1 c47
                  subst c47
                  refine r_catch X (pc := 51) [] ({ startPc := 28, endPc := 56, handlerPc := 57, catchType := 58 } : ExceptionTableEntry) [] rfl (fun _ h9 => nomatch h9) (by decide) (by decide) q201 co_3_TrailMarkers_PlaceException ?_
                  refine r_astore X (pc := 57) (lv1 := [(6, vR (some q32)), (5, vR r16), (0, vR (some o)), (1, vI x1), (2, vI x2), (3, vI x3), (4, vI x4)]) dX1_addPost_57 (by decide) rfl ?_
                  refine r_hNew X (pc := 59) nw_X1_156 dX1_addPost_59 hk (fun h36 hk => ?_)
                  refine r_dup X (pc := 62) dX1_addPost_62 rfl ?_
                  refine r_callI X (pc := 63) (As := []) (st := [vR (some n34)]) m_X1_158 (fun _ => s_J17_init_2 hk) ⟨by decide, by decide⟩ (Nat.le_of_ble_eq_true rfl) dX1_addPost_63 (fun v9 h37 n38 z39 hq => ?_) (fun ci42 q43 h44 n45 z46 hf => ?_)
                  · obtain ⟨rfl, hk⟩ := hq
                    refine ⟨[], rfl, ?_⟩
                    refine r_hThrow X (pc := 66) dX1_addPost_66 hk (fun ci40 q41 hk => ?_)
                    exact r_out X E (List.forall_mem_cons.mpr ⟨Or.inl (by decide), (fun _ h9 => nomatch h9)⟩) hk
                  · have hk := hf
                    exact r_out X E (List.forall_mem_cons.mpr ⟨Or.inl (by decide), (fun _ h9 => nomatch h9)⟩) hk
                · replace hk := hk.2 c47
                  obtain ⟨b48, hk⟩ := hk
                  exact r_out X E (List.forall_mem_cons.mpr ⟨Or.inr ⟨by decide, "TrailMarkers$PlaceException", q201, cns_TrailMarkers_PlaceException_6_22_21_23 _ b48⟩, (fun _ h9 => nomatch h9)⟩) hk
            · have hk := hf
              by_cases c68 : ci52 = 3
              · replace hk := hk.1 c68
                subst c68
                refine r_catch X (pc := 43) [] ({ startPc := 28, endPc := 56, handlerPc := 57, catchType := 58 } : ExceptionTableEntry) [] rfl (fun _ h9 => nomatch h9) (by decide) (by decide) q201 co_3_TrailMarkers_PlaceException ?_
                refine r_astore X (pc := 57) (lv1 := [(6, vR (some q53)), (5, vR r16), (0, vR (some o)), (1, vI x1), (2, vI x2), (3, vI x3), (4, vI x4)]) dX1_addPost_57 (by decide) rfl ?_
                refine r_hNew X (pc := 59) nw_X1_156 dX1_addPost_59 hk (fun h57 hk => ?_)
                refine r_dup X (pc := 62) dX1_addPost_62 rfl ?_
                refine r_callI X (pc := 63) (As := []) (st := [vR (some n55)]) m_X1_158 (fun _ => s_J17_init_2 hk) ⟨by decide, by decide⟩ (Nat.le_of_ble_eq_true rfl) dX1_addPost_63 (fun v9 h58 n59 z60 hq => ?_) (fun ci63 q64 h65 n66 z67 hf => ?_)
                · obtain ⟨rfl, hk⟩ := hq
                  refine ⟨[], rfl, ?_⟩
                  refine r_hThrow X (pc := 66) dX1_addPost_66 hk (fun ci61 q62 hk => ?_)
                  exact r_out X E (List.forall_mem_cons.mpr ⟨Or.inl (by decide), (fun _ h9 => nomatch h9)⟩) hk
                · have hk := hf
                  exact r_out X E (List.forall_mem_cons.mpr ⟨Or.inl (by decide), (fun _ h9 => nomatch h9)⟩) hk
              · replace hk := hk.2 c68
                obtain ⟨b69, hk⟩ := hk
                exact r_out X E (List.forall_mem_cons.mpr ⟨Or.inr ⟨by decide, "TrailMarkers$PlaceException", q201, cns_TrailMarkers_PlaceException_6_22_21_23 _ b69⟩, (fun _ h9 => nomatch h9)⟩) hk
          · have hk := hf
            by_cases c89 : ci73 = 3
            · replace hk := hk.1 c89
              subst c89
              refine r_catch X (pc := 40) [] ({ startPc := 28, endPc := 56, handlerPc := 57, catchType := 58 } : ExceptionTableEntry) [] rfl (fun _ h9 => nomatch h9) (by decide) (by decide) q201 co_3_TrailMarkers_PlaceException ?_
              refine r_astore X (pc := 57) (lv1 := [(6, vR (some q74)), (5, vR r16), (0, vR (some o)), (1, vI x1), (2, vI x2), (3, vI x3), (4, vI x4)]) dX1_addPost_57 (by decide) rfl ?_
              refine r_hNew X (pc := 59) nw_X1_156 dX1_addPost_59 hk (fun h78 hk => ?_)
              refine r_dup X (pc := 62) dX1_addPost_62 rfl ?_
              refine r_callI X (pc := 63) (As := []) (st := [vR (some n76)]) m_X1_158 (fun _ => s_J17_init_2 hk) ⟨by decide, by decide⟩ (Nat.le_of_ble_eq_true rfl) dX1_addPost_63 (fun v9 h79 n80 z81 hq => ?_) (fun ci84 q85 h86 n87 z88 hf => ?_)
              · obtain ⟨rfl, hk⟩ := hq
                refine ⟨[], rfl, ?_⟩
                refine r_hThrow X (pc := 66) dX1_addPost_66 hk (fun ci82 q83 hk => ?_)
                exact r_out X E (List.forall_mem_cons.mpr ⟨Or.inl (by decide), (fun _ h9 => nomatch h9)⟩) hk
              · have hk := hf
                exact r_out X E (List.forall_mem_cons.mpr ⟨Or.inl (by decide), (fun _ h9 => nomatch h9)⟩) hk
            · replace hk := hk.2 c89
              obtain ⟨b90, hk⟩ := hk
              exact r_out X E (List.forall_mem_cons.mpr ⟨Or.inr ⟨by decide, "TrailMarkers$PlaceException", q201, cns_TrailMarkers_PlaceException_6_22_21_23 _ b90⟩, (fun _ h9 => nomatch h9)⟩) hk
        · have hk := hf
          exact r_out X E (List.forall_mem_cons.mpr ⟨Or.inl (by decide), (fun _ h9 => nomatch h9)⟩) hk
      · have hk := hf
        exact r_out X E (List.forall_mem_cons.mpr ⟨Or.inl (by decide), (fun _ h9 => nomatch h9)⟩) hk
    · have hk := hf
      exact r_out X E (List.forall_mem_cons.mpr ⟨Or.inl (by decide), (fun _ h9 => nomatch h9)⟩) hk
  · have hk := hf
    exact r_out X E (List.forall_mem_cons.mpr ⟨Or.inl (by decide), (fun _ h9 => nomatch h9)⟩) hk
theorem s_X1_addPost {K : KT} {l : Launch} {o : Nat} {κ : Int → AH → Nat → Nat → Prop} {χ : QxT} {h : AH} {n : Nat} {z : Nat} {x1 : Int} {x2 : Int} {x3 : Int} {x4 : Int} (hk : P_X1_addPost K o κ χ h n z x1 x2 x3 x4) : Ct K l yX1_addPost (wsW_ yX1_addPost cX1_addPost 7 (Option.some Jvm.ClassFile.FieldType.int) [((28 : Nat), (56 : Nat), (57 : Nat), (58 : Nat))]) 12 325 ([vR (some o), vI x1, vI x2, vI x3, vI x4].map cV) h n z (QvI κ) χ :=
  ct_ofH (by decide +kernel) (Nat.le_of_ble_eq_true rfl) (fun Y X E => w_X1_addPost X E hk)
set_option maxHeartbeats 4000000 in
theorem w_X1_needPost {K : KT} {Y : YT} {o : Nat} {κ : Option Nat → AH → Nat → Nat → Prop} {χ : QxT} (X : XY K "TrailMarkers" "needPost" cX1_needPost (Option.some (Jvm.ClassFile.FieldType.object "TrailMarkers$Post")) [] 2 10 280 Y) (E : YE K Y (QvR κ) χ) {h : AH} {n : Nat} {z : Nat} {x1 : Int} (hk : P_X1_needPost K o κ χ h n z x1) : G K Y h n z 0 (lv_argsA 0 [vR (some o), vI x1]) [] := by
  show G K Y h n z 0 [(0, vR (some o)), (1, vI x1)] []
  refine r_iload_n X (pc := 0) dX1_needPost_0 rfl (q := 1) rfl ?_
  obtain ⟨b12, hk⟩ := hk
  refine r_if_lt X (pc := 1) (tgt := 15) dX1_needPost_1 (by decide) b12 (fun c13 => ?_) (fun c13 => ?_)
  · have hk := hk.1 c13
    refine r_hNew X (pc := 15) nw_X1_143 dX1_needPost_15 hk (fun h14 hk => ?_)
    refine r_dup X (pc := 18) dX1_needPost_18 rfl ?_
    refine r_callI X (pc := 19) (As := []) (st := [vR (some n)]) m_X1_145 (fun _ => s_J18_init_2 hk) ⟨by decide, by decide⟩ (Nat.le_of_ble_eq_true rfl) dX1_needPost_19 (fun v9 h15 n16 z17 hq => ?_) (fun ci20 q21 h22 n23 z24 hf => ?_)
    · obtain ⟨rfl, hk⟩ := hq
      refine ⟨[], rfl, ?_⟩
      refine r_hThrow X (pc := 22) dX1_needPost_22 hk (fun ci18 q19 hk => ?_)
      exact r_out X E (fun _ h9 => nomatch h9) hk
    · have hk := hf
      exact r_out X E (fun _ h9 => nomatch h9) hk
  · have hk := hk.2 c13
    refine r_iload_n X (pc := 4) dX1_needPost_4 rfl (q := 1) rfl ?_
    refine r_aload_n X (pc := 5) dX1_needPost_5 rfl (q := 0) rfl ?_
    refine r_hGR X (pc := 6) fa_X1_14 dX1_needPost_6 hk (fun y25 hk => ?_)
    refine r_hGI X (pc := 9) fa_X1_111_X2 dX1_needPost_9 hk (fun y26 hk => ?_)
    obtain ⟨b27, hk⟩ := hk
    refine r_icmp_lt X (pc := 12) (tgt := 23) dX1_needPost_12 (by decide) ⟨b12, b27⟩ (fun c28 => ?_) (fun c28 => ?_)
    · have hk := hk.1 c28
      refine r_aload_n X (pc := 23) dX1_needPost_23 rfl (q := 0) rfl ?_
      refine r_hGR X (pc := 24) fa_X1_14 dX1_needPost_24 hk (fun y29 hk => ?_)
      refine r_hGR X (pc := 27) fa_X1_146_X2 dX1_needPost_27 hk (fun y30 hk => ?_)
      refine r_iload_n X (pc := 30) dX1_needPost_30 rfl (q := 1) rfl ?_
      refine r_hAR X (pc := 31) (t := 5) rfl dX1_needPost_31 hk (fun y31 hk => ?_)
      exact r_aret X E (Or.inl ⟨_, rfl⟩) (pc := 32) dX1_needPost_32 ⟨_, rfl, hk⟩
    · have hk := hk.2 c28
      refine r_hNew X (pc := 15) nw_X1_143 dX1_needPost_15 hk (fun h32 hk => ?_)
      refine r_dup X (pc := 18) dX1_needPost_18 rfl ?_
      refine r_callI X (pc := 19) (As := []) (st := [vR (some n)]) m_X1_145 (fun _ => s_J18_init_2 hk) ⟨by decide, by decide⟩ (Nat.le_of_ble_eq_true rfl) dX1_needPost_19 (fun v9 h33 n34 z35 hq => ?_) (fun ci38 q39 h40 n41 z42 hf => ?_)
      · obtain ⟨rfl, hk⟩ := hq
        refine ⟨[], rfl, ?_⟩
        refine r_hThrow X (pc := 22) dX1_needPost_22 hk (fun ci36 q37 hk => ?_)
        exact r_out X E (fun _ h9 => nomatch h9) hk
      · have hk := hf
        exact r_out X E (fun _ h9 => nomatch h9) hk
theorem s_X1_needPost {K : KT} {l : Launch} {o : Nat} {κ : Option Nat → AH → Nat → Nat → Prop} {χ : QxT} {h : AH} {n : Nat} {z : Nat} {x1 : Int} (hk : P_X1_needPost K o κ χ h n z x1) : Ct K l yX1_needPost (ws_ yX1_needPost cX1_needPost 2 (Option.some (Jvm.ClassFile.FieldType.object "TrailMarkers$Post"))) 10 280 ([vR (some o), vI x1].map cV) h n z (QvR κ) χ :=
  ct_of (by decide +kernel) (Nat.le_of_ble_eq_true rfl) (fun Y X E => w_X1_needPost X E hk)
set_option maxHeartbeats 4000000 in
theorem w_X1_dropPost {K : KT} {Y : YT} {o : Nat} {κ : Int → AH → Nat → Nat → Prop} {χ : QxT} (X : XY K "TrailMarkers" "dropPost" cX1_dropPost (Option.some Jvm.ClassFile.FieldType.int) [] 2 11 301 Y) (E : YE K Y (QvI κ) χ) {h : AH} {n : Nat} {z : Nat} {x1 : Int} (hk : P_X1_dropPost K o κ χ h n z x1) : G K Y h n z 0 (lv_argsA 0 [vR (some o), vI x1]) [] := by
  show G K Y h n z 0 [(0, vR (some o)), (1, vI x1)] []
  refine r_aload_n X (pc := 0) dX1_dropPost_0 rfl (q := 0) rfl ?_
  refine r_iload_n X (pc := 1) dX1_dropPost_1 rfl (q := 1) rfl ?_
  obtain ⟨o54, fs55, e9, b56, hk⟩ := hk
  refine r_callV X (pc := 2) (As := [vI x1]) (st := []) rfl rfl e9 b56 m_X1_159 (fun _ => s_X1_needPost hk) ⟨by decide, by decide⟩ (Nat.le_of_ble_eq_true rfl) dX1_dropPost_2 (fun v9 h8 n9 z10 hq => ?_) (fun ci49 q50 h51 n52 z53 hf => ?_)
  · obtain ⟨r7, rfl, hk⟩ := hq
    refine ⟨[vR r7], rfl, ?_⟩
    refine r_pop X (pc := 5) dX1_dropPost_5 rfl ?_
    refine r_aload_n X (pc := 6) dX1_dropPost_6 rfl (q := 0) rfl ?_
    refine r_aload_n X (pc := 7) dX1_dropPost_7 rfl (q := 0) rfl ?_
    refine r_hGR X (pc := 8) fa_X1_14 dX1_dropPost_8 hk (fun y11 hk => ?_)
    obtain ⟨o46, fs47, e9, b48, hk⟩ := hk
    refine r_callV X (pc := 11) (As := []) (st := [vR (some o)]) rfl rfl e9 b48 m_X1_125 (fun _ => s_X2_copy hk) ⟨by decide, by decide⟩ (Nat.le_of_ble_eq_true rfl) dX1_dropPost_11 (fun v9 h13 n14 z15 hq => ?_) (fun ci41 q42 h43 n44 z45 hf => ?_)
    · obtain ⟨r12, rfl, hk⟩ := hq
      refine ⟨[vR r12], rfl, ?_⟩
      obtain ⟨o38, fs39, e9, b40, hk⟩ := hk
      refine r_callV X (pc := 14) (As := [vR r12]) (st := []) rfl rfl e9 b40 m_X1_107 (fun _ => s_X1_become hk) ⟨by decide, by decide⟩ (Nat.le_of_ble_eq_true rfl) dX1_dropPost_14 (fun v9 h16 n17 z18 hq => ?_) (fun ci33 q34 h35 n36 z37 hf => ?_)
      · obtain ⟨rfl, hk⟩ := hq
        refine ⟨[], rfl, ?_⟩
        refine r_aload_n X (pc := 17) dX1_dropPost_17 rfl (q := 0) rfl ?_
        refine r_hGR X (pc := 18) fa_X1_14 dX1_dropPost_18 hk (fun y19 hk => ?_)
        refine r_iload_n X (pc := 21) dX1_dropPost_21 rfl (q := 1) rfl ?_
        obtain ⟨o30, fs31, e9, b32, hk⟩ := hk
        refine r_callV X (pc := 22) (As := [vI x1]) (st := []) rfl rfl e9 b32 m_X1_163 (fun _ => s_X2_drop hk) ⟨by decide, by decide⟩ (Nat.le_of_ble_eq_true rfl) dX1_dropPost_22 (fun v9 h20 n21 z22 hq => ?_) (fun ci25 q26 h27 n28 z29 hf => ?_)
        · obtain ⟨rfl, hk⟩ := hq
          refine ⟨[], rfl, ?_⟩
          refine r_aload_n X (pc := 25) dX1_dropPost_25 rfl (q := 0) rfl ?_
          refine r_hGR X (pc := 26) fa_X1_14 dX1_dropPost_26 hk (fun y23 hk => ?_)
          refine r_hGI X (pc := 29) fa_X1_111_X2 dX1_dropPost_29 hk (fun y24 hk => ?_)
          exact r_iret X E (pc := 32) dX1_dropPost_32 rfl ⟨_, rfl, hk⟩
        · have hk := hf
          exact r_out X E (fun _ h9 => nomatch h9) hk
      · have hk := hf
        exact r_out X E (fun _ h9 => nomatch h9) hk
    · have hk := hf
      exact r_out X E (fun _ h9 => nomatch h9) hk
  · have hk := hf
    exact r_out X E (fun _ h9 => nomatch h9) hk
theorem s_X1_dropPost {K : KT} {l : Launch} {o : Nat} {κ : Int → AH → Nat → Nat → Prop} {χ : QxT} {h : AH} {n : Nat} {z : Nat} {x1 : Int} (hk : P_X1_dropPost K o κ χ h n z x1) : Ct K l yX1_dropPost (ws_ yX1_dropPost cX1_dropPost 2 (Option.some Jvm.ClassFile.FieldType.int)) 11 301 ([vR (some o), vI x1].map cV) h n z (QvI κ) χ :=
  ct_of (by decide +kernel) (Nat.le_of_ble_eq_true rfl) (fun Y X E => w_X1_dropPost X E hk)
set_option maxHeartbeats 4000000 in
theorem w_X1_turn {K : KT} {Y : YT} {o : Nat} {κ : Int → AH → Nat → Nat → Prop} {χ : QxT} (X : XY K "TrailMarkers" "turn" cX1_turn (Option.some Jvm.ClassFile.FieldType.int) [] 4 11 303 Y) (E : YE K Y (QvI κ) χ) {h : AH} {n : Nat} {z : Nat} {x1 : Int} {x2 : Int} (hk : P_X1_turn K o κ χ h n z x1 x2) : G K Y h n z 0 (lv_argsA 0 [vR (some o), vI x1, vI x2]) [] := by
  show G K Y h n z 0 [(0, vR (some o)), (1, vI x1), (2, vI x2)] []
  refine r_aload_n X (pc := 0) dX1_turn_0 rfl (q := 0) rfl ?_
  refine r_iload_n X (pc := 1) dX1_turn_1 rfl (q := 1) rfl ?_
  obtain ⟨o69, fs70, e9, b71, hk⟩ := hk
  refine r_callV X (pc := 2) (As := [vI x1]) (st := []) rfl rfl e9 b71 m_X1_159 (fun _ => s_X1_needPost hk) ⟨by decide, by decide⟩ (Nat.le_of_ble_eq_true rfl) dX1_turn_2 (fun v9 h10 n11 z12 hq => ?_) (fun ci64 q65 h66 n67 z68 hf => ?_)
  · obtain ⟨r9, rfl, hk⟩ := hq
    refine ⟨[vR r9], rfl, ?_⟩
    refine r_astore_n X (pc := 5) (lv1 := [(3, vR r9), (0, vR (some o)), (1, vI x1), (2, vI x2)]) dX1_turn_5 rfl (by decide) rfl ?_
    refine r_aload_n X (pc := 6) dX1_turn_6 rfl (q := 1) rfl ?_
    refine r_iload_n X (pc := 7) dX1_turn_7 rfl (q := 3) rfl ?_
    refine r_iconst X (pc := 8) dX1_turn_8 ?_
    refine r_iconst X (pc := 9) dX1_turn_9 ?_
    obtain ⟨o61, fs62, e9, b63, hk⟩ := hk
    refine r_callV X (pc := 10) (As := [vI x2, vI 0, vI 4]) (st := []) rfl rfl e9 b63 m_X1_88 (fun _ => s_X1_need hk) ⟨by decide, by decide⟩ (Nat.le_of_ble_eq_true rfl) dX1_turn_10 (fun v9 h13 n14 z15 hq => ?_) (fun ci56 q57 h58 n59 z60 hf => ?_)
    · obtain ⟨rfl, hk⟩ := hq
      refine ⟨[], rfl, ?_⟩
      refine r_aload_n X (pc := 13) dX1_turn_13 rfl (q := 1) rfl ?_
      refine r_aload_n X (pc := 14) dX1_turn_14 rfl (q := 1) rfl ?_
      refine r_hGR X (pc := 15) fa_X1_14 dX1_turn_15 hk (fun y16 hk => ?_)
      obtain ⟨o53, fs54, e9, b55, hk⟩ := hk
      refine r_callV X (pc := 18) (As := []) (st := [vR (some o)]) rfl rfl e9 b55 m_X1_125 (fun _ => s_X2_copy hk) ⟨by decide, by decide⟩ (Nat.le_of_ble_eq_true rfl) dX1_turn_18 (fun v9 h18 n19 z20 hq => ?_) (fun ci48 q49 h50 n51 z52 hf => ?_)
      · obtain ⟨r17, rfl, hk⟩ := hq
        refine ⟨[vR r17], rfl, ?_⟩
        obtain ⟨o45, fs46, e9, b47, hk⟩ := hk
        refine r_callV X (pc := 21) (As := [vR r17]) (st := []) rfl rfl e9 b47 m_X1_107 (fun _ => s_X1_become hk) ⟨by decide, by decide⟩ (Nat.le_of_ble_eq_true rfl) dX1_turn_21 (fun v9 h21 n22 z23 hq => ?_) (fun ci40 q41 h42 n43 z44 hf => ?_)
        · obtain ⟨rfl, hk⟩ := hq
          refine ⟨[], rfl, ?_⟩
          refine r_aload_n X (pc := 24) dX1_turn_24 rfl (q := 1) rfl ?_
          refine r_hGR X (pc := 25) fa_X1_14 dX1_turn_25 hk (fun y24 hk => ?_)
          refine r_hGR X (pc := 28) fa_X1_146_X2 dX1_turn_28 hk (fun y25 hk => ?_)
          refine r_iload_n X (pc := 31) dX1_turn_31 rfl (q := 2) rfl ?_
          refine r_aload_n X (pc := 32) dX1_turn_32 rfl (q := 0) rfl ?_
          refine r_iload_n X (pc := 33) dX1_turn_33 rfl (q := 3) rfl ?_
          obtain ⟨o37, fs38, e9, b39, hk⟩ := hk
          refine r_callV X (pc := 34) (As := [vI x2]) (st := [vI x1, vR y25]) rfl rfl e9 b39 m_X1_166 (fun _ => s_X3_turned hk) ⟨by decide, by decide⟩ (Nat.le_of_ble_eq_true rfl) dX1_turn_34 (fun v9 h27 n28 z29 hq => ?_) (fun ci32 q33 h34 n35 z36 hf => ?_)
          · obtain ⟨r26, rfl, hk⟩ := hq
            refine ⟨[vR r26], rfl, ?_⟩
            refine r_hSR X (pc := 37) (t := 5) rfl cos_TrailMarkers_Post_2 dX1_turn_37 hk (fun h30 hk => ?_)
            refine r_aload_n X (pc := 38) dX1_turn_38 rfl (q := 0) rfl ?_
            refine r_hGI X (pc := 39) fa_X1_169_X3 dX1_turn_39 hk (fun y31 hk => ?_)
            exact r_iret X E (pc := 42) dX1_turn_42 rfl ⟨_, rfl, hk⟩
          · have hk := hf
            exact r_out X E (fun _ h9 => nomatch h9) hk
        · have hk := hf
          exact r_out X E (fun _ h9 => nomatch h9) hk
      · have hk := hf
        exact r_out X E (fun _ h9 => nomatch h9) hk
    · have hk := hf
      exact r_out X E (fun _ h9 => nomatch h9) hk
  · have hk := hf
    exact r_out X E (fun _ h9 => nomatch h9) hk
theorem s_X1_turn {K : KT} {l : Launch} {o : Nat} {κ : Int → AH → Nat → Nat → Prop} {χ : QxT} {h : AH} {n : Nat} {z : Nat} {x1 : Int} {x2 : Int} (hk : P_X1_turn K o κ χ h n z x1 x2) : Ct K l yX1_turn (ws_ yX1_turn cX1_turn 4 (Option.some Jvm.ClassFile.FieldType.int)) 11 303 ([vR (some o), vI x1, vI x2].map cV) h n z (QvI κ) χ :=
  ct_of (by decide +kernel) (Nat.le_of_ble_eq_true rfl) (fun Y X E => w_X1_turn X E hk)
set_option maxHeartbeats 4000000 in
theorem w_X1_changeState {K : KT} {Y : YT} {o : Nat} {κ : Int → AH → Nat → Nat → Prop} {χ : QxT} (X : XY K "TrailMarkers" "changeState" cX1_changeState (Option.some Jvm.ClassFile.FieldType.int) (tableOf [((18 : Nat), (39 : Nat), (40 : Nat), (58 : Nat))]) 6 11 301 Y) (E : YE K Y (QvI κ) χ) {h : AH} {n : Nat} {z : Nat} {x1 : Int} {x2 : Int} (hk : P_X1_changeState K o κ χ h n z x1 x2) : G K Y h n z 0 (lv_argsA 0 [vR (some o), vI x1, vI x2]) [] := by
  show G K Y h n z 0 [(0, vR (some o)), (1, vI x1), (2, vI x2)] []
  refine r_aload_n X (pc := 0) dX1_changeState_0 rfl (q := 0) rfl ?_
  refine r_iload_n X (pc := 1) dX1_changeState_1 rfl (q := 1) rfl ?_
  obtain ⟨o105, fs106, e9, b107, hk⟩ := hk
  refine r_callV X (pc := 2) (As := [vI x1]) (st := []) rfl rfl e9 b107 m_X1_159 (fun _ => s_X1_needPost hk) ⟨by decide, by decide⟩ (Nat.le_of_ble_eq_true rfl) dX1_changeState_2 (fun v9 h9 n10 z11 hq => ?_) (fun ci100 q101 h102 n103 z104 hf => ?_)
  · obtain ⟨r8, rfl, hk⟩ := hq
    refine ⟨[vR r8], rfl, ?_⟩
    refine r_hGI X (pc := 5) fa_X1_172_X3 dX1_changeState_5 hk (fun y12 hk => ?_)
    refine r_istore_n X (pc := 8) (lv1 := [(3, vI y12), (0, vR (some o)), (1, vI x1), (2, vI x2)]) dX1_changeState_8 rfl (by decide) rfl ?_
    refine r_aload_n X (pc := 9) dX1_changeState_9 rfl (q := 1) rfl ?_
    refine r_hGR X (pc := 10) fa_X1_14 dX1_changeState_10 hk (fun y13 hk => ?_)
    obtain ⟨o97, fs98, e9, b99, hk⟩ := hk
    refine r_callV X (pc := 13) (As := []) (st := []) rfl rfl e9 b99 m_X1_125 (fun _ => s_X2_copy hk) ⟨by decide, by decide⟩ (Nat.le_of_ble_eq_true rfl) dX1_changeState_13 (fun v9 h15 n16 z17 hq => ?_) (fun ci92 q93 h94 n95 z96 hf => ?_)
    · obtain ⟨r14, rfl, hk⟩ := hq
      refine ⟨[vR r14], rfl, ?_⟩
      refine r_astore X (pc := 16) (lv1 := [(4, vR r14), (3, vI y12), (0, vR (some o)), (1, vI x1), (2, vI x2)]) dX1_changeState_16 (by decide) rfl ?_
      refine r_aload X (pc := 18) dX1_changeState_18 (q := 0) rfl ?_
      refine r_iload_n X (pc := 20) dX1_changeState_20 rfl (q := 3) rfl ?_
      refine r_iload_n X (pc := 21) dX1_changeState_21 rfl (q := 4) rfl ?_
      obtain ⟨o89, fs90, e9, b91, hk⟩ := hk
      refine r_callV X (pc := 22) (As := [vI x1, vI x2]) (st := []) rfl rfl e9 b91 m_X1_50 (fun _ => s_X2_change hk) ⟨by decide, by decide⟩ (Nat.le_of_ble_eq_true rfl) dX1_changeState_22 (fun v9 h18 n19 z20 hq => ?_) (fun ci71 q72 h73 n74 z75 hf => ?_)
      · obtain ⟨rfl, hk⟩ := hq
        refine ⟨[], rfl, ?_⟩
        refine r_aload_n X (pc := 25) dX1_changeState_25 rfl (q := 2) rfl ?_
        refine r_aload X (pc := 26) dX1_changeState_26 (q := 0) rfl ?_
        obtain ⟨o68, fs69, e9, b70, hk⟩ := hk
        refine r_callV X (pc := 28) (As := [vR r14]) (st := []) rfl rfl e9 b70 m_X1_107 (fun _ => s_X1_become hk) ⟨by decide, by decide⟩ (Nat.le_of_ble_eq_true rfl) dX1_changeState_28 (fun v9 h21 n22 z23 hq => ?_) (fun ci50 q51 h52 n53 z54 hf => ?_)
        · obtain ⟨rfl, hk⟩ := hq
          refine ⟨[], rfl, ?_⟩
          refine r_aload_n X (pc := 31) dX1_changeState_31 rfl (q := 2) rfl ?_
          refine r_hGR X (pc := 32) fa_X1_14 dX1_changeState_32 hk (fun y24 hk => ?_)
          refine r_iload_n X (pc := 35) dX1_changeState_35 rfl (q := 1) rfl ?_
          obtain ⟨o47, fs48, e9, b49, hk⟩ := hk
          refine r_callV X (pc := 36) (As := [vI y12]) (st := []) rfl rfl e9 b49 m_X1_175 (fun _ => s_X2_standing hk) ⟨by decide, by decide⟩ (Nat.le_of_ble_eq_true rfl) dX1_changeState_36 (fun v9 h26 n27 z28 hq => ?_) (fun ci29 q30 h31 n32 z33 hf => ?_)
          · obtain ⟨r25, rfl, hk⟩ := hq
            refine ⟨[vI r25], rfl, ?_⟩
            exact r_iret X E (pc := 39) dX1_changeState_39 rfl ⟨_, rfl, hk⟩
          · have hk := hf
            by_cases c45 : ci29 = 3
            · replace hk := hk.1 c45
              subst c45
              refine r_catch X (pc := 36) [] ({ startPc := 18, endPc := 39, handlerPc := 40, catchType := 58 } : ExceptionTableEntry) [] rfl (fun _ h9 => nomatch h9) (by decide) (by decide) q201 co_3_TrailMarkers_PlaceException ?_
              refine r_astore X (pc := 40) (lv1 := [(5, vR (some q30)), (4, vR r14), (3, vI y12), (0, vR (some o)), (1, vI x1), (2, vI x2)]) dX1_changeState_40 (by decide) rfl ?_
              refine r_hNew X (pc := 42) nw_X1_156 dX1_changeState_42 hk (fun h34 hk => ?_)
              refine r_dup X (pc := 45) dX1_changeState_45 rfl ?_
              refine r_callI X (pc := 46) (As := []) (st := [vR (some n32)]) m_X1_158 (fun _ => s_J17_init_2 hk) ⟨by decide, by decide⟩ (Nat.le_of_ble_eq_true rfl) dX1_changeState_46 (fun v9 h35 n36 z37 hq => ?_) (fun ci40 q41 h42 n43 z44 hf => ?_)
              · obtain ⟨rfl, hk⟩ := hq
                refine ⟨[], rfl, ?_⟩
                refine r_hThrow X (pc := 49) dX1_changeState_49 hk (fun ci38 q39 hk => ?_)
                exact r_out X E (List.forall_mem_cons.mpr ⟨Or.inl (by decide), (fun _ h9 => nomatch h9)⟩) hk
              · have hk := hf
                exact r_out X E (List.forall_mem_cons.mpr ⟨Or.inl (by decide), (fun _ h9 => nomatch h9)⟩) hk
            · replace hk := hk.2 c45
              obtain ⟨b46, hk⟩ := hk
              exact r_out X E (List.forall_mem_cons.mpr ⟨Or.inr ⟨by decide, "TrailMarkers$PlaceException", q201, cns_TrailMarkers_PlaceException_6_22_21_23 _ b46⟩, (fun _ h9 => nomatch h9)⟩) hk
        · have hk := hf
          by_cases c66 : ci50 = 3
          · replace hk := hk.1 c66
            subst c66
            refine r_catch X (pc := 28) [] ({ startPc := 18, endPc := 39, handlerPc := 40, catchType := 58 } : ExceptionTableEntry) [] rfl (fun _ h9 => nomatch h9) (by decide) (by decide) q201 co_3_TrailMarkers_PlaceException ?_
            refine r_astore X (pc := 40) (lv1 := [(5, vR (some q51)), (4, vR r14), (3, vI y12), (0, vR (some o)), (1, vI x1), (2, vI x2)]) dX1_changeState_40 (by decide) rfl ?_
            refine r_hNew X (pc := 42) nw_X1_156 dX1_changeState_42 hk (fun h55 hk => ?_)
            refine r_dup X (pc := 45) dX1_changeState_45 rfl ?_
            refine r_callI X (pc := 46) (As := []) (st := [vR (some n53)]) m_X1_158 (fun _ => s_J17_init_2 hk) ⟨by decide, by decide⟩ (Nat.le_of_ble_eq_true rfl) dX1_changeState_46 (fun v9 h56 n57 z58 hq => ?_) (fun ci61 q62 h63 n64 z65 hf => ?_)
            · obtain ⟨rfl, hk⟩ := hq
              refine ⟨[], rfl, ?_⟩
              refine r_hThrow X (pc := 49) dX1_changeState_49 hk (fun ci59 q60 hk => ?_)
              exact r_out X E (List.forall_mem_cons.mpr ⟨Or.inl (by decide), (fun _ h9 => nomatch h9)⟩) hk
            · have hk := hf
              exact r_out X E (List.forall_mem_cons.mpr ⟨Or.inl (by decide), (fun _ h9 => nomatch h9)⟩) hk
          · replace hk := hk.2 c66
            obtain ⟨b67, hk⟩ := hk
            exact r_out X E (List.forall_mem_cons.mpr ⟨Or.inr ⟨by decide, "TrailMarkers$PlaceException", q201, cns_TrailMarkers_PlaceException_6_22_21_23 _ b67⟩, (fun _ h9 => nomatch h9)⟩) hk
      · have hk := hf
        by_cases c87 : ci71 = 3
        · replace hk := hk.1 c87
          subst c87
          refine r_catch X (pc := 22) [] ({ startPc := 18, endPc := 39, handlerPc := 40, catchType := 58 } : ExceptionTableEntry) [] rfl (fun _ h9 => nomatch h9) (by decide) (by decide) q201 co_3_TrailMarkers_PlaceException ?_
          refine r_astore X (pc := 40) (lv1 := [(5, vR (some q72)), (4, vR r14), (3, vI y12), (0, vR (some o)), (1, vI x1), (2, vI x2)]) dX1_changeState_40 (by decide) rfl ?_
          refine r_hNew X (pc := 42) nw_X1_156 dX1_changeState_42 hk (fun h76 hk => ?_)
          refine r_dup X (pc := 45) dX1_changeState_45 rfl ?_
          refine r_callI X (pc := 46) (As := []) (st := [vR (some n74)]) m_X1_158 (fun _ => s_J17_init_2 hk) ⟨by decide, by decide⟩ (Nat.le_of_ble_eq_true rfl) dX1_changeState_46 (fun v9 h77 n78 z79 hq => ?_) (fun ci82 q83 h84 n85 z86 hf => ?_)
          · obtain ⟨rfl, hk⟩ := hq
            refine ⟨[], rfl, ?_⟩
            refine r_hThrow X (pc := 49) dX1_changeState_49 hk (fun ci80 q81 hk => ?_)
            exact r_out X E (List.forall_mem_cons.mpr ⟨Or.inl (by decide), (fun _ h9 => nomatch h9)⟩) hk
          · have hk := hf
            exact r_out X E (List.forall_mem_cons.mpr ⟨Or.inl (by decide), (fun _ h9 => nomatch h9)⟩) hk
        · replace hk := hk.2 c87
          obtain ⟨b88, hk⟩ := hk
          exact r_out X E (List.forall_mem_cons.mpr ⟨Or.inr ⟨by decide, "TrailMarkers$PlaceException", q201, cns_TrailMarkers_PlaceException_6_22_21_23 _ b88⟩, (fun _ h9 => nomatch h9)⟩) hk
    · have hk := hf
      exact r_out X E (List.forall_mem_cons.mpr ⟨Or.inl (by decide), (fun _ h9 => nomatch h9)⟩) hk
  · have hk := hf
    exact r_out X E (List.forall_mem_cons.mpr ⟨Or.inl (by decide), (fun _ h9 => nomatch h9)⟩) hk
theorem s_X1_changeState {K : KT} {l : Launch} {o : Nat} {κ : Int → AH → Nat → Nat → Prop} {χ : QxT} {h : AH} {n : Nat} {z : Nat} {x1 : Int} {x2 : Int} (hk : P_X1_changeState K o κ χ h n z x1 x2) : Ct K l yX1_changeState (wsW_ yX1_changeState cX1_changeState 6 (Option.some Jvm.ClassFile.FieldType.int) [((18 : Nat), (39 : Nat), (40 : Nat), (58 : Nat))]) 11 301 ([vR (some o), vI x1, vI x2].map cV) h n z (QvI κ) χ :=
  ct_ofH (by decide +kernel) (Nat.le_of_ble_eq_true rfl) (fun Y X E => w_X1_changeState X E hk)
set_option maxHeartbeats 4000000 in
theorem w_X1_lose {K : KT} {Y : YT} {o : Nat} {κ : Int → AH → Nat → Nat → Prop} {χ : QxT} (X : XY K "TrailMarkers" "lose" cX1_lose (Option.some Jvm.ClassFile.FieldType.int) [] 2 12 326 Y) (E : YE K Y (QvI κ) χ) {h : AH} {n : Nat} {z : Nat} {x1 : Int} (hk : P_X1_lose K o κ χ h n z x1) : G K Y h n z 0 (lv_argsA 0 [vR (some o), vI x1]) [] := by
  show G K Y h n z 0 [(0, vR (some o)), (1, vI x1)] []
  refine r_aload_n X (pc := 0) dX1_lose_0 rfl (q := 0) rfl ?_
  refine r_iload_n X (pc := 1) dX1_lose_1 rfl (q := 1) rfl ?_
  refine r_iconst X (pc := 2) dX1_lose_2 ?_
  obtain ⟨o11, fs12, e9, b13, hk⟩ := hk
  refine r_callVX X (pc := 3) (As := [vI x1, vI 1]) (st := []) rfl rfl e9 b13 m_X1_179 (fun _ => s_X1_changeState hk) ⟨by decide, by decide⟩ (Nat.le_of_ble_eq_true rfl) dX1_lose_3 (fun v9 h3 n4 z5 hq => ?_) (fun ci6 q7 h8 n9 z10 hf => ?_)
  · obtain ⟨r2, rfl, hk⟩ := hq
    refine ⟨[vI r2], rfl, ?_⟩
    exact r_iret X E (pc := 6) dX1_lose_6 rfl ⟨_, rfl, hk⟩
  · have hk := hf
    exact r_out X E (fun _ h9 => nomatch h9) hk
theorem s_X1_lose {K : KT} {l : Launch} {o : Nat} {κ : Int → AH → Nat → Nat → Prop} {χ : QxT} {h : AH} {n : Nat} {z : Nat} {x1 : Int} (hk : P_X1_lose K o κ χ h n z x1) : Ct K l yX1_lose (ws_ yX1_lose cX1_lose 2 (Option.some Jvm.ClassFile.FieldType.int)) 12 326 ([vR (some o), vI x1].map cV) h n z (QvI κ) χ :=
  ct_of (by decide +kernel) (Nat.le_of_ble_eq_true rfl) (fun Y X E => w_X1_lose X E hk)
set_option maxHeartbeats 4000000 in
theorem w_X1_mend {K : KT} {Y : YT} {o : Nat} {κ : Int → AH → Nat → Nat → Prop} {χ : QxT} (X : XY K "TrailMarkers" "mend" cX1_mend (Option.some Jvm.ClassFile.FieldType.int) [] 2 12 326 Y) (E : YE K Y (QvI κ) χ) {h : AH} {n : Nat} {z : Nat} {x1 : Int} (hk : P_X1_mend K o κ χ h n z x1) : G K Y h n z 0 (lv_argsA 0 [vR (some o), vI x1]) [] := by
  show G K Y h n z 0 [(0, vR (some o)), (1, vI x1)] []
  refine r_aload_n X (pc := 0) dX1_mend_0 rfl (q := 0) rfl ?_
  refine r_iload_n X (pc := 1) dX1_mend_1 rfl (q := 1) rfl ?_
  refine r_iconst X (pc := 2) dX1_mend_2 ?_
  obtain ⟨o11, fs12, e9, b13, hk⟩ := hk
  refine r_callVX X (pc := 3) (As := [vI x1, vI 0]) (st := []) rfl rfl e9 b13 m_X1_179 (fun _ => s_X1_changeState hk) ⟨by decide, by decide⟩ (Nat.le_of_ble_eq_true rfl) dX1_mend_3 (fun v9 h3 n4 z5 hq => ?_) (fun ci6 q7 h8 n9 z10 hf => ?_)
  · obtain ⟨r2, rfl, hk⟩ := hq
    refine ⟨[vI r2], rfl, ?_⟩
    exact r_iret X E (pc := 6) dX1_mend_6 rfl ⟨_, rfl, hk⟩
  · have hk := hf
    exact r_out X E (fun _ h9 => nomatch h9) hk
theorem s_X1_mend {K : KT} {l : Launch} {o : Nat} {κ : Int → AH → Nat → Nat → Prop} {χ : QxT} {h : AH} {n : Nat} {z : Nat} {x1 : Int} (hk : P_X1_mend K o κ χ h n z x1) : Ct K l yX1_mend (ws_ yX1_mend cX1_mend 2 (Option.some Jvm.ClassFile.FieldType.int)) 12 326 ([vR (some o), vI x1].map cV) h n z (QvI κ) χ :=
  ct_of (by decide +kernel) (Nat.le_of_ble_eq_true rfl) (fun Y X E => w_X1_mend X E hk)
set_option maxHeartbeats 4000000 in
theorem w_X1_setBlock_60 {K : KT} {Y : YT} {o : Nat} {κ : Int → AH → Nat → Nat → Prop} {χ : QxT} (X : XY K "TrailMarkers" "setBlock" cX1_setBlock (Option.some Jvm.ClassFile.FieldType.int) (tableOf [((15 : Nat), (57 : Nat), (60 : Nat), (58 : Nat))]) 6 12 325 Y) (E : YE K Y (QvI κ) χ) : ∀ (h : AH) (n : Nat) (z : Nat) (s0 : Option Nat), P_X1_setBlock_60 K o κ χ h n z s0 → G K Y h n z 60 [(0, vR (some o))] [vR s0] := by
  intro h n z s0 hk
  refine r_astore X (pc := 60) (lv1 := [(5, vR s0), (0, vR (some o))]) dX1_setBlock_60 (by decide) rfl ?_
  refine r_hNew X (pc := 62) nw_X1_156 dX1_setBlock_62 hk (fun h12 hk => ?_)
  refine r_dup X (pc := 65) dX1_setBlock_65 rfl ?_
  refine r_callI X (pc := 66) (As := []) (st := [vR (some n)]) m_X1_158 (fun _ => s_J17_init_2 hk) ⟨by decide, by decide⟩ (Nat.le_of_ble_eq_true rfl) dX1_setBlock_66 (fun v9 h13 n14 z15 hq => ?_) (fun ci18 q19 h20 n21 z22 hf => ?_)
  · obtain ⟨rfl, hk⟩ := hq
    refine ⟨[], rfl, ?_⟩
    refine r_hThrow X (pc := 69) dX1_setBlock_69 hk (fun ci16 q17 hk => ?_)
    exact r_out X E (List.forall_mem_cons.mpr ⟨Or.inl (by decide), (fun _ h9 => nomatch h9)⟩) hk
  · have hk := hf
    exact r_out X E (List.forall_mem_cons.mpr ⟨Or.inl (by decide), (fun _ h9 => nomatch h9)⟩) hk
set_option maxHeartbeats 4000000 in
theorem w_X1_setBlock_57 {K : KT} {Y : YT} {o : Nat} {κ : Int → AH → Nat → Nat → Prop} {χ : QxT} (X : XY K "TrailMarkers" "setBlock" cX1_setBlock (Option.some Jvm.ClassFile.FieldType.int) (tableOf [((15 : Nat), (57 : Nat), (60 : Nat), (58 : Nat))]) 6 12 325 Y) (E : YE K Y (QvI κ) χ) : ∀ (h : AH) (n : Nat) (z : Nat) (x4 : Option Nat), P_X1_setBlock_57 K o κ χ h n z x4 → G K Y h n z 57 [(0, vR (some o)), (4, vR x4)] [] := by
  intro h n z x4 hk
  refine r_goto X (pc := 57) (tgt := 70) dX1_setBlock_57 (by decide) ?_
  refine r_aload_n X (pc := 70) dX1_setBlock_70 rfl (q := 0) rfl ?_
  refine r_aload X (pc := 71) dX1_setBlock_71 (q := 1) rfl ?_
  obtain ⟨o33, fs34, e9, b35, hk⟩ := hk
  refine r_callV X (pc := 73) (As := [vR x4]) (st := []) rfl rfl e9 b35 m_X1_107 (fun _ => s_X1_become hk) ⟨by decide, by decide⟩ (Nat.le_of_ble_eq_true rfl) dX1_setBlock_73 (fun v9 h23 n24 z25 hq => ?_) (fun ci28 q29 h30 n31 z32 hf => ?_)
  · obtain ⟨rfl, hk⟩ := hq
    refine ⟨[], rfl, ?_⟩
    refine r_aload_n X (pc := 76) dX1_setBlock_76 rfl (q := 0) rfl ?_
    refine r_hGR X (pc := 77) fa_X1_14 dX1_setBlock_77 hk (fun y26 hk => ?_)
    refine r_hGI X (pc := 80) fa_X1_190_X2 dX1_setBlock_80 hk (fun y27 hk => ?_)
    exact r_iret X E (pc := 83) dX1_setBlock_83 rfl ⟨_, rfl, hk⟩
  · have hk := hf
    exact r_out X E (List.forall_mem_cons.mpr ⟨Or.inl (by decide), (fun _ h9 => nomatch h9)⟩) hk
set_option maxHeartbeats 4000000 in
theorem w_X1_setBlock {K : KT} {Y : YT} {o : Nat} {κ : Int → AH → Nat → Nat → Prop} {χ : QxT} (X : XY K "TrailMarkers" "setBlock" cX1_setBlock (Option.some Jvm.ClassFile.FieldType.int) (tableOf [((15 : Nat), (57 : Nat), (60 : Nat), (58 : Nat))]) 6 12 325 Y) (E : YE K Y (QvI κ) χ) {h : AH} {n : Nat} {z : Nat} {x1 : Int} {x2 : Int} {x3 : Int} (hk : P_X1_setBlock K o κ χ h n z x1 x2 x3) : G K Y h n z 0 (lv_argsA 0 [vR (some o), vI x1, vI x2, vI x3]) [] := by
  show G K Y h n z 0 [(0, vR (some o)), (1, vI x1), (2, vI x2), (3, vI x3)] []
  refine r_aload_n X (pc := 0) dX1_setBlock_0 rfl (q := 0) rfl ?_
  refine r_iload_n X (pc := 1) dX1_setBlock_1 rfl (q := 1) rfl ?_
  refine r_iload_n X (pc := 2) dX1_setBlock_2 rfl (q := 2) rfl ?_
  obtain ⟨o116, fs117, e9, b118, hk⟩ := hk
  refine r_callV X (pc := 3) (As := [vI x1, vI x2]) (st := []) rfl rfl e9 b118 m_X1_153 (fun _ => s_X1_needCell hk) ⟨by decide, by decide⟩ (Nat.le_of_ble_eq_true rfl) dX1_setBlock_3 (fun v9 h36 n37 z38 hq => ?_) (fun ci111 q112 h113 n114 z115 hf => ?_)
  · obtain ⟨rfl, hk⟩ := hq
    refine ⟨[], rfl, ?_⟩
    refine r_aload_n X (pc := 6) dX1_setBlock_6 rfl (q := 0) rfl ?_
    refine r_hGR X (pc := 7) fa_X1_14 dX1_setBlock_7 hk (fun y39 hk => ?_)
    obtain ⟨o108, fs109, e9, b110, hk⟩ := hk
    refine r_callV X (pc := 10) (As := []) (st := []) rfl rfl e9 b110 m_X1_125 (fun _ => s_X2_copy hk) ⟨by decide, by decide⟩ (Nat.le_of_ble_eq_true rfl) dX1_setBlock_10 (fun v9 h41 n42 z43 hq => ?_) (fun ci103 q104 h105 n106 z107 hf => ?_)
    · obtain ⟨r40, rfl, hk⟩ := hq
      refine ⟨[vR r40], rfl, ?_⟩
      refine r_astore X (pc := 13) (lv1 := [(4, vR r40), (0, vR (some o)), (1, vI x1), (2, vI x2), (3, vI x3)]) dX1_setBlock_13 (by decide) rfl ?_
      refine r_iload_n X (pc := 15) dX1_setBlock_15 rfl (q := 4) rfl ?_
      obtain ⟨b44, hk⟩ := hk
      refine r_if_eq X (pc := 16) (tgt := 29) dX1_setBlock_16 (by decide) b44 (fun c45 => ?_) (fun c45 => ?_)
      · have hk := hk.1 c45
        refine r_aload X (pc := 29) dX1_setBlock_29 (q := 0) rfl ?_
        refine r_iload_n X (pc := 31) dX1_setBlock_31 rfl (q := 2) rfl ?_
        refine r_iload_n X (pc := 32) dX1_setBlock_32 rfl (q := 3) rfl ?_
        obtain ⟨o87, fs88, e9, b89, hk⟩ := hk
        refine r_callV X (pc := 33) (As := [vI x1, vI x2]) (st := []) rfl rfl e9 b89 m_X1_183 (fun _ => s_X2_isBlock hk) ⟨by decide, by decide⟩ (Nat.le_of_ble_eq_true rfl) dX1_setBlock_33 (fun v9 h47 n48 z49 hq => ?_) (fun ci80 q81 h82 n83 z84 hf => ?_)
        · obtain ⟨r46, rfl, hk⟩ := hq
          refine ⟨[vI r46], rfl, ?_⟩
          obtain ⟨b50, hk⟩ := hk
          refine r_if_eq X (pc := 36) (tgt := 49) dX1_setBlock_36 (by decide) b50 (fun c51 => ?_) (fun c51 => ?_)
          · have hk := hk.1 c51
            refine r_hNew X (pc := 49) nw_X1_156 dX1_setBlock_49 hk (fun h52 hk => ?_)
            refine r_dup X (pc := 52) dX1_setBlock_52 rfl ?_
            refine r_callI X (pc := 53) (As := []) (st := [vR (some n48)]) m_X1_158 (fun _ => s_J17_init_2 hk) ⟨by decide, by decide⟩ (Nat.le_of_ble_eq_true rfl) dX1_setBlock_53 (fun v9 h53 n54 z55 hq => ?_) (fun ci60 q61 h62 n63 z64 hf => ?_)
            · obtain ⟨rfl, hk⟩ := hq
              refine ⟨[], rfl, ?_⟩
              refine r_hThrow X (pc := 56) dX1_setBlock_56 hk (fun ci56 q57 hk => ?_)
              by_cases c58 : ci56 = 3
              · replace hk := hk.1 c58
                subst c58
                refine r_catch X (pc := 56) [] ({ startPc := 15, endPc := 57, handlerPc := 60, catchType := 58 } : ExceptionTableEntry) [] rfl (fun _ h9 => nomatch h9) (by decide) (by decide) q201 co_3_TrailMarkers_PlaceException ?_
                refine G.sub [1] rfl ?_
                exact w_X1_setBlock_60 X E h53 n54 z55 (some q57) hk
              · replace hk := hk.2 c58
                obtain ⟨b59, hk⟩ := hk
                exact r_out X E (List.forall_mem_cons.mpr ⟨Or.inr ⟨by decide, "TrailMarkers$PlaceException", q201, cns_TrailMarkers_PlaceException_6_22_21_23 _ b59⟩, (fun _ h9 => nomatch h9)⟩) hk
            · have hk := hf
              by_cases c65 : ci60 = 3
              · replace hk := hk.1 c65
                subst c65
                refine r_catch X (pc := 53) [] ({ startPc := 15, endPc := 57, handlerPc := 60, catchType := 58 } : ExceptionTableEntry) [] rfl (fun _ h9 => nomatch h9) (by decide) (by decide) q201 co_3_TrailMarkers_PlaceException ?_
                refine G.sub [1] rfl ?_
                exact w_X1_setBlock_60 X E h62 n63 z64 (some q61) hk
              · replace hk := hk.2 c65
                obtain ⟨b66, hk⟩ := hk
                exact r_out X E (List.forall_mem_cons.mpr ⟨Or.inr ⟨by decide, "TrailMarkers$PlaceException", q201, cns_TrailMarkers_PlaceException_6_22_21_23 _ b66⟩, (fun _ h9 => nomatch h9)⟩) hk
          · have hk := hk.2 c51
            refine r_aload X (pc := 39) dX1_setBlock_39 (q := 0) rfl ?_
            refine r_iload_n X (pc := 41) dX1_setBlock_41 rfl (q := 2) rfl ?_
            refine r_iload_n X (pc := 42) dX1_setBlock_42 rfl (q := 3) rfl ?_
            obtain ⟨o77, fs78, e9, b79, hk⟩ := hk
            refine r_callV X (pc := 43) (As := [vI x1, vI x2]) (st := []) rfl rfl e9 b79 m_X1_187 (fun _ => s_X2_takeBlock hk) ⟨by decide, by decide⟩ (Nat.le_of_ble_eq_true rfl) dX1_setBlock_43 (fun v9 h67 n68 z69 hq => ?_) (fun ci70 q71 h72 n73 z74 hf => ?_)
            · obtain ⟨rfl, hk⟩ := hq
              refine ⟨[], rfl, ?_⟩
              refine r_goto X (pc := 46) (tgt := 57) dX1_setBlock_46 (by decide) ?_
              refine G.sub [1, 0] rfl ?_
              exact w_X1_setBlock_57 X E h67 n68 z69 r40 hk
            · have hk := hf
              by_cases c75 : ci70 = 3
              · replace hk := hk.1 c75
                subst c75
                refine r_catch X (pc := 43) [] ({ startPc := 15, endPc := 57, handlerPc := 60, catchType := 58 } : ExceptionTableEntry) [] rfl (fun _ h9 => nomatch h9) (by decide) (by decide) q201 co_3_TrailMarkers_PlaceException ?_
                refine G.sub [1] rfl ?_
                exact w_X1_setBlock_60 X E h72 n73 z74 (some q71) hk
              · replace hk := hk.2 c75
                obtain ⟨b76, hk⟩ := hk
                exact r_out X E (List.forall_mem_cons.mpr ⟨Or.inr ⟨by decide, "TrailMarkers$PlaceException", q201, cns_TrailMarkers_PlaceException_6_22_21_23 _ b76⟩, (fun _ h9 => nomatch h9)⟩) hk
        · have hk := hf
          by_cases c85 : ci80 = 3
          · replace hk := hk.1 c85
            subst c85
            refine r_catch X (pc := 33) [] ({ startPc := 15, endPc := 57, handlerPc := 60, catchType := 58 } : ExceptionTableEntry) [] rfl (fun _ h9 => nomatch h9) (by decide) (by decide) q201 co_3_TrailMarkers_PlaceException ?_
            refine G.sub [1] rfl ?_
            exact w_X1_setBlock_60 X E h82 n83 z84 (some q81) hk
          · replace hk := hk.2 c85
            obtain ⟨b86, hk⟩ := hk
            exact r_out X E (List.forall_mem_cons.mpr ⟨Or.inr ⟨by decide, "TrailMarkers$PlaceException", q201, cns_TrailMarkers_PlaceException_6_22_21_23 _ b86⟩, (fun _ h9 => nomatch h9)⟩) hk
      · have hk := hk.2 c45
        refine r_aload X (pc := 19) dX1_setBlock_19 (q := 0) rfl ?_
        refine r_iload_n X (pc := 21) dX1_setBlock_21 rfl (q := 2) rfl ?_
        refine r_iload_n X (pc := 22) dX1_setBlock_22 rfl (q := 3) rfl ?_
        obtain ⟨o100, fs101, e9, b102, hk⟩ := hk
        refine r_callV X (pc := 23) (As := [vI x1, vI x2]) (st := []) rfl rfl e9 b102 m_X1_54 (fun _ => s_X2_layBlock hk) ⟨by decide, by decide⟩ (Nat.le_of_ble_eq_true rfl) dX1_setBlock_23 (fun v9 h90 n91 z92 hq => ?_) (fun ci93 q94 h95 n96 z97 hf => ?_)
        · obtain ⟨rfl, hk⟩ := hq
          refine ⟨[], rfl, ?_⟩
          refine r_goto X (pc := 26) (tgt := 57) dX1_setBlock_26 (by decide) ?_
          refine G.sub [1, 0] rfl ?_
          exact w_X1_setBlock_57 X E h90 n91 z92 r40 hk
        · have hk := hf
          by_cases c98 : ci93 = 3
          · replace hk := hk.1 c98
            subst c98
            refine r_catch X (pc := 23) [] ({ startPc := 15, endPc := 57, handlerPc := 60, catchType := 58 } : ExceptionTableEntry) [] rfl (fun _ h9 => nomatch h9) (by decide) (by decide) q201 co_3_TrailMarkers_PlaceException ?_
            refine G.sub [1] rfl ?_
            exact w_X1_setBlock_60 X E h95 n96 z97 (some q94) hk
          · replace hk := hk.2 c98
            obtain ⟨b99, hk⟩ := hk
            exact r_out X E (List.forall_mem_cons.mpr ⟨Or.inr ⟨by decide, "TrailMarkers$PlaceException", q201, cns_TrailMarkers_PlaceException_6_22_21_23 _ b99⟩, (fun _ h9 => nomatch h9)⟩) hk
    · have hk := hf
      exact r_out X E (List.forall_mem_cons.mpr ⟨Or.inl (by decide), (fun _ h9 => nomatch h9)⟩) hk
  · have hk := hf
    exact r_out X E (List.forall_mem_cons.mpr ⟨Or.inl (by decide), (fun _ h9 => nomatch h9)⟩) hk
theorem s_X1_setBlock {K : KT} {l : Launch} {o : Nat} {κ : Int → AH → Nat → Nat → Prop} {χ : QxT} {h : AH} {n : Nat} {z : Nat} {x1 : Int} {x2 : Int} {x3 : Int} (hk : P_X1_setBlock K o κ χ h n z x1 x2 x3) : Ct K l yX1_setBlock (wsW_ yX1_setBlock cX1_setBlock 6 (Option.some Jvm.ClassFile.FieldType.int) [((15 : Nat), (57 : Nat), (60 : Nat), (58 : Nat))]) 12 325 ([vR (some o), vI x1, vI x2, vI x3].map cV) h n z (QvI κ) χ :=
  ct_ofH (by decide +kernel) (Nat.le_of_ble_eq_true rfl) (fun Y X E => w_X1_setBlock X E hk)
set_option maxHeartbeats 4000000 in
theorem w_X1_leastOf {K : KT} {Y : YT} {Qx : QxT} {h : AH} {n z : Nat} {κ : Int → Prop} (X : XY K "TrailMarkers" "leastOf" cX1_leastOf (Option.some Jvm.ClassFile.FieldType.int) [] 1 0 0 Y) (E : YE K Y (pQ h n z κ) Qx) {x0 : Int} (hk : P_X1_leastOf κ x0) : G K Y h n z 0 (lv_argsA 0 [vI x0]) [] := by
  show G K Y h n z 0 [(0, vI x0)] []
  refine r_iload_n X (pc := 0) dX1_leastOf_0 rfl (q := 0) rfl ?_
  obtain ⟨b3, hk⟩ := hk
  refine r_if_ne X (pc := 1) (tgt := 8) dX1_leastOf_1 (by decide) b3 (fun c4 => ?_) (fun c4 => ?_)
  · have hk := hk.2 c4
    refine r_iconst X (pc := 8) dX1_leastOf_8 ?_
    exact r_iret X E (pc := 9) dX1_leastOf_9 rfl ⟨_, rfl, rfl, rfl, rfl, hk⟩
  · have hk := hk.1 c4
    refine r_iconst X (pc := 4) dX1_leastOf_4 ?_
    refine r_goto X (pc := 5) (tgt := 9) dX1_leastOf_5 (by decide) ?_
    exact r_iret X E (pc := 9) dX1_leastOf_9 rfl ⟨_, rfl, rfl, rfl, rfl, hk⟩
theorem s_X1_leastOf {K : KT} {l : Launch} {n z : Nat} {h : AH} {κ : Int → Prop} {x0 : Int} (hk : P_X1_leastOf κ x0) : Ct K l yX1_leastOf (ws_ yX1_leastOf cX1_leastOf 1 (Option.some Jvm.ClassFile.FieldType.int)) 0 0 ([vI x0].map cV) h n z (pQ h n z κ) noX :=
  ct_of (by decide +kernel) (Nat.le_of_ble_eq_true rfl) (fun Y X E => w_X1_leastOf X E hk)
set_option maxHeartbeats 4000000 in
theorem w_X1_mostOf {K : KT} {Y : YT} {Qx : QxT} {h : AH} {n z : Nat} {κ : Int → Prop} (X : XY K "TrailMarkers" "mostOf" cX1_mostOf (Option.some Jvm.ClassFile.FieldType.int) [] 1 0 0 Y) (E : YE K Y (pQ h n z κ) Qx) {x0 : Int} (hk : P_X1_mostOf κ x0) : G K Y h n z 0 (lv_argsA 0 [vI x0]) [] := by
  show G K Y h n z 0 [(0, vI x0)] []
  refine r_iload_n X (pc := 0) dX1_mostOf_0 rfl (q := 0) rfl ?_
  obtain ⟨b3, hk⟩ := hk
  refine r_if_ne X (pc := 1) (tgt := 9) dX1_mostOf_1 (by decide) b3 (fun c4 => ?_) (fun c4 => ?_)
  · have hk := hk.2 c4
    refine r_iconst X (pc := 9) dX1_mostOf_9 ?_
    exact r_iret X E (pc := 10) dX1_mostOf_10 rfl ⟨_, rfl, rfl, rfl, rfl, hk⟩
  · have hk := hk.1 c4
    refine r_bipush X (pc := 4) dX1_mostOf_4 (by decide) ?_
    refine r_goto X (pc := 6) (tgt := 10) dX1_mostOf_6 (by decide) ?_
    exact r_iret X E (pc := 10) dX1_mostOf_10 rfl ⟨_, rfl, rfl, rfl, rfl, hk⟩
theorem s_X1_mostOf {K : KT} {l : Launch} {n z : Nat} {h : AH} {κ : Int → Prop} {x0 : Int} (hk : P_X1_mostOf κ x0) : Ct K l yX1_mostOf (ws_ yX1_mostOf cX1_mostOf 1 (Option.some Jvm.ClassFile.FieldType.int)) 0 0 ([vI x0].map cV) h n z (pQ h n z κ) noX :=
  ct_of (by decide +kernel) (Nat.le_of_ble_eq_true rfl) (fun Y X E => w_X1_mostOf X E hk)
set_option maxHeartbeats 4000000 in
theorem w_X1_set {K : KT} {Y : YT} {o : Nat} {κ : Int → AH → Nat → Nat → Prop} {χ : QxT} (X : XY K "TrailMarkers" "set" cX1_set (Option.some Jvm.ClassFile.FieldType.int) [] 4 11 303 Y) (E : YE K Y (QvI κ) χ) {h : AH} {n : Nat} {z : Nat} {x1 : Int} {x2 : Int} (hk : P_X1_set K o κ χ h n z x1 x2) : G K Y h n z 0 (lv_argsA 0 [vR (some o), vI x1, vI x2]) [] := by
  show G K Y h n z 0 [(0, vR (some o)), (1, vI x1), (2, vI x2)] []
  refine r_aload_n X (pc := 0) dX1_set_0 rfl (q := 0) rfl ?_
  refine r_iload_n X (pc := 1) dX1_set_1 rfl (q := 1) rfl ?_
  refine r_iconst X (pc := 2) dX1_set_2 ?_
  refine r_iconst X (pc := 3) dX1_set_3 ?_
  obtain ⟨o62, fs63, e9, b64, hk⟩ := hk
  refine r_callV X (pc := 4) (As := [vI x1, vI 0, vI 1]) (st := []) rfl rfl e9 b64 m_X1_88 (fun _ => s_X1_need hk) ⟨by decide, by decide⟩ (Nat.le_of_ble_eq_true rfl) dX1_set_4 (fun v9 h11 n12 z13 hq => ?_) (fun ci57 q58 h59 n60 z61 hf => ?_)
  · obtain ⟨rfl, hk⟩ := hq
    refine ⟨[], rfl, ?_⟩
    refine r_aload_n X (pc := 7) dX1_set_7 rfl (q := 0) rfl ?_
    refine r_iload_n X (pc := 8) dX1_set_8 rfl (q := 2) rfl ?_
    refine r_iload_n X (pc := 9) dX1_set_9 rfl (q := 1) rfl ?_
    refine r_callS X (pc := 10) (As := [vI x1]) (st := [vI x2, vR (some o)]) m_X1_193 (fun _ => s_X1_leastOf hk) ⟨by decide, by decide⟩ (Nat.le_of_ble_eq_true rfl) dX1_set_10 (fun v9 h9 n9 z9 hq => ?_) (fun ci9 q9 h9 n9 z9 hf => ?_)
    · obtain ⟨r14, rfl, rfl, rfl, rfl, hk⟩ := hq
      refine ⟨[vI r14], rfl, ?_⟩
      refine r_iload_n X (pc := 13) dX1_set_13 rfl (q := 1) rfl ?_
      refine r_callS X (pc := 14) (As := [vI x1]) (st := [vI r14, vI x2, vR (some o)]) m_X1_196 (fun _ => s_X1_mostOf hk) ⟨by decide, by decide⟩ (Nat.le_of_ble_eq_true rfl) dX1_set_14 (fun v9 h9 n9 z9 hq => ?_) (fun ci9 q9 h9 n9 z9 hf => ?_)
      · obtain ⟨r15, rfl, rfl, rfl, rfl, hk⟩ := hq
        refine ⟨[vI r15], rfl, ?_⟩
        obtain ⟨o54, fs55, e9, b56, hk⟩ := hk
        refine r_callV X (pc := 17) (As := [vI x2, vI r14, vI r15]) (st := []) rfl rfl e9 b56 m_X1_88 (fun _ => s_X1_need hk) ⟨by decide, by decide⟩ (Nat.le_of_ble_eq_true rfl) dX1_set_17 (fun v9 h16 n17 z18 hq => ?_) (fun ci49 q50 h51 n52 z53 hf => ?_)
        · obtain ⟨rfl, hk⟩ := hq
          refine ⟨[], rfl, ?_⟩
          refine r_aload_n X (pc := 20) dX1_set_20 rfl (q := 0) rfl ?_
          refine r_aload_n X (pc := 21) dX1_set_21 rfl (q := 0) rfl ?_
          refine r_hGR X (pc := 22) fa_X1_14 dX1_set_22 hk (fun y19 hk => ?_)
          obtain ⟨o46, fs47, e9, b48, hk⟩ := hk
          refine r_callV X (pc := 25) (As := []) (st := [vR (some o)]) rfl rfl e9 b48 m_X1_125 (fun _ => s_X2_copy hk) ⟨by decide, by decide⟩ (Nat.le_of_ble_eq_true rfl) dX1_set_25 (fun v9 h21 n22 z23 hq => ?_) (fun ci41 q42 h43 n44 z45 hf => ?_)
          · obtain ⟨r20, rfl, hk⟩ := hq
            refine ⟨[vR r20], rfl, ?_⟩
            obtain ⟨o38, fs39, e9, b40, hk⟩ := hk
            refine r_callV X (pc := 28) (As := [vR r20]) (st := []) rfl rfl e9 b40 m_X1_107 (fun _ => s_X1_become hk) ⟨by decide, by decide⟩ (Nat.le_of_ble_eq_true rfl) dX1_set_28 (fun v9 h24 n25 z26 hq => ?_) (fun ci33 q34 h35 n36 z37 hf => ?_)
            · obtain ⟨rfl, hk⟩ := hq
              refine ⟨[], rfl, ?_⟩
              refine r_aload_n X (pc := 31) dX1_set_31 rfl (q := 0) rfl ?_
              refine r_hGR X (pc := 32) fa_X1_14 dX1_set_32 hk (fun y27 hk => ?_)
              refine r_hGR X (pc := 35) fa_X1_199_X2 dX1_set_35 hk (fun y28 hk => ?_)
              refine r_iload_n X (pc := 38) dX1_set_38 rfl (q := 1) rfl ?_
              refine r_hAI X (pc := 39) dX1_set_39 hk (fun y29 hk => ?_)
              refine r_istore_n X (pc := 40) (lv1 := [(3, vI y29), (0, vR (some o)), (1, vI x1), (2, vI x2)]) dX1_set_40 rfl (by decide) rfl ?_
              refine r_aload_n X (pc := 41) dX1_set_41 rfl (q := 1) rfl ?_
              refine r_hGR X (pc := 42) fa_X1_14 dX1_set_42 hk (fun y30 hk => ?_)
              refine r_hGR X (pc := 45) fa_X1_199_X2 dX1_set_45 hk (fun y31 hk => ?_)
              refine r_iload_n X (pc := 48) dX1_set_48 rfl (q := 2) rfl ?_
              refine r_iload_n X (pc := 49) dX1_set_49 rfl (q := 3) rfl ?_
              refine r_hSI X (pc := 50) dX1_set_50 hk (fun h32 hk => ?_)
              refine r_iload_n X (pc := 51) dX1_set_51 rfl (q := 0) rfl ?_
              exact r_iret X E (pc := 52) dX1_set_52 rfl ⟨_, rfl, hk⟩
            · have hk := hf
              exact r_out X E (fun _ h9 => nomatch h9) hk
          · have hk := hf
            exact r_out X E (fun _ h9 => nomatch h9) hk
        · have hk := hf
          exact r_out X E (fun _ h9 => nomatch h9) hk
      · exact hf.elim
    · exact hf.elim
  · have hk := hf
    exact r_out X E (fun _ h9 => nomatch h9) hk
theorem s_X1_set {K : KT} {l : Launch} {o : Nat} {κ : Int → AH → Nat → Nat → Prop} {χ : QxT} {h : AH} {n : Nat} {z : Nat} {x1 : Int} {x2 : Int} (hk : P_X1_set K o κ χ h n z x1 x2) : Ct K l yX1_set (ws_ yX1_set cX1_set 4 (Option.some Jvm.ClassFile.FieldType.int)) 11 303 ([vR (some o), vI x1, vI x2].map cV) h n z (QvI κ) χ :=
  ct_of (by decide +kernel) (Nat.le_of_ble_eq_true rfl) (fun Y X E => w_X1_set X E hk)
set_option maxHeartbeats 4000000 in
theorem w_X1_undo {K : KT} {Y : YT} {o : Nat} {κ : Int → AH → Nat → Nat → Prop} {χ : QxT} (X : XY K "TrailMarkers" "undo" cX1_undo (Option.some Jvm.ClassFile.FieldType.int) [] 1 10 280 Y) (E : YE K Y (QvI κ) χ) {h : AH} {n : Nat} {z : Nat} (hk : P_X1_undo K o κ χ h n z) : G K Y h n z 0 (lv_argsA 0 [vR (some o)]) [] := by
  show G K Y h n z 0 [(0, vR (some o))] []
  refine r_aload_n X (pc := 0) dX1_undo_0 rfl (q := 0) rfl ?_
  refine r_hGR X (pc := 1) fa_X1_38 dX1_undo_1 hk (fun y11 hk => ?_)
  obtain ⟨o61, fs62, e9, b63, hk⟩ := hk
  refine r_callV X (pc := 4) (As := []) (st := []) rfl rfl e9 b63 m_X1_203 (fun _ => s_J1_isEmpty hk) ⟨by decide, by decide⟩ (Nat.le_of_ble_eq_true rfl) dX1_undo_4 (fun v9 h13 n14 z15 hq => ?_) (fun ci56 q57 h58 n59 z60 hf => ?_)
  · obtain ⟨r12, rfl, hk⟩ := hq
    refine ⟨[vI r12], rfl, ?_⟩
    obtain ⟨b16, hk⟩ := hk
    refine r_if_eq X (pc := 7) (tgt := 18) dX1_undo_7 (by decide) b16 (fun c17 => ?_) (fun c17 => ?_)
    · have hk := hk.1 c17
      refine r_aload_n X (pc := 18) dX1_undo_18 rfl (q := 0) rfl ?_
      refine r_aload_n X (pc := 19) dX1_undo_19 rfl (q := 0) rfl ?_
      refine r_hGR X (pc := 20) fa_X1_38 dX1_undo_20 hk (fun y18 hk => ?_)
      obtain ⟨o42, fs43, e9, b44, hk⟩ := hk
      refine r_callV X (pc := 23) (As := []) (st := [vR (some o)]) rfl rfl e9 b44 m_X1_207 (fun _ => s_J1_removeLast hk) ⟨by decide, by decide⟩ (Nat.le_of_ble_eq_true rfl) dX1_undo_23 (fun v9 h20 n21 z22 hq => ?_) (fun ci37 q38 h39 n40 z41 hf => ?_)
      · obtain ⟨r19, rfl, hk⟩ := hq
        refine ⟨[vR r19], rfl, ?_⟩
        refine r_hCast X (pc := 26) q205 cos_TrailMarkers_Trails_1 dX1_undo_26 hk (fun hk => ?_)
        refine r_hPut X (pc := 29) fp_X1_14 (fit_ref r19).1 (fit_ref r19).2 dX1_undo_29 hk (fun h23 hk => ?_)
        refine r_aload_n X (pc := 32) dX1_undo_32 rfl (q := 0) rfl ?_
        refine r_hGR X (pc := 33) fa_X1_38 dX1_undo_33 hk (fun y24 hk => ?_)
        obtain ⟨o34, fs35, e9, b36, hk⟩ := hk
        refine r_callV X (pc := 36) (As := []) (st := []) rfl rfl e9 b36 m_X1_69 (fun _ => s_J1_size hk) ⟨by decide, by decide⟩ (Nat.le_of_ble_eq_true rfl) dX1_undo_36 (fun v9 h26 n27 z28 hq => ?_) (fun ci29 q30 h31 n32 z33 hf => ?_)
        · obtain ⟨r25, rfl, hk⟩ := hq
          refine ⟨[vI r25], rfl, ?_⟩
          exact r_iret X E (pc := 39) dX1_undo_39 rfl ⟨_, rfl, hk⟩
        · have hk := hf
          exact r_out X E (fun _ h9 => nomatch h9) hk
      · have hk := hf
        exact r_out X E (fun _ h9 => nomatch h9) hk
    · have hk := hk.2 c17
      refine r_hNew X (pc := 10) nw_X1_156 dX1_undo_10 hk (fun h45 hk => ?_)
      refine r_dup X (pc := 13) dX1_undo_13 rfl ?_
      refine r_callI X (pc := 14) (As := []) (st := [vR (some n14)]) m_X1_158 (fun _ => s_J17_init_2 hk) ⟨by decide, by decide⟩ (Nat.le_of_ble_eq_true rfl) dX1_undo_14 (fun v9 h46 n47 z48 hq => ?_) (fun ci51 q52 h53 n54 z55 hf => ?_)
      · obtain ⟨rfl, hk⟩ := hq
        refine ⟨[], rfl, ?_⟩
        refine r_hThrow X (pc := 17) dX1_undo_17 hk (fun ci49 q50 hk => ?_)
        exact r_out X E (fun _ h9 => nomatch h9) hk
      · have hk := hf
        exact r_out X E (fun _ h9 => nomatch h9) hk
  · have hk := hf
    exact r_out X E (fun _ h9 => nomatch h9) hk
theorem s_X1_undo {K : KT} {l : Launch} {o : Nat} {κ : Int → AH → Nat → Nat → Prop} {χ : QxT} {h : AH} {n : Nat} {z : Nat} (hk : P_X1_undo K o κ χ h n z) : Ct K l yX1_undo (ws_ yX1_undo cX1_undo 1 (Option.some Jvm.ClassFile.FieldType.int)) 10 280 ([vR (some o)].map cV) h n z (QvI κ) χ :=
  ct_of (by decide +kernel) (Nat.le_of_ble_eq_true rfl) (fun Y X E => w_X1_undo X E hk)
set_option maxHeartbeats 4000000 in
theorem w_X1_save {K : KT} {Y : YT} {o : Nat} {κ : Int → AH → Nat → Nat → Prop} {χ : QxT} (X : XY K "TrailMarkers" "save" cX1_save (Option.some Jvm.ClassFile.FieldType.int) [] 2 11 303 Y) (E : YE K Y (QvI κ) χ) {h : AH} {n : Nat} {z : Nat} {x1 : Int} (hk : P_X1_save K o κ χ h n z x1) : G K Y h n z 0 (lv_argsA 0 [vR (some o), vI x1]) [] := by
  show G K Y h n z 0 [(0, vR (some o)), (1, vI x1)] []
  refine r_aload_n X (pc := 0) dX1_save_0 rfl (q := 0) rfl ?_
  refine r_iload_n X (pc := 1) dX1_save_1 rfl (q := 1) rfl ?_
  refine r_iconst X (pc := 2) dX1_save_2 ?_
  refine r_iconst X (pc := 3) dX1_save_3 ?_
  obtain ⟨o32, fs33, e9, b34, hk⟩ := hk
  refine r_callV X (pc := 4) (As := [vI x1, vI 0, vI 1]) (st := []) rfl rfl e9 b34 m_X1_88 (fun _ => s_X1_need hk) ⟨by decide, by decide⟩ (Nat.le_of_ble_eq_true rfl) dX1_save_4 (fun v9 h7 n8 z9 hq => ?_) (fun ci27 q28 h29 n30 z31 hf => ?_)
  · obtain ⟨rfl, hk⟩ := hq
    refine ⟨[], rfl, ?_⟩
    refine r_aload_n X (pc := 7) dX1_save_7 rfl (q := 0) rfl ?_
    refine r_hGR X (pc := 8) fa_X1_42 dX1_save_8 hk (fun y10 hk => ?_)
    refine r_iload_n X (pc := 11) dX1_save_11 rfl (q := 1) rfl ?_
    refine r_aload_n X (pc := 12) dX1_save_12 rfl (q := 0) rfl ?_
    refine r_hGR X (pc := 13) fa_X1_14 dX1_save_13 hk (fun y11 hk => ?_)
    obtain ⟨o24, fs25, e9, b26, hk⟩ := hk
    refine r_callV X (pc := 16) (As := []) (st := [vI x1, vR y10]) rfl rfl e9 b26 m_X1_125 (fun _ => s_X2_copy hk) ⟨by decide, by decide⟩ (Nat.le_of_ble_eq_true rfl) dX1_save_16 (fun v9 h13 n14 z15 hq => ?_) (fun ci19 q20 h21 n22 z23 hf => ?_)
    · obtain ⟨r12, rfl, hk⟩ := hq
      refine ⟨[vR r12], rfl, ?_⟩
      refine r_hSR X (pc := 19) (t := 6) rfl cos_TrailMarkers_Trails_1 dX1_save_19 hk (fun h16 hk => ?_)
      refine r_aload_n X (pc := 20) dX1_save_20 rfl (q := 0) rfl ?_
      refine r_hGR X (pc := 21) fa_X1_14 dX1_save_21 hk (fun y17 hk => ?_)
      refine r_hGI X (pc := 24) fa_X1_111_X2 dX1_save_24 hk (fun y18 hk => ?_)
      exact r_iret X E (pc := 27) dX1_save_27 rfl ⟨_, rfl, hk⟩
    · have hk := hf
      exact r_out X E (fun _ h9 => nomatch h9) hk
  · have hk := hf
    exact r_out X E (fun _ h9 => nomatch h9) hk
theorem s_X1_save {K : KT} {l : Launch} {o : Nat} {κ : Int → AH → Nat → Nat → Prop} {χ : QxT} {h : AH} {n : Nat} {z : Nat} {x1 : Int} (hk : P_X1_save K o κ χ h n z x1) : Ct K l yX1_save (ws_ yX1_save cX1_save 2 (Option.some Jvm.ClassFile.FieldType.int)) 11 303 ([vR (some o), vI x1].map cV) h n z (QvI κ) χ :=
  ct_of (by decide +kernel) (Nat.le_of_ble_eq_true rfl) (fun Y X E => w_X1_save X E hk)
set_option maxHeartbeats 4000000 in
theorem w_X1_restore {K : KT} {Y : YT} {o : Nat} {κ : Int → AH → Nat → Nat → Prop} {χ : QxT} (X : XY K "TrailMarkers" "restore" cX1_restore (Option.some Jvm.ClassFile.FieldType.int) [] 2 11 303 Y) (E : YE K Y (QvI κ) χ) {h : AH} {n : Nat} {z : Nat} {x1 : Int} (hk : P_X1_restore K o κ χ h n z x1) : G K Y h n z 0 (lv_argsA 0 [vR (some o), vI x1]) [] := by
  show G K Y h n z 0 [(0, vR (some o)), (1, vI x1)] []
  refine r_aload_n X (pc := 0) dX1_restore_0 rfl (q := 0) rfl ?_
  refine r_iload_n X (pc := 1) dX1_restore_1 rfl (q := 1) rfl ?_
  refine r_iconst X (pc := 2) dX1_restore_2 ?_
  refine r_iconst X (pc := 3) dX1_restore_3 ?_
  obtain ⟨o59, fs60, e9, b61, hk⟩ := hk
  refine r_callV X (pc := 4) (As := [vI x1, vI 0, vI 1]) (st := []) rfl rfl e9 b61 m_X1_88 (fun _ => s_X1_need hk) ⟨by decide, by decide⟩ (Nat.le_of_ble_eq_true rfl) dX1_restore_4 (fun v9 h10 n11 z12 hq => ?_) (fun ci54 q55 h56 n57 z58 hf => ?_)
  · obtain ⟨rfl, hk⟩ := hq
    refine ⟨[], rfl, ?_⟩
    refine r_aload_n X (pc := 7) dX1_restore_7 rfl (q := 0) rfl ?_
    refine r_hGR X (pc := 8) fa_X1_42 dX1_restore_8 hk (fun y13 hk => ?_)
    refine r_iload_n X (pc := 11) dX1_restore_11 rfl (q := 1) rfl ?_
    refine r_hAR X (pc := 12) (t := 6) rfl dX1_restore_12 hk (fun y14 hk => ?_)
    refine r_ifnonnull X (pc := 13) (tgt := 24) dX1_restore_13 (by decide) (fun c15 => ?_) (fun c15 => ?_)
    · have hk := hk.2 c15
      refine r_aload_n X (pc := 24) dX1_restore_24 rfl (q := 0) rfl ?_
      refine r_aload_n X (pc := 25) dX1_restore_25 rfl (q := 0) rfl ?_
      refine r_hGR X (pc := 26) fa_X1_42 dX1_restore_26 hk (fun y16 hk => ?_)
      refine r_iload_n X (pc := 29) dX1_restore_29 rfl (q := 1) rfl ?_
      refine r_hAR X (pc := 30) (t := 6) rfl dX1_restore_30 hk (fun y17 hk => ?_)
      obtain ⟨o40, fs41, e9, b42, hk⟩ := hk
      refine r_callV X (pc := 31) (As := []) (st := [vR (some o)]) rfl rfl e9 b42 m_X1_125 (fun _ => s_X2_copy hk) ⟨by decide, by decide⟩ (Nat.le_of_ble_eq_true rfl) dX1_restore_31 (fun v9 h19 n20 z21 hq => ?_) (fun ci35 q36 h37 n38 z39 hf => ?_)
      · obtain ⟨r18, rfl, hk⟩ := hq
        refine ⟨[vR r18], rfl, ?_⟩
        obtain ⟨o32, fs33, e9, b34, hk⟩ := hk
        refine r_callV X (pc := 34) (As := [vR r18]) (st := []) rfl rfl e9 b34 m_X1_107 (fun _ => s_X1_become hk) ⟨by decide, by decide⟩ (Nat.le_of_ble_eq_true rfl) dX1_restore_34 (fun v9 h22 n23 z24 hq => ?_) (fun ci27 q28 h29 n30 z31 hf => ?_)
        · obtain ⟨rfl, hk⟩ := hq
          refine ⟨[], rfl, ?_⟩
          refine r_aload_n X (pc := 37) dX1_restore_37 rfl (q := 0) rfl ?_
          refine r_hGR X (pc := 38) fa_X1_14 dX1_restore_38 hk (fun y25 hk => ?_)
          refine r_hGI X (pc := 41) fa_X1_111_X2 dX1_restore_41 hk (fun y26 hk => ?_)
          exact r_iret X E (pc := 44) dX1_restore_44 rfl ⟨_, rfl, hk⟩
        · have hk := hf
          exact r_out X E (fun _ h9 => nomatch h9) hk
      · have hk := hf
        exact r_out X E (fun _ h9 => nomatch h9) hk
    · have hk := hk.1 c15
      refine r_hNew X (pc := 16) nw_X1_156 dX1_restore_16 hk (fun h43 hk => ?_)
      refine r_dup X (pc := 19) dX1_restore_19 rfl ?_
      refine r_callI X (pc := 20) (As := []) (st := [vR (some n11)]) m_X1_158 (fun _ => s_J17_init_2 hk) ⟨by decide, by decide⟩ (Nat.le_of_ble_eq_true rfl) dX1_restore_20 (fun v9 h44 n45 z46 hq => ?_) (fun ci49 q50 h51 n52 z53 hf => ?_)
      · obtain ⟨rfl, hk⟩ := hq
        refine ⟨[], rfl, ?_⟩
        refine r_hThrow X (pc := 23) dX1_restore_23 hk (fun ci47 q48 hk => ?_)
        exact r_out X E (fun _ h9 => nomatch h9) hk
      · have hk := hf
        exact r_out X E (fun _ h9 => nomatch h9) hk
  · have hk := hf
    exact r_out X E (fun _ h9 => nomatch h9) hk
theorem s_X1_restore {K : KT} {l : Launch} {o : Nat} {κ : Int → AH → Nat → Nat → Prop} {χ : QxT} {h : AH} {n : Nat} {z : Nat} {x1 : Int} (hk : P_X1_restore K o κ χ h n z x1) : Ct K l yX1_restore (ws_ yX1_restore cX1_restore 2 (Option.some Jvm.ClassFile.FieldType.int)) 11 303 ([vR (some o), vI x1].map cV) h n z (QvI κ) χ :=
  ct_of (by decide +kernel) (Nat.le_of_ble_eq_true rfl) (fun Y X E => w_X1_restore X E hk)
set_option maxHeartbeats 4000000 in
theorem w_X1_completeColours_16 {K : KT} {Y : YT} {o : Nat} {κ : Int → AH → Nat → Nat → Prop} {χ : QxT} (X : XY K "TrailMarkers" "completeColours" cX1_completeColours (Option.some Jvm.ClassFile.FieldType.int) [] 4 9 254 Y) (E : YE K Y (QvI κ) χ) {k_38 : AH → Nat → Nat → Int → Prop} (H_38 : ∀ (h : AH) (n : Nat) (z : Nat) (x2 : Int), k_38 h n z x2 → G K Y h n z 38 [(0, vR (some o)), (2, vI x2)] []) : ∀ (f : Nat) (h : AH) (n : Nat) (z : Nat) (x1 : Option Nat) (x2 : Int) (x3 : Int), L_X1_completeColours_16 K o k_38 κ χ f h n z x1 x2 x3 → G K Y h n z 16 [(0, vR (some o)), (1, vR x1), (2, vI x2), (3, vI x3)] [] := by
  intro f
  induction f with
  | zero => intro h n z x1 x2 x3 hk; exact hk.elim
  | succ f ih =>
    intro h n z x1 x2 x3 hk
    refine r_iload_n X (pc := 16) dX1_completeColours_16 rfl (q := 3) rfl ?_
    refine r_iconst X (pc := 17) dX1_completeColours_17 ?_
    obtain ⟨b8, hk⟩ := hk
    refine r_icmp_ge X (pc := 18) (tgt := 38) dX1_completeColours_18 (by decide) ⟨b8, (by decide)⟩ (fun c9 => ?_) (fun c9 => ?_)
    · have hk := hk.2 c9
      refine G.sub [0, 2] rfl ?_
      exact H_38 h n z x2 hk
    · have hk := hk.1 c9
      refine r_aload_n X (pc := 21) dX1_completeColours_21 rfl (q := 1) rfl ?_
      refine r_iload_n X (pc := 22) dX1_completeColours_22 rfl (q := 3) rfl ?_
      obtain ⟨o21, fs22, e9, b23, hk⟩ := hk
      refine r_callV X (pc := 23) (As := [vI x3]) (st := []) rfl rfl e9 b23 m_X1_220 (fun _ => s_X8_isComplete hk) ⟨by decide, by decide⟩ (Nat.le_of_ble_eq_true rfl) dX1_completeColours_23 (fun v9 h11 n12 z13 hq => ?_) (fun ci16 q17 h18 n19 z20 hf => ?_)
      · obtain ⟨r10, rfl, hk⟩ := hq
        refine ⟨[vI r10], rfl, ?_⟩
        obtain ⟨b14, hk⟩ := hk
        refine r_if_eq X (pc := 26) (tgt := 32) dX1_completeColours_26 (by decide) b14 (fun c15 => ?_) (fun c15 => ?_)
        · have hk := hk.1 c15
          refine r_iinc X (pc := 32) (q := 3) (lv1 := [(3, vI (x3 + 1)), (0, vR (some o)), (1, vR x1), (2, vI x2)]) dX1_completeColours_32 rfl (by decide) rfl ?_
          refine r_goto X (pc := 35) (tgt := 16) dX1_completeColours_35 (by decide) ?_
          refine G.sub [1, 2, 3, 0] rfl ?_
          exact ih h11 n12 z13 x1 x2 (x3 + 1) hk
        · have hk := hk.2 c15
          refine r_iinc X (pc := 29) (q := 2) (lv1 := [(2, vI (x2 + 1)), (0, vR (some o)), (1, vR x1), (3, vI x3)]) dX1_completeColours_29 rfl (by decide) rfl ?_
          refine r_iinc X (pc := 32) (q := 3) (lv1 := [(3, vI (x3 + 1)), (2, vI (x2 + 1)), (0, vR (some o)), (1, vR x1)]) dX1_completeColours_32 rfl (by decide) rfl ?_
          refine r_goto X (pc := 35) (tgt := 16) dX1_completeColours_35 (by decide) ?_
          refine G.sub [2, 3, 1, 0] rfl ?_
          exact ih h11 n12 z13 x1 (x2 + 1) (x3 + 1) hk
      · have hk := hf
        exact r_out X E (fun _ h9 => nomatch h9) hk
set_option maxHeartbeats 4000000 in
theorem w_X1_completeColours_38 {K : KT} {Y : YT} {o : Nat} {κ : Int → AH → Nat → Nat → Prop} {χ : QxT} (X : XY K "TrailMarkers" "completeColours" cX1_completeColours (Option.some Jvm.ClassFile.FieldType.int) [] 4 9 254 Y) (E : YE K Y (QvI κ) χ) : ∀ (h : AH) (n : Nat) (z : Nat) (x2 : Int), P_X1_completeColours_38 K o κ χ h n z x2 → G K Y h n z 38 [(0, vR (some o)), (2, vI x2)] [] := by
  intro h n z x2 hk
  refine r_iload_n X (pc := 38) dX1_completeColours_38 rfl (q := 1) rfl ?_
  exact r_iret X E (pc := 39) dX1_completeColours_39 rfl ⟨_, rfl, hk⟩
set_option maxHeartbeats 4000000 in
theorem w_X1_completeColours {K : KT} {Y : YT} {o : Nat} {κ : Int → AH → Nat → Nat → Prop} {χ : QxT} (X : XY K "TrailMarkers" "completeColours" cX1_completeColours (Option.some Jvm.ClassFile.FieldType.int) [] 4 9 254 Y) (E : YE K Y (QvI κ) χ) {h : AH} {n : Nat} {z : Nat} (hk : P_X1_completeColours K o κ χ h n z) : G K Y h n z 0 (lv_argsA 0 [vR (some o)]) [] := by
  show G K Y h n z 0 [(0, vR (some o))] []
  refine r_hNew X (pc := 0) nw_X1_216 dX1_completeColours_0 hk (fun h24 hk => ?_)
  refine r_dup X (pc := 3) dX1_completeColours_3 rfl ?_
  refine r_aload_n X (pc := 4) dX1_completeColours_4 rfl (q := 0) rfl ?_
  refine r_hGR X (pc := 5) fa_X1_14 dX1_completeColours_5 hk (fun y25 hk => ?_)
  refine r_callI X (pc := 8) (As := [vR y25]) (st := [vR (some n)]) m_X1_218 (fun _ => s_X8_init hk) ⟨by decide, by decide⟩ (Nat.le_of_ble_eq_true rfl) dX1_completeColours_8 (fun v9 h26 n27 z28 hq => ?_) (fun ci30 q31 h32 n33 z34 hf => ?_)
  · obtain ⟨rfl, hk⟩ := hq
    refine ⟨[], rfl, ?_⟩
    refine r_astore_n X (pc := 11) (lv1 := [(1, vR (some n)), (0, vR (some o))]) dX1_completeColours_11 rfl (by decide) rfl ?_
    refine r_iconst X (pc := 12) dX1_completeColours_12 ?_
    refine r_istore_n X (pc := 13) (lv1 := [(2, vI 0), (1, vR (some n)), (0, vR (some o))]) dX1_completeColours_13 rfl (by decide) rfl ?_
    refine r_iconst X (pc := 14) dX1_completeColours_14 ?_
    refine r_istore_n X (pc := 15) (lv1 := [(3, vI 0), (2, vI 0), (1, vR (some n)), (0, vR (some o))]) dX1_completeColours_15 rfl (by decide) rfl ?_
    refine G.sub [3, 2, 1, 0] rfl ?_
    have HH29 : ∀ (h : AH) (n : Nat) (z : Nat) (x2 : Int), (P_X1_completeColours_38 K o κ χ h n z x2) → G K Y h n z 38 [(0, vR (some o)), (2, vI x2)] [] := by
        intro h n z x2 hk
        exact w_X1_completeColours_38 X E h n z x2 hk
    obtain ⟨f9, hk⟩ := hk
    exact w_X1_completeColours_16 X E HH29 f9 h26 n27 z28 (some n) 0 0 hk
  · have hk := hf
    exact r_out X E (fun _ h9 => nomatch h9) hk
theorem s_X1_completeColours {K : KT} {l : Launch} {o : Nat} {κ : Int → AH → Nat → Nat → Prop} {χ : QxT} {h : AH} {n : Nat} {z : Nat} (hk : P_X1_completeColours K o κ χ h n z) : Ct K l yX1_completeColours (ws_ yX1_completeColours cX1_completeColours 4 (Option.some Jvm.ClassFile.FieldType.int)) 9 254 ([vR (some o)].map cV) h n z (QvI κ) χ :=
  ct_of (by decide +kernel) (Nat.le_of_ble_eq_true rfl) (fun Y X E => w_X1_completeColours X E hk)
set_option maxHeartbeats 4000000 in
theorem w_X1_count {K : KT} {Y : YT} {o : Nat} {κ : Int → AH → Nat → Nat → Prop} {χ : QxT} (X : XY K "TrailMarkers" "count" cX1_count (Option.some Jvm.ClassFile.FieldType.int) [] 2 11 303 Y) (E : YE K Y (QvI κ) χ) {h : AH} {n : Nat} {z : Nat} {x1 : Int} (hk : P_X1_count K o κ χ h n z x1) : G K Y h n z 0 (lv_argsA 0 [vR (some o), vI x1]) [] := by
  show G K Y h n z 0 [(0, vR (some o)), (1, vI x1)] []
  refine r_aload_n X (pc := 0) dX1_count_0 rfl (q := 0) rfl ?_
  refine r_iload_n X (pc := 1) dX1_count_1 rfl (q := 1) rfl ?_
  refine r_iconst X (pc := 2) dX1_count_2 ?_
  refine r_bipush X (pc := 3) dX1_count_3 (by decide) ?_
  obtain ⟨o90, fs91, e9, b92, hk⟩ := hk
  refine r_callV X (pc := 5) (As := [vI x1, vI 0, vI 9]) (st := []) rfl rfl e9 b92 m_X1_88 (fun _ => s_X1_need hk) ⟨by decide, by decide⟩ (Nat.le_of_ble_eq_true rfl) dX1_count_5 (fun v9 h20 n21 z22 hq => ?_) (fun ci85 q86 h87 n88 z89 hf => ?_)
  · obtain ⟨rfl, hk⟩ := hq
    refine ⟨[], rfl, ?_⟩
    refine r_iload_n X (pc := 8) dX1_count_8 rfl (q := 1) rfl ?_
    obtain ⟨b23, hk⟩ := hk
    by_cases c25 : x1 = 0
    · have hk := hk.1 c25
      refine r_tswIn X (pc := 9) (j := 0) (tgt := 60) dX1_count_9 b23 (by omega) (by decide) rfl (by decide) ?_
      refine r_aload_n X (pc := 60) dX1_count_60 rfl (q := 0) rfl ?_
      refine r_hGR X (pc := 61) fa_X1_14 dX1_count_61 hk (fun y26 hk => ?_)
      refine r_hGI X (pc := 64) fa_X1_137_X2 dX1_count_64 hk (fun y27 hk => ?_)
      exact r_iret X E (pc := 67) dX1_count_67 rfl ⟨_, rfl, hk⟩
    · have hk := hk.2 c25
      by_cases c28 : x1 = 1
      · have hk := hk.1 c28
        refine r_tswIn X (pc := 9) (j := 1) (tgt := 68) dX1_count_9 b23 (by omega) (by decide) rfl (by decide) ?_
        refine r_aload_n X (pc := 68) dX1_count_68 rfl (q := 0) rfl ?_
        refine r_hGR X (pc := 69) fa_X1_14 dX1_count_69 hk (fun y29 hk => ?_)
        refine r_hGI X (pc := 72) fa_X1_140_X2 dX1_count_72 hk (fun y30 hk => ?_)
        exact r_iret X E (pc := 75) dX1_count_75 rfl ⟨_, rfl, hk⟩
      · have hk := hk.2 c28
        by_cases c31 : x1 = 2
        · have hk := hk.1 c31
          refine r_tswIn X (pc := 9) (j := 2) (tgt := 76) dX1_count_9 b23 (by omega) (by decide) rfl (by decide) ?_
          refine r_aload_n X (pc := 76) dX1_count_76 rfl (q := 0) rfl ?_
          refine r_hGR X (pc := 77) fa_X1_14 dX1_count_77 hk (fun y32 hk => ?_)
          refine r_hGI X (pc := 80) fa_X1_111_X2 dX1_count_80 hk (fun y33 hk => ?_)
          exact r_iret X E (pc := 83) dX1_count_83 rfl ⟨_, rfl, hk⟩
        · have hk := hk.2 c31
          by_cases c34 : x1 = 3
          · have hk := hk.1 c34
            refine r_tswIn X (pc := 9) (j := 3) (tgt := 84) dX1_count_9 b23 (by omega) (by decide) rfl (by decide) ?_
            refine r_aload_n X (pc := 84) dX1_count_84 rfl (q := 0) rfl ?_
            obtain ⟨o44, fs45, e9, b46, hk⟩ := hk
            refine r_callV X (pc := 85) (As := []) (st := []) rfl rfl e9 b46 m_X1_210 (fun _ => s_X1_allStanding hk) ⟨by decide, by decide⟩ (Nat.le_of_ble_eq_true rfl) dX1_count_85 (fun v9 h36 n37 z38 hq => ?_) (fun ci39 q40 h41 n42 z43 hf => ?_)
            · obtain ⟨r35, rfl, hk⟩ := hq
              refine ⟨[vI r35], rfl, ?_⟩
              exact r_iret X E (pc := 88) dX1_count_88 rfl ⟨_, rfl, hk⟩
            · have hk := hf
              exact r_out X E (fun _ h9 => nomatch h9) hk
          · have hk := hk.2 c34
            by_cases c47 : x1 = 4
            · have hk := hk.1 c47
              refine r_tswIn X (pc := 9) (j := 4) (tgt := 89) dX1_count_9 b23 (by omega) (by decide) rfl (by decide) ?_
              refine r_aload_n X (pc := 89) dX1_count_89 rfl (q := 0) rfl ?_
              refine r_hGR X (pc := 90) fa_X1_14 dX1_count_90 hk (fun y48 hk => ?_)
              refine r_hGI X (pc := 93) fa_X1_190_X2 dX1_count_93 hk (fun y49 hk => ?_)
              exact r_iret X E (pc := 96) dX1_count_96 rfl ⟨_, rfl, hk⟩
            · have hk := hk.2 c47
              by_cases c50 : x1 = 5
              · have hk := hk.1 c50
                refine r_tswIn X (pc := 9) (j := 5) (tgt := 97) dX1_count_9 b23 (by omega) (by decide) rfl (by decide) ?_
                refine r_aload_n X (pc := 97) dX1_count_97 rfl (q := 0) rfl ?_
                refine r_hGR X (pc := 98) fa_X1_14 dX1_count_98 hk (fun y51 hk => ?_)
                refine r_hGR X (pc := 101) fa_X1_199_X2 dX1_count_101 hk (fun y52 hk => ?_)
                refine r_iconst X (pc := 104) dX1_count_104 ?_
                refine r_hAI X (pc := 105) dX1_count_105 hk (fun y53 hk => ?_)
                exact r_iret X E (pc := 106) dX1_count_106 rfl ⟨_, rfl, hk⟩
              · have hk := hk.2 c50
                by_cases c54 : x1 = 6
                · have hk := hk.1 c54
                  refine r_tswIn X (pc := 9) (j := 6) (tgt := 107) dX1_count_9 b23 (by omega) (by decide) rfl (by decide) ?_
                  refine r_aload_n X (pc := 107) dX1_count_107 rfl (q := 0) rfl ?_
                  refine r_hGR X (pc := 108) fa_X1_14 dX1_count_108 hk (fun y55 hk => ?_)
                  refine r_hGR X (pc := 111) fa_X1_199_X2 dX1_count_111 hk (fun y56 hk => ?_)
                  refine r_iconst X (pc := 114) dX1_count_114 ?_
                  refine r_hAI X (pc := 115) dX1_count_115 hk (fun y57 hk => ?_)
                  exact r_iret X E (pc := 116) dX1_count_116 rfl ⟨_, rfl, hk⟩
                · have hk := hk.2 c54
                  by_cases c58 : x1 = 7
                  · have hk := hk.1 c58
                    refine r_tswIn X (pc := 9) (j := 7) (tgt := 117) dX1_count_9 b23 (by omega) (by decide) rfl (by decide) ?_
                    refine r_aload_n X (pc := 117) dX1_count_117 rfl (q := 0) rfl ?_
                    obtain ⟨o68, fs69, e9, b70, hk⟩ := hk
                    refine r_callV X (pc := 118) (As := []) (st := []) rfl rfl e9 b70 m_X1_213 (fun _ => s_X1_completeColours hk) ⟨by decide, by decide⟩ (Nat.le_of_ble_eq_true rfl) dX1_count_118 (fun v9 h60 n61 z62 hq => ?_) (fun ci63 q64 h65 n66 z67 hf => ?_)
                    · obtain ⟨r59, rfl, hk⟩ := hq
                      refine ⟨[vI r59], rfl, ?_⟩
                      exact r_iret X E (pc := 121) dX1_count_121 rfl ⟨_, rfl, hk⟩
                    · have hk := hf
                      exact r_out X E (fun _ h9 => nomatch h9) hk
                  · have hk := hk.2 c58
                    by_cases c71 : x1 = 8
                    · have hk := hk.1 c71
                      refine r_tswIn X (pc := 9) (j := 8) (tgt := 122) dX1_count_9 b23 (by omega) (by decide) rfl (by decide) ?_
                      refine r_aload_n X (pc := 122) dX1_count_122 rfl (q := 0) rfl ?_
                      refine r_hGR X (pc := 123) fa_X1_38 dX1_count_123 hk (fun y72 hk => ?_)
                      obtain ⟨o82, fs83, e9, b84, hk⟩ := hk
                      refine r_callV X (pc := 126) (As := []) (st := []) rfl rfl e9 b84 m_X1_69 (fun _ => s_J1_size hk) ⟨by decide, by decide⟩ (Nat.le_of_ble_eq_true rfl) dX1_count_126 (fun v9 h74 n75 z76 hq => ?_) (fun ci77 q78 h79 n80 z81 hf => ?_)
                      · obtain ⟨r73, rfl, hk⟩ := hq
                        refine ⟨[vI r73], rfl, ?_⟩
                        exact r_iret X E (pc := 129) dX1_count_129 rfl ⟨_, rfl, hk⟩
                      · have hk := hf
                        exact r_out X E (fun _ h9 => nomatch h9) hk
                    · have hk := hk.2 c71
                      refine r_tswOut X (pc := 9) (tgt := 130) dX1_count_9 b23 (by omega) (by decide) ?_
                      refine r_aload_n X (pc := 130) dX1_count_130 rfl (q := 0) rfl ?_
                      refine r_hGI X (pc := 131) fa_X1_81 dX1_count_131 hk (fun y24 hk => ?_)
                      exact r_iret X E (pc := 134) dX1_count_134 rfl ⟨_, rfl, hk⟩
  · have hk := hf
    exact r_out X E (fun _ h9 => nomatch h9) hk
theorem s_X1_count {K : KT} {l : Launch} {o : Nat} {κ : Int → AH → Nat → Nat → Prop} {χ : QxT} {h : AH} {n : Nat} {z : Nat} {x1 : Int} (hk : P_X1_count K o κ χ h n z x1) : Ct K l yX1_count (ws_ yX1_count cX1_count 2 (Option.some Jvm.ClassFile.FieldType.int)) 11 303 ([vR (some o), vI x1].map cV) h n z (QvI κ) χ :=
  ct_of (by decide +kernel) (Nat.le_of_ble_eq_true rfl) (fun Y X E => w_X1_count X E hk)
set_option maxHeartbeats 4000000 in
theorem w_X1_comingFrom_17 {K : KT} {Y : YT} {o : Nat} {κ : Int → AH → Nat → Nat → Prop} {χ : QxT} (X : XY K "TrailMarkers" "comingFrom" cX1_comingFrom (Option.some Jvm.ClassFile.FieldType.int) [] 5 6 187 Y) (E : YE K Y (QvI κ) χ) {k_85 : AH → Nat → Nat → Int → Prop} (H_85 : ∀ (h : AH) (n : Nat) (z : Nat) (x3 : Int), k_85 h n z x3 → G K Y h n z 85 [(0, vR (some o)), (3, vI x3)] []) : ∀ (f : Nat) (h : AH) (n : Nat) (z : Nat) (x1 : Int) (x2 : Option Nat) (x3 : Int) (x4 : Int), L_X1_comingFrom_17 K o k_85 κ χ f h n z x1 x2 x3 x4 → G K Y h n z 17 [(0, vR (some o)), (1, vI x1), (2, vR x2), (3, vI x3), (4, vI x4)] [] := by
  intro f
  induction f with
  | zero => intro h n z x1 x2 x3 x4 hk; exact hk.elim
  | succ f ih =>
    intro h n z x1 x2 x3 x4 hk
    refine r_iload X (pc := 17) dX1_comingFrom_17 (q := 4) rfl ?_
    refine r_aload_n X (pc := 19) dX1_comingFrom_19 rfl (q := 0) rfl ?_
    refine r_hGR X (pc := 20) fa_X1_14 dX1_comingFrom_20 hk (fun y26 hk => ?_)
    refine r_hGI X (pc := 23) fa_X1_111_X2 dX1_comingFrom_23 hk (fun y27 hk => ?_)
    obtain ⟨b28, b29, hk⟩ := hk
    refine r_icmp_ge X (pc := 26) (tgt := 85) dX1_comingFrom_26 (by decide) ⟨b28, b29⟩ (fun c30 => ?_) (fun c30 => ?_)
    · have hk := hk.2 c30
      refine G.sub [0, 3] rfl ?_
      exact H_85 h n z x3 hk
    · have hk := hk.1 c30
      refine r_iload X (pc := 29) dX1_comingFrom_29 (q := 4) rfl ?_
      refine r_iload_n X (pc := 31) dX1_comingFrom_31 rfl (q := 1) rfl ?_
      obtain ⟨b31, hk⟩ := hk
      refine r_icmp_eq X (pc := 32) (tgt := 79) dX1_comingFrom_32 (by decide) ⟨b28, b31⟩ (fun c32 => ?_) (fun c32 => ?_)
      · have hk := hk.1 c32
        refine r_iinc X (pc := 79) (q := 4) (lv1 := [(4, vI (x4 + 1)), (0, vR (some o)), (1, vI x1), (2, vR x2), (3, vI x3)]) dX1_comingFrom_79 rfl (by decide) rfl ?_
        refine r_goto X (pc := 82) (tgt := 17) dX1_comingFrom_82 (by decide) ?_
        refine G.sub [1, 2, 3, 4, 0] rfl ?_
        exact ih h n z x1 x2 x3 (x4 + 1) hk
      · have hk := hk.2 c32
        refine r_aload_n X (pc := 35) dX1_comingFrom_35 rfl (q := 0) rfl ?_
        refine r_hGR X (pc := 36) fa_X1_14 dX1_comingFrom_36 hk (fun y33 hk => ?_)
        refine r_hGR X (pc := 39) fa_X1_146_X2 dX1_comingFrom_39 hk (fun y34 hk => ?_)
        refine r_iload X (pc := 42) dX1_comingFrom_42 (q := 4) rfl ?_
        refine r_hAR X (pc := 44) (t := 5) rfl dX1_comingFrom_44 hk (fun y35 hk => ?_)
        refine r_aload_n X (pc := 45) dX1_comingFrom_45 rfl (q := 0) rfl ?_
        refine r_hGR X (pc := 46) fa_X1_14 dX1_comingFrom_46 hk (fun y36 hk => ?_)
        refine r_hGR X (pc := 49) fa_X1_146_X2 dX1_comingFrom_49 hk (fun y37 hk => ?_)
        refine r_iload_n X (pc := 52) dX1_comingFrom_52 rfl (q := 1) rfl ?_
        refine r_hAR X (pc := 53) (t := 5) rfl dX1_comingFrom_53 hk (fun y38 hk => ?_)
        refine r_hGI X (pc := 54) fa_X1_172_X3 dX1_comingFrom_54 hk (fun y39 hk => ?_)
        obtain ⟨o66, fs67, e9, b68, hk⟩ := hk
        refine r_callV X (pc := 57) (As := [vI y39]) (st := []) rfl rfl e9 b68 m_X1_253 (fun _ => s_X3_standsFor hk) ⟨by decide, by decide⟩ (Nat.le_of_ble_eq_true rfl) dX1_comingFrom_57 (fun v9 h41 n42 z43 hq => ?_) (fun ci61 q62 h63 n64 z65 hf => ?_)
        · obtain ⟨r40, rfl, hk⟩ := hq
          refine ⟨[vI r40], rfl, ?_⟩
          obtain ⟨b44, hk⟩ := hk
          refine r_if_eq X (pc := 60) (tgt := 79) dX1_comingFrom_60 (by decide) b44 (fun c45 => ?_) (fun c45 => ?_)
          · have hk := hk.1 c45
            refine r_iinc X (pc := 79) (q := 4) (lv1 := [(4, vI (x4 + 1)), (0, vR (some o)), (1, vI x1), (2, vR x2), (3, vI x3)]) dX1_comingFrom_79 rfl (by decide) rfl ?_
            refine r_goto X (pc := 82) (tgt := 17) dX1_comingFrom_82 (by decide) ?_
            refine G.sub [1, 2, 3, 4, 0] rfl ?_
            exact ih h41 n42 z43 x1 x2 x3 (x4 + 1) hk
          · have hk := hk.2 c45
            refine r_aload_n X (pc := 63) dX1_comingFrom_63 rfl (q := 2) rfl ?_
            refine r_iload X (pc := 64) dX1_comingFrom_64 (q := 4) rfl ?_
            obtain ⟨o58, fs59, e9, b60, hk⟩ := hk
            refine r_callV X (pc := 66) (As := [vI x4]) (st := []) rfl rfl e9 b60 m_X1_238 (fun _ => s_X8_find hk) ⟨by decide, by decide⟩ (Nat.le_of_ble_eq_true rfl) dX1_comingFrom_66 (fun v9 h47 n48 z49 hq => ?_) (fun ci53 q54 h55 n56 z57 hf => ?_)
            · obtain ⟨r46, rfl, hk⟩ := hq
              refine ⟨[vR r46], rfl, ?_⟩
              refine r_hGI X (pc := 69) fa_X1_242_X9 dX1_comingFrom_69 hk (fun y50 hk => ?_)
              refine r_iload_n X (pc := 72) dX1_comingFrom_72 rfl (q := 1) rfl ?_
              obtain ⟨b51, hk⟩ := hk
              refine r_icmp_ne X (pc := 73) (tgt := 79) dX1_comingFrom_73 (by decide) ⟨b51, b31⟩ (fun c52 => ?_) (fun c52 => ?_)
              · have hk := hk.2 c52
                refine r_iinc X (pc := 79) (q := 4) (lv1 := [(4, vI (x4 + 1)), (0, vR (some o)), (1, vI x1), (2, vR x2), (3, vI x3)]) dX1_comingFrom_79 rfl (by decide) rfl ?_
                refine r_goto X (pc := 82) (tgt := 17) dX1_comingFrom_82 (by decide) ?_
                refine G.sub [1, 2, 3, 4, 0] rfl ?_
                exact ih h47 n48 z49 x1 x2 x3 (x4 + 1) hk
              · have hk := hk.1 c52
                refine r_iinc X (pc := 76) (q := 3) (lv1 := [(3, vI (x3 + 1)), (0, vR (some o)), (1, vI x1), (2, vR x2), (4, vI x4)]) dX1_comingFrom_76 rfl (by decide) rfl ?_
                refine r_iinc X (pc := 79) (q := 4) (lv1 := [(4, vI (x4 + 1)), (3, vI (x3 + 1)), (0, vR (some o)), (1, vI x1), (2, vR x2)]) dX1_comingFrom_79 rfl (by decide) rfl ?_
                refine r_goto X (pc := 82) (tgt := 17) dX1_comingFrom_82 (by decide) ?_
                refine G.sub [2, 3, 4, 1, 0] rfl ?_
                exact ih h47 n48 z49 x1 x2 (x3 + 1) (x4 + 1) hk
            · have hk := hf
              exact r_out X E (fun _ h9 => nomatch h9) hk
        · have hk := hf
          exact r_out X E (fun _ h9 => nomatch h9) hk
set_option maxHeartbeats 4000000 in
theorem w_X1_comingFrom_85 {K : KT} {Y : YT} {o : Nat} {κ : Int → AH → Nat → Nat → Prop} {χ : QxT} (X : XY K "TrailMarkers" "comingFrom" cX1_comingFrom (Option.some Jvm.ClassFile.FieldType.int) [] 5 6 187 Y) (E : YE K Y (QvI κ) χ) : ∀ (h : AH) (n : Nat) (z : Nat) (x3 : Int), P_X1_comingFrom_85 K o κ χ h n z x3 → G K Y h n z 85 [(0, vR (some o)), (3, vI x3)] [] := by
  intro h n z x3 hk
  refine r_iload_n X (pc := 85) dX1_comingFrom_85 rfl (q := 1) rfl ?_
  exact r_iret X E (pc := 86) dX1_comingFrom_86 rfl ⟨_, rfl, hk⟩
set_option maxHeartbeats 4000000 in
theorem w_X1_comingFrom {K : KT} {Y : YT} {o : Nat} {κ : Int → AH → Nat → Nat → Prop} {χ : QxT} (X : XY K "TrailMarkers" "comingFrom" cX1_comingFrom (Option.some Jvm.ClassFile.FieldType.int) [] 5 6 187 Y) (E : YE K Y (QvI κ) χ) {h : AH} {n : Nat} {z : Nat} {x1 : Int} (hk : P_X1_comingFrom K o κ χ h n z x1) : G K Y h n z 0 (lv_argsA 0 [vR (some o), vI x1]) [] := by
  show G K Y h n z 0 [(0, vR (some o)), (1, vI x1)] []
  refine r_hNew X (pc := 0) nw_X1_216 dX1_comingFrom_0 hk (fun h69 hk => ?_)
  refine r_dup X (pc := 3) dX1_comingFrom_3 rfl ?_
  refine r_aload_n X (pc := 4) dX1_comingFrom_4 rfl (q := 0) rfl ?_
  refine r_hGR X (pc := 5) fa_X1_14 dX1_comingFrom_5 hk (fun y70 hk => ?_)
  refine r_callI X (pc := 8) (As := [vR y70]) (st := [vR (some n)]) m_X1_218 (fun _ => s_X8_init hk) ⟨by decide, by decide⟩ (Nat.le_of_ble_eq_true rfl) dX1_comingFrom_8 (fun v9 h71 n72 z73 hq => ?_) (fun ci75 q76 h77 n78 z79 hf => ?_)
  · obtain ⟨rfl, hk⟩ := hq
    refine ⟨[], rfl, ?_⟩
    refine r_astore_n X (pc := 11) (lv1 := [(2, vR (some n)), (0, vR (some o)), (1, vI x1)]) dX1_comingFrom_11 rfl (by decide) rfl ?_
    refine r_iconst X (pc := 12) dX1_comingFrom_12 ?_
    refine r_istore_n X (pc := 13) (lv1 := [(3, vI 0), (2, vR (some n)), (0, vR (some o)), (1, vI x1)]) dX1_comingFrom_13 rfl (by decide) rfl ?_
    refine r_iconst X (pc := 14) dX1_comingFrom_14 ?_
    refine r_istore X (pc := 15) (lv1 := [(4, vI 0), (3, vI 0), (2, vR (some n)), (0, vR (some o)), (1, vI x1)]) dX1_comingFrom_15 (by decide) rfl ?_
    refine G.sub [3, 4, 2, 1, 0] rfl ?_
    have HH74 : ∀ (h : AH) (n : Nat) (z : Nat) (x3 : Int), (P_X1_comingFrom_85 K o κ χ h n z x3) → G K Y h n z 85 [(0, vR (some o)), (3, vI x3)] [] := by
        intro h n z x3 hk
        exact w_X1_comingFrom_85 X E h n z x3 hk
    obtain ⟨f9, hk⟩ := hk
    exact w_X1_comingFrom_17 X E HH74 f9 h71 n72 z73 x1 (some n) 0 0 hk
  · have hk := hf
    exact r_out X E (fun _ h9 => nomatch h9) hk
theorem s_X1_comingFrom {K : KT} {l : Launch} {o : Nat} {κ : Int → AH → Nat → Nat → Prop} {χ : QxT} {h : AH} {n : Nat} {z : Nat} {x1 : Int} (hk : P_X1_comingFrom K o κ χ h n z x1) : Ct K l yX1_comingFrom (ws_ yX1_comingFrom cX1_comingFrom 5 (Option.some Jvm.ClassFile.FieldType.int)) 6 187 ([vR (some o), vI x1].map cV) h n z (QvI κ) χ :=
  ct_of (by decide +kernel) (Nat.le_of_ble_eq_true rfl) (fun Y X E => w_X1_comingFrom X E hk)
set_option maxHeartbeats 4000000 in
theorem w_X1_onward {K : KT} {Y : YT} {o : Nat} {κ : Int → AH → Nat → Nat → Prop} {χ : QxT} (X : XY K "TrailMarkers" "onward" cX1_onward (Option.some Jvm.ClassFile.FieldType.int) [] 4 6 187 Y) (E : YE K Y (QvI κ) χ) {h : AH} {n : Nat} {z : Nat} {x1 : Int} {x2 : Int} (hk : P_X1_onward K o κ χ h n z x1 x2) : G K Y h n z 0 (lv_argsA 0 [vR (some o), vI x1, vI x2]) [] := by
  show G K Y h n z 0 [(0, vR (some o)), (1, vI x1), (2, vI x2)] []
  refine r_aload_n X (pc := 0) dX1_onward_0 rfl (q := 0) rfl ?_
  refine r_hGR X (pc := 1) fa_X1_14 dX1_onward_1 hk (fun y20 hk => ?_)
  refine r_hGR X (pc := 4) fa_X1_146_X2 dX1_onward_4 hk (fun y21 hk => ?_)
  refine r_iload_n X (pc := 7) dX1_onward_7 rfl (q := 1) rfl ?_
  refine r_hAR X (pc := 8) (t := 5) rfl dX1_onward_8 hk (fun y22 hk => ?_)
  refine r_hGI X (pc := 9) fa_X1_227_X3 dX1_onward_9 hk (fun y23 hk => ?_)
  obtain ⟨b24, hk⟩ := hk
  refine r_if_eq X (pc := 12) (tgt := 17) dX1_onward_12 (by decide) b24 (fun c25 => ?_) (fun c25 => ?_)
  · have hk := hk.1 c25
    refine r_hNew X (pc := 17) nw_X1_216 dX1_onward_17 hk (fun h26 hk => ?_)
    refine r_dup X (pc := 20) dX1_onward_20 rfl ?_
    refine r_aload_n X (pc := 21) dX1_onward_21 rfl (q := 0) rfl ?_
    refine r_hGR X (pc := 22) fa_X1_14 dX1_onward_22 hk (fun y27 hk => ?_)
    refine r_callI X (pc := 25) (As := [vR y27]) (st := [vR (some n)]) m_X1_218 (fun _ => s_X8_init hk) ⟨by decide, by decide⟩ (Nat.le_of_ble_eq_true rfl) dX1_onward_25 (fun v9 h28 n29 z30 hq => ?_) (fun ci52 q53 h54 n55 z56 hf => ?_)
    · obtain ⟨rfl, hk⟩ := hq
      refine ⟨[], rfl, ?_⟩
      refine r_iload_n X (pc := 28) dX1_onward_28 rfl (q := 1) rfl ?_
      obtain ⟨o49, fs50, e9, b51, hk⟩ := hk
      refine r_callV X (pc := 29) (As := [vI x1]) (st := []) rfl rfl e9 b51 m_X1_238 (fun _ => s_X8_find hk) ⟨by decide, by decide⟩ (Nat.le_of_ble_eq_true rfl) dX1_onward_29 (fun v9 h32 n33 z34 hq => ?_) (fun ci44 q45 h46 n47 z48 hf => ?_)
      · obtain ⟨r31, rfl, hk⟩ := hq
        refine ⟨[vR r31], rfl, ?_⟩
        refine r_astore_n X (pc := 32) (lv1 := [(3, vR r31), (0, vR (some o)), (1, vI x1), (2, vI x2)]) dX1_onward_32 rfl (by decide) rfl ?_
        refine r_aload_n X (pc := 33) dX1_onward_33 rfl (q := 0) rfl ?_
        refine r_hGI X (pc := 34) fa_X1_242_X9 dX1_onward_34 hk (fun y35 hk => ?_)
        refine r_iconst X (pc := 37) dX1_onward_37 ?_
        obtain ⟨b36, hk⟩ := hk
        refine r_icmp_ne X (pc := 38) (tgt := 43) dX1_onward_38 (by decide) ⟨b36, (by decide)⟩ (fun c37 => ?_) (fun c37 => ?_)
        · have hk := hk.2 c37
          refine r_iload_n X (pc := 43) dX1_onward_43 rfl (q := 3) rfl ?_
          refine r_iconst X (pc := 44) dX1_onward_44 ?_
          obtain ⟨b38, hk⟩ := hk
          refine r_icmp_ne X (pc := 45) (tgt := 55) dX1_onward_45 (by decide) ⟨b38, (by decide)⟩ (fun c39 => ?_) (fun c39 => ?_)
          · have hk := hk.2 c39
            refine r_iload_n X (pc := 55) dX1_onward_55 rfl (q := 3) rfl ?_
            refine r_iconst X (pc := 56) dX1_onward_56 ?_
            refine r_icmp_ne X (pc := 57) (tgt := 67) dX1_onward_57 (by decide) ⟨b38, (by decide)⟩ (fun c40 => ?_) (fun c40 => ?_)
            · have hk := hk.2 c40
              refine r_aload_n X (pc := 67) dX1_onward_67 rfl (q := 0) rfl ?_
              refine r_hGI X (pc := 68) fa_X1_250_X9 dX1_onward_68 hk (fun y41 hk => ?_)
              exact r_iret X E (pc := 71) dX1_onward_71 rfl ⟨_, rfl, hk⟩
            · have hk := hk.1 c40
              refine r_aload_n X (pc := 60) dX1_onward_60 rfl (q := 0) rfl ?_
              refine r_hGI X (pc := 61) fa_X1_247_X9 dX1_onward_61 hk (fun y42 hk => ?_)
              refine r_goto X (pc := 64) (tgt := 71) dX1_onward_64 (by decide) ?_
              exact r_iret X E (pc := 71) dX1_onward_71 rfl ⟨_, rfl, hk⟩
          · have hk := hk.1 c39
            refine r_aload_n X (pc := 48) dX1_onward_48 rfl (q := 0) rfl ?_
            refine r_hGI X (pc := 49) fa_X1_242_X9 dX1_onward_49 hk (fun y43 hk => ?_)
            refine r_goto X (pc := 52) (tgt := 71) dX1_onward_52 (by decide) ?_
            exact r_iret X E (pc := 71) dX1_onward_71 rfl ⟨_, rfl, hk⟩
        · have hk := hk.1 c37
          refine r_iconst X (pc := 41) dX1_onward_41 ?_
          exact r_iret X E (pc := 42) dX1_onward_42 rfl ⟨_, rfl, hk⟩
      · have hk := hf
        exact r_out X E (fun _ h9 => nomatch h9) hk
    · have hk := hf
      exact r_out X E (fun _ h9 => nomatch h9) hk
  · have hk := hk.2 c25
    refine r_iconst X (pc := 15) dX1_onward_15 ?_
    exact r_iret X E (pc := 16) dX1_onward_16 rfl ⟨_, rfl, hk⟩
theorem s_X1_onward {K : KT} {l : Launch} {o : Nat} {κ : Int → AH → Nat → Nat → Prop} {χ : QxT} {h : AH} {n : Nat} {z : Nat} {x1 : Int} {x2 : Int} (hk : P_X1_onward K o κ χ h n z x1 x2) : Ct K l yX1_onward (ws_ yX1_onward cX1_onward 4 (Option.some Jvm.ClassFile.FieldType.int)) 6 187 ([vR (some o), vI x1, vI x2].map cV) h n z (QvI κ) χ :=
  ct_of (by decide +kernel) (Nat.le_of_ble_eq_true rfl) (fun Y X E => w_X1_onward X E hk)
set_option maxHeartbeats 4000000 in
theorem w_X1_post {K : KT} {Y : YT} {o : Nat} {κ : Int → AH → Nat → Nat → Prop} {χ : QxT} (X : XY K "TrailMarkers" "post" cX1_post (Option.some Jvm.ClassFile.FieldType.int) [] 4 11 303 Y) (E : YE K Y (QvI κ) χ) {h : AH} {n : Nat} {z : Nat} {x1 : Int} {x2 : Int} (hk : P_X1_post K o κ χ h n z x1 x2) : G K Y h n z 0 (lv_argsA 0 [vR (some o), vI x1, vI x2]) [] := by
  show G K Y h n z 0 [(0, vR (some o)), (1, vI x1), (2, vI x2)] []
  refine r_aload_n X (pc := 0) dX1_post_0 rfl (q := 0) rfl ?_
  refine r_iload_n X (pc := 1) dX1_post_1 rfl (q := 1) rfl ?_
  obtain ⟨o116, fs117, e9, b118, hk⟩ := hk
  refine r_callV X (pc := 2) (As := [vI x1]) (st := []) rfl rfl e9 b118 m_X1_159 (fun _ => s_X1_needPost hk) ⟨by decide, by decide⟩ (Nat.le_of_ble_eq_true rfl) dX1_post_2 (fun v9 h11 n12 z13 hq => ?_) (fun ci111 q112 h113 n114 z115 hf => ?_)
  · obtain ⟨r10, rfl, hk⟩ := hq
    refine ⟨[vR r10], rfl, ?_⟩
    refine r_astore_n X (pc := 5) (lv1 := [(3, vR r10), (0, vR (some o)), (1, vI x1), (2, vI x2)]) dX1_post_5 rfl (by decide) rfl ?_
    refine r_aload_n X (pc := 6) dX1_post_6 rfl (q := 1) rfl ?_
    refine r_iload_n X (pc := 7) dX1_post_7 rfl (q := 3) rfl ?_
    refine r_iconst X (pc := 8) dX1_post_8 ?_
    refine r_bipush X (pc := 9) dX1_post_9 (by decide) ?_
    obtain ⟨o108, fs109, e9, b110, hk⟩ := hk
    refine r_callV X (pc := 11) (As := [vI x2, vI 0, vI 7]) (st := []) rfl rfl e9 b110 m_X1_88 (fun _ => s_X1_need hk) ⟨by decide, by decide⟩ (Nat.le_of_ble_eq_true rfl) dX1_post_11 (fun v9 h14 n15 z16 hq => ?_) (fun ci103 q104 h105 n106 z107 hf => ?_)
    · obtain ⟨rfl, hk⟩ := hq
      refine ⟨[], rfl, ?_⟩
      refine r_iload_n X (pc := 14) dX1_post_14 rfl (q := 3) rfl ?_
      obtain ⟨b17, hk⟩ := hk
      by_cases c30 : x2 = 0
      · have hk := hk.1 c30
        refine r_tswIn X (pc := 15) (j := 0) (tgt := 60) dX1_post_15 b17 (by omega) (by decide) rfl (by decide) ?_
        refine r_aload_n X (pc := 60) dX1_post_60 rfl (q := 0) rfl ?_
        obtain ⟨o40, fs41, e9, b42, hk⟩ := hk
        refine r_callV X (pc := 61) (As := []) (st := []) rfl rfl e9 b42 m_X1_224 (fun _ => s_X3_cell hk) ⟨by decide, by decide⟩ (Nat.le_of_ble_eq_true rfl) dX1_post_61 (fun v9 h32 n33 z34 hq => ?_) (fun ci35 q36 h37 n38 z39 hf => ?_)
        · obtain ⟨r31, rfl, hk⟩ := hq
          refine ⟨[vI r31], rfl, ?_⟩
          exact r_iret X E (pc := 64) dX1_post_64 rfl ⟨_, rfl, hk⟩
        · have hk := hf
          exact r_out X E (fun _ h9 => nomatch h9) hk
      · have hk := hk.2 c30
        by_cases c43 : x2 = 1
        · have hk := hk.1 c43
          refine r_tswIn X (pc := 15) (j := 1) (tgt := 65) dX1_post_15 b17 (by omega) (by decide) rfl (by decide) ?_
          refine r_aload_n X (pc := 65) dX1_post_65 rfl (q := 0) rfl ?_
          refine r_hGI X (pc := 66) fa_X1_172_X3 dX1_post_66 hk (fun y44 hk => ?_)
          exact r_iret X E (pc := 69) dX1_post_69 rfl ⟨_, rfl, hk⟩
        · have hk := hk.2 c43
          by_cases c45 : x2 = 2
          · have hk := hk.1 c45
            refine r_tswIn X (pc := 15) (j := 2) (tgt := 70) dX1_post_15 b17 (by omega) (by decide) rfl (by decide) ?_
            refine r_aload_n X (pc := 70) dX1_post_70 rfl (q := 0) rfl ?_
            refine r_hGI X (pc := 71) fa_X1_169_X3 dX1_post_71 hk (fun y46 hk => ?_)
            exact r_iret X E (pc := 74) dX1_post_74 rfl ⟨_, rfl, hk⟩
          · have hk := hk.2 c45
            by_cases c47 : x2 = 3
            · have hk := hk.1 c47
              refine r_tswIn X (pc := 15) (j := 3) (tgt := 75) dX1_post_15 b17 (by omega) (by decide) rfl (by decide) ?_
              refine r_aload_n X (pc := 75) dX1_post_75 rfl (q := 0) rfl ?_
              refine r_hGI X (pc := 76) fa_X1_227_X3 dX1_post_76 hk (fun y48 hk => ?_)
              obtain ⟨b49, hk⟩ := hk
              refine r_if_eq X (pc := 79) (tgt := 86) dX1_post_79 (by decide) b49 (fun c50 => ?_) (fun c50 => ?_)
              · have hk := hk.1 c50
                refine r_iconst X (pc := 86) dX1_post_86 ?_
                exact r_iret X E (pc := 87) dX1_post_87 rfl ⟨_, rfl, hk⟩
              · have hk := hk.2 c50
                refine r_iconst X (pc := 82) dX1_post_82 ?_
                refine r_goto X (pc := 83) (tgt := 87) dX1_post_83 (by decide) ?_
                exact r_iret X E (pc := 87) dX1_post_87 rfl ⟨_, rfl, hk⟩
            · have hk := hk.2 c47
              by_cases c51 : x2 = 4
              · have hk := hk.1 c51
                refine r_tswIn X (pc := 15) (j := 4) (tgt := 94) dX1_post_15 b17 (by omega) (by decide) rfl (by decide) ?_
                refine r_aload_n X (pc := 94) dX1_post_94 rfl (q := 1) rfl ?_
                refine r_iload_n X (pc := 95) dX1_post_95 rfl (q := 2) rfl ?_
                refine r_iload_n X (pc := 96) dX1_post_96 rfl (q := 3) rfl ?_
                obtain ⟨o61, fs62, e9, b63, hk⟩ := hk
                refine r_callV X (pc := 97) (As := [vI x1, vI x2]) (st := []) rfl rfl e9 b63 m_X1_234 (fun _ => s_X1_onward hk) ⟨by decide, by decide⟩ (Nat.le_of_ble_eq_true rfl) dX1_post_97 (fun v9 h53 n54 z55 hq => ?_) (fun ci56 q57 h58 n59 z60 hf => ?_)
                · obtain ⟨r52, rfl, hk⟩ := hq
                  refine ⟨[vI r52], rfl, ?_⟩
                  exact r_iret X E (pc := 100) dX1_post_100 rfl ⟨_, rfl, hk⟩
                · have hk := hf
                  exact r_out X E (fun _ h9 => nomatch h9) hk
              · have hk := hk.2 c51
                by_cases c64 : x2 = 5
                · have hk := hk.1 c64
                  refine r_tswIn X (pc := 15) (j := 5) (tgt := 94) dX1_post_15 b17 (by omega) (by decide) rfl (by decide) ?_
                  refine r_aload_n X (pc := 94) dX1_post_94 rfl (q := 1) rfl ?_
                  refine r_iload_n X (pc := 95) dX1_post_95 rfl (q := 2) rfl ?_
                  refine r_iload_n X (pc := 96) dX1_post_96 rfl (q := 3) rfl ?_
                  obtain ⟨o74, fs75, e9, b76, hk⟩ := hk
                  refine r_callV X (pc := 97) (As := [vI x1, vI x2]) (st := []) rfl rfl e9 b76 m_X1_234 (fun _ => s_X1_onward hk) ⟨by decide, by decide⟩ (Nat.le_of_ble_eq_true rfl) dX1_post_97 (fun v9 h66 n67 z68 hq => ?_) (fun ci69 q70 h71 n72 z73 hf => ?_)
                  · obtain ⟨r65, rfl, hk⟩ := hq
                    refine ⟨[vI r65], rfl, ?_⟩
                    exact r_iret X E (pc := 100) dX1_post_100 rfl ⟨_, rfl, hk⟩
                  · have hk := hf
                    exact r_out X E (fun _ h9 => nomatch h9) hk
                · have hk := hk.2 c64
                  by_cases c77 : x2 = 6
                  · have hk := hk.1 c77
                    refine r_tswIn X (pc := 15) (j := 6) (tgt := 94) dX1_post_15 b17 (by omega) (by decide) rfl (by decide) ?_
                    refine r_aload_n X (pc := 94) dX1_post_94 rfl (q := 1) rfl ?_
                    refine r_iload_n X (pc := 95) dX1_post_95 rfl (q := 2) rfl ?_
                    refine r_iload_n X (pc := 96) dX1_post_96 rfl (q := 3) rfl ?_
                    obtain ⟨o87, fs88, e9, b89, hk⟩ := hk
                    refine r_callV X (pc := 97) (As := [vI x1, vI x2]) (st := []) rfl rfl e9 b89 m_X1_234 (fun _ => s_X1_onward hk) ⟨by decide, by decide⟩ (Nat.le_of_ble_eq_true rfl) dX1_post_97 (fun v9 h79 n80 z81 hq => ?_) (fun ci82 q83 h84 n85 z86 hf => ?_)
                    · obtain ⟨r78, rfl, hk⟩ := hq
                      refine ⟨[vI r78], rfl, ?_⟩
                      exact r_iret X E (pc := 100) dX1_post_100 rfl ⟨_, rfl, hk⟩
                    · have hk := hf
                      exact r_out X E (fun _ h9 => nomatch h9) hk
                  · have hk := hk.2 c77
                    by_cases c90 : x2 = 7
                    · have hk := hk.1 c90
                      refine r_tswIn X (pc := 15) (j := 7) (tgt := 88) dX1_post_15 b17 (by omega) (by decide) rfl (by decide) ?_
                      refine r_aload_n X (pc := 88) dX1_post_88 rfl (q := 1) rfl ?_
                      refine r_iload_n X (pc := 89) dX1_post_89 rfl (q := 2) rfl ?_
                      obtain ⟨o100, fs101, e9, b102, hk⟩ := hk
                      refine r_callV X (pc := 90) (As := [vI x1]) (st := []) rfl rfl e9 b102 m_X1_231 (fun _ => s_X1_comingFrom hk) ⟨by decide, by decide⟩ (Nat.le_of_ble_eq_true rfl) dX1_post_90 (fun v9 h92 n93 z94 hq => ?_) (fun ci95 q96 h97 n98 z99 hf => ?_)
                      · obtain ⟨r91, rfl, hk⟩ := hq
                        refine ⟨[vI r91], rfl, ?_⟩
                        exact r_iret X E (pc := 93) dX1_post_93 rfl ⟨_, rfl, hk⟩
                      · have hk := hf
                        exact r_out X E (fun _ h9 => nomatch h9) hk
                    · have hk := hk.2 c90
                      refine r_tswOut X (pc := 15) (tgt := 94) dX1_post_15 b17 (by omega) (by decide) ?_
                      refine r_aload_n X (pc := 94) dX1_post_94 rfl (q := 1) rfl ?_
                      refine r_iload_n X (pc := 95) dX1_post_95 rfl (q := 2) rfl ?_
                      refine r_iload_n X (pc := 96) dX1_post_96 rfl (q := 3) rfl ?_
                      obtain ⟨o27, fs28, e9, b29, hk⟩ := hk
                      refine r_callV X (pc := 97) (As := [vI x1, vI x2]) (st := []) rfl rfl e9 b29 m_X1_234 (fun _ => s_X1_onward hk) ⟨by decide, by decide⟩ (Nat.le_of_ble_eq_true rfl) dX1_post_97 (fun v9 h19 n20 z21 hq => ?_) (fun ci22 q23 h24 n25 z26 hf => ?_)
                      · obtain ⟨r18, rfl, hk⟩ := hq
                        refine ⟨[vI r18], rfl, ?_⟩
                        exact r_iret X E (pc := 100) dX1_post_100 rfl ⟨_, rfl, hk⟩
                      · have hk := hf
                        exact r_out X E (fun _ h9 => nomatch h9) hk
    · have hk := hf
      exact r_out X E (fun _ h9 => nomatch h9) hk
  · have hk := hf
    exact r_out X E (fun _ h9 => nomatch h9) hk
theorem s_X1_post {K : KT} {l : Launch} {o : Nat} {κ : Int → AH → Nat → Nat → Prop} {χ : QxT} {h : AH} {n : Nat} {z : Nat} {x1 : Int} {x2 : Int} (hk : P_X1_post K o κ χ h n z x1 x2) : Ct K l yX1_post (ws_ yX1_post cX1_post 4 (Option.some Jvm.ClassFile.FieldType.int)) 11 303 ([vR (some o), vI x1, vI x2].map cV) h n z (QvI κ) χ :=
  ct_of (by decide +kernel) (Nat.le_of_ble_eq_true rfl) (fun Y X E => w_X1_post X E hk)
set_option maxHeartbeats 4000000 in
theorem w_X1_at {K : KT} {Y : YT} {o : Nat} {κ : Int → AH → Nat → Nat → Prop} {χ : QxT} (X : XY K "TrailMarkers" "at" cX1_at (Option.some Jvm.ClassFile.FieldType.int) [] 3 12 325 Y) (E : YE K Y (QvI κ) χ) {h : AH} {n : Nat} {z : Nat} {x1 : Int} {x2 : Int} (hk : P_X1_at K o κ χ h n z x1 x2) : G K Y h n z 0 (lv_argsA 0 [vR (some o), vI x1, vI x2]) [] := by
  show G K Y h n z 0 [(0, vR (some o)), (1, vI x1), (2, vI x2)] []
  refine r_aload_n X (pc := 0) dX1_at_0 rfl (q := 0) rfl ?_
  refine r_iload_n X (pc := 1) dX1_at_1 rfl (q := 1) rfl ?_
  refine r_iload_n X (pc := 2) dX1_at_2 rfl (q := 2) rfl ?_
  obtain ⟨o43, fs44, e9, b45, hk⟩ := hk
  refine r_callV X (pc := 3) (As := [vI x1, vI x2]) (st := []) rfl rfl e9 b45 m_X1_153 (fun _ => s_X1_needCell hk) ⟨by decide, by decide⟩ (Nat.le_of_ble_eq_true rfl) dX1_at_3 (fun v9 h7 n8 z9 hq => ?_) (fun ci38 q39 h40 n41 z42 hf => ?_)
  · obtain ⟨rfl, hk⟩ := hq
    refine ⟨[], rfl, ?_⟩
    refine r_aload_n X (pc := 6) dX1_at_6 rfl (q := 0) rfl ?_
    refine r_hGR X (pc := 7) fa_X1_14 dX1_at_7 hk (fun y10 hk => ?_)
    refine r_iload_n X (pc := 10) dX1_at_10 rfl (q := 1) rfl ?_
    refine r_iload_n X (pc := 11) dX1_at_11 rfl (q := 2) rfl ?_
    obtain ⟨o35, fs36, e9, b37, hk⟩ := hk
    refine r_callV X (pc := 12) (As := [vI x1, vI x2]) (st := []) rfl rfl e9 b37 m_X1_183 (fun _ => s_X2_isBlock hk) ⟨by decide, by decide⟩ (Nat.le_of_ble_eq_true rfl) dX1_at_12 (fun v9 h12 n13 z14 hq => ?_) (fun ci30 q31 h32 n33 z34 hf => ?_)
    · obtain ⟨r11, rfl, hk⟩ := hq
      refine ⟨[vI r11], rfl, ?_⟩
      obtain ⟨b15, hk⟩ := hk
      refine r_if_eq X (pc := 15) (tgt := 23) dX1_at_15 (by decide) b15 (fun c16 => ?_) (fun c16 => ?_)
      · have hk := hk.1 c16
        refine r_aload_n X (pc := 23) dX1_at_23 rfl (q := 0) rfl ?_
        refine r_hGR X (pc := 24) fa_X1_14 dX1_at_24 hk (fun y17 hk => ?_)
        refine r_iload_n X (pc := 27) dX1_at_27 rfl (q := 1) rfl ?_
        refine r_iload_n X (pc := 28) dX1_at_28 rfl (q := 2) rfl ?_
        obtain ⟨o27, fs28, e9, b29, hk⟩ := hk
        refine r_callV X (pc := 29) (As := [vI x1, vI x2]) (st := []) rfl rfl e9 b29 m_X1_256 (fun _ => s_X2_postAt hk) ⟨by decide, by decide⟩ (Nat.le_of_ble_eq_true rfl) dX1_at_29 (fun v9 h19 n20 z21 hq => ?_) (fun ci22 q23 h24 n25 z26 hf => ?_)
        · obtain ⟨r18, rfl, hk⟩ := hq
          refine ⟨[vI r18], rfl, ?_⟩
          exact r_iret X E (pc := 32) dX1_at_32 rfl ⟨_, rfl, hk⟩
        · have hk := hf
          exact r_out X E (fun _ h9 => nomatch h9) hk
      · have hk := hk.2 c16
        refine r_bipush X (pc := 18) dX1_at_18 (by decide) ?_
        refine r_goto X (pc := 20) (tgt := 32) dX1_at_20 (by decide) ?_
        exact r_iret X E (pc := 32) dX1_at_32 rfl ⟨_, rfl, hk⟩
    · have hk := hf
      exact r_out X E (fun _ h9 => nomatch h9) hk
  · have hk := hf
    exact r_out X E (fun _ h9 => nomatch h9) hk
theorem s_X1_at {K : KT} {l : Launch} {o : Nat} {κ : Int → AH → Nat → Nat → Prop} {χ : QxT} {h : AH} {n : Nat} {z : Nat} {x1 : Int} {x2 : Int} (hk : P_X1_at K o κ χ h n z x1 x2) : Ct K l yX1_at (ws_ yX1_at cX1_at 3 (Option.some Jvm.ClassFile.FieldType.int)) 12 325 ([vR (some o), vI x1, vI x2].map cV) h n z (QvI κ) χ :=
  ct_of (by decide +kernel) (Nat.le_of_ble_eq_true rfl) (fun Y X E => w_X1_at X E hk)
set_option maxHeartbeats 4000000 in
theorem w_X1_postsOf_4 {K : KT} {Y : YT} {o : Nat} {κ : Int → AH → Nat → Nat → Prop} {χ : QxT} (X : XY K "TrailMarkers" "postsOf" cX1_postsOf (Option.some Jvm.ClassFile.FieldType.int) [] 4 0 0 Y) (E : YE K Y (QvI κ) χ) {k_40 : AH → Nat → Nat → Int → Prop} (H_40 : ∀ (h : AH) (n : Nat) (z : Nat) (x2 : Int), k_40 h n z x2 → G K Y h n z 40 [(0, vR (some o)), (2, vI x2)] []) : ∀ (f : Nat) (h : AH) (n : Nat) (z : Nat) (x1 : Int) (x2 : Int) (x3 : Int), L_X1_postsOf_4 K o k_40 κ χ f h n z x1 x2 x3 → G K Y h n z 4 [(0, vR (some o)), (1, vI x1), (2, vI x2), (3, vI x3)] [] := by
  intro f
  induction f with
  | zero => intro h n z x1 x2 x3 hk; exact hk.elim
  | succ f ih =>
    intro h n z x1 x2 x3 hk
    refine r_iload_n X (pc := 4) dX1_postsOf_4 rfl (q := 3) rfl ?_
    refine r_aload_n X (pc := 5) dX1_postsOf_5 rfl (q := 0) rfl ?_
    refine r_hGR X (pc := 6) fa_X1_14 dX1_postsOf_6 hk (fun y13 hk => ?_)
    refine r_hGI X (pc := 9) fa_X1_111_X2 dX1_postsOf_9 hk (fun y14 hk => ?_)
    obtain ⟨b15, b16, hk⟩ := hk
    refine r_icmp_ge X (pc := 12) (tgt := 40) dX1_postsOf_12 (by decide) ⟨b15, b16⟩ (fun c17 => ?_) (fun c17 => ?_)
    · have hk := hk.2 c17
      refine G.sub [0, 2] rfl ?_
      exact H_40 h n z x2 hk
    · have hk := hk.1 c17
      refine r_aload_n X (pc := 15) dX1_postsOf_15 rfl (q := 0) rfl ?_
      refine r_hGR X (pc := 16) fa_X1_14 dX1_postsOf_16 hk (fun y18 hk => ?_)
      refine r_hGR X (pc := 19) fa_X1_146_X2 dX1_postsOf_19 hk (fun y19 hk => ?_)
      refine r_iload_n X (pc := 22) dX1_postsOf_22 rfl (q := 3) rfl ?_
      refine r_hAR X (pc := 23) (t := 5) rfl dX1_postsOf_23 hk (fun y20 hk => ?_)
      refine r_hGI X (pc := 24) fa_X1_172_X3 dX1_postsOf_24 hk (fun y21 hk => ?_)
      refine r_iload_n X (pc := 27) dX1_postsOf_27 rfl (q := 1) rfl ?_
      obtain ⟨b22, b23, hk⟩ := hk
      refine r_icmp_ne X (pc := 28) (tgt := 34) dX1_postsOf_28 (by decide) ⟨b22, b23⟩ (fun c24 => ?_) (fun c24 => ?_)
      · have hk := hk.2 c24
        refine r_iinc X (pc := 34) (q := 3) (lv1 := [(3, vI (x3 + 1)), (0, vR (some o)), (1, vI x1), (2, vI x2)]) dX1_postsOf_34 rfl (by decide) rfl ?_
        refine r_goto X (pc := 37) (tgt := 4) dX1_postsOf_37 (by decide) ?_
        refine G.sub [1, 2, 3, 0] rfl ?_
        exact ih h n z x1 x2 (x3 + 1) hk
      · have hk := hk.1 c24
        refine r_iinc X (pc := 31) (q := 2) (lv1 := [(2, vI (x2 + 1)), (0, vR (some o)), (1, vI x1), (3, vI x3)]) dX1_postsOf_31 rfl (by decide) rfl ?_
        refine r_iinc X (pc := 34) (q := 3) (lv1 := [(3, vI (x3 + 1)), (2, vI (x2 + 1)), (0, vR (some o)), (1, vI x1)]) dX1_postsOf_34 rfl (by decide) rfl ?_
        refine r_goto X (pc := 37) (tgt := 4) dX1_postsOf_37 (by decide) ?_
        refine G.sub [2, 3, 1, 0] rfl ?_
        exact ih h n z x1 (x2 + 1) (x3 + 1) hk
set_option maxHeartbeats 4000000 in
theorem w_X1_postsOf_40 {K : KT} {Y : YT} {o : Nat} {κ : Int → AH → Nat → Nat → Prop} {χ : QxT} (X : XY K "TrailMarkers" "postsOf" cX1_postsOf (Option.some Jvm.ClassFile.FieldType.int) [] 4 0 0 Y) (E : YE K Y (QvI κ) χ) : ∀ (h : AH) (n : Nat) (z : Nat) (x2 : Int), P_X1_postsOf_40 K o κ χ h n z x2 → G K Y h n z 40 [(0, vR (some o)), (2, vI x2)] [] := by
  intro h n z x2 hk
  refine r_iload_n X (pc := 40) dX1_postsOf_40 rfl (q := 1) rfl ?_
  exact r_iret X E (pc := 41) dX1_postsOf_41 rfl ⟨_, rfl, hk⟩
set_option maxHeartbeats 4000000 in
theorem w_X1_postsOf {K : KT} {Y : YT} {o : Nat} {κ : Int → AH → Nat → Nat → Prop} {χ : QxT} (X : XY K "TrailMarkers" "postsOf" cX1_postsOf (Option.some Jvm.ClassFile.FieldType.int) [] 4 0 0 Y) (E : YE K Y (QvI κ) χ) {h : AH} {n : Nat} {z : Nat} {x1 : Int} (hk : P_X1_postsOf K o κ χ h n z x1) : G K Y h n z 0 (lv_argsA 0 [vR (some o), vI x1]) [] := by
  show G K Y h n z 0 [(0, vR (some o)), (1, vI x1)] []
  refine r_iconst X (pc := 0) dX1_postsOf_0 ?_
  refine r_istore_n X (pc := 1) (lv1 := [(2, vI 0), (0, vR (some o)), (1, vI x1)]) dX1_postsOf_1 rfl (by decide) rfl ?_
  refine r_iconst X (pc := 2) dX1_postsOf_2 ?_
  refine r_istore_n X (pc := 3) (lv1 := [(3, vI 0), (2, vI 0), (0, vR (some o)), (1, vI x1)]) dX1_postsOf_3 rfl (by decide) rfl ?_
  refine G.sub [2, 3, 1, 0] rfl ?_
  have HH25 : ∀ (h : AH) (n : Nat) (z : Nat) (x2 : Int), (P_X1_postsOf_40 K o κ χ h n z x2) → G K Y h n z 40 [(0, vR (some o)), (2, vI x2)] [] := by
      intro h n z x2 hk
      exact w_X1_postsOf_40 X E h n z x2 hk
  obtain ⟨f9, hk⟩ := hk
  exact w_X1_postsOf_4 X E HH25 f9 h n z x1 0 0 hk
theorem s_X1_postsOf {K : KT} {l : Launch} {o : Nat} {κ : Int → AH → Nat → Nat → Prop} {χ : QxT} {h : AH} {n : Nat} {z : Nat} {x1 : Int} (hk : P_X1_postsOf K o κ χ h n z x1) : Ct K l yX1_postsOf (ws_ yX1_postsOf cX1_postsOf 4 (Option.some Jvm.ClassFile.FieldType.int)) 0 0 ([vR (some o), vI x1].map cV) h n z (QvI κ) χ :=
  ct_of (by decide +kernel) (Nat.le_of_ble_eq_true rfl) (fun Y X E => w_X1_postsOf X E hk)
set_option maxHeartbeats 4000000 in
theorem w_X1_rightGuesses_5 {K : KT} {Y : YT} {o : Nat} {κ : Int → AH → Nat → Nat → Prop} {χ : QxT} (X : XY K "TrailMarkers" "rightGuesses" cX1_rightGuesses (Option.some Jvm.ClassFile.FieldType.int) [] 5 2 45 Y) (E : YE K Y (QvI κ) χ) {k_41 : AH → Nat → Nat → Int → Prop} (H_41 : ∀ (h : AH) (n : Nat) (z : Nat) (x3 : Int), k_41 h n z x3 → G K Y h n z 41 [(0, vR (some o)), (3, vI x3)] []) : ∀ (f : Nat) (h : AH) (n : Nat) (z : Nat) (x1 : Option Nat) (x2 : Int) (x3 : Int) (x4 : Int), L_X1_rightGuesses_5 K o k_41 κ χ f h n z x1 x2 x3 x4 → G K Y h n z 5 [(0, vR (some o)), (1, vR x1), (2, vI x2), (3, vI x3), (4, vI x4)] [] := by
  intro f
  induction f with
  | zero => intro h n z x1 x2 x3 x4 hk; exact hk.elim
  | succ f ih =>
    intro h n z x1 x2 x3 x4 hk
    refine r_iload X (pc := 5) dX1_rightGuesses_5 (q := 4) rfl ?_
    refine r_aload_n X (pc := 7) dX1_rightGuesses_7 rfl (q := 1) rfl ?_
    refine r_hGI X (pc := 8) fa_X1_268_X8 dX1_rightGuesses_8 hk (fun y11 hk => ?_)
    obtain ⟨b12, b13, hk⟩ := hk
    refine r_icmp_ge X (pc := 11) (tgt := 41) dX1_rightGuesses_11 (by decide) ⟨b12, b13⟩ (fun c14 => ?_) (fun c14 => ?_)
    · have hk := hk.2 c14
      refine G.sub [0, 3] rfl ?_
      exact H_41 h n z x3 hk
    · have hk := hk.1 c14
      refine r_aload_n X (pc := 14) dX1_rightGuesses_14 rfl (q := 0) rfl ?_
      refine r_hGR X (pc := 15) fa_X1_14 dX1_rightGuesses_15 hk (fun y15 hk => ?_)
      refine r_aload_n X (pc := 18) dX1_rightGuesses_18 rfl (q := 1) rfl ?_
      refine r_hGR X (pc := 19) fa_X1_275_X8 dX1_rightGuesses_19 hk (fun y16 hk => ?_)
      refine r_iload X (pc := 22) dX1_rightGuesses_22 (q := 4) rfl ?_
      refine r_hAI X (pc := 24) dX1_rightGuesses_24 hk (fun y17 hk => ?_)
      refine r_iload_n X (pc := 25) dX1_rightGuesses_25 rfl (q := 2) rfl ?_
      obtain ⟨o29, fs30, e9, b31, hk⟩ := hk
      refine r_callV X (pc := 26) (As := [vI y17, vI x2]) (st := []) rfl rfl e9 b31 m_X1_278 (fun _ => s_X2_hasMissingAt hk) ⟨by decide, by decide⟩ (Nat.le_of_ble_eq_true rfl) dX1_rightGuesses_26 (fun v9 h19 n20 z21 hq => ?_) (fun ci24 q25 h26 n27 z28 hf => ?_)
      · obtain ⟨r18, rfl, hk⟩ := hq
        refine ⟨[vI r18], rfl, ?_⟩
        obtain ⟨b22, hk⟩ := hk
        refine r_if_eq X (pc := 29) (tgt := 35) dX1_rightGuesses_29 (by decide) b22 (fun c23 => ?_) (fun c23 => ?_)
        · have hk := hk.1 c23
          refine r_iinc X (pc := 35) (q := 4) (lv1 := [(4, vI (x4 + 1)), (0, vR (some o)), (1, vR x1), (2, vI x2), (3, vI x3)]) dX1_rightGuesses_35 rfl (by decide) rfl ?_
          refine r_goto X (pc := 38) (tgt := 5) dX1_rightGuesses_38 (by decide) ?_
          refine G.sub [1, 2, 3, 4, 0] rfl ?_
          exact ih h19 n20 z21 x1 x2 x3 (x4 + 1) hk
        · have hk := hk.2 c23
          refine r_iinc X (pc := 32) (q := 3) (lv1 := [(3, vI (x3 + 1)), (0, vR (some o)), (1, vR x1), (2, vI x2), (4, vI x4)]) dX1_rightGuesses_32 rfl (by decide) rfl ?_
          refine r_iinc X (pc := 35) (q := 4) (lv1 := [(4, vI (x4 + 1)), (3, vI (x3 + 1)), (0, vR (some o)), (1, vR x1), (2, vI x2)]) dX1_rightGuesses_35 rfl (by decide) rfl ?_
          refine r_goto X (pc := 38) (tgt := 5) dX1_rightGuesses_38 (by decide) ?_
          refine G.sub [2, 3, 4, 1, 0] rfl ?_
          exact ih h19 n20 z21 x1 x2 (x3 + 1) (x4 + 1) hk
      · have hk := hf
        exact r_out X E (fun _ h9 => nomatch h9) hk
set_option maxHeartbeats 4000000 in
theorem w_X1_rightGuesses_41 {K : KT} {Y : YT} {o : Nat} {κ : Int → AH → Nat → Nat → Prop} {χ : QxT} (X : XY K "TrailMarkers" "rightGuesses" cX1_rightGuesses (Option.some Jvm.ClassFile.FieldType.int) [] 5 2 45 Y) (E : YE K Y (QvI κ) χ) : ∀ (h : AH) (n : Nat) (z : Nat) (x3 : Int), P_X1_rightGuesses_41 K o κ χ h n z x3 → G K Y h n z 41 [(0, vR (some o)), (3, vI x3)] [] := by
  intro h n z x3 hk
  refine r_iload_n X (pc := 41) dX1_rightGuesses_41 rfl (q := 1) rfl ?_
  exact r_iret X E (pc := 42) dX1_rightGuesses_42 rfl ⟨_, rfl, hk⟩
set_option maxHeartbeats 4000000 in
theorem w_X1_rightGuesses {K : KT} {Y : YT} {o : Nat} {κ : Int → AH → Nat → Nat → Prop} {χ : QxT} (X : XY K "TrailMarkers" "rightGuesses" cX1_rightGuesses (Option.some Jvm.ClassFile.FieldType.int) [] 5 2 45 Y) (E : YE K Y (QvI κ) χ) {h : AH} {n : Nat} {z : Nat} {x1 : Option Nat} {x2 : Int} (hk : P_X1_rightGuesses K o κ χ h n z x1 x2) : G K Y h n z 0 (lv_argsA 0 [vR (some o), vR x1, vI x2]) [] := by
  show G K Y h n z 0 [(0, vR (some o)), (1, vR x1), (2, vI x2)] []
  refine r_iconst X (pc := 0) dX1_rightGuesses_0 ?_
  refine r_istore_n X (pc := 1) (lv1 := [(3, vI 0), (0, vR (some o)), (1, vR x1), (2, vI x2)]) dX1_rightGuesses_1 rfl (by decide) rfl ?_
  refine r_iconst X (pc := 2) dX1_rightGuesses_2 ?_
  refine r_istore X (pc := 3) (lv1 := [(4, vI 0), (3, vI 0), (0, vR (some o)), (1, vR x1), (2, vI x2)]) dX1_rightGuesses_3 (by decide) rfl ?_
  refine G.sub [2, 3, 4, 1, 0] rfl ?_
  have HH32 : ∀ (h : AH) (n : Nat) (z : Nat) (x3 : Int), (P_X1_rightGuesses_41 K o κ χ h n z x3) → G K Y h n z 41 [(0, vR (some o)), (3, vI x3)] [] := by
      intro h n z x3 hk
      exact w_X1_rightGuesses_41 X E h n z x3 hk
  obtain ⟨f9, hk⟩ := hk
  exact w_X1_rightGuesses_5 X E HH32 f9 h n z x1 x2 0 0 hk
theorem s_X1_rightGuesses {K : KT} {l : Launch} {o : Nat} {κ : Int → AH → Nat → Nat → Prop} {χ : QxT} {h : AH} {n : Nat} {z : Nat} {x1 : Option Nat} {x2 : Int} (hk : P_X1_rightGuesses K o κ χ h n z x1 x2) : Ct K l yX1_rightGuesses (ws_ yX1_rightGuesses cX1_rightGuesses 5 (Option.some Jvm.ClassFile.FieldType.int)) 2 45 ([vR (some o), vR x1, vI x2].map cV) h n z (QvI κ) χ :=
  ct_of (by decide +kernel) (Nat.le_of_ble_eq_true rfl) (fun Y X E => w_X1_rightGuesses X E hk)
set_option maxHeartbeats 4000000 in
theorem w_X1_colour {K : KT} {Y : YT} {o : Nat} {κ : Int → AH → Nat → Nat → Prop} {χ : QxT} (X : XY K "TrailMarkers" "colour" cX1_colour (Option.some Jvm.ClassFile.FieldType.int) [] 5 11 303 Y) (E : YE K Y (QvI κ) χ) {h : AH} {n : Nat} {z : Nat} {x1 : Int} {x2 : Int} (hk : P_X1_colour K o κ χ h n z x1 x2) : G K Y h n z 0 (lv_argsA 0 [vR (some o), vI x1, vI x2]) [] := by
  show G K Y h n z 0 [(0, vR (some o)), (1, vI x1), (2, vI x2)] []
  refine r_aload_n X (pc := 0) dX1_colour_0 rfl (q := 0) rfl ?_
  refine r_iload_n X (pc := 1) dX1_colour_1 rfl (q := 1) rfl ?_
  obtain ⟨o134, fs135, e9, b136, hk⟩ := hk
  refine r_callV X (pc := 2) (As := [vI x1]) (st := []) rfl rfl e9 b136 m_X1_150 (fun _ => s_X1_needColour hk) ⟨by decide, by decide⟩ (Nat.le_of_ble_eq_true rfl) dX1_colour_2 (fun v9 h18 n19 z20 hq => ?_) (fun ci129 q130 h131 n132 z133 hf => ?_)
  · obtain ⟨rfl, hk⟩ := hq
    refine ⟨[], rfl, ?_⟩
    refine r_aload_n X (pc := 5) dX1_colour_5 rfl (q := 0) rfl ?_
    refine r_iload_n X (pc := 6) dX1_colour_6 rfl (q := 2) rfl ?_
    refine r_iconst X (pc := 7) dX1_colour_7 ?_
    refine r_bipush X (pc := 8) dX1_colour_8 (by decide) ?_
    obtain ⟨o126, fs127, e9, b128, hk⟩ := hk
    refine r_callV X (pc := 10) (As := [vI x2, vI 0, vI 6]) (st := []) rfl rfl e9 b128 m_X1_88 (fun _ => s_X1_need hk) ⟨by decide, by decide⟩ (Nat.le_of_ble_eq_true rfl) dX1_colour_10 (fun v9 h21 n22 z23 hq => ?_) (fun ci121 q122 h123 n124 z125 hf => ?_)
    · obtain ⟨rfl, hk⟩ := hq
      refine ⟨[], rfl, ?_⟩
      refine r_hNew X (pc := 13) nw_X1_216 dX1_colour_13 hk (fun h24 hk => ?_)
      refine r_dup X (pc := 16) dX1_colour_16 rfl ?_
      refine r_aload_n X (pc := 17) dX1_colour_17 rfl (q := 0) rfl ?_
      refine r_hGR X (pc := 18) fa_X1_14 dX1_colour_18 hk (fun y25 hk => ?_)
      refine r_callI X (pc := 21) (As := [vR y25]) (st := [vR (some n22)]) m_X1_218 (fun _ => s_X8_init hk) ⟨by decide, by decide⟩ (Nat.le_of_ble_eq_true rfl) dX1_colour_21 (fun v9 h26 n27 z28 hq => ?_) (fun ci116 q117 h118 n119 z120 hf => ?_)
      · obtain ⟨rfl, hk⟩ := hq
        refine ⟨[], rfl, ?_⟩
        refine r_astore_n X (pc := 24) (lv1 := [(3, vR (some n22)), (0, vR (some o)), (1, vI x1), (2, vI x2)]) dX1_colour_24 rfl (by decide) rfl ?_
        refine r_aload_n X (pc := 25) dX1_colour_25 rfl (q := 0) rfl ?_
        refine r_iload_n X (pc := 26) dX1_colour_26 rfl (q := 2) rfl ?_
        obtain ⟨o113, fs114, e9, b115, hk⟩ := hk
        refine r_callV X (pc := 27) (As := [vI x1]) (st := []) rfl rfl e9 b115 m_X1_259 (fun _ => s_X8_metOf hk) ⟨by decide, by decide⟩ (Nat.le_of_ble_eq_true rfl) dX1_colour_27 (fun v9 h30 n31 z32 hq => ?_) (fun ci108 q109 h110 n111 z112 hf => ?_)
        · obtain ⟨r29, rfl, hk⟩ := hq
          refine ⟨[vI r29], rfl, ?_⟩
          refine r_istore X (pc := 30) (lv1 := [(4, vI r29), (3, vR (some n22)), (0, vR (some o)), (1, vI x1), (2, vI x2)]) dX1_colour_30 (by decide) rfl ?_
          refine r_iload_n X (pc := 32) dX1_colour_32 rfl (q := 4) rfl ?_
          obtain ⟨b33, hk⟩ := hk
          by_cases c46 : x2 = 0
          · have hk := hk.1 c46
            refine r_tswIn X (pc := 33) (j := 0) (tgt := 72) dX1_colour_33 b33 (by omega) (by decide) rfl (by decide) ?_
            refine r_aload_n X (pc := 72) dX1_colour_72 rfl (q := 2) rfl ?_
            refine r_iload_n X (pc := 73) dX1_colour_73 rfl (q := 3) rfl ?_
            obtain ⟨o56, fs57, e9, b58, hk⟩ := hk
            refine r_callV X (pc := 74) (As := [vI x1]) (st := []) rfl rfl e9 b58 m_X1_262 (fun _ => s_X1_postsOf hk) ⟨by decide, by decide⟩ (Nat.le_of_ble_eq_true rfl) dX1_colour_74 (fun v9 h48 n49 z50 hq => ?_) (fun ci51 q52 h53 n54 z55 hf => ?_)
            · obtain ⟨r47, rfl, hk⟩ := hq
              refine ⟨[vI r47], rfl, ?_⟩
              exact r_iret X E (pc := 77) dX1_colour_77 rfl ⟨_, rfl, hk⟩
            · have hk := hf
              exact r_out X E (fun _ h9 => nomatch h9) hk
          · have hk := hk.2 c46
            by_cases c59 : x2 = 1
            · have hk := hk.1 c59
              refine r_tswIn X (pc := 33) (j := 1) (tgt := 78) dX1_colour_33 b33 (by omega) (by decide) rfl (by decide) ?_
              refine r_aload_n X (pc := 78) dX1_colour_78 rfl (q := 2) rfl ?_
              refine r_hGR X (pc := 79) fa_X1_14 dX1_colour_79 hk (fun y60 hk => ?_)
              refine r_iload_n X (pc := 82) dX1_colour_82 rfl (q := 3) rfl ?_
              obtain ⟨o70, fs71, e9, b72, hk⟩ := hk
              refine r_callV X (pc := 83) (As := [vI x1]) (st := []) rfl rfl e9 b72 m_X1_175 (fun _ => s_X2_standing hk) ⟨by decide, by decide⟩ (Nat.le_of_ble_eq_true rfl) dX1_colour_83 (fun v9 h62 n63 z64 hq => ?_) (fun ci65 q66 h67 n68 z69 hf => ?_)
              · obtain ⟨r61, rfl, hk⟩ := hq
                refine ⟨[vI r61], rfl, ?_⟩
                exact r_iret X E (pc := 86) dX1_colour_86 rfl ⟨_, rfl, hk⟩
              · have hk := hf
                exact r_out X E (fun _ h9 => nomatch h9) hk
            · have hk := hk.2 c59
              by_cases c73 : x2 = 2
              · have hk := hk.1 c73
                refine r_tswIn X (pc := 33) (j := 2) (tgt := 87) dX1_colour_33 b33 (by omega) (by decide) rfl (by decide) ?_
                refine r_aload_n X (pc := 87) dX1_colour_87 rfl (q := 2) rfl ?_
                refine r_hGR X (pc := 88) fa_X1_14 dX1_colour_88 hk (fun y74 hk => ?_)
                refine r_iload_n X (pc := 91) dX1_colour_91 rfl (q := 3) rfl ?_
                obtain ⟨o84, fs85, e9, b86, hk⟩ := hk
                refine r_callV X (pc := 92) (As := [vI x1]) (st := []) rfl rfl e9 b86 m_X1_265 (fun _ => s_X2_begin hk) ⟨by decide, by decide⟩ (Nat.le_of_ble_eq_true rfl) dX1_colour_92 (fun v9 h76 n77 z78 hq => ?_) (fun ci79 q80 h81 n82 z83 hf => ?_)
                · obtain ⟨r75, rfl, hk⟩ := hq
                  refine ⟨[vI r75], rfl, ?_⟩
                  exact r_iret X E (pc := 95) dX1_colour_95 rfl ⟨_, rfl, hk⟩
                · have hk := hf
                  exact r_out X E (fun _ h9 => nomatch h9) hk
              · have hk := hk.2 c73
                by_cases c87 : x2 = 3
                · have hk := hk.1 c87
                  refine r_tswIn X (pc := 33) (j := 3) (tgt := 96) dX1_colour_33 b33 (by omega) (by decide) rfl (by decide) ?_
                  refine r_iload X (pc := 96) dX1_colour_96 (q := 0) rfl ?_
                  obtain ⟨b88, hk⟩ := hk
                  refine r_if_le X (pc := 98) (tgt := 118) dX1_colour_98 (by decide) b88 (fun c89 => ?_) (fun c89 => ?_)
                  · have hk := hk.2 c89
                    refine r_iconst X (pc := 118) dX1_colour_118 ?_
                    exact r_iret X E (pc := 119) dX1_colour_119 rfl ⟨_, rfl, hk⟩
                  · have hk := hk.1 c89
                    refine r_iload X (pc := 101) dX1_colour_101 (q := 0) rfl ?_
                    refine r_aload_n X (pc := 103) dX1_colour_103 rfl (q := 2) rfl ?_
                    refine r_hGR X (pc := 104) fa_X1_14 dX1_colour_104 hk (fun y90 hk => ?_)
                    refine r_iload_n X (pc := 107) dX1_colour_107 rfl (q := 3) rfl ?_
                    obtain ⟨o102, fs103, e9, b104, hk⟩ := hk
                    refine r_callV X (pc := 108) (As := [vI x1]) (st := [vI r29]) rfl rfl e9 b104 m_X1_175 (fun _ => s_X2_standing hk) ⟨by decide, by decide⟩ (Nat.le_of_ble_eq_true rfl) dX1_colour_108 (fun v9 h92 n93 z94 hq => ?_) (fun ci97 q98 h99 n100 z101 hf => ?_)
                    · obtain ⟨r91, rfl, hk⟩ := hq
                      refine ⟨[vI r91], rfl, ?_⟩
                      obtain ⟨b95, hk⟩ := hk
                      refine r_icmp_ne X (pc := 111) (tgt := 118) dX1_colour_111 (by decide) ⟨b88, b95⟩ (fun c96 => ?_) (fun c96 => ?_)
                      · have hk := hk.2 c96
                        refine r_iconst X (pc := 118) dX1_colour_118 ?_
                        exact r_iret X E (pc := 119) dX1_colour_119 rfl ⟨_, rfl, hk⟩
                      · have hk := hk.1 c96
                        refine r_iconst X (pc := 114) dX1_colour_114 ?_
                        refine r_goto X (pc := 115) (tgt := 119) dX1_colour_115 (by decide) ?_
                        exact r_iret X E (pc := 119) dX1_colour_119 rfl ⟨_, rfl, hk⟩
                    · have hk := hf
                      exact r_out X E (fun _ h9 => nomatch h9) hk
                · have hk := hk.2 c87
                  by_cases c105 : x2 = 4
                  · have hk := hk.1 c105
                    refine r_tswIn X (pc := 33) (j := 4) (tgt := 120) dX1_colour_33 b33 (by omega) (by decide) rfl (by decide) ?_
                    refine r_iload X (pc := 120) dX1_colour_120 (q := 0) rfl ?_
                    exact r_iret X E (pc := 122) dX1_colour_122 rfl ⟨_, rfl, hk⟩
                  · have hk := hk.2 c105
                    by_cases c106 : x2 = 5
                    · have hk := hk.1 c106
                      refine r_tswIn X (pc := 33) (j := 5) (tgt := 123) dX1_colour_33 b33 (by omega) (by decide) rfl (by decide) ?_
                      refine r_aload_n X (pc := 123) dX1_colour_123 rfl (q := 1) rfl ?_
                      refine r_hGI X (pc := 124) fa_X1_268_X8 dX1_colour_124 hk (fun y107 hk => ?_)
                      exact r_iret X E (pc := 127) dX1_colour_127 rfl ⟨_, rfl, hk⟩
                    · have hk := hk.2 c106
                      refine r_tswOut X (pc := 33) (tgt := 128) dX1_colour_33 b33 (by omega) (by decide) ?_
                      refine r_aload_n X (pc := 128) dX1_colour_128 rfl (q := 2) rfl ?_
                      refine r_aload_n X (pc := 129) dX1_colour_129 rfl (q := 1) rfl ?_
                      refine r_iload_n X (pc := 130) dX1_colour_130 rfl (q := 3) rfl ?_
                      obtain ⟨o43, fs44, e9, b45, hk⟩ := hk
                      refine r_callV X (pc := 131) (As := [vR (some n22), vI x1]) (st := []) rfl rfl e9 b45 m_X1_271 (fun _ => s_X1_rightGuesses hk) ⟨by decide, by decide⟩ (Nat.le_of_ble_eq_true rfl) dX1_colour_131 (fun v9 h35 n36 z37 hq => ?_) (fun ci38 q39 h40 n41 z42 hf => ?_)
                      · obtain ⟨r34, rfl, hk⟩ := hq
                        refine ⟨[vI r34], rfl, ?_⟩
                        exact r_iret X E (pc := 134) dX1_colour_134 rfl ⟨_, rfl, hk⟩
                      · have hk := hf
                        exact r_out X E (fun _ h9 => nomatch h9) hk
        · have hk := hf
          exact r_out X E (fun _ h9 => nomatch h9) hk
      · have hk := hf
        exact r_out X E (fun _ h9 => nomatch h9) hk
    · have hk := hf
      exact r_out X E (fun _ h9 => nomatch h9) hk
  · have hk := hf
    exact r_out X E (fun _ h9 => nomatch h9) hk
theorem s_X1_colour {K : KT} {l : Launch} {o : Nat} {κ : Int → AH → Nat → Nat → Prop} {χ : QxT} {h : AH} {n : Nat} {z : Nat} {x1 : Int} {x2 : Int} (hk : P_X1_colour K o κ χ h n z x1 x2) : Ct K l yX1_colour (ws_ yX1_colour cX1_colour 5 (Option.some Jvm.ClassFile.FieldType.int)) 11 303 ([vR (some o), vI x1, vI x2].map cV) h n z (QvI κ) χ :=
  ct_of (by decide +kernel) (Nat.le_of_ble_eq_true rfl) (fun Y X E => w_X1_colour X E hk)
set_option maxHeartbeats 4000000 in
theorem w_X1_met_29 {K : KT} {Y : YT} {o : Nat} {κ : Int64 → AH → Nat → Nat → Prop} {χ : QxT} (X : XY K "TrailMarkers" "met" cX1_met (Option.some Jvm.ClassFile.FieldType.long) [] 7 11 301 Y) (E : YE K Y (QvJ κ) χ) {k_55 : AH → Nat → Nat → Int64 → Prop} (H_55 : ∀ (h : AH) (n : Nat) (z : Nat) (x4 : Int64), k_55 h n z x4 → G K Y h n z 55 [(0, vR (some o)), (4, vJ x4)] []) : ∀ (f : Nat) (h : AH) (n : Nat) (z : Nat) (x2 : Option Nat) (x3 : Int) (x4 : Int64) (x6 : Int), L_X1_met_29 K o k_55 κ χ f h n z x2 x3 x4 x6 → G K Y h n z 29 [(0, vR (some o)), (2, vR x2), (3, vI x3), (4, vJ x4), (6, vI x6)] [] := by
  intro f
  induction f with
  | zero => intro h n z x2 x3 x4 x6 hk; exact hk.elim
  | succ f ih =>
    intro h n z x2 x3 x4 x6 hk
    refine r_iload X (pc := 29) dX1_met_29 (q := 4) rfl ?_
    refine r_iload_n X (pc := 31) dX1_met_31 rfl (q := 2) rfl ?_
    obtain ⟨b9, b10, hk⟩ := hk
    refine r_icmp_ge X (pc := 32) (tgt := 55) dX1_met_32 (by decide) ⟨b9, b10⟩ (fun c11 => ?_) (fun c11 => ?_)
    · have hk := hk.2 c11
      refine G.sub [0, 3] rfl ?_
      exact H_55 h n z x4 hk
    · have hk := hk.1 c11
      refine r_lload X (pc := 35) dX1_met_35 (q := 3) rfl ?_
      refine r_lconst X (pc := 37) (x := 1) dX1_met_37 rfl ?_
      refine r_aload_n X (pc := 38) dX1_met_38 rfl (q := 1) rfl ?_
      refine r_hGR X (pc := 39) fa_X1_281_X8 dX1_met_39 hk (fun y12 hk => ?_)
      refine r_iload X (pc := 42) dX1_met_42 (q := 4) rfl ?_
      refine r_hAI X (pc := 44) dX1_met_44 hk (fun y13 hk => ?_)
      refine r_lshl X (pc := 45) dX1_met_45 ?_
      refine r_lor X (pc := 46) dX1_met_46 ?_
      refine r_lstore X (pc := 47) (lv1 := [(4, vJ (x4 ||| (lshl 1 y13))), (0, vR (some o)), (2, vR x2), (3, vI x3), (6, vI x6)]) dX1_met_47 (by decide) rfl ?_
      refine r_iinc X (pc := 49) (q := 4) (lv1 := [(6, vI (x6 + 1)), (4, vJ (x4 ||| (lshl 1 y13))), (0, vR (some o)), (2, vR x2), (3, vI x3)]) dX1_met_49 rfl (by decide) rfl ?_
      refine r_goto X (pc := 52) (tgt := 29) dX1_met_52 (by decide) ?_
      refine G.sub [2, 3, 4, 1, 0] rfl ?_
      exact ih h n z x2 x3 (x4 ||| (lshl 1 y13)) (x6 + 1) hk
set_option maxHeartbeats 4000000 in
theorem w_X1_met_55 {K : KT} {Y : YT} {o : Nat} {κ : Int64 → AH → Nat → Nat → Prop} {χ : QxT} (X : XY K "TrailMarkers" "met" cX1_met (Option.some Jvm.ClassFile.FieldType.long) [] 7 11 301 Y) (E : YE K Y (QvJ κ) χ) : ∀ (h : AH) (n : Nat) (z : Nat) (x4 : Int64), P_X1_met_55 K o κ χ h n z x4 → G K Y h n z 55 [(0, vR (some o)), (4, vJ x4)] [] := by
  intro h n z x4 hk
  refine r_lload X (pc := 55) dX1_met_55 (q := 1) rfl ?_
  exact r_lret X E (pc := 57) dX1_met_57 ⟨_, rfl, hk⟩
set_option maxHeartbeats 4000000 in
theorem w_X1_met {K : KT} {Y : YT} {o : Nat} {κ : Int64 → AH → Nat → Nat → Prop} {χ : QxT} (X : XY K "TrailMarkers" "met" cX1_met (Option.some Jvm.ClassFile.FieldType.long) [] 7 11 301 Y) (E : YE K Y (QvJ κ) χ) {h : AH} {n : Nat} {z : Nat} {x1 : Int} (hk : P_X1_met K o κ χ h n z x1) : G K Y h n z 0 (lv_argsA 0 [vR (some o), vI x1]) [] := by
  show G K Y h n z 0 [(0, vR (some o)), (1, vI x1)] []
  refine r_aload_n X (pc := 0) dX1_met_0 rfl (q := 0) rfl ?_
  refine r_iload_n X (pc := 1) dX1_met_1 rfl (q := 1) rfl ?_
  obtain ⟨o45, fs46, e9, b47, hk⟩ := hk
  refine r_callV X (pc := 2) (As := [vI x1]) (st := []) rfl rfl e9 b47 m_X1_150 (fun _ => s_X1_needColour hk) ⟨by decide, by decide⟩ (Nat.le_of_ble_eq_true rfl) dX1_met_2 (fun v9 h14 n15 z16 hq => ?_) (fun ci40 q41 h42 n43 z44 hf => ?_)
  · obtain ⟨rfl, hk⟩ := hq
    refine ⟨[], rfl, ?_⟩
    refine r_hNew X (pc := 5) nw_X1_216 dX1_met_5 hk (fun h17 hk => ?_)
    refine r_dup X (pc := 8) dX1_met_8 rfl ?_
    refine r_aload_n X (pc := 9) dX1_met_9 rfl (q := 0) rfl ?_
    refine r_hGR X (pc := 10) fa_X1_14 dX1_met_10 hk (fun y18 hk => ?_)
    refine r_callI X (pc := 13) (As := [vR y18]) (st := [vR (some n15)]) m_X1_218 (fun _ => s_X8_init hk) ⟨by decide, by decide⟩ (Nat.le_of_ble_eq_true rfl) dX1_met_13 (fun v9 h19 n20 z21 hq => ?_) (fun ci35 q36 h37 n38 z39 hf => ?_)
    · obtain ⟨rfl, hk⟩ := hq
      refine ⟨[], rfl, ?_⟩
      refine r_astore_n X (pc := 16) (lv1 := [(2, vR (some n15)), (0, vR (some o)), (1, vI x1)]) dX1_met_16 rfl (by decide) rfl ?_
      refine r_aload_n X (pc := 17) dX1_met_17 rfl (q := 0) rfl ?_
      refine r_iload_n X (pc := 18) dX1_met_18 rfl (q := 2) rfl ?_
      obtain ⟨o32, fs33, e9, b34, hk⟩ := hk
      refine r_callV X (pc := 19) (As := [vI x1]) (st := []) rfl rfl e9 b34 m_X1_259 (fun _ => s_X8_metOf hk) ⟨by decide, by decide⟩ (Nat.le_of_ble_eq_true rfl) dX1_met_19 (fun v9 h23 n24 z25 hq => ?_) (fun ci27 q28 h29 n30 z31 hf => ?_)
      · obtain ⟨r22, rfl, hk⟩ := hq
        refine ⟨[vI r22], rfl, ?_⟩
        refine r_istore_n X (pc := 22) (lv1 := [(3, vI r22), (2, vR (some n15)), (0, vR (some o)), (1, vI x1)]) dX1_met_22 rfl (by decide) rfl ?_
        refine r_lconst X (pc := 23) (x := 0) dX1_met_23 rfl ?_
        refine r_lstore X (pc := 24) (lv1 := [(4, vJ 0), (3, vI r22), (2, vR (some n15)), (0, vR (some o)), (1, vI x1)]) dX1_met_24 (by decide) rfl ?_
        refine r_iconst X (pc := 26) dX1_met_26 ?_
        refine r_istore X (pc := 27) (lv1 := [(6, vI 0), (4, vJ 0), (3, vI r22), (2, vR (some n15)), (0, vR (some o)), (1, vI x1)]) dX1_met_27 (by decide) rfl ?_
        refine G.sub [4, 3, 2, 1, 0] rfl ?_
        have HH26 : ∀ (h : AH) (n : Nat) (z : Nat) (x4 : Int64), (P_X1_met_55 K o κ χ h n z x4) → G K Y h n z 55 [(0, vR (some o)), (4, vJ x4)] [] := by
            intro h n z x4 hk
            exact w_X1_met_55 X E h n z x4 hk
        obtain ⟨f9, hk⟩ := hk
        exact w_X1_met_29 X E HH26 f9 h23 n24 z25 (some n15) r22 0 0 hk
      · have hk := hf
        exact r_out X E (fun _ h9 => nomatch h9) hk
    · have hk := hf
      exact r_out X E (fun _ h9 => nomatch h9) hk
  · have hk := hf
    exact r_out X E (fun _ h9 => nomatch h9) hk
theorem s_X1_met {K : KT} {l : Launch} {o : Nat} {κ : Int64 → AH → Nat → Nat → Prop} {χ : QxT} {h : AH} {n : Nat} {z : Nat} {x1 : Int} (hk : P_X1_met K o κ χ h n z x1) : Ct K l yX1_met (ws_ yX1_met cX1_met 7 (Option.some Jvm.ClassFile.FieldType.long)) 11 301 ([vR (some o), vI x1].map cV) h n z (QvJ κ) χ :=
  ct_of (by decide +kernel) (Nat.le_of_ble_eq_true rfl) (fun Y X E => w_X1_met X E hk)
set_option maxHeartbeats 4000000 in
theorem w_X1_routeFrom {K : KT} {Y : YT} {o : Nat} {κ : Option Nat → AH → Nat → Nat → Prop} {χ : QxT} (X : XY K "TrailMarkers" "routeFrom" cX1_routeFrom (Option.some (Jvm.ClassFile.FieldType.object "TrailMarkers$Guide")) [] 2 11 301 Y) (E : YE K Y (QvR κ) χ) {h : AH} {n : Nat} {z : Nat} {x1 : Int} (hk : P_X1_routeFrom K o κ χ h n z x1) : G K Y h n z 0 (lv_argsA 0 [vR (some o), vI x1]) [] := by
  show G K Y h n z 0 [(0, vR (some o)), (1, vI x1)] []
  refine r_aload_n X (pc := 0) dX1_routeFrom_0 rfl (q := 0) rfl ?_
  refine r_iload_n X (pc := 1) dX1_routeFrom_1 rfl (q := 1) rfl ?_
  obtain ⟨o42, fs43, e9, b44, hk⟩ := hk
  refine r_callV X (pc := 2) (As := [vI x1]) (st := []) rfl rfl e9 b44 m_X1_159 (fun _ => s_X1_needPost hk) ⟨by decide, by decide⟩ (Nat.le_of_ble_eq_true rfl) dX1_routeFrom_2 (fun v9 h9 n10 z11 hq => ?_) (fun ci37 q38 h39 n40 z41 hf => ?_)
  · obtain ⟨r8, rfl, hk⟩ := hq
    refine ⟨[vR r8], rfl, ?_⟩
    refine r_hGI X (pc := 5) fa_X1_227_X3 dX1_routeFrom_5 hk (fun y12 hk => ?_)
    obtain ⟨b13, hk⟩ := hk
    refine r_if_eq X (pc := 8) (tgt := 15) dX1_routeFrom_8 (by decide) b13 (fun c14 => ?_) (fun c14 => ?_)
    · have hk := hk.1 c14
      refine r_hNew X (pc := 15) nw_X1_216 dX1_routeFrom_15 hk (fun h15 hk => ?_)
      refine r_dup X (pc := 18) dX1_routeFrom_18 rfl ?_
      refine r_aload_n X (pc := 19) dX1_routeFrom_19 rfl (q := 0) rfl ?_
      refine r_hGR X (pc := 20) fa_X1_14 dX1_routeFrom_20 hk (fun y16 hk => ?_)
      refine r_callI X (pc := 23) (As := [vR y16]) (st := [vR (some n10)]) m_X1_218 (fun _ => s_X8_init hk) ⟨by decide, by decide⟩ (Nat.le_of_ble_eq_true rfl) dX1_routeFrom_23 (fun v9 h17 n18 z19 hq => ?_) (fun ci32 q33 h34 n35 z36 hf => ?_)
      · obtain ⟨rfl, hk⟩ := hq
        refine ⟨[], rfl, ?_⟩
        refine r_iload_n X (pc := 26) dX1_routeFrom_26 rfl (q := 1) rfl ?_
        obtain ⟨o29, fs30, e9, b31, hk⟩ := hk
        refine r_callV X (pc := 27) (As := [vI x1]) (st := []) rfl rfl e9 b31 m_X1_284 (fun _ => s_X8_follow hk) ⟨by decide, by decide⟩ (Nat.le_of_ble_eq_true rfl) dX1_routeFrom_27 (fun v9 h21 n22 z23 hq => ?_) (fun ci24 q25 h26 n27 z28 hf => ?_)
        · obtain ⟨r20, rfl, hk⟩ := hq
          refine ⟨[vR r20], rfl, ?_⟩
          exact r_aret X E (Or.inl ⟨_, rfl⟩) (pc := 30) dX1_routeFrom_30 ⟨_, rfl, hk⟩
        · have hk := hf
          exact r_out X E (fun _ h9 => nomatch h9) hk
      · have hk := hf
        exact r_out X E (fun _ h9 => nomatch h9) hk
    · have hk := hk.2 c14
      refine r_null X (pc := 11) dX1_routeFrom_11 ?_
      refine r_goto X (pc := 12) (tgt := 30) dX1_routeFrom_12 (by decide) ?_
      exact r_aret X E (Or.inl ⟨_, rfl⟩) (pc := 30) dX1_routeFrom_30 ⟨_, rfl, hk⟩
  · have hk := hf
    exact r_out X E (fun _ h9 => nomatch h9) hk
theorem s_X1_routeFrom {K : KT} {l : Launch} {o : Nat} {κ : Option Nat → AH → Nat → Nat → Prop} {χ : QxT} {h : AH} {n : Nat} {z : Nat} {x1 : Int} (hk : P_X1_routeFrom K o κ χ h n z x1) : Ct K l yX1_routeFrom (ws_ yX1_routeFrom cX1_routeFrom 2 (Option.some (Jvm.ClassFile.FieldType.object "TrailMarkers$Guide"))) 11 301 ([vR (some o), vI x1].map cV) h n z (QvR κ) χ :=
  ct_of (by decide +kernel) (Nat.le_of_ble_eq_true rfl) (fun Y X E => w_X1_routeFrom X E hk)
set_option maxHeartbeats 4000000 in
theorem w_X1_route {K : KT} {Y : YT} {o : Nat} {κ : Int → AH → Nat → Nat → Prop} {χ : QxT} (X : XY K "TrailMarkers" "route" cX1_route (Option.some Jvm.ClassFile.FieldType.int) [] 4 12 322 Y) (E : YE K Y (QvI κ) χ) {h : AH} {n : Nat} {z : Nat} {x1 : Int} {x2 : Int} (hk : P_X1_route K o κ χ h n z x1 x2) : G K Y h n z 0 (lv_argsA 0 [vR (some o), vI x1, vI x2]) [] := by
  show G K Y h n z 0 [(0, vR (some o)), (1, vI x1), (2, vI x2)] []
  refine r_aload_n X (pc := 0) dX1_route_0 rfl (q := 0) rfl ?_
  refine r_iload_n X (pc := 1) dX1_route_1 rfl (q := 1) rfl ?_
  obtain ⟨o37, fs38, e9, b39, hk⟩ := hk
  refine r_callV X (pc := 2) (As := [vI x1]) (st := []) rfl rfl e9 b39 m_X1_288 (fun _ => s_X1_routeFrom hk) ⟨by decide, by decide⟩ (Nat.le_of_ble_eq_true rfl) dX1_route_2 (fun v9 h5 n6 z7 hq => ?_) (fun ci32 q33 h34 n35 z36 hf => ?_)
  · obtain ⟨r4, rfl, hk⟩ := hq
    refine ⟨[vR r4], rfl, ?_⟩
    refine r_astore_n X (pc := 5) (lv1 := [(3, vR r4), (0, vR (some o)), (1, vI x1), (2, vI x2)]) dX1_route_5 rfl (by decide) rfl ?_
    refine r_aload_n X (pc := 6) dX1_route_6 rfl (q := 1) rfl ?_
    refine r_iload_n X (pc := 7) dX1_route_7 rfl (q := 3) rfl ?_
    refine r_iconst X (pc := 8) dX1_route_8 ?_
    refine r_bipush X (pc := 9) dX1_route_9 (by decide) ?_
    obtain ⟨o29, fs30, e9, b31, hk⟩ := hk
    refine r_callV X (pc := 11) (As := [vI x2, vI 0, vI 7]) (st := []) rfl rfl e9 b31 m_X1_88 (fun _ => s_X1_need hk) ⟨by decide, by decide⟩ (Nat.le_of_ble_eq_true rfl) dX1_route_11 (fun v9 h8 n9 z10 hq => ?_) (fun ci24 q25 h26 n27 z28 hf => ?_)
    · obtain ⟨rfl, hk⟩ := hq
      refine ⟨[], rfl, ?_⟩
      refine r_aload_n X (pc := 14) dX1_route_14 rfl (q := 0) rfl ?_
      refine r_ifnonnull X (pc := 15) (tgt := 22) dX1_route_15 (by decide) (fun c11 => ?_) (fun c11 => ?_)
      · have hk := hk.2 c11
        refine r_aload_n X (pc := 22) dX1_route_22 rfl (q := 0) rfl ?_
        refine r_iload_n X (pc := 23) dX1_route_23 rfl (q := 3) rfl ?_
        obtain ⟨o21, fs22, e9, b23, hk⟩ := hk
        refine r_callV X (pc := 24) (As := [vI x2]) (st := []) rfl rfl e9 b23 m_X1_291 (fun _ => s_X8_figure hk) ⟨by decide, by decide⟩ (Nat.le_of_ble_eq_true rfl) dX1_route_24 (fun v9 h13 n14 z15 hq => ?_) (fun ci16 q17 h18 n19 z20 hf => ?_)
        · obtain ⟨r12, rfl, hk⟩ := hq
          refine ⟨[vI r12], rfl, ?_⟩
          exact r_iret X E (pc := 27) dX1_route_27 rfl ⟨_, rfl, hk⟩
        · have hk := hf
          exact r_out X E (fun _ h9 => nomatch h9) hk
      · have hk := hk.1 c11
        refine r_iconst X (pc := 18) dX1_route_18 ?_
        refine r_goto X (pc := 19) (tgt := 27) dX1_route_19 (by decide) ?_
        exact r_iret X E (pc := 27) dX1_route_27 rfl ⟨_, rfl, hk⟩
    · have hk := hf
      exact r_out X E (fun _ h9 => nomatch h9) hk
  · have hk := hf
    exact r_out X E (fun _ h9 => nomatch h9) hk
theorem s_X1_route {K : KT} {l : Launch} {o : Nat} {κ : Int → AH → Nat → Nat → Prop} {χ : QxT} {h : AH} {n : Nat} {z : Nat} {x1 : Int} {x2 : Int} (hk : P_X1_route K o κ χ h n z x1 x2) : Ct K l yX1_route (ws_ yX1_route cX1_route 4 (Option.some Jvm.ClassFile.FieldType.int)) 12 322 ([vR (some o), vI x1, vI x2].map cV) h n z (QvI κ) χ :=
  ct_of (by decide +kernel) (Nat.le_of_ble_eq_true rfl) (fun Y X E => w_X1_route X E hk)
set_option maxHeartbeats 4000000 in
theorem w_X1_routePost {K : KT} {Y : YT} {o : Nat} {κ : Int → AH → Nat → Nat → Prop} {χ : QxT} (X : XY K "TrailMarkers" "routePost" cX1_routePost (Option.some Jvm.ClassFile.FieldType.int) [] 4 12 322 Y) (E : YE K Y (QvI κ) χ) {h : AH} {n : Nat} {z : Nat} {x1 : Int} {x2 : Int} (hk : P_X1_routePost K o κ χ h n z x1 x2) : G K Y h n z 0 (lv_argsA 0 [vR (some o), vI x1, vI x2]) [] := by
  show G K Y h n z 0 [(0, vR (some o)), (1, vI x1), (2, vI x2)] []
  refine r_aload_n X (pc := 0) dX1_routePost_0 rfl (q := 0) rfl ?_
  refine r_iload_n X (pc := 1) dX1_routePost_1 rfl (q := 1) rfl ?_
  obtain ⟨o28, fs29, e9, b30, hk⟩ := hk
  refine r_callV X (pc := 2) (As := [vI x1]) (st := []) rfl rfl e9 b30 m_X1_288 (fun _ => s_X1_routeFrom hk) ⟨by decide, by decide⟩ (Nat.le_of_ble_eq_true rfl) dX1_routePost_2 (fun v9 h12 n13 z14 hq => ?_) (fun ci23 q24 h25 n26 z27 hf => ?_)
  · obtain ⟨r11, rfl, hk⟩ := hq
    refine ⟨[vR r11], rfl, ?_⟩
    refine r_astore_n X (pc := 5) (lv1 := [(3, vR r11), (0, vR (some o)), (1, vI x1), (2, vI x2)]) dX1_routePost_5 rfl (by decide) rfl ?_
    refine r_aload_n X (pc := 6) dX1_routePost_6 rfl (q := 0) rfl ?_
    refine r_ifnull X (pc := 7) (tgt := 22) dX1_routePost_7 (by decide) (fun c15 => ?_) (fun c15 => ?_)
    · have hk := hk.1 c15
      refine r_iconst X (pc := 22) dX1_routePost_22 ?_
      refine r_goto X (pc := 23) (tgt := 32) dX1_routePost_23 (by decide) ?_
      exact r_iret X E (pc := 32) dX1_routePost_32 rfl ⟨_, rfl, hk⟩
    · have hk := hk.2 c15
      refine r_iload_n X (pc := 10) dX1_routePost_10 rfl (q := 3) rfl ?_
      obtain ⟨b16, hk⟩ := hk
      refine r_if_lt X (pc := 11) (tgt := 22) dX1_routePost_11 (by decide) b16 (fun c17 => ?_) (fun c17 => ?_)
      · have hk := hk.1 c17
        refine r_iconst X (pc := 22) dX1_routePost_22 ?_
        refine r_goto X (pc := 23) (tgt := 32) dX1_routePost_23 (by decide) ?_
        exact r_iret X E (pc := 32) dX1_routePost_32 rfl ⟨_, rfl, hk⟩
      · have hk := hk.2 c17
        refine r_iload_n X (pc := 14) dX1_routePost_14 rfl (q := 3) rfl ?_
        refine r_aload_n X (pc := 15) dX1_routePost_15 rfl (q := 0) rfl ?_
        refine r_hGI X (pc := 16) fa_X1_294_X8 dX1_routePost_16 hk (fun y18 hk => ?_)
        obtain ⟨b19, hk⟩ := hk
        refine r_icmp_lt X (pc := 19) (tgt := 26) dX1_routePost_19 (by decide) ⟨b16, b19⟩ (fun c20 => ?_) (fun c20 => ?_)
        · have hk := hk.1 c20
          refine r_aload_n X (pc := 26) dX1_routePost_26 rfl (q := 0) rfl ?_
          refine r_hGR X (pc := 27) fa_X1_281_X8 dX1_routePost_27 hk (fun y21 hk => ?_)
          refine r_iload_n X (pc := 30) dX1_routePost_30 rfl (q := 3) rfl ?_
          refine r_hAI X (pc := 31) dX1_routePost_31 hk (fun y22 hk => ?_)
          exact r_iret X E (pc := 32) dX1_routePost_32 rfl ⟨_, rfl, hk⟩
        · have hk := hk.2 c20
          refine r_iconst X (pc := 22) dX1_routePost_22 ?_
          refine r_goto X (pc := 23) (tgt := 32) dX1_routePost_23 (by decide) ?_
          exact r_iret X E (pc := 32) dX1_routePost_32 rfl ⟨_, rfl, hk⟩
  · have hk := hf
    exact r_out X E (fun _ h9 => nomatch h9) hk
theorem s_X1_routePost {K : KT} {l : Launch} {o : Nat} {κ : Int → AH → Nat → Nat → Prop} {χ : QxT} {h : AH} {n : Nat} {z : Nat} {x1 : Int} {x2 : Int} (hk : P_X1_routePost K o κ χ h n z x1 x2) : Ct K l yX1_routePost (ws_ yX1_routePost cX1_routePost 4 (Option.some Jvm.ClassFile.FieldType.int)) 12 322 ([vR (some o), vI x1, vI x2].map cV) h n z (QvI κ) χ :=
  ct_of (by decide +kernel) (Nat.le_of_ble_eq_true rfl) (fun Y X E => w_X1_routePost X E hk)
set_option maxHeartbeats 4000000 in
theorem w_X1_routeCell {K : KT} {Y : YT} {o : Nat} {κ : Int → AH → Nat → Nat → Prop} {χ : QxT} (X : XY K "TrailMarkers" "routeCell" cX1_routeCell (Option.some Jvm.ClassFile.FieldType.int) [] 4 12 322 Y) (E : YE K Y (QvI κ) χ) {h : AH} {n : Nat} {z : Nat} {x1 : Int} {x2 : Int} (hk : P_X1_routeCell K o κ χ h n z x1 x2) : G K Y h n z 0 (lv_argsA 0 [vR (some o), vI x1, vI x2]) [] := by
  show G K Y h n z 0 [(0, vR (some o)), (1, vI x1), (2, vI x2)] []
  refine r_aload_n X (pc := 0) dX1_routeCell_0 rfl (q := 0) rfl ?_
  refine r_iload_n X (pc := 1) dX1_routeCell_1 rfl (q := 1) rfl ?_
  obtain ⟨o28, fs29, e9, b30, hk⟩ := hk
  refine r_callV X (pc := 2) (As := [vI x1]) (st := []) rfl rfl e9 b30 m_X1_288 (fun _ => s_X1_routeFrom hk) ⟨by decide, by decide⟩ (Nat.le_of_ble_eq_true rfl) dX1_routeCell_2 (fun v9 h12 n13 z14 hq => ?_) (fun ci23 q24 h25 n26 z27 hf => ?_)
  · obtain ⟨r11, rfl, hk⟩ := hq
    refine ⟨[vR r11], rfl, ?_⟩
    refine r_astore_n X (pc := 5) (lv1 := [(3, vR r11), (0, vR (some o)), (1, vI x1), (2, vI x2)]) dX1_routeCell_5 rfl (by decide) rfl ?_
    refine r_aload_n X (pc := 6) dX1_routeCell_6 rfl (q := 0) rfl ?_
    refine r_ifnull X (pc := 7) (tgt := 22) dX1_routeCell_7 (by decide) (fun c15 => ?_) (fun c15 => ?_)
    · have hk := hk.1 c15
      refine r_iconst X (pc := 22) dX1_routeCell_22 ?_
      refine r_goto X (pc := 23) (tgt := 32) dX1_routeCell_23 (by decide) ?_
      exact r_iret X E (pc := 32) dX1_routeCell_32 rfl ⟨_, rfl, hk⟩
    · have hk := hk.2 c15
      refine r_iload_n X (pc := 10) dX1_routeCell_10 rfl (q := 3) rfl ?_
      obtain ⟨b16, hk⟩ := hk
      refine r_if_lt X (pc := 11) (tgt := 22) dX1_routeCell_11 (by decide) b16 (fun c17 => ?_) (fun c17 => ?_)
      · have hk := hk.1 c17
        refine r_iconst X (pc := 22) dX1_routeCell_22 ?_
        refine r_goto X (pc := 23) (tgt := 32) dX1_routeCell_23 (by decide) ?_
        exact r_iret X E (pc := 32) dX1_routeCell_32 rfl ⟨_, rfl, hk⟩
      · have hk := hk.2 c17
        refine r_iload_n X (pc := 14) dX1_routeCell_14 rfl (q := 3) rfl ?_
        refine r_aload_n X (pc := 15) dX1_routeCell_15 rfl (q := 0) rfl ?_
        refine r_hGI X (pc := 16) fa_X1_297_X8 dX1_routeCell_16 hk (fun y18 hk => ?_)
        obtain ⟨b19, hk⟩ := hk
        refine r_icmp_lt X (pc := 19) (tgt := 26) dX1_routeCell_19 (by decide) ⟨b16, b19⟩ (fun c20 => ?_) (fun c20 => ?_)
        · have hk := hk.1 c20
          refine r_aload_n X (pc := 26) dX1_routeCell_26 rfl (q := 0) rfl ?_
          refine r_hGR X (pc := 27) fa_X1_300_X8 dX1_routeCell_27 hk (fun y21 hk => ?_)
          refine r_iload_n X (pc := 30) dX1_routeCell_30 rfl (q := 3) rfl ?_
          refine r_hAI X (pc := 31) dX1_routeCell_31 hk (fun y22 hk => ?_)
          exact r_iret X E (pc := 32) dX1_routeCell_32 rfl ⟨_, rfl, hk⟩
        · have hk := hk.2 c20
          refine r_iconst X (pc := 22) dX1_routeCell_22 ?_
          refine r_goto X (pc := 23) (tgt := 32) dX1_routeCell_23 (by decide) ?_
          exact r_iret X E (pc := 32) dX1_routeCell_32 rfl ⟨_, rfl, hk⟩
  · have hk := hf
    exact r_out X E (fun _ h9 => nomatch h9) hk
theorem s_X1_routeCell {K : KT} {l : Launch} {o : Nat} {κ : Int → AH → Nat → Nat → Prop} {χ : QxT} {h : AH} {n : Nat} {z : Nat} {x1 : Int} {x2 : Int} (hk : P_X1_routeCell K o κ χ h n z x1 x2) : Ct K l yX1_routeCell (ws_ yX1_routeCell cX1_routeCell 4 (Option.some Jvm.ClassFile.FieldType.int)) 12 322 ([vR (some o), vI x1, vI x2].map cV) h n z (QvI κ) χ :=
  ct_of (by decide +kernel) (Nat.le_of_ble_eq_true rfl) (fun Y X E => w_X1_routeCell X E hk)
set_option maxHeartbeats 4000000 in
theorem w_X1_inferred {K : KT} {Y : YT} {o : Nat} {κ : Int → AH → Nat → Nat → Prop} {χ : QxT} (X : XY K "TrailMarkers" "inferred" cX1_inferred (Option.some Jvm.ClassFile.FieldType.int) [] 4 12 322 Y) (E : YE K Y (QvI κ) χ) {h : AH} {n : Nat} {z : Nat} {x1 : Int} {x2 : Int} (hk : P_X1_inferred K o κ χ h n z x1 x2) : G K Y h n z 0 (lv_argsA 0 [vR (some o), vI x1, vI x2]) [] := by
  show G K Y h n z 0 [(0, vR (some o)), (1, vI x1), (2, vI x2)] []
  refine r_aload_n X (pc := 0) dX1_inferred_0 rfl (q := 0) rfl ?_
  refine r_iload_n X (pc := 1) dX1_inferred_1 rfl (q := 1) rfl ?_
  obtain ⟨o28, fs29, e9, b30, hk⟩ := hk
  refine r_callV X (pc := 2) (As := [vI x1]) (st := []) rfl rfl e9 b30 m_X1_288 (fun _ => s_X1_routeFrom hk) ⟨by decide, by decide⟩ (Nat.le_of_ble_eq_true rfl) dX1_inferred_2 (fun v9 h12 n13 z14 hq => ?_) (fun ci23 q24 h25 n26 z27 hf => ?_)
  · obtain ⟨r11, rfl, hk⟩ := hq
    refine ⟨[vR r11], rfl, ?_⟩
    refine r_astore_n X (pc := 5) (lv1 := [(3, vR r11), (0, vR (some o)), (1, vI x1), (2, vI x2)]) dX1_inferred_5 rfl (by decide) rfl ?_
    refine r_aload_n X (pc := 6) dX1_inferred_6 rfl (q := 0) rfl ?_
    refine r_ifnull X (pc := 7) (tgt := 22) dX1_inferred_7 (by decide) (fun c15 => ?_) (fun c15 => ?_)
    · have hk := hk.1 c15
      refine r_iconst X (pc := 22) dX1_inferred_22 ?_
      refine r_goto X (pc := 23) (tgt := 32) dX1_inferred_23 (by decide) ?_
      exact r_iret X E (pc := 32) dX1_inferred_32 rfl ⟨_, rfl, hk⟩
    · have hk := hk.2 c15
      refine r_iload_n X (pc := 10) dX1_inferred_10 rfl (q := 3) rfl ?_
      obtain ⟨b16, hk⟩ := hk
      refine r_if_lt X (pc := 11) (tgt := 22) dX1_inferred_11 (by decide) b16 (fun c17 => ?_) (fun c17 => ?_)
      · have hk := hk.1 c17
        refine r_iconst X (pc := 22) dX1_inferred_22 ?_
        refine r_goto X (pc := 23) (tgt := 32) dX1_inferred_23 (by decide) ?_
        exact r_iret X E (pc := 32) dX1_inferred_32 rfl ⟨_, rfl, hk⟩
      · have hk := hk.2 c17
        refine r_iload_n X (pc := 14) dX1_inferred_14 rfl (q := 3) rfl ?_
        refine r_aload_n X (pc := 15) dX1_inferred_15 rfl (q := 0) rfl ?_
        refine r_hGI X (pc := 16) fa_X1_268_X8 dX1_inferred_16 hk (fun y18 hk => ?_)
        obtain ⟨b19, hk⟩ := hk
        refine r_icmp_lt X (pc := 19) (tgt := 26) dX1_inferred_19 (by decide) ⟨b16, b19⟩ (fun c20 => ?_) (fun c20 => ?_)
        · have hk := hk.1 c20
          refine r_aload_n X (pc := 26) dX1_inferred_26 rfl (q := 0) rfl ?_
          refine r_hGR X (pc := 27) fa_X1_275_X8 dX1_inferred_27 hk (fun y21 hk => ?_)
          refine r_iload_n X (pc := 30) dX1_inferred_30 rfl (q := 3) rfl ?_
          refine r_hAI X (pc := 31) dX1_inferred_31 hk (fun y22 hk => ?_)
          exact r_iret X E (pc := 32) dX1_inferred_32 rfl ⟨_, rfl, hk⟩
        · have hk := hk.2 c20
          refine r_iconst X (pc := 22) dX1_inferred_22 ?_
          refine r_goto X (pc := 23) (tgt := 32) dX1_inferred_23 (by decide) ?_
          exact r_iret X E (pc := 32) dX1_inferred_32 rfl ⟨_, rfl, hk⟩
  · have hk := hf
    exact r_out X E (fun _ h9 => nomatch h9) hk
theorem s_X1_inferred {K : KT} {l : Launch} {o : Nat} {κ : Int → AH → Nat → Nat → Prop} {χ : QxT} {h : AH} {n : Nat} {z : Nat} {x1 : Int} {x2 : Int} (hk : P_X1_inferred K o κ χ h n z x1 x2) : Ct K l yX1_inferred (ws_ yX1_inferred cX1_inferred 4 (Option.some Jvm.ClassFile.FieldType.int)) 12 322 ([vR (some o), vI x1, vI x2].map cV) h n z (QvI κ) χ :=
  ct_of (by decide +kernel) (Nat.le_of_ble_eq_true rfl) (fun Y X E => w_X1_inferred X E hk)
set_option maxHeartbeats 4000000 in
theorem w_X1_cellsOf_29 {K : KT} {Y : YT} {o : Nat} {κ : Option Nat → AH → Nat → Nat → Prop} {χ : QxT} (X : XY K "TrailMarkers" "cellsOf" cX1_cellsOf (Option.some (Jvm.ClassFile.FieldType.object "java/util/LinkedHashSet")) [] 5 9 232 Y) (E : YE K Y (QvR κ) χ) {k_59 : AH → Nat → Nat → Option Nat → Prop} (H_59 : ∀ (h : AH) (n : Nat) (z : Nat) (x2 : Option Nat), k_59 h n z x2 → G K Y h n z 59 [(0, vR (some o)), (2, vR x2)] []) : ∀ (f : Nat) (h : AH) (n : Nat) (z : Nat) (x2 : Option Nat) (x3 : Option Nat) (x4 : Int), L_X1_cellsOf_29 K o k_59 κ χ f h n z x2 x3 x4 → G K Y h n z 29 [(0, vR (some o)), (2, vR x2), (3, vR x3), (4, vI x4)] [] := by
  intro f
  induction f with
  | zero => intro h n z x2 x3 x4 hk; exact hk.elim
  | succ f ih =>
    intro h n z x2 x3 x4 hk
    refine r_iload X (pc := 29) dX1_cellsOf_29 (q := 3) rfl ?_
    refine r_aload_n X (pc := 31) dX1_cellsOf_31 rfl (q := 2) rfl ?_
    refine r_hGI X (pc := 32) fa_X1_297_X8 dX1_cellsOf_32 hk (fun y13 hk => ?_)
    obtain ⟨b14, b15, hk⟩ := hk
    refine r_icmp_ge X (pc := 35) (tgt := 59) dX1_cellsOf_35 (by decide) ⟨b14, b15⟩ (fun c16 => ?_) (fun c16 => ?_)
    · have hk := hk.2 c16
      refine G.sub [0, 1] rfl ?_
      exact H_59 h n z x2 hk
    · have hk := hk.1 c16
      refine r_aload_n X (pc := 38) dX1_cellsOf_38 rfl (q := 1) rfl ?_
      refine r_aload_n X (pc := 39) dX1_cellsOf_39 rfl (q := 2) rfl ?_
      refine r_hGR X (pc := 40) fa_X1_300_X8 dX1_cellsOf_40 hk (fun y17 hk => ?_)
      refine r_iload X (pc := 43) dX1_cellsOf_43 (q := 3) rfl ?_
      refine r_hAI X (pc := 45) dX1_cellsOf_45 hk (fun y18 hk => ?_)
      refine r_callS X (pc := 46) (As := [vI y18]) (st := [vR x2]) m_X1_306 (fun _ => s_X12_ofTold hk) ⟨by decide, by decide⟩ (Nat.le_of_ble_eq_true rfl) dX1_cellsOf_46 (fun v9 h20 n21 z22 hq => ?_) (fun ci35 q36 h37 n38 z39 hf => ?_)
      · obtain ⟨r19, rfl, hk⟩ := hq
        refine ⟨[vR r19], rfl, ?_⟩
        obtain ⟨o32, fs33, e9, b34, hk⟩ := hk
        refine r_callU X (pc := 49) (As := [vR r19]) (st := []) rfl rfl e9 b34 mu_X1_312_16 (fun _ => s_J21_add hk) ⟨by decide, by decide⟩ (Nat.le_of_ble_eq_true rfl) dX1_cellsOf_49 (fun v9 h24 n25 z26 hq => ?_) (fun ci27 q28 h29 n30 z31 hf => ?_)
        · obtain ⟨r23, rfl, hk⟩ := hq
          refine ⟨[vI r23], rfl, ?_⟩
          refine r_pop X (pc := 52) dX1_cellsOf_52 rfl ?_
          refine r_iinc X (pc := 53) (q := 3) (lv1 := [(4, vI (x4 + 1)), (0, vR (some o)), (2, vR x2), (3, vR x3)]) dX1_cellsOf_53 rfl (by decide) rfl ?_
          refine r_goto X (pc := 56) (tgt := 29) dX1_cellsOf_56 (by decide) ?_
          refine G.sub [1, 2, 3, 0] rfl ?_
          exact ih h24 n25 z26 x2 x3 (x4 + 1) hk
        · have hk := hf
          exact r_out X E (fun _ h9 => nomatch h9) hk
      · have hk := hf
        exact r_out X E (fun _ h9 => nomatch h9) hk
set_option maxHeartbeats 4000000 in
theorem w_X1_cellsOf_59 {K : KT} {Y : YT} {o : Nat} {κ : Option Nat → AH → Nat → Nat → Prop} {χ : QxT} (X : XY K "TrailMarkers" "cellsOf" cX1_cellsOf (Option.some (Jvm.ClassFile.FieldType.object "java/util/LinkedHashSet")) [] 5 9 232 Y) (E : YE K Y (QvR κ) χ) : ∀ (h : AH) (n : Nat) (z : Nat) (x2 : Option Nat), P_X1_cellsOf_59 K o κ χ h n z x2 → G K Y h n z 59 [(0, vR (some o)), (2, vR x2)] [] := by
  intro h n z x2 hk
  refine r_aload_n X (pc := 59) dX1_cellsOf_59 rfl (q := 1) rfl ?_
  exact r_aret X E (Or.inl ⟨_, rfl⟩) (pc := 60) dX1_cellsOf_60 ⟨_, rfl, hk⟩
set_option maxHeartbeats 4000000 in
theorem w_X1_cellsOf {K : KT} {Y : YT} {o : Nat} {κ : Option Nat → AH → Nat → Nat → Prop} {χ : QxT} (X : XY K "TrailMarkers" "cellsOf" cX1_cellsOf (Option.some (Jvm.ClassFile.FieldType.object "java/util/LinkedHashSet")) [] 5 9 232 Y) (E : YE K Y (QvR κ) χ) {h : AH} {n : Nat} {z : Nat} {x1 : Int} (hk : P_X1_cellsOf K o κ χ h n z x1) : G K Y h n z 0 (lv_argsA 0 [vR (some o), vI x1]) [] := by
  show G K Y h n z 0 [(0, vR (some o)), (1, vI x1)] []
  refine r_hNew X (pc := 0) nw_X1_303 dX1_cellsOf_0 hk (fun h40 hk => ?_)
  refine r_dup X (pc := 3) dX1_cellsOf_3 rfl ?_
  refine r_callI X (pc := 4) (As := []) (st := [vR (some n)]) m_X1_305 (fun _ => s_J22_init hk) ⟨by decide, by decide⟩ (Nat.le_of_ble_eq_true rfl) dX1_cellsOf_4 (fun v9 h41 n42 z43 hq => ?_) (fun ci67 q68 h69 n70 z71 hf => ?_)
  · obtain ⟨rfl, hk⟩ := hq
    refine ⟨[], rfl, ?_⟩
    refine r_astore_n X (pc := 7) (lv1 := [(2, vR (some n)), (0, vR (some o)), (1, vI x1)]) dX1_cellsOf_7 rfl (by decide) rfl ?_
    refine r_hNew X (pc := 8) nw_X1_216 dX1_cellsOf_8 hk (fun h44 hk => ?_)
    refine r_dup X (pc := 11) dX1_cellsOf_11 rfl ?_
    refine r_aload_n X (pc := 12) dX1_cellsOf_12 rfl (q := 1) rfl ?_
    refine r_hGR X (pc := 13) fa_X1_14 dX1_cellsOf_13 hk (fun y45 hk => ?_)
    refine r_callI X (pc := 16) (As := [vR y45]) (st := [vR (some n42)]) m_X1_218 (fun _ => s_X8_init hk) ⟨by decide, by decide⟩ (Nat.le_of_ble_eq_true rfl) dX1_cellsOf_16 (fun v9 h46 n47 z48 hq => ?_) (fun ci62 q63 h64 n65 z66 hf => ?_)
    · obtain ⟨rfl, hk⟩ := hq
      refine ⟨[], rfl, ?_⟩
      refine r_astore_n X (pc := 19) (lv1 := [(3, vR (some n42)), (2, vR (some n)), (0, vR (some o)), (1, vI x1)]) dX1_cellsOf_19 rfl (by decide) rfl ?_
      refine r_aload_n X (pc := 20) dX1_cellsOf_20 rfl (q := 0) rfl ?_
      refine r_iload_n X (pc := 21) dX1_cellsOf_21 rfl (q := 3) rfl ?_
      obtain ⟨o59, fs60, e9, b61, hk⟩ := hk
      refine r_callV X (pc := 22) (As := [vI x1]) (st := []) rfl rfl e9 b61 m_X1_259 (fun _ => s_X8_metOf hk) ⟨by decide, by decide⟩ (Nat.le_of_ble_eq_true rfl) dX1_cellsOf_22 (fun v9 h50 n51 z52 hq => ?_) (fun ci54 q55 h56 n57 z58 hf => ?_)
      · obtain ⟨r49, rfl, hk⟩ := hq
        refine ⟨[vI r49], rfl, ?_⟩
        refine r_pop X (pc := 25) dX1_cellsOf_25 rfl ?_
        refine r_iconst X (pc := 26) dX1_cellsOf_26 ?_
        refine r_istore X (pc := 27) (lv1 := [(4, vI 0), (3, vR (some n42)), (2, vR (some n)), (0, vR (some o)), (1, vI x1)]) dX1_cellsOf_27 (by decide) rfl ?_
        refine G.sub [3, 2, 1, 0] rfl ?_
        have HH53 : ∀ (h : AH) (n : Nat) (z : Nat) (x2 : Option Nat), (P_X1_cellsOf_59 K o κ χ h n z x2) → G K Y h n z 59 [(0, vR (some o)), (2, vR x2)] [] := by
            intro h n z x2 hk
            exact w_X1_cellsOf_59 X E h n z x2 hk
        obtain ⟨f9, hk⟩ := hk
        exact w_X1_cellsOf_29 X E HH53 f9 h50 n51 z52 (some n) (some n42) 0 hk
      · have hk := hf
        exact r_out X E (fun _ h9 => nomatch h9) hk
    · have hk := hf
      exact r_out X E (fun _ h9 => nomatch h9) hk
  · have hk := hf
    exact r_out X E (fun _ h9 => nomatch h9) hk
theorem s_X1_cellsOf {K : KT} {l : Launch} {o : Nat} {κ : Option Nat → AH → Nat → Nat → Prop} {χ : QxT} {h : AH} {n : Nat} {z : Nat} {x1 : Int} (hk : P_X1_cellsOf K o κ χ h n z x1) : Ct K l yX1_cellsOf (ws_ yX1_cellsOf cX1_cellsOf 5 (Option.some (Jvm.ClassFile.FieldType.object "java/util/LinkedHashSet"))) 9 232 ([vR (some o), vI x1].map cV) h n z (QvR κ) χ :=
  ct_of (by decide +kernel) (Nat.le_of_ble_eq_true rfl) (fun Y X E => w_X1_cellsOf X E hk)
set_option maxHeartbeats 4000000 in
theorem w_X1_shared_29 {K : KT} {Y : YT} {o : Nat} {κ : Int → AH → Nat → Nat → Prop} {χ : QxT} (X : XY K "TrailMarkers" "shared" cX1_shared (Option.some Jvm.ClassFile.FieldType.int) [] 7 11 301 Y) (E : YE K Y (QvI κ) χ) {k_66 : AH → Nat → Nat → Int → Prop} (H_66 : ∀ (h : AH) (n : Nat) (z : Nat) (x4 : Int), k_66 h n z x4 → G K Y h n z 66 [(0, vR (some o)), (4, vI x4)] []) : ∀ (f : Nat) (h : AH) (n : Nat) (z : Nat) (x3 : Option Nat) (x4 : Int) (x5 : Option Nat), L_X1_shared_29 K o k_66 κ χ f h n z x3 x4 x5 → G K Y h n z 29 [(0, vR (some o)), (3, vR x3), (4, vI x4), (5, vR x5)] [] := by
  intro f
  induction f with
  | zero => intro h n z x3 x4 x5 hk; exact hk.elim
  | succ f ih =>
    intro h n z x3 x4 x5 hk
    refine r_aload X (pc := 29) dX1_shared_29 (q := 3) rfl ?_
    obtain ⟨o48, fs49, e9, b50, hk⟩ := hk
    refine r_callF X (pc := 31) (As := []) (st := []) rfl rfl e9 b50 mf_X1_323_20 (fun _ => s_J41_hasNext hk) ⟨by decide, by decide⟩ (Nat.le_of_ble_eq_true rfl) dX1_shared_31 (fun v9 h12 n13 z14 hq => ?_) (fun ci43 q44 h45 n46 z47 hf => ?_)
    · obtain ⟨r11, rfl, hk⟩ := hq
      refine ⟨[vI r11], rfl, ?_⟩
      obtain ⟨b15, hk⟩ := hk
      refine r_if_eq X (pc := 36) (tgt := 66) dX1_shared_36 (by decide) b15 (fun c16 => ?_) (fun c16 => ?_)
      · have hk := hk.1 c16
        refine G.sub [0, 2] rfl ?_
        exact H_66 h12 n13 z14 x4 hk
      · have hk := hk.2 c16
        refine r_aload X (pc := 39) dX1_shared_39 (q := 3) rfl ?_
        obtain ⟨o40, fs41, e9, b42, hk⟩ := hk
        refine r_callF X (pc := 41) (As := []) (st := []) rfl rfl e9 b42 mf_X1_328_20 (fun _ => s_J42_next hk) ⟨by decide, by decide⟩ (Nat.le_of_ble_eq_true rfl) dX1_shared_41 (fun v9 h18 n19 z20 hq => ?_) (fun ci35 q36 h37 n38 z39 hf => ?_)
        · obtain ⟨r17, rfl, hk⟩ := hq
          refine ⟨[vR r17], rfl, ?_⟩
          refine r_hCast X (pc := 46) q2832 cos_TrailMarkers_Cell_11 dX1_shared_46 hk (fun hk => ?_)
          refine r_astore X (pc := 49) (lv1 := [(6, vR r17), (0, vR (some o)), (3, vR x3), (4, vI x4), (5, vR x5)]) dX1_shared_49 (by decide) rfl ?_
          refine r_aload_n X (pc := 51) dX1_shared_51 rfl (q := 2) rfl ?_
          refine r_aload X (pc := 52) dX1_shared_52 (q := 0) rfl ?_
          obtain ⟨o32, fs33, e9, b34, hk⟩ := hk
          refine r_callU X (pc := 54) (As := [vR r17]) (st := []) rfl rfl e9 b34 mu_X1_330_16 (fun _ => s_J21_contains hk) ⟨by decide, by decide⟩ (Nat.le_of_ble_eq_true rfl) dX1_shared_54 (fun v9 h22 n23 z24 hq => ?_) (fun ci27 q28 h29 n30 z31 hf => ?_)
          · obtain ⟨r21, rfl, hk⟩ := hq
            refine ⟨[vI r21], rfl, ?_⟩
            obtain ⟨b25, hk⟩ := hk
            refine r_if_eq X (pc := 57) (tgt := 63) dX1_shared_57 (by decide) b25 (fun c26 => ?_) (fun c26 => ?_)
            · have hk := hk.1 c26
              refine r_goto X (pc := 63) (tgt := 29) dX1_shared_63 (by decide) ?_
              refine G.sub [1, 2, 3, 4] rfl ?_
              exact ih h22 n23 z24 x3 x4 x5 hk
            · have hk := hk.2 c26
              refine r_iinc X (pc := 60) (q := 3) (lv1 := [(4, vI (x4 + 1)), (6, vR r17), (0, vR (some o)), (3, vR x3), (5, vR x5)]) dX1_shared_60 rfl (by decide) rfl ?_
              refine r_goto X (pc := 63) (tgt := 29) dX1_shared_63 (by decide) ?_
              refine G.sub [2, 3, 0, 4] rfl ?_
              exact ih h22 n23 z24 x3 (x4 + 1) x5 hk
          · have hk := hf
            exact r_out X E (fun _ h9 => nomatch h9) hk
        · have hk := hf
          exact r_out X E (fun _ h9 => nomatch h9) hk
    · have hk := hf
      exact r_out X E (fun _ h9 => nomatch h9) hk
set_option maxHeartbeats 4000000 in
theorem w_X1_shared_66 {K : KT} {Y : YT} {o : Nat} {κ : Int → AH → Nat → Nat → Prop} {χ : QxT} (X : XY K "TrailMarkers" "shared" cX1_shared (Option.some Jvm.ClassFile.FieldType.int) [] 7 11 301 Y) (E : YE K Y (QvI κ) χ) : ∀ (h : AH) (n : Nat) (z : Nat) (x4 : Int), P_X1_shared_66 K o κ χ h n z x4 → G K Y h n z 66 [(0, vR (some o)), (4, vI x4)] [] := by
  intro h n z x4 hk
  refine r_iload X (pc := 66) dX1_shared_66 (q := 1) rfl ?_
  exact r_iret X E (pc := 68) dX1_shared_68 rfl ⟨_, rfl, hk⟩
set_option maxHeartbeats 4000000 in
theorem w_X1_shared {K : KT} {Y : YT} {o : Nat} {κ : Int → AH → Nat → Nat → Prop} {χ : QxT} (X : XY K "TrailMarkers" "shared" cX1_shared (Option.some Jvm.ClassFile.FieldType.int) [] 7 11 301 Y) (E : YE K Y (QvI κ) χ) {h : AH} {n : Nat} {z : Nat} {x1 : Int} {x2 : Int} (hk : P_X1_shared K o κ χ h n z x1 x2) : G K Y h n z 0 (lv_argsA 0 [vR (some o), vI x1, vI x2]) [] := by
  show G K Y h n z 0 [(0, vR (some o)), (1, vI x1), (2, vI x2)] []
  refine r_aload_n X (pc := 0) dX1_shared_0 rfl (q := 0) rfl ?_
  refine r_iload_n X (pc := 1) dX1_shared_1 rfl (q := 1) rfl ?_
  obtain ⟨o107, fs108, e9, b109, hk⟩ := hk
  refine r_callV X (pc := 2) (As := [vI x1]) (st := []) rfl rfl e9 b109 m_X1_150 (fun _ => s_X1_needColour hk) ⟨by decide, by decide⟩ (Nat.le_of_ble_eq_true rfl) dX1_shared_2 (fun v9 h51 n52 z53 hq => ?_) (fun ci102 q103 h104 n105 z106 hf => ?_)
  · obtain ⟨rfl, hk⟩ := hq
    refine ⟨[], rfl, ?_⟩
    refine r_aload_n X (pc := 5) dX1_shared_5 rfl (q := 0) rfl ?_
    refine r_iload_n X (pc := 6) dX1_shared_6 rfl (q := 2) rfl ?_
    obtain ⟨o99, fs100, e9, b101, hk⟩ := hk
    refine r_callV X (pc := 7) (As := [vI x2]) (st := []) rfl rfl e9 b101 m_X1_150 (fun _ => s_X1_needColour hk) ⟨by decide, by decide⟩ (Nat.le_of_ble_eq_true rfl) dX1_shared_7 (fun v9 h54 n55 z56 hq => ?_) (fun ci94 q95 h96 n97 z98 hf => ?_)
    · obtain ⟨rfl, hk⟩ := hq
      refine ⟨[], rfl, ?_⟩
      refine r_aload_n X (pc := 10) dX1_shared_10 rfl (q := 0) rfl ?_
      refine r_iload_n X (pc := 11) dX1_shared_11 rfl (q := 2) rfl ?_
      obtain ⟨o91, fs92, e9, b93, hk⟩ := hk
      refine r_callV X (pc := 12) (As := [vI x2]) (st := []) rfl rfl e9 b93 m_X1_315 (fun _ => s_X1_cellsOf hk) ⟨by decide, by decide⟩ (Nat.le_of_ble_eq_true rfl) dX1_shared_12 (fun v9 h58 n59 z60 hq => ?_) (fun ci86 q87 h88 n89 z90 hf => ?_)
      · obtain ⟨r57, rfl, hk⟩ := hq
        refine ⟨[vR r57], rfl, ?_⟩
        refine r_astore_n X (pc := 15) (lv1 := [(3, vR r57), (0, vR (some o)), (1, vI x1), (2, vI x2)]) dX1_shared_15 rfl (by decide) rfl ?_
        refine r_iconst X (pc := 16) dX1_shared_16 ?_
        refine r_istore X (pc := 17) (lv1 := [(4, vI 0), (3, vR r57), (0, vR (some o)), (1, vI x1), (2, vI x2)]) dX1_shared_17 (by decide) rfl ?_
        refine r_aload_n X (pc := 19) dX1_shared_19 rfl (q := 2) rfl ?_
        refine r_iload_n X (pc := 20) dX1_shared_20 rfl (q := 3) rfl ?_
        obtain ⟨o83, fs84, e9, b85, hk⟩ := hk
        refine r_callV X (pc := 21) (As := [vI x1]) (st := []) rfl rfl e9 b85 m_X1_315 (fun _ => s_X1_cellsOf hk) ⟨by decide, by decide⟩ (Nat.le_of_ble_eq_true rfl) dX1_shared_21 (fun v9 h62 n63 z64 hq => ?_) (fun ci78 q79 h80 n81 z82 hf => ?_)
        · obtain ⟨r61, rfl, hk⟩ := hq
          refine ⟨[vR r61], rfl, ?_⟩
          obtain ⟨o75, fs76, e9, b77, hk⟩ := hk
          refine r_callU X (pc := 24) (As := []) (st := []) rfl rfl e9 b77 mu_X1_319_16 (fun _ => s_J21_iterator hk) ⟨by decide, by decide⟩ (Nat.le_of_ble_eq_true rfl) dX1_shared_24 (fun v9 h66 n67 z68 hq => ?_) (fun ci70 q71 h72 n73 z74 hf => ?_)
          · obtain ⟨r65, rfl, hk⟩ := hq
            refine ⟨[vR r65], rfl, ?_⟩
            refine r_astore X (pc := 27) (lv1 := [(5, vR r65), (4, vI 0), (3, vR r57), (0, vR (some o)), (1, vI x1), (2, vI x2)]) dX1_shared_27 (by decide) rfl ?_
            refine G.sub [3, 2, 1, 0] rfl ?_
            have HH69 : ∀ (h : AH) (n : Nat) (z : Nat) (x4 : Int), (P_X1_shared_66 K o κ χ h n z x4) → G K Y h n z 66 [(0, vR (some o)), (4, vI x4)] [] := by
                intro h n z x4 hk
                exact w_X1_shared_66 X E h n z x4 hk
            obtain ⟨f9, hk⟩ := hk
            exact w_X1_shared_29 X E HH69 f9 h66 n67 z68 r57 0 r65 hk
          · have hk := hf
            exact r_out X E (fun _ h9 => nomatch h9) hk
        · have hk := hf
          exact r_out X E (fun _ h9 => nomatch h9) hk
      · have hk := hf
        exact r_out X E (fun _ h9 => nomatch h9) hk
    · have hk := hf
      exact r_out X E (fun _ h9 => nomatch h9) hk
  · have hk := hf
    exact r_out X E (fun _ h9 => nomatch h9) hk
theorem s_X1_shared {K : KT} {l : Launch} {o : Nat} {κ : Int → AH → Nat → Nat → Prop} {χ : QxT} {h : AH} {n : Nat} {z : Nat} {x1 : Int} {x2 : Int} (hk : P_X1_shared K o κ χ h n z x1 x2) : Ct K l yX1_shared (ws_ yX1_shared cX1_shared 7 (Option.some Jvm.ClassFile.FieldType.int)) 11 301 ([vR (some o), vI x1, vI x2].map cV) h n z (QvI κ) χ :=
  ct_of (by decide +kernel) (Nat.le_of_ble_eq_true rfl) (fun Y X E => w_X1_shared X E hk)
set_option maxHeartbeats 4000000 in
theorem w_X1_why_28 {K : KT} {Y : YT} {o : Nat} {κ : Int → AH → Nat → Nat → Prop} {χ : QxT} (X : XY K "TrailMarkers" "why" cX1_why (Option.some Jvm.ClassFile.FieldType.int) [] 7 11 303 Y) (E : YE K Y (QvI κ) χ) : ∀ (h : AH) (n : Nat) (z : Nat) (x2 : Int) (x3 : Option Nat), P_X1_why_28 K o κ χ h n z x2 x3 → G K Y h n z 28 [(0, vR (some o)), (2, vI x2), (3, vR x3)] [] := by
  intro h n z x2 x3 hk
  refine r_iload_n X (pc := 28) dX1_why_28 rfl (q := 1) rfl ?_
  obtain ⟨b43, hk⟩ := hk
  refine r_if_le X (pc := 29) (tgt := 36) dX1_why_29 (by decide) b43 (fun c44 => ?_) (fun c44 => ?_)
  · have hk := hk.2 c44
    refine r_aload_n X (pc := 36) dX1_why_36 rfl (q := 2) rfl ?_
    refine r_hGI X (pc := 37) fa_X1_227_X3 dX1_why_37 hk (fun y45 hk => ?_)
    obtain ⟨b46, hk⟩ := hk
    refine r_if_eq X (pc := 40) (tgt := 47) dX1_why_40 (by decide) b46 (fun c47 => ?_) (fun c47 => ?_)
    · have hk := hk.1 c47
      refine r_iconst X (pc := 47) dX1_why_47 ?_
      exact r_iret X E (pc := 48) dX1_why_48 rfl ⟨_, rfl, hk⟩
    · have hk := hk.2 c47
      refine r_iconst X (pc := 43) dX1_why_43 ?_
      refine r_goto X (pc := 44) (tgt := 48) dX1_why_44 (by decide) ?_
      exact r_iret X E (pc := 48) dX1_why_48 rfl ⟨_, rfl, hk⟩
  · have hk := hk.1 c44
    refine r_iconst X (pc := 32) dX1_why_32 ?_
    refine r_goto X (pc := 33) (tgt := 48) dX1_why_33 (by decide) ?_
    exact r_iret X E (pc := 48) dX1_why_48 rfl ⟨_, rfl, hk⟩
set_option maxHeartbeats 4000000 in
theorem w_X1_why {K : KT} {Y : YT} {o : Nat} {κ : Int → AH → Nat → Nat → Prop} {χ : QxT} (X : XY K "TrailMarkers" "why" cX1_why (Option.some Jvm.ClassFile.FieldType.int) [] 7 11 303 Y) (E : YE K Y (QvI κ) χ) {h : AH} {n : Nat} {z : Nat} {x1 : Int} {x2 : Int} (hk : P_X1_why K o κ χ h n z x1 x2) : G K Y h n z 0 (lv_argsA 0 [vR (some o), vI x1, vI x2]) [] := by
  show G K Y h n z 0 [(0, vR (some o)), (1, vI x1), (2, vI x2)] []
  refine r_aload_n X (pc := 0) dX1_why_0 rfl (q := 0) rfl ?_
  refine r_iload_n X (pc := 1) dX1_why_1 rfl (q := 1) rfl ?_
  obtain ⟨o143, fs144, e9, b145, hk⟩ := hk
  refine r_callV X (pc := 2) (As := [vI x1]) (st := []) rfl rfl e9 b145 m_X1_159 (fun _ => s_X1_needPost hk) ⟨by decide, by decide⟩ (Nat.le_of_ble_eq_true rfl) dX1_why_2 (fun v9 h49 n50 z51 hq => ?_) (fun ci138 q139 h140 n141 z142 hf => ?_)
  · obtain ⟨r48, rfl, hk⟩ := hq
    refine ⟨[vR r48], rfl, ?_⟩
    refine r_astore_n X (pc := 5) (lv1 := [(3, vR r48), (0, vR (some o)), (1, vI x1), (2, vI x2)]) dX1_why_5 rfl (by decide) rfl ?_
    refine r_aload_n X (pc := 6) dX1_why_6 rfl (q := 1) rfl ?_
    refine r_iload_n X (pc := 7) dX1_why_7 rfl (q := 3) rfl ?_
    refine r_iconst X (pc := 8) dX1_why_8 ?_
    refine r_iconst X (pc := 9) dX1_why_9 ?_
    obtain ⟨o135, fs136, e9, b137, hk⟩ := hk
    refine r_callV X (pc := 10) (As := [vI x2, vI 0, vI 2]) (st := []) rfl rfl e9 b137 m_X1_88 (fun _ => s_X1_need hk) ⟨by decide, by decide⟩ (Nat.le_of_ble_eq_true rfl) dX1_why_10 (fun v9 h52 n53 z54 hq => ?_) (fun ci130 q131 h132 n133 z134 hf => ?_)
    · obtain ⟨rfl, hk⟩ := hq
      refine ⟨[], rfl, ?_⟩
      refine r_aload_n X (pc := 13) dX1_why_13 rfl (q := 0) rfl ?_
      refine r_hGI X (pc := 14) fa_X1_227_X3 dX1_why_14 hk (fun y55 hk => ?_)
      obtain ⟨b56, hk⟩ := hk
      refine r_if_ne X (pc := 17) (tgt := 28) dX1_why_17 (by decide) b56 (fun c57 => ?_) (fun c57 => ?_)
      · have hk := hk.2 c57
        refine G.sub [1, 3, 0] rfl ?_
        exact w_X1_why_28 X E h52 n53 z54 x2 r48 hk
      · have hk := hk.1 c57
        refine r_aload_n X (pc := 20) dX1_why_20 rfl (q := 0) rfl ?_
        refine r_hGI X (pc := 21) fa_X1_169_X3 dX1_why_21 hk (fun y58 hk => ?_)
        refine r_iconst X (pc := 24) dX1_why_24 ?_
        obtain ⟨b59, hk⟩ := hk
        refine r_icmp_ne X (pc := 25) (tgt := 49) dX1_why_25 (by decide) ⟨b59, (by decide)⟩ (fun c60 => ?_) (fun c60 => ?_)
        · have hk := hk.2 c60
          refine r_hNew X (pc := 49) nw_X1_216 dX1_why_49 hk (fun h61 hk => ?_)
          refine r_dup X (pc := 52) dX1_why_52 rfl ?_
          refine r_aload_n X (pc := 53) dX1_why_53 rfl (q := 1) rfl ?_
          refine r_hGR X (pc := 54) fa_X1_14 dX1_why_54 hk (fun y62 hk => ?_)
          refine r_callI X (pc := 57) (As := [vR y62]) (st := [vR (some n53)]) m_X1_218 (fun _ => s_X8_init hk) ⟨by decide, by decide⟩ (Nat.le_of_ble_eq_true rfl) dX1_why_57 (fun v9 h63 n64 z65 hq => ?_) (fun ci125 q126 h127 n128 z129 hf => ?_)
          · obtain ⟨rfl, hk⟩ := hq
            refine ⟨[], rfl, ?_⟩
            refine r_astore X (pc := 60) (lv1 := [(4, vR (some n53)), (3, vR r48), (0, vR (some o)), (1, vI x1), (2, vI x2)]) dX1_why_60 (by decide) rfl ?_
            refine r_aload X (pc := 62) dX1_why_62 (q := 0) rfl ?_
            refine r_iload_n X (pc := 64) dX1_why_64 rfl (q := 3) rfl ?_
            obtain ⟨o122, fs123, e9, b124, hk⟩ := hk
            refine r_callV X (pc := 65) (As := [vI x1]) (st := []) rfl rfl e9 b124 m_X1_238 (fun _ => s_X8_find hk) ⟨by decide, by decide⟩ (Nat.le_of_ble_eq_true rfl) dX1_why_65 (fun v9 h67 n68 z69 hq => ?_) (fun ci117 q118 h119 n120 z121 hf => ?_)
            · obtain ⟨r66, rfl, hk⟩ := hq
              refine ⟨[vR r66], rfl, ?_⟩
              refine r_astore X (pc := 68) (lv1 := [(5, vR r66), (4, vR (some n53)), (3, vR r48), (0, vR (some o)), (1, vI x1), (2, vI x2)]) dX1_why_68 (by decide) rfl ?_
              refine r_aload X (pc := 70) dX1_why_70 (q := 0) rfl ?_
              refine r_hGI X (pc := 72) fa_X1_242_X9 dX1_why_72 hk (fun y70 hk => ?_)
              refine r_iconst X (pc := 75) dX1_why_75 ?_
              obtain ⟨b71, hk⟩ := hk
              refine r_icmp_ne X (pc := 76) (tgt := 114) dX1_why_76 (by decide) ⟨b71, (by decide)⟩ (fun c72 => ?_) (fun c72 => ?_)
              · have hk := hk.2 c72
                refine r_iload_n X (pc := 114) dX1_why_114 rfl (q := 5) rfl ?_
                refine r_iconst X (pc := 115) dX1_why_115 ?_
                obtain ⟨b73, hk⟩ := hk
                refine r_icmp_ge X (pc := 116) (tgt := 137) dX1_why_116 (by decide) ⟨b73, (by decide)⟩ (fun c74 => ?_) (fun c74 => ?_)
                · have hk := hk.2 c74
                  refine r_aload X (pc := 137) dX1_why_137 (q := 0) rfl ?_
                  refine r_hGI X (pc := 139) fa_X1_250_X9 dX1_why_139 hk (fun y75 hk => ?_)
                  obtain ⟨b76, hk⟩ := hk
                  refine r_if_ne X (pc := 142) (tgt := 153) dX1_why_142 (by decide) b76 (fun c77 => ?_) (fun c77 => ?_)
                  · have hk := hk.2 c77
                    refine r_aload_n X (pc := 153) dX1_why_153 rfl (q := 2) rfl ?_
                    obtain ⟨o93, fs94, e9, b95, hk⟩ := hk
                    refine r_callV X (pc := 154) (As := []) (st := []) rfl rfl e9 b95 m_X1_224 (fun _ => s_X3_cell hk) ⟨by decide, by decide⟩ (Nat.le_of_ble_eq_true rfl) dX1_why_154 (fun v9 h79 n80 z81 hq => ?_) (fun ci88 q89 h90 n91 z92 hf => ?_)
                    · obtain ⟨r78, rfl, hk⟩ := hq
                      refine ⟨[vI r78], rfl, ?_⟩
                      refine r_aload X (pc := 157) dX1_why_157 (q := 0) rfl ?_
                      refine r_hGR X (pc := 159) fa_X1_345_X9 dX1_why_159 hk (fun y82 hk => ?_)
                      refine r_iconst X (pc := 162) dX1_why_162 ?_
                      refine r_hAI X (pc := 163) dX1_why_163 hk (fun y83 hk => ?_)
                      refine r_bipush X (pc := 164) dX1_why_164 (by decide) ?_
                      refine r_aload_n X (pc := 166) dX1_why_166 rfl (q := 2) rfl ?_
                      refine r_hGI X (pc := 167) fa_X1_169_X3 dX1_why_167 hk (fun y84 hk => ?_)
                      refine r_callS X (pc := 170) (As := [vI y84]) (st := [vI 100, vI y83, vI r78]) m_X1_348 (fun _ => s_X1_stepX hk) ⟨by decide, by decide⟩ (Nat.le_of_ble_eq_true rfl) dX1_why_170 (fun v9 h9 n9 z9 hq => ?_) (fun ci9 q9 h9 n9 z9 hf => ?_)
                      · obtain ⟨r85, rfl, rfl, rfl, rfl, hk⟩ := hq
                        refine ⟨[vI r85], rfl, ?_⟩
                        refine r_imul X (pc := 173) dX1_why_173 ?_
                        refine r_aload_n X (pc := 174) dX1_why_174 rfl (q := 2) rfl ?_
                        refine r_hGI X (pc := 175) fa_X1_169_X3 dX1_why_175 hk (fun y86 hk => ?_)
                        refine r_callS X (pc := 178) (As := [vI y86]) (st := [vI (100 * r85), vI y83, vI r78]) m_X1_351 (fun _ => s_X1_stepY hk) ⟨by decide, by decide⟩ (Nat.le_of_ble_eq_true rfl) dX1_why_178 (fun v9 h9 n9 z9 hq => ?_) (fun ci9 q9 h9 n9 z9 hf => ?_)
                        · obtain ⟨r87, rfl, rfl, rfl, rfl, hk⟩ := hq
                          refine ⟨[vI r87], rfl, ?_⟩
                          refine r_iadd X (pc := 181) dX1_why_181 ?_
                          refine r_imul X (pc := 182) dX1_why_182 ?_
                          refine r_iadd X (pc := 183) dX1_why_183 ?_
                          exact r_iret X E (pc := 184) dX1_why_184 rfl ⟨_, rfl, hk⟩
                        · exact hf.elim
                      · exact hf.elim
                    · have hk := hf
                      exact r_out X E (fun _ h9 => nomatch h9) hk
                  · have hk := hk.1 c77
                    refine r_aload X (pc := 145) dX1_why_145 (q := 0) rfl ?_
                    refine r_hGI X (pc := 147) fa_X1_247_X9 dX1_why_147 hk (fun y96 hk => ?_)
                    refine r_goto X (pc := 150) (tgt := 184) dX1_why_150 (by decide) ?_
                    exact r_iret X E (pc := 184) dX1_why_184 rfl ⟨_, rfl, hk⟩
                · have hk := hk.1 c74
                  refine r_iload_n X (pc := 119) dX1_why_119 rfl (q := 5) rfl ?_
                  refine r_if_ne X (pc := 120) (tgt := 131) dX1_why_120 (by decide) b73 (fun c97 => ?_) (fun c97 => ?_)
                  · have hk := hk.2 c97
                    refine r_aload X (pc := 131) dX1_why_131 (q := 0) rfl ?_
                    refine r_hGI X (pc := 133) fa_X1_242_X9 dX1_why_133 hk (fun y98 hk => ?_)
                    exact r_iret X E (pc := 136) dX1_why_136 rfl ⟨_, rfl, hk⟩
                  · have hk := hk.1 c97
                    refine r_aload X (pc := 123) dX1_why_123 (q := 0) rfl ?_
                    refine r_hGI X (pc := 125) fa_X1_250_X9 dX1_why_125 hk (fun y99 hk => ?_)
                    refine r_goto X (pc := 128) (tgt := 136) dX1_why_128 (by decide) ?_
                    exact r_iret X E (pc := 136) dX1_why_136 rfl ⟨_, rfl, hk⟩
              · have hk := hk.1 c72
                refine r_aload X (pc := 79) dX1_why_79 (q := 1) rfl ?_
                refine r_iload_n X (pc := 81) dX1_why_81 rfl (q := 4) rfl ?_
                obtain ⟨o114, fs115, e9, b116, hk⟩ := hk
                refine r_callV X (pc := 82) (As := [vI x1]) (st := []) rfl rfl e9 b116 m_X1_333 (fun _ => s_X8_plainFrom hk) ⟨by decide, by decide⟩ (Nat.le_of_ble_eq_true rfl) dX1_why_82 (fun v9 h101 n102 z103 hq => ?_) (fun ci109 q110 h111 n112 z113 hf => ?_)
                · obtain ⟨r100, rfl, hk⟩ := hq
                  refine ⟨[vR r100], rfl, ?_⟩
                  refine r_astore X (pc := 85) (lv1 := [(6, vR r100), (5, vR r66), (4, vR (some n53)), (3, vR r48), (0, vR (some o)), (1, vI x1), (2, vI x2)]) dX1_why_85 (by decide) rfl ?_
                  refine r_iload_n X (pc := 87) dX1_why_87 rfl (q := 6) rfl ?_
                  obtain ⟨b104, hk⟩ := hk
                  refine r_if_ne X (pc := 88) (tgt := 95) dX1_why_88 (by decide) b104 (fun c105 => ?_) (fun c105 => ?_)
                  · have hk := hk.2 c105
                    refine r_iload_n X (pc := 95) dX1_why_95 rfl (q := 6) rfl ?_
                    refine r_iconst X (pc := 96) dX1_why_96 ?_
                    refine r_icmp_ne X (pc := 97) (tgt := 108) dX1_why_97 (by decide) ⟨b104, (by decide)⟩ (fun c106 => ?_) (fun c106 => ?_)
                    · have hk := hk.2 c106
                      refine r_aload X (pc := 108) dX1_why_108 (q := 0) rfl ?_
                      refine r_hGI X (pc := 110) fa_X1_342_X10 dX1_why_110 hk (fun y107 hk => ?_)
                      exact r_iret X E (pc := 113) dX1_why_113 rfl ⟨_, rfl, hk⟩
                    · have hk := hk.1 c106
                      refine r_aload X (pc := 100) dX1_why_100 (q := 0) rfl ?_
                      refine r_hGI X (pc := 102) fa_X1_337_X10 dX1_why_102 hk (fun y108 hk => ?_)
                      refine r_goto X (pc := 105) (tgt := 113) dX1_why_105 (by decide) ?_
                      exact r_iret X E (pc := 113) dX1_why_113 rfl ⟨_, rfl, hk⟩
                  · have hk := hk.1 c105
                    refine r_iconst X (pc := 91) dX1_why_91 ?_
                    refine r_goto X (pc := 92) (tgt := 113) dX1_why_92 (by decide) ?_
                    exact r_iret X E (pc := 113) dX1_why_113 rfl ⟨_, rfl, hk⟩
                · have hk := hf
                  exact r_out X E (fun _ h9 => nomatch h9) hk
            · have hk := hf
              exact r_out X E (fun _ h9 => nomatch h9) hk
          · have hk := hf
            exact r_out X E (fun _ h9 => nomatch h9) hk
        · have hk := hk.1 c60
          refine G.sub [1, 3, 0] rfl ?_
          exact w_X1_why_28 X E h52 n53 z54 x2 r48 hk
    · have hk := hf
      exact r_out X E (fun _ h9 => nomatch h9) hk
  · have hk := hf
    exact r_out X E (fun _ h9 => nomatch h9) hk
theorem s_X1_why {K : KT} {l : Launch} {o : Nat} {κ : Int → AH → Nat → Nat → Prop} {χ : QxT} {h : AH} {n : Nat} {z : Nat} {x1 : Int} {x2 : Int} (hk : P_X1_why K o κ χ h n z x1 x2) : Ct K l yX1_why (ws_ yX1_why cX1_why 7 (Option.some Jvm.ClassFile.FieldType.int)) 11 303 ([vR (some o), vI x1, vI x2].map cV) h n z (QvI κ) χ :=
  ct_of (by decide +kernel) (Nat.le_of_ble_eq_true rfl) (fun Y X E => w_X1_why X E hk)
set_option maxHeartbeats 4000000 in
theorem w_X1_figureOf {K : KT} {Y : YT} {o : Nat} {κ : Int → AH → Nat → Nat → Prop} {χ : QxT} (X : XY K "TrailMarkers" "figureOf" cX1_figureOf (Option.some Jvm.ClassFile.FieldType.int) [] 5 7 210 Y) (E : YE K Y (QvI κ) χ) {h : AH} {n : Nat} {z : Nat} {x1 : Option Nat} {x2 : Int} {x3 : Int} (hk : P_X1_figureOf K o κ χ h n z x1 x2 x3) : G K Y h n z 0 (lv_argsA 0 [vR (some o), vR x1, vI x2, vI x3]) [] := by
  show G K Y h n z 0 [(0, vR (some o)), (1, vR x1), (2, vI x2), (3, vI x3)] []
  refine r_aload_n X (pc := 0) dX1_figureOf_0 rfl (q := 1) rfl ?_
  refine r_iload_n X (pc := 1) dX1_figureOf_1 rfl (q := 2) rfl ?_
  obtain ⟨o51, fs52, e9, b53, hk⟩ := hk
  refine r_callV X (pc := 2) (As := [vI x2]) (st := []) rfl rfl e9 b53 m_X1_265 (fun _ => s_X2_begin hk) ⟨by decide, by decide⟩ (Nat.le_of_ble_eq_true rfl) dX1_figureOf_2 (fun v9 h8 n9 z10 hq => ?_) (fun ci46 q47 h48 n49 z50 hf => ?_)
  · obtain ⟨r7, rfl, hk⟩ := hq
    refine ⟨[vI r7], rfl, ?_⟩
    refine r_istore X (pc := 5) (lv1 := [(4, vI r7), (0, vR (some o)), (1, vR x1), (2, vI x2), (3, vI x3)]) dX1_figureOf_5 (by decide) rfl ?_
    refine r_iload X (pc := 7) dX1_figureOf_7 (q := 0) rfl ?_
    refine r_iconst X (pc := 9) dX1_figureOf_9 ?_
    obtain ⟨b11, hk⟩ := hk
    refine r_icmp_ne X (pc := 10) (tgt := 17) dX1_figureOf_10 (by decide) ⟨b11, (by decide)⟩ (fun c12 => ?_) (fun c12 => ?_)
    · have hk := hk.2 c12
      refine r_hNew X (pc := 17) nw_X1_216 dX1_figureOf_17 hk (fun h13 hk => ?_)
      refine r_dup X (pc := 20) dX1_figureOf_20 rfl ?_
      refine r_aload_n X (pc := 21) dX1_figureOf_21 rfl (q := 2) rfl ?_
      refine r_callI X (pc := 22) (As := [vR x1]) (st := [vR (some n9)]) m_X1_218 (fun _ => s_X8_init hk) ⟨by decide, by decide⟩ (Nat.le_of_ble_eq_true rfl) dX1_figureOf_22 (fun v9 h14 n15 z16 hq => ?_) (fun ci41 q42 h43 n44 z45 hf => ?_)
      · obtain ⟨rfl, hk⟩ := hq
        refine ⟨[], rfl, ?_⟩
        refine r_iload X (pc := 25) dX1_figureOf_25 (q := 0) rfl ?_
        obtain ⟨o38, fs39, e9, b40, hk⟩ := hk
        refine r_callV X (pc := 27) (As := [vI r7]) (st := []) rfl rfl e9 b40 m_X1_284 (fun _ => s_X8_follow hk) ⟨by decide, by decide⟩ (Nat.le_of_ble_eq_true rfl) dX1_figureOf_27 (fun v9 h18 n19 z20 hq => ?_) (fun ci33 q34 h35 n36 z37 hf => ?_)
        · obtain ⟨r17, rfl, hk⟩ := hq
          refine ⟨[vR r17], rfl, ?_⟩
          refine r_iload_n X (pc := 30) dX1_figureOf_30 rfl (q := 4) rfl ?_
          obtain ⟨o30, fs31, e9, b32, hk⟩ := hk
          refine r_callV X (pc := 31) (As := [vI x3]) (st := []) rfl rfl e9 b32 m_X1_291 (fun _ => s_X8_figure hk) ⟨by decide, by decide⟩ (Nat.le_of_ble_eq_true rfl) dX1_figureOf_31 (fun v9 h22 n23 z24 hq => ?_) (fun ci25 q26 h27 n28 z29 hf => ?_)
          · obtain ⟨r21, rfl, hk⟩ := hq
            refine ⟨[vI r21], rfl, ?_⟩
            exact r_iret X E (pc := 34) dX1_figureOf_34 rfl ⟨_, rfl, hk⟩
          · have hk := hf
            exact r_out X E (fun _ h9 => nomatch h9) hk
        · have hk := hf
          exact r_out X E (fun _ h9 => nomatch h9) hk
      · have hk := hf
        exact r_out X E (fun _ h9 => nomatch h9) hk
    · have hk := hk.1 c12
      refine r_iconst X (pc := 13) dX1_figureOf_13 ?_
      refine r_goto X (pc := 14) (tgt := 34) dX1_figureOf_14 (by decide) ?_
      exact r_iret X E (pc := 34) dX1_figureOf_34 rfl ⟨_, rfl, hk⟩
  · have hk := hf
    exact r_out X E (fun _ h9 => nomatch h9) hk
theorem s_X1_figureOf {K : KT} {l : Launch} {o : Nat} {κ : Int → AH → Nat → Nat → Prop} {χ : QxT} {h : AH} {n : Nat} {z : Nat} {x1 : Option Nat} {x2 : Int} {x3 : Int} (hk : P_X1_figureOf K o κ χ h n z x1 x2 x3) : Ct K l yX1_figureOf (ws_ yX1_figureOf cX1_figureOf 5 (Option.some Jvm.ClassFile.FieldType.int)) 7 210 ([vR (some o), vR x1, vI x2, vI x3].map cV) h n z (QvI κ) χ :=
  ct_of (by decide +kernel) (Nat.le_of_ble_eq_true rfl) (fun Y X E => w_X1_figureOf X E hk)
set_option maxHeartbeats 4000000 in
theorem w_X1_withOther {K : KT} {Y : YT} {o : Nat} {κ : Option Nat → AH → Nat → Nat → Prop} {χ : QxT} (X : XY K "TrailMarkers" "withOther" cX1_withOther (Option.some (Jvm.ClassFile.FieldType.object "TrailMarkers$Trails")) [] 3 3 106 Y) (E : YE K Y (QvR κ) χ) {h : AH} {n : Nat} {z : Nat} {x1 : Int} (hk : P_X1_withOther K o κ χ h n z x1) : G K Y h n z 0 (lv_argsA 0 [vR (some o), vI x1]) [] := by
  show G K Y h n z 0 [(0, vR (some o)), (1, vI x1)] []
  refine r_aload_n X (pc := 0) dX1_withOther_0 rfl (q := 0) rfl ?_
  refine r_hGR X (pc := 1) fa_X1_14 dX1_withOther_1 hk (fun y13 hk => ?_)
  obtain ⟨o57, fs58, e9, b59, hk⟩ := hk
  refine r_callV X (pc := 4) (As := []) (st := []) rfl rfl e9 b59 m_X1_125 (fun _ => s_X2_copy hk) ⟨by decide, by decide⟩ (Nat.le_of_ble_eq_true rfl) dX1_withOther_4 (fun v9 h15 n16 z17 hq => ?_) (fun ci52 q53 h54 n55 z56 hf => ?_)
  · obtain ⟨r14, rfl, hk⟩ := hq
    refine ⟨[vR r14], rfl, ?_⟩
    refine r_astore_n X (pc := 7) (lv1 := [(2, vR r14), (0, vR (some o)), (1, vI x1)]) dX1_withOther_7 rfl (by decide) rfl ?_
    refine r_aload_n X (pc := 8) dX1_withOther_8 rfl (q := 0) rfl ?_
    refine r_hGR X (pc := 9) fa_X1_146_X2 dX1_withOther_9 hk (fun y18 hk => ?_)
    refine r_iload_n X (pc := 12) dX1_withOther_12 rfl (q := 2) rfl ?_
    refine r_aload_n X (pc := 13) dX1_withOther_13 rfl (q := 0) rfl ?_
    refine r_hGR X (pc := 14) fa_X1_146_X2 dX1_withOther_14 hk (fun y19 hk => ?_)
    refine r_iload_n X (pc := 17) dX1_withOther_17 rfl (q := 2) rfl ?_
    refine r_hAR X (pc := 18) (t := 5) rfl dX1_withOther_18 hk (fun y20 hk => ?_)
    refine r_aload_n X (pc := 19) dX1_withOther_19 rfl (q := 0) rfl ?_
    refine r_hGR X (pc := 20) fa_X1_146_X2 dX1_withOther_20 hk (fun y21 hk => ?_)
    refine r_iload_n X (pc := 23) dX1_withOther_23 rfl (q := 2) rfl ?_
    refine r_hAR X (pc := 24) (t := 5) rfl dX1_withOther_24 hk (fun y22 hk => ?_)
    refine r_hGI X (pc := 25) fa_X1_227_X3 dX1_withOther_25 hk (fun y23 hk => ?_)
    obtain ⟨b24, hk⟩ := hk
    refine r_if_ne X (pc := 28) (tgt := 35) dX1_withOther_28 (by decide) b24 (fun c25 => ?_) (fun c25 => ?_)
    · have hk := hk.2 c25
      refine r_iconst X (pc := 35) dX1_withOther_35 ?_
      obtain ⟨o36, fs37, e9, b38, hk⟩ := hk
      refine r_callV X (pc := 36) (As := [vI 0]) (st := [vI x1, vR y18]) rfl rfl e9 b38 m_X1_354 (fun _ => s_X3_inState hk) ⟨by decide, by decide⟩ (Nat.le_of_ble_eq_true rfl) dX1_withOther_36 (fun v9 h27 n28 z29 hq => ?_) (fun ci31 q32 h33 n34 z35 hf => ?_)
      · obtain ⟨r26, rfl, hk⟩ := hq
        refine ⟨[vR r26], rfl, ?_⟩
        refine r_hSR X (pc := 39) (t := 5) rfl cos_TrailMarkers_Post_2 dX1_withOther_39 hk (fun h30 hk => ?_)
        refine r_aload_n X (pc := 40) dX1_withOther_40 rfl (q := 0) rfl ?_
        exact r_aret X E (Or.inl ⟨_, rfl⟩) (pc := 41) dX1_withOther_41 ⟨_, rfl, hk⟩
      · have hk := hf
        exact r_out X E (fun _ h9 => nomatch h9) hk
    · have hk := hk.1 c25
      refine r_iconst X (pc := 31) dX1_withOther_31 ?_
      refine r_goto X (pc := 32) (tgt := 36) dX1_withOther_32 (by decide) ?_
      obtain ⟨o49, fs50, e9, b51, hk⟩ := hk
      refine r_callV X (pc := 36) (As := [vI 1]) (st := [vI x1, vR y18]) rfl rfl e9 b51 m_X1_354 (fun _ => s_X3_inState hk) ⟨by decide, by decide⟩ (Nat.le_of_ble_eq_true rfl) dX1_withOther_36 (fun v9 h40 n41 z42 hq => ?_) (fun ci44 q45 h46 n47 z48 hf => ?_)
      · obtain ⟨r39, rfl, hk⟩ := hq
        refine ⟨[vR r39], rfl, ?_⟩
        refine r_hSR X (pc := 39) (t := 5) rfl cos_TrailMarkers_Post_2 dX1_withOther_39 hk (fun h43 hk => ?_)
        refine r_aload_n X (pc := 40) dX1_withOther_40 rfl (q := 0) rfl ?_
        exact r_aret X E (Or.inl ⟨_, rfl⟩) (pc := 41) dX1_withOther_41 ⟨_, rfl, hk⟩
      · have hk := hf
        exact r_out X E (fun _ h9 => nomatch h9) hk
  · have hk := hf
    exact r_out X E (fun _ h9 => nomatch h9) hk
theorem s_X1_withOther {K : KT} {l : Launch} {o : Nat} {κ : Option Nat → AH → Nat → Nat → Prop} {χ : QxT} {h : AH} {n : Nat} {z : Nat} {x1 : Int} (hk : P_X1_withOther K o κ χ h n z x1) : Ct K l yX1_withOther (ws_ yX1_withOther cX1_withOther 3 (Option.some (Jvm.ClassFile.FieldType.object "TrailMarkers$Trails"))) 3 106 ([vR (some o), vI x1].map cV) h n z (QvR κ) χ :=
  ct_of (by decide +kernel) (Nat.le_of_ble_eq_true rfl) (fun Y X E => w_X1_withOther X E hk)
set_option maxHeartbeats 4000000 in
theorem w_X1_ifOther {K : KT} {Y : YT} {o : Nat} {κ : Int → AH → Nat → Nat → Prop} {χ : QxT} (X : XY K "TrailMarkers" "ifOther" cX1_ifOther (Option.some Jvm.ClassFile.FieldType.int) [] 4 11 303 Y) (E : YE K Y (QvI κ) χ) {h : AH} {n : Nat} {z : Nat} {x1 : Int} {x2 : Int} {x3 : Int} (hk : P_X1_ifOther K o κ χ h n z x1 x2 x3) : G K Y h n z 0 (lv_argsA 0 [vR (some o), vI x1, vI x2, vI x3]) [] := by
  show G K Y h n z 0 [(0, vR (some o)), (1, vI x1), (2, vI x2), (3, vI x3)] []
  refine r_aload_n X (pc := 0) dX1_ifOther_0 rfl (q := 0) rfl ?_
  refine r_iload_n X (pc := 1) dX1_ifOther_1 rfl (q := 1) rfl ?_
  obtain ⟨o59, fs60, e9, b61, hk⟩ := hk
  refine r_callV X (pc := 2) (As := [vI x1]) (st := []) rfl rfl e9 b61 m_X1_159 (fun _ => s_X1_needPost hk) ⟨by decide, by decide⟩ (Nat.le_of_ble_eq_true rfl) dX1_ifOther_2 (fun v9 h5 n6 z7 hq => ?_) (fun ci54 q55 h56 n57 z58 hf => ?_)
  · obtain ⟨r4, rfl, hk⟩ := hq
    refine ⟨[vR r4], rfl, ?_⟩
    refine r_pop X (pc := 5) dX1_ifOther_5 rfl ?_
    refine r_aload_n X (pc := 6) dX1_ifOther_6 rfl (q := 0) rfl ?_
    refine r_iload_n X (pc := 7) dX1_ifOther_7 rfl (q := 2) rfl ?_
    obtain ⟨o51, fs52, e9, b53, hk⟩ := hk
    refine r_callV X (pc := 8) (As := [vI x2]) (st := []) rfl rfl e9 b53 m_X1_150 (fun _ => s_X1_needColour hk) ⟨by decide, by decide⟩ (Nat.le_of_ble_eq_true rfl) dX1_ifOther_8 (fun v9 h8 n9 z10 hq => ?_) (fun ci46 q47 h48 n49 z50 hf => ?_)
    · obtain ⟨rfl, hk⟩ := hq
      refine ⟨[], rfl, ?_⟩
      refine r_aload_n X (pc := 11) dX1_ifOther_11 rfl (q := 0) rfl ?_
      refine r_iload_n X (pc := 12) dX1_ifOther_12 rfl (q := 3) rfl ?_
      refine r_iconst X (pc := 13) dX1_ifOther_13 ?_
      refine r_bipush X (pc := 14) dX1_ifOther_14 (by decide) ?_
      obtain ⟨o43, fs44, e9, b45, hk⟩ := hk
      refine r_callV X (pc := 16) (As := [vI x3, vI 0, vI 7]) (st := []) rfl rfl e9 b45 m_X1_88 (fun _ => s_X1_need hk) ⟨by decide, by decide⟩ (Nat.le_of_ble_eq_true rfl) dX1_ifOther_16 (fun v9 h11 n12 z13 hq => ?_) (fun ci38 q39 h40 n41 z42 hf => ?_)
      · obtain ⟨rfl, hk⟩ := hq
        refine ⟨[], rfl, ?_⟩
        refine r_aload_n X (pc := 19) dX1_ifOther_19 rfl (q := 0) rfl ?_
        refine r_aload_n X (pc := 20) dX1_ifOther_20 rfl (q := 0) rfl ?_
        refine r_iload_n X (pc := 21) dX1_ifOther_21 rfl (q := 1) rfl ?_
        obtain ⟨o35, fs36, e9, b37, hk⟩ := hk
        refine r_callV X (pc := 22) (As := [vI x1]) (st := [vR (some o)]) rfl rfl e9 b37 m_X1_358 (fun _ => s_X1_withOther hk) ⟨by decide, by decide⟩ (Nat.le_of_ble_eq_true rfl) dX1_ifOther_22 (fun v9 h15 n16 z17 hq => ?_) (fun ci30 q31 h32 n33 z34 hf => ?_)
        · obtain ⟨r14, rfl, hk⟩ := hq
          refine ⟨[vR r14], rfl, ?_⟩
          refine r_iload_n X (pc := 25) dX1_ifOther_25 rfl (q := 2) rfl ?_
          refine r_iload_n X (pc := 26) dX1_ifOther_26 rfl (q := 3) rfl ?_
          obtain ⟨o27, fs28, e9, b29, hk⟩ := hk
          refine r_callV X (pc := 27) (As := [vR r14, vI x2, vI x3]) (st := []) rfl rfl e9 b29 m_X1_362 (fun _ => s_X1_figureOf hk) ⟨by decide, by decide⟩ (Nat.le_of_ble_eq_true rfl) dX1_ifOther_27 (fun v9 h19 n20 z21 hq => ?_) (fun ci22 q23 h24 n25 z26 hf => ?_)
          · obtain ⟨r18, rfl, hk⟩ := hq
            refine ⟨[vI r18], rfl, ?_⟩
            exact r_iret X E (pc := 30) dX1_ifOther_30 rfl ⟨_, rfl, hk⟩
          · have hk := hf
            exact r_out X E (fun _ h9 => nomatch h9) hk
        · have hk := hf
          exact r_out X E (fun _ h9 => nomatch h9) hk
      · have hk := hf
        exact r_out X E (fun _ h9 => nomatch h9) hk
    · have hk := hf
      exact r_out X E (fun _ h9 => nomatch h9) hk
  · have hk := hf
    exact r_out X E (fun _ h9 => nomatch h9) hk
theorem s_X1_ifOther {K : KT} {l : Launch} {o : Nat} {κ : Int → AH → Nat → Nat → Prop} {χ : QxT} {h : AH} {n : Nat} {z : Nat} {x1 : Int} {x2 : Int} {x3 : Int} (hk : P_X1_ifOther K o κ χ h n z x1 x2 x3) : Ct K l yX1_ifOther (ws_ yX1_ifOther cX1_ifOther 4 (Option.some Jvm.ClassFile.FieldType.int)) 11 303 ([vR (some o), vI x1, vI x2, vI x3].map cV) h n z (QvI κ) χ :=
  ct_of (by decide +kernel) (Nat.le_of_ble_eq_true rfl) (fun Y X E => w_X1_ifOther X E hk)
set_option maxHeartbeats 4000000 in
theorem w_X1_ifSet {K : KT} {Y : YT} {o : Nat} {κ : Int → AH → Nat → Nat → Prop} {χ : QxT} (X : XY K "TrailMarkers" "ifSet" cX1_ifSet (Option.some Jvm.ClassFile.FieldType.int) [] 6 11 303 Y) (E : YE K Y (QvI κ) χ) {h : AH} {n : Nat} {z : Nat} {x1 : Int} {x2 : Int} {x3 : Int} {x4 : Int} (hk : P_X1_ifSet K o κ χ h n z x1 x2 x3 x4) : G K Y h n z 0 (lv_argsA 0 [vR (some o), vI x1, vI x2, vI x3, vI x4]) [] := by
  show G K Y h n z 0 [(0, vR (some o)), (1, vI x1), (2, vI x2), (3, vI x3), (4, vI x4)] []
  refine r_aload_n X (pc := 0) dX1_ifSet_0 rfl (q := 0) rfl ?_
  refine r_iload_n X (pc := 1) dX1_ifSet_1 rfl (q := 3) rfl ?_
  obtain ⟨o78, fs79, e9, b80, hk⟩ := hk
  refine r_callV X (pc := 2) (As := [vI x3]) (st := []) rfl rfl e9 b80 m_X1_150 (fun _ => s_X1_needColour hk) ⟨by decide, by decide⟩ (Nat.le_of_ble_eq_true rfl) dX1_ifSet_2 (fun v9 h8 n9 z10 hq => ?_) (fun ci73 q74 h75 n76 z77 hf => ?_)
  · obtain ⟨rfl, hk⟩ := hq
    refine ⟨[], rfl, ?_⟩
    refine r_aload_n X (pc := 5) dX1_ifSet_5 rfl (q := 0) rfl ?_
    refine r_iload_n X (pc := 6) dX1_ifSet_6 rfl (q := 1) rfl ?_
    refine r_iconst X (pc := 7) dX1_ifSet_7 ?_
    refine r_iconst X (pc := 8) dX1_ifSet_8 ?_
    obtain ⟨o70, fs71, e9, b72, hk⟩ := hk
    refine r_callV X (pc := 9) (As := [vI x1, vI 0, vI 1]) (st := []) rfl rfl e9 b72 m_X1_88 (fun _ => s_X1_need hk) ⟨by decide, by decide⟩ (Nat.le_of_ble_eq_true rfl) dX1_ifSet_9 (fun v9 h11 n12 z13 hq => ?_) (fun ci65 q66 h67 n68 z69 hf => ?_)
    · obtain ⟨rfl, hk⟩ := hq
      refine ⟨[], rfl, ?_⟩
      refine r_aload_n X (pc := 12) dX1_ifSet_12 rfl (q := 0) rfl ?_
      refine r_iload_n X (pc := 13) dX1_ifSet_13 rfl (q := 2) rfl ?_
      refine r_iload_n X (pc := 14) dX1_ifSet_14 rfl (q := 1) rfl ?_
      refine r_callS X (pc := 15) (As := [vI x1]) (st := [vI x2, vR (some o)]) m_X1_193 (fun _ => s_X1_leastOf hk) ⟨by decide, by decide⟩ (Nat.le_of_ble_eq_true rfl) dX1_ifSet_15 (fun v9 h9 n9 z9 hq => ?_) (fun ci9 q9 h9 n9 z9 hf => ?_)
      · obtain ⟨r14, rfl, rfl, rfl, rfl, hk⟩ := hq
        refine ⟨[vI r14], rfl, ?_⟩
        refine r_iload_n X (pc := 18) dX1_ifSet_18 rfl (q := 1) rfl ?_
        refine r_callS X (pc := 19) (As := [vI x1]) (st := [vI r14, vI x2, vR (some o)]) m_X1_196 (fun _ => s_X1_mostOf hk) ⟨by decide, by decide⟩ (Nat.le_of_ble_eq_true rfl) dX1_ifSet_19 (fun v9 h9 n9 z9 hq => ?_) (fun ci9 q9 h9 n9 z9 hf => ?_)
        · obtain ⟨r15, rfl, rfl, rfl, rfl, hk⟩ := hq
          refine ⟨[vI r15], rfl, ?_⟩
          obtain ⟨o62, fs63, e9, b64, hk⟩ := hk
          refine r_callV X (pc := 22) (As := [vI x2, vI r14, vI r15]) (st := []) rfl rfl e9 b64 m_X1_88 (fun _ => s_X1_need hk) ⟨by decide, by decide⟩ (Nat.le_of_ble_eq_true rfl) dX1_ifSet_22 (fun v9 h16 n17 z18 hq => ?_) (fun ci57 q58 h59 n60 z61 hf => ?_)
          · obtain ⟨rfl, hk⟩ := hq
            refine ⟨[], rfl, ?_⟩
            refine r_aload_n X (pc := 25) dX1_ifSet_25 rfl (q := 0) rfl ?_
            refine r_iload X (pc := 26) dX1_ifSet_26 (q := 4) rfl ?_
            refine r_iconst X (pc := 28) dX1_ifSet_28 ?_
            refine r_bipush X (pc := 29) dX1_ifSet_29 (by decide) ?_
            obtain ⟨o54, fs55, e9, b56, hk⟩ := hk
            refine r_callV X (pc := 31) (As := [vI x4, vI 0, vI 7]) (st := []) rfl rfl e9 b56 m_X1_88 (fun _ => s_X1_need hk) ⟨by decide, by decide⟩ (Nat.le_of_ble_eq_true rfl) dX1_ifSet_31 (fun v9 h19 n20 z21 hq => ?_) (fun ci49 q50 h51 n52 z53 hf => ?_)
            · obtain ⟨rfl, hk⟩ := hq
              refine ⟨[], rfl, ?_⟩
              refine r_aload_n X (pc := 34) dX1_ifSet_34 rfl (q := 0) rfl ?_
              refine r_hGR X (pc := 35) fa_X1_14 dX1_ifSet_35 hk (fun y22 hk => ?_)
              obtain ⟨o46, fs47, e9, b48, hk⟩ := hk
              refine r_callV X (pc := 38) (As := []) (st := []) rfl rfl e9 b48 m_X1_125 (fun _ => s_X2_copy hk) ⟨by decide, by decide⟩ (Nat.le_of_ble_eq_true rfl) dX1_ifSet_38 (fun v9 h24 n25 z26 hq => ?_) (fun ci41 q42 h43 n44 z45 hf => ?_)
              · obtain ⟨r23, rfl, hk⟩ := hq
                refine ⟨[vR r23], rfl, ?_⟩
                refine r_astore X (pc := 41) (lv1 := [(5, vR r23), (0, vR (some o)), (1, vI x1), (2, vI x2), (3, vI x3), (4, vI x4)]) dX1_ifSet_41 (by decide) rfl ?_
                refine r_aload X (pc := 43) dX1_ifSet_43 (q := 0) rfl ?_
                refine r_hGR X (pc := 45) fa_X1_199_X2 dX1_ifSet_45 hk (fun y27 hk => ?_)
                refine r_iload_n X (pc := 48) dX1_ifSet_48 rfl (q := 2) rfl ?_
                refine r_iload_n X (pc := 49) dX1_ifSet_49 rfl (q := 3) rfl ?_
                refine r_hSI X (pc := 50) dX1_ifSet_50 hk (fun h28 hk => ?_)
                refine r_aload_n X (pc := 51) dX1_ifSet_51 rfl (q := 1) rfl ?_
                refine r_aload X (pc := 52) dX1_ifSet_52 (q := 0) rfl ?_
                refine r_iload_n X (pc := 54) dX1_ifSet_54 rfl (q := 4) rfl ?_
                refine r_iload X (pc := 55) dX1_ifSet_55 (q := 5) rfl ?_
                obtain ⟨o38, fs39, e9, b40, hk⟩ := hk
                refine r_callV X (pc := 57) (As := [vR r23, vI x3, vI x4]) (st := []) rfl rfl e9 b40 m_X1_362 (fun _ => s_X1_figureOf hk) ⟨by decide, by decide⟩ (Nat.le_of_ble_eq_true rfl) dX1_ifSet_57 (fun v9 h30 n31 z32 hq => ?_) (fun ci33 q34 h35 n36 z37 hf => ?_)
                · obtain ⟨r29, rfl, hk⟩ := hq
                  refine ⟨[vI r29], rfl, ?_⟩
                  exact r_iret X E (pc := 60) dX1_ifSet_60 rfl ⟨_, rfl, hk⟩
                · have hk := hf
                  exact r_out X E (fun _ h9 => nomatch h9) hk
              · have hk := hf
                exact r_out X E (fun _ h9 => nomatch h9) hk
            · have hk := hf
              exact r_out X E (fun _ h9 => nomatch h9) hk
          · have hk := hf
            exact r_out X E (fun _ h9 => nomatch h9) hk
        · exact hf.elim
      · exact hf.elim
    · have hk := hf
      exact r_out X E (fun _ h9 => nomatch h9) hk
  · have hk := hf
    exact r_out X E (fun _ h9 => nomatch h9) hk
theorem s_X1_ifSet {K : KT} {l : Launch} {o : Nat} {κ : Int → AH → Nat → Nat → Prop} {χ : QxT} {h : AH} {n : Nat} {z : Nat} {x1 : Int} {x2 : Int} {x3 : Int} {x4 : Int} (hk : P_X1_ifSet K o κ χ h n z x1 x2 x3 x4) : Ct K l yX1_ifSet (ws_ yX1_ifSet cX1_ifSet 6 (Option.some Jvm.ClassFile.FieldType.int)) 11 303 ([vR (some o), vI x1, vI x2, vI x3, vI x4].map cV) h n z (QvI κ) χ :=
  ct_of (by decide +kernel) (Nat.le_of_ble_eq_true rfl) (fun Y X E => w_X1_ifSet X E hk)
set_option maxHeartbeats 4000000 in
theorem w_X1_extreme_129 {K : KT} {Y : YT} {o : Nat} {κ : Int → AH → Nat → Nat → Prop} {χ : QxT} (X : XY K "TrailMarkers" "extreme" cX1_extreme (Option.some Jvm.ClassFile.FieldType.int) [] 11 8 232 Y) (E : YE K Y (QvI κ) χ) {k_29 : AH → Nat → Nat → Int → Int → Int → Option Nat → Option Nat → Int → Int → Int → Prop} {k_143 : AH → Nat → Nat → Int → Prop} (H_29 : ∀ (h : AH) (n : Nat) (z : Nat) (x1 : Int) (x2 : Int) (x3 : Int) (x4 : Option Nat) (x5 : Option Nat) (x6 : Int) (x7 : Int) (x8 : Int), k_29 h n z x1 x2 x3 x4 x5 x6 x7 x8 → G K Y h n z 29 [(0, vR (some o)), (1, vI x1), (2, vI x2), (3, vI x3), (4, vR x4), (5, vR x5), (6, vI x6), (7, vI x7), (8, vI x8)] []) (H_143 : ∀ (h : AH) (n : Nat) (z : Nat) (x6 : Int), k_143 h n z x6 → G K Y h n z 143 [(0, vR (some o)), (6, vI x6)] []) : ∀ (h : AH) (n : Nat) (z : Nat) (x1 : Int) (x2 : Int) (x3 : Int) (x4 : Option Nat) (x5 : Option Nat) (x8 : Int) (x10 : Int), P_X1_extreme_129 K o k_29 k_143 κ χ h n z x1 x2 x3 x4 x5 x8 x10 → G K Y h n z 129 [(0, vR (some o)), (1, vI x1), (2, vI x2), (3, vI x3), (4, vR x4), (5, vR x5), (8, vI x8), (10, vI x10)] [] := by
  intro h n z x1 x2 x3 x4 x5 x8 x10 hk
  refine r_iload X (pc := 129) dX1_extreme_129 (q := 6) rfl ?_
  refine r_istore X (pc := 131) (lv1 := [(6, vI x8), (0, vR (some o)), (1, vI x1), (2, vI x2), (3, vI x3), (4, vR x4), (5, vR x5), (8, vI x8), (10, vI x10)]) dX1_extreme_131 (by decide) rfl ?_
  refine r_iload X (pc := 133) dX1_extreme_133 (q := 8) rfl ?_
  refine r_istore X (pc := 135) (lv1 := [(7, vI x10), (6, vI x8), (0, vR (some o)), (1, vI x1), (2, vI x2), (3, vI x3), (4, vR x4), (5, vR x5), (8, vI x8), (10, vI x10)]) dX1_extreme_135 (by decide) rfl ?_
  refine r_iinc X (pc := 137) (q := 8) (lv1 := [(8, vI (x8 + 1)), (7, vI x10), (6, vI x8), (0, vR (some o)), (1, vI x1), (2, vI x2), (3, vI x3), (4, vR x4), (5, vR x5), (10, vI x10)]) dX1_extreme_137 rfl (by decide) rfl ?_
  refine r_goto X (pc := 140) (tgt := 29) dX1_extreme_140 (by decide) ?_
  refine G.sub [3, 4, 5, 6, 7, 8, 2, 1, 0] rfl ?_
  exact H_29 h n z x1 x2 x3 x4 x5 x8 x10 (x8 + 1) hk
set_option maxHeartbeats 4000000 in
theorem w_X1_extreme_92 {K : KT} {Y : YT} {o : Nat} {κ : Int → AH → Nat → Nat → Prop} {χ : QxT} (X : XY K "TrailMarkers" "extreme" cX1_extreme (Option.some Jvm.ClassFile.FieldType.int) [] 11 8 232 Y) (E : YE K Y (QvI κ) χ) {k_29 : AH → Nat → Nat → Int → Int → Int → Option Nat → Option Nat → Int → Int → Int → Prop} {k_143 : AH → Nat → Nat → Int → Prop} (H_29 : ∀ (h : AH) (n : Nat) (z : Nat) (x1 : Int) (x2 : Int) (x3 : Int) (x4 : Option Nat) (x5 : Option Nat) (x6 : Int) (x7 : Int) (x8 : Int), k_29 h n z x1 x2 x3 x4 x5 x6 x7 x8 → G K Y h n z 29 [(0, vR (some o)), (1, vI x1), (2, vI x2), (3, vI x3), (4, vR x4), (5, vR x5), (6, vI x6), (7, vI x7), (8, vI x8)] []) (H_143 : ∀ (h : AH) (n : Nat) (z : Nat) (x6 : Int), k_143 h n z x6 → G K Y h n z 143 [(0, vR (some o)), (6, vI x6)] []) : ∀ (h : AH) (n : Nat) (z : Nat) (x1 : Int) (x2 : Int) (x3 : Int) (x4 : Option Nat) (x5 : Option Nat) (x6 : Int) (x7 : Int) (x8 : Int) (x9 : Option Nat) (s0 : Int) (s1 : Option Nat) (s2 : Int) (s3 : Option Nat), P_X1_extreme_92 K o k_29 k_143 κ χ h n z x1 x2 x3 x4 x5 x6 x7 x8 x9 s0 s1 s2 s3 → G K Y h n z 92 [(0, vR (some o)), (1, vI x1), (2, vI x2), (3, vI x3), (4, vR x4), (5, vR x5), (6, vI x6), (7, vI x7), (8, vI x8), (9, vR x9)] [vI s0, vR s1, vI s2, vR s3] := by
  intro h n z x1 x2 x3 x4 x5 x6 x7 x8 x9 s0 s1 s2 s3 hk
  obtain ⟨o62, fs63, e9, b64, hk⟩ := hk
  refine r_callV X (pc := 92) (As := [vI s0]) (st := [vI s2, vR s3]) rfl rfl e9 b64 m_X1_354 (fun _ => s_X3_inState hk) ⟨by decide, by decide⟩ (Nat.le_of_ble_eq_true rfl) dX1_extreme_92 (fun v9 h34 n35 z36 hq => ?_) (fun ci57 q58 h59 n60 z61 hf => ?_)
  · obtain ⟨r33, rfl, hk⟩ := hq
    refine ⟨[vR r33], rfl, ?_⟩
    refine r_hSR X (pc := 95) (t := 5) rfl cos_TrailMarkers_Post_2 dX1_extreme_95 hk (fun h37 hk => ?_)
    refine r_iload_n X (pc := 96) dX1_extreme_96 rfl (q := 3) rfl ?_
    refine r_aload X (pc := 97) dX1_extreme_97 (q := 5) rfl ?_
    refine r_iload_n X (pc := 99) dX1_extreme_99 rfl (q := 1) rfl ?_
    obtain ⟨o54, fs55, e9, b56, hk⟩ := hk
    refine r_callV X (pc := 100) (As := [vI x1]) (st := [vI x3]) rfl rfl e9 b56 m_X1_259 (fun _ => s_X8_metOf hk) ⟨by decide, by decide⟩ (Nat.le_of_ble_eq_true rfl) dX1_extreme_100 (fun v9 h39 n40 z41 hq => ?_) (fun ci49 q50 h51 n52 z53 hf => ?_)
    · obtain ⟨r38, rfl, hk⟩ := hq
      refine ⟨[vI r38], rfl, ?_⟩
      refine r_imul X (pc := 103) dX1_extreme_103 ?_
      refine r_istore X (pc := 104) (lv1 := [(10, vI (x3 * r38)), (0, vR (some o)), (1, vI x1), (2, vI x2), (3, vI x3), (4, vR x4), (5, vR x5), (6, vI x6), (7, vI x7), (8, vI x8), (9, vR x9)]) dX1_extreme_104 (by decide) rfl ?_
      refine r_aload X (pc := 106) dX1_extreme_106 (q := 5) rfl ?_
      refine r_hGR X (pc := 108) fa_X1_146_X2 dX1_extreme_108 hk (fun y42 hk => ?_)
      refine r_iload X (pc := 111) dX1_extreme_111 (q := 9) rfl ?_
      refine r_aload X (pc := 113) dX1_extreme_113 (q := 10) rfl ?_
      refine r_hSR X (pc := 115) (t := 5) rfl cos_TrailMarkers_Post_2 dX1_extreme_115 hk (fun h43 hk => ?_)
      refine r_iload X (pc := 116) dX1_extreme_116 (q := 7) rfl ?_
      refine r_iconst X (pc := 118) dX1_extreme_118 ?_
      obtain ⟨b44, hk⟩ := hk
      refine r_icmp_eq X (pc := 119) (tgt := 129) dX1_extreme_119 (by decide) ⟨b44, (by decide)⟩ (fun c45 => ?_) (fun c45 => ?_)
      · have hk := hk.1 c45
        refine G.sub [1, 2, 3, 4, 5, 6, 9, 0] rfl ?_
        exact w_X1_extreme_129 X E H_29 H_143 h43 n40 z41 x1 x2 x3 x4 x5 x8 (x3 * r38) hk
      · have hk := hk.2 c45
        refine r_iload X (pc := 122) dX1_extreme_122 (q := 0) rfl ?_
        refine r_iload X (pc := 124) dX1_extreme_124 (q := 8) rfl ?_
        obtain ⟨b46, b47, hk⟩ := hk
        refine r_icmp_le X (pc := 126) (tgt := 137) dX1_extreme_126 (by decide) ⟨b46, b47⟩ (fun c48 => ?_) (fun c48 => ?_)
        · have hk := hk.2 c48
          refine r_iinc X (pc := 137) (q := 9) (lv1 := [(8, vI (x8 + 1)), (10, vI (x3 * r38)), (0, vR (some o)), (1, vI x1), (2, vI x2), (3, vI x3), (4, vR x4), (5, vR x5), (6, vI x6), (7, vI x7), (9, vR x9)]) dX1_extreme_137 rfl (by decide) rfl ?_
          refine r_goto X (pc := 140) (tgt := 29) dX1_extreme_140 (by decide) ?_
          refine G.sub [2, 3, 4, 5, 6, 7, 8, 9, 0] rfl ?_
          exact H_29 h43 n40 z41 x1 x2 x3 x4 x5 x6 x7 (x8 + 1) hk
        · have hk := hk.1 c48
          refine G.sub [1, 2, 3, 4, 5, 6, 9, 0] rfl ?_
          exact w_X1_extreme_129 X E H_29 H_143 h43 n40 z41 x1 x2 x3 x4 x5 x8 (x3 * r38) hk
    · have hk := hf
      exact r_out X E (fun _ h9 => nomatch h9) hk
  · have hk := hf
    exact r_out X E (fun _ h9 => nomatch h9) hk
set_option maxHeartbeats 4000000 in
theorem w_X1_extreme_29 {K : KT} {Y : YT} {o : Nat} {κ : Int → AH → Nat → Nat → Prop} {χ : QxT} (X : XY K "TrailMarkers" "extreme" cX1_extreme (Option.some Jvm.ClassFile.FieldType.int) [] 11 8 232 Y) (E : YE K Y (QvI κ) χ) {k_143 : AH → Nat → Nat → Int → Prop} (H_143 : ∀ (h : AH) (n : Nat) (z : Nat) (x6 : Int), k_143 h n z x6 → G K Y h n z 143 [(0, vR (some o)), (6, vI x6)] []) : ∀ (f : Nat) (h : AH) (n : Nat) (z : Nat) (x1 : Int) (x2 : Int) (x3 : Int) (x4 : Option Nat) (x5 : Option Nat) (x6 : Int) (x7 : Int) (x8 : Int), L_X1_extreme_29 K o k_143 κ χ f h n z x1 x2 x3 x4 x5 x6 x7 x8 → G K Y h n z 29 [(0, vR (some o)), (1, vI x1), (2, vI x2), (3, vI x3), (4, vR x4), (5, vR x5), (6, vI x6), (7, vI x7), (8, vI x8)] [] := by
  intro f
  induction f with
  | zero => intro h n z x1 x2 x3 x4 x5 x6 x7 x8 hk; exact hk.elim
  | succ f ih =>
    intro h n z x1 x2 x3 x4 x5 x6 x7 x8 hk
    refine r_iload X (pc := 29) dX1_extreme_29 (q := 8) rfl ?_
    refine r_aload_n X (pc := 31) dX1_extreme_31 rfl (q := 0) rfl ?_
    refine r_hGR X (pc := 32) fa_X1_14 dX1_extreme_32 hk (fun y65 hk => ?_)
    refine r_hGI X (pc := 35) fa_X1_111_X2 dX1_extreme_35 hk (fun y66 hk => ?_)
    obtain ⟨b67, b68, hk⟩ := hk
    refine r_icmp_ge X (pc := 38) (tgt := 143) dX1_extreme_38 (by decide) ⟨b67, b68⟩ (fun c69 => ?_) (fun c69 => ?_)
    · have hk := hk.2 c69
      refine G.sub [0, 6] rfl ?_
      exact H_143 h n z x6 hk
    · have hk := hk.1 c69
      refine r_aload_n X (pc := 41) dX1_extreme_41 rfl (q := 0) rfl ?_
      refine r_hGR X (pc := 42) fa_X1_14 dX1_extreme_42 hk (fun y70 hk => ?_)
      refine r_hGR X (pc := 45) fa_X1_146_X2 dX1_extreme_45 hk (fun y71 hk => ?_)
      refine r_iload X (pc := 48) dX1_extreme_48 (q := 8) rfl ?_
      refine r_hAR X (pc := 50) (t := 5) rfl dX1_extreme_50 hk (fun y72 hk => ?_)
      refine r_astore X (pc := 51) (lv1 := [(9, vR y72), (0, vR (some o)), (1, vI x1), (2, vI x2), (3, vI x3), (4, vR x4), (5, vR x5), (6, vI x6), (7, vI x7), (8, vI x8)]) dX1_extreme_51 (by decide) rfl ?_
      refine r_aload X (pc := 53) dX1_extreme_53 (q := 0) rfl ?_
      refine r_hGI X (pc := 55) fa_X1_172_X3 dX1_extreme_55 hk (fun y73 hk => ?_)
      refine r_iload_n X (pc := 58) dX1_extreme_58 rfl (q := 2) rfl ?_
      obtain ⟨b74, b75, hk⟩ := hk
      refine r_icmp_ne X (pc := 59) (tgt := 137) dX1_extreme_59 (by decide) ⟨b74, b75⟩ (fun c76 => ?_) (fun c76 => ?_)
      · have hk := hk.2 c76
        refine r_iinc X (pc := 137) (q := 9) (lv1 := [(8, vI (x8 + 1)), (9, vR y72), (0, vR (some o)), (1, vI x1), (2, vI x2), (3, vI x3), (4, vR x4), (5, vR x5), (6, vI x6), (7, vI x7)]) dX1_extreme_137 rfl (by decide) rfl ?_
        refine r_goto X (pc := 140) (tgt := 29) dX1_extreme_140 (by decide) ?_
        refine G.sub [2, 3, 4, 5, 6, 7, 8, 9, 0] rfl ?_
        exact ih h n z x1 x2 x3 x4 x5 x6 x7 (x8 + 1) hk
      · have hk := hk.1 c76
        refine r_aload X (pc := 62) dX1_extreme_62 (q := 0) rfl ?_
        refine r_hGI X (pc := 64) fa_X1_227_X3 dX1_extreme_64 hk (fun y77 hk => ?_)
        refine r_iload_n X (pc := 67) dX1_extreme_67 rfl (q := 3) rfl ?_
        obtain ⟨b78, b79, hk⟩ := hk
        refine r_icmp_eq X (pc := 68) (tgt := 74) dX1_extreme_68 (by decide) ⟨b78, b79⟩ (fun c80 => ?_) (fun c80 => ?_)
        · have hk := hk.1 c80
          refine r_aload X (pc := 74) dX1_extreme_74 (q := 5) rfl ?_
          refine r_hGR X (pc := 76) fa_X1_146_X2 dX1_extreme_76 hk (fun y81 hk => ?_)
          refine r_iload X (pc := 79) dX1_extreme_79 (q := 9) rfl ?_
          refine r_aload X (pc := 81) dX1_extreme_81 (q := 0) rfl ?_
          refine r_iload_n X (pc := 83) dX1_extreme_83 rfl (q := 3) rfl ?_
          refine r_if_ne X (pc := 84) (tgt := 91) dX1_extreme_84 (by decide) b79 (fun c82 => ?_) (fun c82 => ?_)
          · have hk := hk.2 c82
            refine r_iconst X (pc := 91) dX1_extreme_91 ?_
            refine G.sub [1, 2, 3, 4, 5, 6, 7, 8, 9, 0] rfl ?_
            have HH83 : ∀ (h : AH) (n : Nat) (z : Nat) (x1 : Int) (x2 : Int) (x3 : Int) (x4 : Option Nat) (x5 : Option Nat) (x6 : Int) (x7 : Int) (x8 : Int), (L_X1_extreme_29 K o k_143 κ χ f h n z x1 x2 x3 x4 x5 x6 x7 x8) → G K Y h n z 29 [(0, vR (some o)), (1, vI x1), (2, vI x2), (3, vI x3), (4, vR x4), (5, vR x5), (6, vI x6), (7, vI x7), (8, vI x8)] [] := by
                intro h n z x1 x2 x3 x4 x5 x6 x7 x8 hk
                exact ih h n z x1 x2 x3 x4 x5 x6 x7 x8 hk
            exact w_X1_extreme_92 X E HH83 H_143 h n z x1 x2 x3 x4 x5 x6 x7 x8 y72 0 y72 x8 y81 hk
          · have hk := hk.1 c82
            refine r_iconst X (pc := 87) dX1_extreme_87 ?_
            refine r_goto X (pc := 88) (tgt := 92) dX1_extreme_88 (by decide) ?_
            refine G.sub [1, 2, 3, 4, 5, 6, 7, 8, 9, 0] rfl ?_
            have HH84 : ∀ (h : AH) (n : Nat) (z : Nat) (x1 : Int) (x2 : Int) (x3 : Int) (x4 : Option Nat) (x5 : Option Nat) (x6 : Int) (x7 : Int) (x8 : Int), (L_X1_extreme_29 K o k_143 κ χ f h n z x1 x2 x3 x4 x5 x6 x7 x8) → G K Y h n z 29 [(0, vR (some o)), (1, vI x1), (2, vI x2), (3, vI x3), (4, vR x4), (5, vR x5), (6, vI x6), (7, vI x7), (8, vI x8)] [] := by
                intro h n z x1 x2 x3 x4 x5 x6 x7 x8 hk
                exact ih h n z x1 x2 x3 x4 x5 x6 x7 x8 hk
            exact w_X1_extreme_92 X E HH84 H_143 h n z x1 x2 x3 x4 x5 x6 x7 x8 y72 1 y72 x8 y81 hk
        · have hk := hk.2 c80
          refine r_goto X (pc := 71) (tgt := 137) dX1_extreme_71 (by decide) ?_
          refine r_iinc X (pc := 137) (q := 9) (lv1 := [(8, vI (x8 + 1)), (9, vR y72), (0, vR (some o)), (1, vI x1), (2, vI x2), (3, vI x3), (4, vR x4), (5, vR x5), (6, vI x6), (7, vI x7)]) dX1_extreme_137 rfl (by decide) rfl ?_
          refine r_goto X (pc := 140) (tgt := 29) dX1_extreme_140 (by decide) ?_
          refine G.sub [2, 3, 4, 5, 6, 7, 8, 9, 0] rfl ?_
          exact ih h n z x1 x2 x3 x4 x5 x6 x7 (x8 + 1) hk
set_option maxHeartbeats 4000000 in
theorem w_X1_extreme_143 {K : KT} {Y : YT} {o : Nat} {κ : Int → AH → Nat → Nat → Prop} {χ : QxT} (X : XY K "TrailMarkers" "extreme" cX1_extreme (Option.some Jvm.ClassFile.FieldType.int) [] 11 8 232 Y) (E : YE K Y (QvI κ) χ) : ∀ (h : AH) (n : Nat) (z : Nat) (x6 : Int), P_X1_extreme_143 K o κ χ h n z x6 → G K Y h n z 143 [(0, vR (some o)), (6, vI x6)] [] := by
  intro h n z x6 hk
  refine r_iload X (pc := 143) dX1_extreme_143 (q := 1) rfl ?_
  exact r_iret X E (pc := 145) dX1_extreme_145 rfl ⟨_, rfl, hk⟩
set_option maxHeartbeats 4000000 in
theorem w_X1_extreme {K : KT} {Y : YT} {o : Nat} {κ : Int → AH → Nat → Nat → Prop} {χ : QxT} (X : XY K "TrailMarkers" "extreme" cX1_extreme (Option.some Jvm.ClassFile.FieldType.int) [] 11 8 232 Y) (E : YE K Y (QvI κ) χ) {h : AH} {n : Nat} {z : Nat} {x1 : Int} {x2 : Int} {x3 : Int} (hk : P_X1_extreme K o κ χ h n z x1 x2 x3) : G K Y h n z 0 (lv_argsA 0 [vR (some o), vI x1, vI x2, vI x3]) [] := by
  show G K Y h n z 0 [(0, vR (some o)), (1, vI x1), (2, vI x2), (3, vI x3)] []
  refine r_aload_n X (pc := 0) dX1_extreme_0 rfl (q := 0) rfl ?_
  refine r_hGR X (pc := 1) fa_X1_14 dX1_extreme_1 hk (fun y85 hk => ?_)
  obtain ⟨o105, fs106, e9, b107, hk⟩ := hk
  refine r_callV X (pc := 4) (As := []) (st := []) rfl rfl e9 b107 m_X1_125 (fun _ => s_X2_copy hk) ⟨by decide, by decide⟩ (Nat.le_of_ble_eq_true rfl) dX1_extreme_4 (fun v9 h87 n88 z89 hq => ?_) (fun ci100 q101 h102 n103 z104 hf => ?_)
  · obtain ⟨r86, rfl, hk⟩ := hq
    refine ⟨[vR r86], rfl, ?_⟩
    refine r_astore X (pc := 7) (lv1 := [(4, vR r86), (0, vR (some o)), (1, vI x1), (2, vI x2), (3, vI x3)]) dX1_extreme_7 (by decide) rfl ?_
    refine r_hNew X (pc := 9) nw_X1_216 dX1_extreme_9 hk (fun h90 hk => ?_)
    refine r_dup X (pc := 12) dX1_extreme_12 rfl ?_
    refine r_aload X (pc := 13) dX1_extreme_13 (q := 0) rfl ?_
    refine r_callI X (pc := 15) (As := [vR r86]) (st := [vR (some n88)]) m_X1_218 (fun _ => s_X8_init hk) ⟨by decide, by decide⟩ (Nat.le_of_ble_eq_true rfl) dX1_extreme_15 (fun v9 h91 n92 z93 hq => ?_) (fun ci95 q96 h97 n98 z99 hf => ?_)
    · obtain ⟨rfl, hk⟩ := hq
      refine ⟨[], rfl, ?_⟩
      refine r_astore X (pc := 18) (lv1 := [(5, vR (some n88)), (4, vR r86), (0, vR (some o)), (1, vI x1), (2, vI x2), (3, vI x3)]) dX1_extreme_18 (by decide) rfl ?_
      refine r_iconst X (pc := 20) dX1_extreme_20 ?_
      refine r_istore X (pc := 21) (lv1 := [(6, vI (-1)), (5, vR (some n88)), (4, vR r86), (0, vR (some o)), (1, vI x1), (2, vI x2), (3, vI x3)]) dX1_extreme_21 (by decide) rfl ?_
      refine r_iconst X (pc := 23) dX1_extreme_23 ?_
      refine r_istore X (pc := 24) (lv1 := [(7, vI 0), (6, vI (-1)), (5, vR (some n88)), (4, vR r86), (0, vR (some o)), (1, vI x1), (2, vI x2), (3, vI x3)]) dX1_extreme_24 (by decide) rfl ?_
      refine r_iconst X (pc := 26) dX1_extreme_26 ?_
      refine r_istore X (pc := 27) (lv1 := [(8, vI 0), (7, vI 0), (6, vI (-1)), (5, vR (some n88)), (4, vR r86), (0, vR (some o)), (1, vI x1), (2, vI x2), (3, vI x3)]) dX1_extreme_27 (by decide) rfl ?_
      refine G.sub [5, 6, 7, 8, 4, 3, 2, 1, 0] rfl ?_
      have HH94 : ∀ (h : AH) (n : Nat) (z : Nat) (x6 : Int), (P_X1_extreme_143 K o κ χ h n z x6) → G K Y h n z 143 [(0, vR (some o)), (6, vI x6)] [] := by
          intro h n z x6 hk
          exact w_X1_extreme_143 X E h n z x6 hk
      obtain ⟨f9, hk⟩ := hk
      exact w_X1_extreme_29 X E HH94 f9 h91 n92 z93 x1 x2 x3 r86 (some n88) (-1) 0 0 hk
    · have hk := hf
      exact r_out X E (fun _ h9 => nomatch h9) hk
  · have hk := hf
    exact r_out X E (fun _ h9 => nomatch h9) hk
theorem s_X1_extreme {K : KT} {l : Launch} {o : Nat} {κ : Int → AH → Nat → Nat → Prop} {χ : QxT} {h : AH} {n : Nat} {z : Nat} {x1 : Int} {x2 : Int} {x3 : Int} (hk : P_X1_extreme K o κ χ h n z x1 x2 x3) : Ct K l yX1_extreme (ws_ yX1_extreme cX1_extreme 11 (Option.some Jvm.ClassFile.FieldType.int)) 8 232 ([vR (some o), vI x1, vI x2, vI x3].map cV) h n z (QvI κ) χ :=
  ct_of (by decide +kernel) (Nat.le_of_ble_eq_true rfl) (fun Y X E => w_X1_extreme X E hk)
set_option maxHeartbeats 4000000 in
theorem w_X1_bestMend {K : KT} {Y : YT} {o : Nat} {κ : Int → AH → Nat → Nat → Prop} {χ : QxT} (X : XY K "TrailMarkers" "bestMend" cX1_bestMend (Option.some Jvm.ClassFile.FieldType.int) [] 2 11 301 Y) (E : YE K Y (QvI κ) χ) {h : AH} {n : Nat} {z : Nat} {x1 : Int} (hk : P_X1_bestMend K o κ χ h n z x1) : G K Y h n z 0 (lv_argsA 0 [vR (some o), vI x1]) [] := by
  show G K Y h n z 0 [(0, vR (some o)), (1, vI x1)] []
  refine r_aload_n X (pc := 0) dX1_bestMend_0 rfl (q := 0) rfl ?_
  refine r_iload_n X (pc := 1) dX1_bestMend_1 rfl (q := 1) rfl ?_
  obtain ⟨o22, fs23, e9, b24, hk⟩ := hk
  refine r_callV X (pc := 2) (As := [vI x1]) (st := []) rfl rfl e9 b24 m_X1_150 (fun _ => s_X1_needColour hk) ⟨by decide, by decide⟩ (Nat.le_of_ble_eq_true rfl) dX1_bestMend_2 (fun v9 h2 n3 z4 hq => ?_) (fun ci17 q18 h19 n20 z21 hf => ?_)
  · obtain ⟨rfl, hk⟩ := hq
    refine ⟨[], rfl, ?_⟩
    refine r_aload_n X (pc := 5) dX1_bestMend_5 rfl (q := 0) rfl ?_
    refine r_iload_n X (pc := 6) dX1_bestMend_6 rfl (q := 1) rfl ?_
    refine r_iconst X (pc := 7) dX1_bestMend_7 ?_
    refine r_iconst X (pc := 8) dX1_bestMend_8 ?_
    obtain ⟨o14, fs15, e9, b16, hk⟩ := hk
    refine r_callV X (pc := 9) (As := [vI x1, vI 1, vI 1]) (st := []) rfl rfl e9 b16 m_X1_366 (fun _ => s_X1_extreme hk) ⟨by decide, by decide⟩ (Nat.le_of_ble_eq_true rfl) dX1_bestMend_9 (fun v9 h6 n7 z8 hq => ?_) (fun ci9 q10 h11 n12 z13 hf => ?_)
    · obtain ⟨r5, rfl, hk⟩ := hq
      refine ⟨[vI r5], rfl, ?_⟩
      exact r_iret X E (pc := 12) dX1_bestMend_12 rfl ⟨_, rfl, hk⟩
    · have hk := hf
      exact r_out X E (fun _ h9 => nomatch h9) hk
  · have hk := hf
    exact r_out X E (fun _ h9 => nomatch h9) hk
theorem s_X1_bestMend {K : KT} {l : Launch} {o : Nat} {κ : Int → AH → Nat → Nat → Prop} {χ : QxT} {h : AH} {n : Nat} {z : Nat} {x1 : Int} (hk : P_X1_bestMend K o κ χ h n z x1) : Ct K l yX1_bestMend (ws_ yX1_bestMend cX1_bestMend 2 (Option.some Jvm.ClassFile.FieldType.int)) 11 301 ([vR (some o), vI x1].map cV) h n z (QvI κ) χ :=
  ct_of (by decide +kernel) (Nat.le_of_ble_eq_true rfl) (fun Y X E => w_X1_bestMend X E hk)
set_option maxHeartbeats 4000000 in
theorem w_X1_worstLoss {K : KT} {Y : YT} {o : Nat} {κ : Int → AH → Nat → Nat → Prop} {χ : QxT} (X : XY K "TrailMarkers" "worstLoss" cX1_worstLoss (Option.some Jvm.ClassFile.FieldType.int) [] 2 11 301 Y) (E : YE K Y (QvI κ) χ) {h : AH} {n : Nat} {z : Nat} {x1 : Int} (hk : P_X1_worstLoss K o κ χ h n z x1) : G K Y h n z 0 (lv_argsA 0 [vR (some o), vI x1]) [] := by
  show G K Y h n z 0 [(0, vR (some o)), (1, vI x1)] []
  refine r_aload_n X (pc := 0) dX1_worstLoss_0 rfl (q := 0) rfl ?_
  refine r_iload_n X (pc := 1) dX1_worstLoss_1 rfl (q := 1) rfl ?_
  obtain ⟨o22, fs23, e9, b24, hk⟩ := hk
  refine r_callV X (pc := 2) (As := [vI x1]) (st := []) rfl rfl e9 b24 m_X1_150 (fun _ => s_X1_needColour hk) ⟨by decide, by decide⟩ (Nat.le_of_ble_eq_true rfl) dX1_worstLoss_2 (fun v9 h2 n3 z4 hq => ?_) (fun ci17 q18 h19 n20 z21 hf => ?_)
  · obtain ⟨rfl, hk⟩ := hq
    refine ⟨[], rfl, ?_⟩
    refine r_aload_n X (pc := 5) dX1_worstLoss_5 rfl (q := 0) rfl ?_
    refine r_iload_n X (pc := 6) dX1_worstLoss_6 rfl (q := 1) rfl ?_
    refine r_iconst X (pc := 7) dX1_worstLoss_7 ?_
    refine r_iconst X (pc := 8) dX1_worstLoss_8 ?_
    obtain ⟨o14, fs15, e9, b16, hk⟩ := hk
    refine r_callV X (pc := 9) (As := [vI x1, vI 0, vI (-1)]) (st := []) rfl rfl e9 b16 m_X1_366 (fun _ => s_X1_extreme hk) ⟨by decide, by decide⟩ (Nat.le_of_ble_eq_true rfl) dX1_worstLoss_9 (fun v9 h6 n7 z8 hq => ?_) (fun ci9 q10 h11 n12 z13 hf => ?_)
    · obtain ⟨r5, rfl, hk⟩ := hq
      refine ⟨[vI r5], rfl, ?_⟩
      exact r_iret X E (pc := 12) dX1_worstLoss_12 rfl ⟨_, rfl, hk⟩
    · have hk := hf
      exact r_out X E (fun _ h9 => nomatch h9) hk
  · have hk := hf
    exact r_out X E (fun _ h9 => nomatch h9) hk
theorem s_X1_worstLoss {K : KT} {l : Launch} {o : Nat} {κ : Int → AH → Nat → Nat → Prop} {χ : QxT} {h : AH} {n : Nat} {z : Nat} {x1 : Int} (hk : P_X1_worstLoss K o κ χ h n z x1) : Ct K l yX1_worstLoss (ws_ yX1_worstLoss cX1_worstLoss 2 (Option.some Jvm.ClassFile.FieldType.int)) 11 301 ([vR (some o), vI x1].map cV) h n z (QvI κ) χ :=
  ct_of (by decide +kernel) (Nat.le_of_ble_eq_true rfl) (fun Y X E => w_X1_worstLoss X E hk)
set_option maxHeartbeats 4000000 in
theorem w_X1_leastGap_25 {K : KT} {Y : YT} {o : Nat} {κ : Int → AH → Nat → Nat → Prop} {χ : QxT} (X : XY K "TrailMarkers" "leastGap" cX1_leastGap (Option.some Jvm.ClassFile.FieldType.int) [] 5 11 301 Y) (E : YE K Y (QvI κ) χ) {k_48 : AH → Nat → Nat → Int → Prop} {k_57 : AH → Nat → Nat → Prop} (H_48 : ∀ (h : AH) (n : Nat) (z : Nat) (x4 : Int), k_48 h n z x4 → G K Y h n z 48 [(0, vR (some o)), (4, vI x4)] []) (H_57 : ∀ (h : AH) (n : Nat) (z : Nat), k_57 h n z → G K Y h n z 57 [(0, vR (some o))] []) : ∀ (f : Nat) (h : AH) (n : Nat) (z : Nat) (x1 : Int) (x2 : Option Nat) (x3 : Option Nat) (x4 : Int), L_X1_leastGap_25 K o k_48 k_57 κ χ f h n z x1 x2 x3 x4 → G K Y h n z 25 [(0, vR (some o)), (1, vI x1), (2, vR x2), (3, vR x3), (4, vI x4)] [] := by
  intro f
  induction f with
  | zero => intro h n z x1 x2 x3 x4 hk; exact hk.elim
  | succ f ih =>
    intro h n z x1 x2 x3 x4 hk
    refine r_iload X (pc := 25) dX1_leastGap_25 (q := 4) rfl ?_
    refine r_bipush X (pc := 27) dX1_leastGap_27 (by decide) ?_
    obtain ⟨b11, hk⟩ := hk
    refine r_icmp_gt X (pc := 29) (tgt := 57) dX1_leastGap_29 (by decide) ⟨b11, (by decide)⟩ (fun c12 => ?_) (fun c12 => ?_)
    · have hk := hk.1 c12
      refine G.sub [0] rfl ?_
      exact H_57 h n z hk
    · have hk := hk.2 c12
      refine r_aload_n X (pc := 32) dX1_leastGap_32 rfl (q := 2) rfl ?_
      refine r_hGR X (pc := 33) fa_X1_199_X2 dX1_leastGap_33 hk (fun y13 hk => ?_)
      refine r_iconst X (pc := 36) dX1_leastGap_36 ?_
      refine r_iload X (pc := 37) dX1_leastGap_37 (q := 4) rfl ?_
      refine r_hSI X (pc := 39) dX1_leastGap_39 hk (fun h14 hk => ?_)
      refine r_aload_n X (pc := 40) dX1_leastGap_40 rfl (q := 3) rfl ?_
      refine r_iload_n X (pc := 41) dX1_leastGap_41 rfl (q := 1) rfl ?_
      obtain ⟨o26, fs27, e9, b28, hk⟩ := hk
      refine r_callV X (pc := 42) (As := [vI x1]) (st := []) rfl rfl e9 b28 m_X1_220 (fun _ => s_X8_isComplete hk) ⟨by decide, by decide⟩ (Nat.le_of_ble_eq_true rfl) dX1_leastGap_42 (fun v9 h16 n17 z18 hq => ?_) (fun ci21 q22 h23 n24 z25 hf => ?_)
      · obtain ⟨r15, rfl, hk⟩ := hq
        refine ⟨[vI r15], rfl, ?_⟩
        obtain ⟨b19, hk⟩ := hk
        refine r_if_eq X (pc := 45) (tgt := 51) dX1_leastGap_45 (by decide) b19 (fun c20 => ?_) (fun c20 => ?_)
        · have hk := hk.1 c20
          refine r_iinc X (pc := 51) (q := 4) (lv1 := [(4, vI (x4 + 1)), (0, vR (some o)), (1, vI x1), (2, vR x2), (3, vR x3)]) dX1_leastGap_51 rfl (by decide) rfl ?_
          refine r_goto X (pc := 54) (tgt := 25) dX1_leastGap_54 (by decide) ?_
          refine G.sub [1, 2, 3, 4, 0] rfl ?_
          exact ih h16 n17 z18 x1 x2 x3 (x4 + 1) hk
        · have hk := hk.2 c20
          refine G.sub [0, 4] rfl ?_
          exact H_48 h16 n17 z18 x4 hk
      · have hk := hf
        exact r_out X E (fun _ h9 => nomatch h9) hk
set_option maxHeartbeats 4000000 in
theorem w_X1_leastGap_48 {K : KT} {Y : YT} {o : Nat} {κ : Int → AH → Nat → Nat → Prop} {χ : QxT} (X : XY K "TrailMarkers" "leastGap" cX1_leastGap (Option.some Jvm.ClassFile.FieldType.int) [] 5 11 301 Y) (E : YE K Y (QvI κ) χ) : ∀ (h : AH) (n : Nat) (z : Nat) (x4 : Int), P_X1_leastGap_48 K o κ χ h n z x4 → G K Y h n z 48 [(0, vR (some o)), (4, vI x4)] [] := by
  intro h n z x4 hk
  refine r_iload X (pc := 48) dX1_leastGap_48 (q := 1) rfl ?_
  exact r_iret X E (pc := 50) dX1_leastGap_50 rfl ⟨_, rfl, hk⟩
set_option maxHeartbeats 4000000 in
theorem w_X1_leastGap_57 {K : KT} {Y : YT} {o : Nat} {κ : Int → AH → Nat → Nat → Prop} {χ : QxT} (X : XY K "TrailMarkers" "leastGap" cX1_leastGap (Option.some Jvm.ClassFile.FieldType.int) [] 5 11 301 Y) (E : YE K Y (QvI κ) χ) : ∀ (h : AH) (n : Nat) (z : Nat), P_X1_leastGap_57 K o κ χ h n z → G K Y h n z 57 [(0, vR (some o))] [] := by
  intro h n z hk
  refine r_iconst X (pc := 57) dX1_leastGap_57 ?_
  exact r_iret X E (pc := 58) dX1_leastGap_58 rfl ⟨_, rfl, hk⟩
set_option maxHeartbeats 4000000 in
theorem w_X1_leastGap {K : KT} {Y : YT} {o : Nat} {κ : Int → AH → Nat → Nat → Prop} {χ : QxT} (X : XY K "TrailMarkers" "leastGap" cX1_leastGap (Option.some Jvm.ClassFile.FieldType.int) [] 5 11 301 Y) (E : YE K Y (QvI κ) χ) {h : AH} {n : Nat} {z : Nat} {x1 : Int} (hk : P_X1_leastGap K o κ χ h n z x1) : G K Y h n z 0 (lv_argsA 0 [vR (some o), vI x1]) [] := by
  show G K Y h n z 0 [(0, vR (some o)), (1, vI x1)] []
  refine r_aload_n X (pc := 0) dX1_leastGap_0 rfl (q := 0) rfl ?_
  refine r_iload_n X (pc := 1) dX1_leastGap_1 rfl (q := 1) rfl ?_
  obtain ⟨o61, fs62, e9, b63, hk⟩ := hk
  refine r_callV X (pc := 2) (As := [vI x1]) (st := []) rfl rfl e9 b63 m_X1_150 (fun _ => s_X1_needColour hk) ⟨by decide, by decide⟩ (Nat.le_of_ble_eq_true rfl) dX1_leastGap_2 (fun v9 h29 n30 z31 hq => ?_) (fun ci56 q57 h58 n59 z60 hf => ?_)
  · obtain ⟨rfl, hk⟩ := hq
    refine ⟨[], rfl, ?_⟩
    refine r_aload_n X (pc := 5) dX1_leastGap_5 rfl (q := 0) rfl ?_
    refine r_hGR X (pc := 6) fa_X1_14 dX1_leastGap_6 hk (fun y32 hk => ?_)
    obtain ⟨o53, fs54, e9, b55, hk⟩ := hk
    refine r_callV X (pc := 9) (As := []) (st := []) rfl rfl e9 b55 m_X1_125 (fun _ => s_X2_copy hk) ⟨by decide, by decide⟩ (Nat.le_of_ble_eq_true rfl) dX1_leastGap_9 (fun v9 h34 n35 z36 hq => ?_) (fun ci48 q49 h50 n51 z52 hf => ?_)
    · obtain ⟨r33, rfl, hk⟩ := hq
      refine ⟨[vR r33], rfl, ?_⟩
      refine r_astore_n X (pc := 12) (lv1 := [(2, vR r33), (0, vR (some o)), (1, vI x1)]) dX1_leastGap_12 rfl (by decide) rfl ?_
      refine r_hNew X (pc := 13) nw_X1_216 dX1_leastGap_13 hk (fun h37 hk => ?_)
      refine r_dup X (pc := 16) dX1_leastGap_16 rfl ?_
      refine r_aload_n X (pc := 17) dX1_leastGap_17 rfl (q := 0) rfl ?_
      refine r_callI X (pc := 18) (As := [vR r33]) (st := [vR (some n35)]) m_X1_218 (fun _ => s_X8_init hk) ⟨by decide, by decide⟩ (Nat.le_of_ble_eq_true rfl) dX1_leastGap_18 (fun v9 h38 n39 z40 hq => ?_) (fun ci43 q44 h45 n46 z47 hf => ?_)
      · obtain ⟨rfl, hk⟩ := hq
        refine ⟨[], rfl, ?_⟩
        refine r_astore_n X (pc := 21) (lv1 := [(3, vR (some n35)), (2, vR r33), (0, vR (some o)), (1, vI x1)]) dX1_leastGap_21 rfl (by decide) rfl ?_
        refine r_iconst X (pc := 22) dX1_leastGap_22 ?_
        refine r_istore X (pc := 23) (lv1 := [(4, vI 1), (3, vR (some n35)), (2, vR r33), (0, vR (some o)), (1, vI x1)]) dX1_leastGap_23 (by decide) rfl ?_
        refine G.sub [3, 4, 2, 1, 0] rfl ?_
        have HH41 : ∀ (h : AH) (n : Nat) (z : Nat) (x4 : Int), (P_X1_leastGap_48 K o κ χ h n z x4) → G K Y h n z 48 [(0, vR (some o)), (4, vI x4)] [] := by
            intro h n z x4 hk
            exact w_X1_leastGap_48 X E h n z x4 hk
        have HH42 : ∀ (h : AH) (n : Nat) (z : Nat), (P_X1_leastGap_57 K o κ χ h n z) → G K Y h n z 57 [(0, vR (some o))] [] := by
            intro h n z hk
            exact w_X1_leastGap_57 X E h n z hk
        obtain ⟨f9, hk⟩ := hk
        exact w_X1_leastGap_25 X E HH41 HH42 f9 h38 n39 z40 x1 r33 (some n35) 1 hk
      · have hk := hf
        exact r_out X E (fun _ h9 => nomatch h9) hk
    · have hk := hf
      exact r_out X E (fun _ h9 => nomatch h9) hk
  · have hk := hf
    exact r_out X E (fun _ h9 => nomatch h9) hk
theorem s_X1_leastGap {K : KT} {l : Launch} {o : Nat} {κ : Int → AH → Nat → Nat → Prop} {χ : QxT} {h : AH} {n : Nat} {z : Nat} {x1 : Int} (hk : P_X1_leastGap K o κ χ h n z x1) : Ct K l yX1_leastGap (ws_ yX1_leastGap cX1_leastGap 5 (Option.some Jvm.ClassFile.FieldType.int)) 11 301 ([vR (some o), vI x1].map cV) h n z (QvI κ) χ :=
  ct_of (by decide +kernel) (Nat.le_of_ble_eq_true rfl) (fun Y X E => w_X1_leastGap X E hk)
set_option maxHeartbeats 4000000 in
theorem w_X1_meanBits {K : KT} {Y : YT} {o : Nat} {κ : Int → AH → Nat → Nat → Prop} {χ : QxT} (X : XY K "TrailMarkers" "meanBits" cX1_meanBits (Option.some Jvm.ClassFile.FieldType.int) [] 3 12 322 Y) (E : YE K Y (QvI κ) χ) {h : AH} {n : Nat} {z : Nat} {x1 : Int} (hk : P_X1_meanBits K o κ χ h n z x1) : G K Y h n z 0 (lv_argsA 0 [vR (some o), vI x1]) [] := by
  show G K Y h n z 0 [(0, vR (some o)), (1, vI x1)] []
  refine r_aload_n X (pc := 0) dX1_meanBits_0 rfl (q := 0) rfl ?_
  refine r_iload_n X (pc := 1) dX1_meanBits_1 rfl (q := 1) rfl ?_
  obtain ⟨o63, fs64, e9, b65, hk⟩ := hk
  refine r_callV X (pc := 2) (As := [vI x1]) (st := []) rfl rfl e9 b65 m_X1_288 (fun _ => s_X1_routeFrom hk) ⟨by decide, by decide⟩ (Nat.le_of_ble_eq_true rfl) dX1_meanBits_2 (fun v9 h12 n13 z14 hq => ?_) (fun ci58 q59 h60 n61 z62 hf => ?_)
  · obtain ⟨r11, rfl, hk⟩ := hq
    refine ⟨[vR r11], rfl, ?_⟩
    refine r_astore_n X (pc := 5) (lv1 := [(2, vR r11), (0, vR (some o)), (1, vI x1)]) dX1_meanBits_5 rfl (by decide) rfl ?_
    refine r_aload_n X (pc := 6) dX1_meanBits_6 rfl (q := 0) rfl ?_
    refine r_ifnull X (pc := 7) (tgt := 17) dX1_meanBits_7 (by decide) (fun c15 => ?_) (fun c15 => ?_)
    · have hk := hk.1 c15
      refine r_fconst0 X (pc := 17) dX1_meanBits_17 ?_
      refine r_callS X (pc := 18) (As := [vF 0]) (st := []) m_X1_392 (fun _ => s_J26_floatToIntBits hk) ⟨by decide, by decide⟩ (Nat.le_of_ble_eq_true rfl) dX1_meanBits_18 (fun v9 h9 n9 z9 hq => ?_) (fun ci9 q9 h9 n9 z9 hf => ?_)
      · obtain ⟨r16, rfl, rfl, rfl, rfl, hk⟩ := hq
        refine ⟨[vI r16], rfl, ?_⟩
        exact r_iret X E (pc := 21) dX1_meanBits_21 rfl ⟨_, rfl, hk⟩
      · exact hf.elim
    · have hk := hk.2 c15
      refine r_aload_n X (pc := 10) dX1_meanBits_10 rfl (q := 0) rfl ?_
      obtain ⟨o55, fs56, e9, b57, hk⟩ := hk
      refine r_callV X (pc := 11) (As := []) (st := []) rfl rfl e9 b57 m_X1_389 (fun _ => s_X8_ways hk) ⟨by decide, by decide⟩ (Nat.le_of_ble_eq_true rfl) dX1_meanBits_11 (fun v9 h18 n19 z20 hq => ?_) (fun ci50 q51 h52 n53 z54 hf => ?_)
      · obtain ⟨r17, rfl, hk⟩ := hq
        refine ⟨[vI r17], rfl, ?_⟩
        obtain ⟨b21, hk⟩ := hk
        refine r_if_ne X (pc := 14) (tgt := 22) dX1_meanBits_14 (by decide) b21 (fun c22 => ?_) (fun c22 => ?_)
        · have hk := hk.2 c22
          refine r_aload_n X (pc := 22) dX1_meanBits_22 rfl (q := 0) rfl ?_
          obtain ⟨o46, fs47, e9, b48, hk⟩ := hk
          refine r_callVN X (pc := 23) (As := []) (st := []) rfl rfl e9 b48 m_X1_398 (fun _ => s_X8_steps hk) ⟨by decide, by decide⟩ (Nat.le_of_ble_eq_true rfl) dX1_meanBits_23 (fun v9 h24 n25 z26 hq => ?_) (fun ci41 q42 h43 n44 z45 hf => ?_)
          · obtain ⟨r23, rfl, hk⟩ := hq
            refine ⟨[vI r23], rfl, ?_⟩
            refine r_i2f X (pc := 26) dX1_meanBits_26 ?_
            refine r_aload_n X (pc := 27) dX1_meanBits_27 rfl (q := 0) rfl ?_
            obtain ⟨o38, fs39, e9, b40, hk⟩ := hk
            refine r_callV X (pc := 28) (As := []) (st := [vF (i2f r23)]) rfl rfl e9 b40 m_X1_389 (fun _ => s_X8_ways hk) ⟨by decide, by decide⟩ (Nat.le_of_ble_eq_true rfl) dX1_meanBits_28 (fun v9 h28 n29 z30 hq => ?_) (fun ci33 q34 h35 n36 z37 hf => ?_)
            · obtain ⟨r27, rfl, hk⟩ := hq
              refine ⟨[vI r27], rfl, ?_⟩
              refine r_i2f X (pc := 31) dX1_meanBits_31 ?_
              obtain ⟨b31, hk⟩ := hk
              refine r_fdiv X (pc := 32) dX1_meanBits_32 b31 ?_
              refine r_callS X (pc := 33) (As := [vF (FP.fdiv (i2f r23) (i2f r27))]) (st := []) m_X1_392 (fun _ => s_J26_floatToIntBits hk) ⟨by decide, by decide⟩ (Nat.le_of_ble_eq_true rfl) dX1_meanBits_33 (fun v9 h9 n9 z9 hq => ?_) (fun ci9 q9 h9 n9 z9 hf => ?_)
              · obtain ⟨r32, rfl, rfl, rfl, rfl, hk⟩ := hq
                refine ⟨[vI r32], rfl, ?_⟩
                exact r_iret X E (pc := 36) dX1_meanBits_36 rfl ⟨_, rfl, hk⟩
              · exact hf.elim
            · have hk := hf
              exact r_out X E (fun _ h9 => nomatch h9) hk
          · have hk := hf
            exact r_out X E (fun _ h9 => nomatch h9) hk
        · have hk := hk.1 c22
          refine r_fconst0 X (pc := 17) dX1_meanBits_17 ?_
          refine r_callS X (pc := 18) (As := [vF 0]) (st := []) m_X1_392 (fun _ => s_J26_floatToIntBits hk) ⟨by decide, by decide⟩ (Nat.le_of_ble_eq_true rfl) dX1_meanBits_18 (fun v9 h9 n9 z9 hq => ?_) (fun ci9 q9 h9 n9 z9 hf => ?_)
          · obtain ⟨r49, rfl, rfl, rfl, rfl, hk⟩ := hq
            refine ⟨[vI r49], rfl, ?_⟩
            exact r_iret X E (pc := 21) dX1_meanBits_21 rfl ⟨_, rfl, hk⟩
          · exact hf.elim
      · have hk := hf
        exact r_out X E (fun _ h9 => nomatch h9) hk
  · have hk := hf
    exact r_out X E (fun _ h9 => nomatch h9) hk
theorem s_X1_meanBits {K : KT} {l : Launch} {o : Nat} {κ : Int → AH → Nat → Nat → Prop} {χ : QxT} {h : AH} {n : Nat} {z : Nat} {x1 : Int} (hk : P_X1_meanBits K o κ χ h n z x1) : Ct K l yX1_meanBits (ws_ yX1_meanBits cX1_meanBits 3 (Option.some Jvm.ClassFile.FieldType.int)) 12 322 ([vR (some o), vI x1].map cV) h n z (QvI κ) χ :=
  ct_of (by decide +kernel) (Nat.le_of_ble_eq_true rfl) (fun Y X E => w_X1_meanBits X E hk)
set_option maxHeartbeats 4000000 in
theorem w_X1_marksOf_71 {K : KT} {Y : YT} {o : Nat} {κ : Option Nat → AH → Nat → Nat → Prop} {χ : QxT} (X : XY K "TrailMarkers" "marksOf" cX1_marksOf (Option.some (Jvm.ClassFile.FieldType.array Jvm.ClassFile.FieldType.int)) [] 6 9 236 Y) (E : YE K Y (QvR κ) χ) {k_18 : AH → Nat → Nat → Option Nat → Option Nat → Option Nat → Int → Prop} {k_86 : AH → Nat → Nat → Option Nat → Prop} (H_18 : ∀ (h : AH) (n : Nat) (z : Nat) (x1 : Option Nat) (x2 : Option Nat) (x3 : Option Nat) (x4 : Int), k_18 h n z x1 x2 x3 x4 → G K Y h n z 18 [(0, vR (some o)), (1, vR x1), (2, vR x2), (3, vR x3), (4, vI x4)] []) (H_86 : ∀ (h : AH) (n : Nat) (z : Nat) (x3 : Option Nat), k_86 h n z x3 → G K Y h n z 86 [(0, vR (some o)), (3, vR x3)] []) : ∀ (h : AH) (n : Nat) (z : Nat) (x1 : Option Nat) (x2 : Option Nat) (x3 : Option Nat) (x4 : Int) (x5 : Option Nat), P_X1_marksOf_71 K o k_18 k_86 κ χ h n z x1 x2 x3 x4 x5 → G K Y h n z 71 [(0, vR (some o)), (1, vR x1), (2, vR x2), (3, vR x3), (4, vI x4), (5, vR x5)] [] := by
  intro h n z x1 x2 x3 x4 x5 hk
  refine r_aload_n X (pc := 71) dX1_marksOf_71 rfl (q := 3) rfl ?_
  refine r_iload X (pc := 72) dX1_marksOf_72 (q := 4) rfl ?_
  refine r_aload X (pc := 74) dX1_marksOf_74 (q := 5) rfl ?_
  obtain ⟨o29, fs30, e9, b31, hk⟩ := hk
  refine r_callV X (pc := 76) (As := []) (st := [vI x4, vR x3]) rfl rfl e9 b31 m_X1_433 (fun _ => s_J16_intValue hk) ⟨by decide, by decide⟩ (Nat.le_of_ble_eq_true rfl) dX1_marksOf_76 (fun v9 h20 n21 z22 hq => ?_) (fun ci24 q25 h26 n27 z28 hf => ?_)
  · obtain ⟨r19, rfl, hk⟩ := hq
    refine ⟨[vI r19], rfl, ?_⟩
    refine r_hSI X (pc := 79) dX1_marksOf_79 hk (fun h23 hk => ?_)
    refine r_iinc X (pc := 80) (q := 4) (lv1 := [(4, vI (x4 + 1)), (0, vR (some o)), (1, vR x1), (2, vR x2), (3, vR x3), (5, vR x5)]) dX1_marksOf_80 rfl (by decide) rfl ?_
    refine r_goto X (pc := 83) (tgt := 18) dX1_marksOf_83 (by decide) ?_
    refine G.sub [1, 2, 3, 4, 0] rfl ?_
    exact H_18 h23 n21 z22 x1 x2 x3 (x4 + 1) hk
  · have hk := hf
    exact r_out X E (fun _ h9 => nomatch h9) hk
set_option maxHeartbeats 4000000 in
theorem w_X1_marksOf_18 {K : KT} {Y : YT} {o : Nat} {κ : Option Nat → AH → Nat → Nat → Prop} {χ : QxT} (X : XY K "TrailMarkers" "marksOf" cX1_marksOf (Option.some (Jvm.ClassFile.FieldType.array Jvm.ClassFile.FieldType.int)) [] 6 9 236 Y) (E : YE K Y (QvR κ) χ) {k_86 : AH → Nat → Nat → Option Nat → Prop} (H_86 : ∀ (h : AH) (n : Nat) (z : Nat) (x3 : Option Nat), k_86 h n z x3 → G K Y h n z 86 [(0, vR (some o)), (3, vR x3)] []) : ∀ (f : Nat) (h : AH) (n : Nat) (z : Nat) (x1 : Option Nat) (x2 : Option Nat) (x3 : Option Nat) (x4 : Int), L_X1_marksOf_18 K o k_86 κ χ f h n z x1 x2 x3 x4 → G K Y h n z 18 [(0, vR (some o)), (1, vR x1), (2, vR x2), (3, vR x3), (4, vI x4)] [] := by
  intro f
  induction f with
  | zero => intro h n z x1 x2 x3 x4 hk; exact hk.elim
  | succ f ih =>
    intro h n z x1 x2 x3 x4 hk
    refine r_iload X (pc := 18) dX1_marksOf_18 (q := 4) rfl ?_
    refine r_aload_n X (pc := 20) dX1_marksOf_20 rfl (q := 1) rfl ?_
    refine r_hGI X (pc := 21) fa_X1_370_X8 dX1_marksOf_21 hk (fun y32 hk => ?_)
    obtain ⟨b33, b34, hk⟩ := hk
    refine r_icmp_ge X (pc := 24) (tgt := 86) dX1_marksOf_24 (by decide) ⟨b33, b34⟩ (fun c35 => ?_) (fun c35 => ?_)
    · have hk := hk.2 c35
      refine G.sub [0, 3] rfl ?_
      exact H_86 h n z x3 hk
    · have hk := hk.1 c35
      refine r_aload_n X (pc := 27) dX1_marksOf_27 rfl (q := 2) rfl ?_
      refine r_aload_n X (pc := 28) dX1_marksOf_28 rfl (q := 1) rfl ?_
      refine r_hGR X (pc := 29) fa_X1_373_X8 dX1_marksOf_29 hk (fun y36 hk => ?_)
      refine r_iload X (pc := 32) dX1_marksOf_32 (q := 4) rfl ?_
      refine r_hAR X (pc := 34) (t := 7) rfl dX1_marksOf_34 hk (fun y37 hk => ?_)
      obtain ⟨o85, fs86, e9, b87, hk⟩ := hk
      refine r_callV X (pc := 35) (As := [vR y37]) (st := []) rfl rfl e9 b87 m_X1_418 (fun _ => s_J25_get hk) ⟨by decide, by decide⟩ (Nat.le_of_ble_eq_true rfl) dX1_marksOf_35 (fun v9 h39 n40 z41 hq => ?_) (fun ci80 q81 h82 n83 z84 hf => ?_)
      · obtain ⟨r38, rfl, hk⟩ := hq
        refine ⟨[vR r38], rfl, ?_⟩
        refine r_hCast X (pc := 38) q2959 cos_java_lang_Integer_15 dX1_marksOf_38 hk (fun hk => ?_)
        refine r_astore X (pc := 41) (lv1 := [(5, vR r38), (0, vR (some o)), (1, vR x1), (2, vR x2), (3, vR x3), (4, vI x4)]) dX1_marksOf_41 (by decide) rfl ?_
        refine r_aload X (pc := 43) dX1_marksOf_43 (q := 0) rfl ?_
        refine r_ifnonnull X (pc := 45) (tgt := 71) dX1_marksOf_45 (by decide) (fun c42 => ?_) (fun c42 => ?_)
        · have hk := hk.2 c42
          refine G.sub [1, 2, 3, 4, 5, 0] rfl ?_
          have HH43 : ∀ (h : AH) (n : Nat) (z : Nat) (x1 : Option Nat) (x2 : Option Nat) (x3 : Option Nat) (x4 : Int), (L_X1_marksOf_18 K o k_86 κ χ f h n z x1 x2 x3 x4) → G K Y h n z 18 [(0, vR (some o)), (1, vR x1), (2, vR x2), (3, vR x3), (4, vI x4)] [] := by
              intro h n z x1 x2 x3 x4 hk
              exact ih h n z x1 x2 x3 x4 hk
          exact w_X1_marksOf_71 X E HH43 H_86 h39 n40 z41 x1 x2 x3 x4 r38 hk
        · have hk := hk.1 c42
          refine r_aload_n X (pc := 48) dX1_marksOf_48 rfl (q := 3) rfl ?_
          obtain ⟨o77, fs78, e9, b79, hk⟩ := hk
          refine r_callU X (pc := 49) (As := []) (st := []) rfl rfl e9 b79 mu_X1_424_17 (fun _ => s_J24_size hk) ⟨by decide, by decide⟩ (Nat.le_of_ble_eq_true rfl) dX1_marksOf_49 (fun v9 h45 n46 z47 hq => ?_) (fun ci72 q73 h74 n75 z76 hf => ?_)
          · obtain ⟨r44, rfl, hk⟩ := hq
            refine ⟨[vI r44], rfl, ?_⟩
            refine r_callS X (pc := 52) (As := [vI r44]) (st := []) m_X1_425 (fun _ => s_J16_valueOf hk) ⟨by decide, by decide⟩ (Nat.le_of_ble_eq_true rfl) dX1_marksOf_52 (fun v9 h49 n50 z51 hq => ?_) (fun ci67 q68 h69 n70 z71 hf => ?_)
            · obtain ⟨r48, rfl, hk⟩ := hq
              refine ⟨[vR r48], rfl, ?_⟩
              refine r_astore X (pc := 55) (lv1 := [(5, vR r48), (0, vR (some o)), (1, vR x1), (2, vR x2), (3, vR x3), (4, vI x4)]) dX1_marksOf_55 (by decide) rfl ?_
              refine r_aload_n X (pc := 57) dX1_marksOf_57 rfl (q := 3) rfl ?_
              refine r_aload_n X (pc := 58) dX1_marksOf_58 rfl (q := 2) rfl ?_
              refine r_hGR X (pc := 59) fa_X1_373_X8 dX1_marksOf_59 hk (fun y52 hk => ?_)
              refine r_iload X (pc := 62) dX1_marksOf_62 (q := 5) rfl ?_
              refine r_hAR X (pc := 64) (t := 7) rfl dX1_marksOf_64 hk (fun y53 hk => ?_)
              refine r_aload X (pc := 65) dX1_marksOf_65 (q := 0) rfl ?_
              obtain ⟨o64, fs65, e9, b66, hk⟩ := hk
              refine r_callU X (pc := 67) (As := [vR y53, vR r48]) (st := []) rfl rfl e9 b66 mu_X1_429_17 (fun _ => s_J24_put hk) ⟨by decide, by decide⟩ (Nat.le_of_ble_eq_true rfl) dX1_marksOf_67 (fun v9 h55 n56 z57 hq => ?_) (fun ci59 q60 h61 n62 z63 hf => ?_)
              · obtain ⟨r54, rfl, hk⟩ := hq
                refine ⟨[vR r54], rfl, ?_⟩
                refine r_pop X (pc := 70) dX1_marksOf_70 rfl ?_
                refine G.sub [1, 2, 3, 4, 5, 0] rfl ?_
                have HH58 : ∀ (h : AH) (n : Nat) (z : Nat) (x1 : Option Nat) (x2 : Option Nat) (x3 : Option Nat) (x4 : Int), (L_X1_marksOf_18 K o k_86 κ χ f h n z x1 x2 x3 x4) → G K Y h n z 18 [(0, vR (some o)), (1, vR x1), (2, vR x2), (3, vR x3), (4, vI x4)] [] := by
                    intro h n z x1 x2 x3 x4 hk
                    exact ih h n z x1 x2 x3 x4 hk
                exact w_X1_marksOf_71 X E HH58 H_86 h55 n56 z57 x1 x2 x3 x4 r48 hk
              · have hk := hf
                exact r_out X E (fun _ h9 => nomatch h9) hk
            · have hk := hf
              exact r_out X E (fun _ h9 => nomatch h9) hk
          · have hk := hf
            exact r_out X E (fun _ h9 => nomatch h9) hk
      · have hk := hf
        exact r_out X E (fun _ h9 => nomatch h9) hk
set_option maxHeartbeats 4000000 in
theorem w_X1_marksOf_86 {K : KT} {Y : YT} {o : Nat} {κ : Option Nat → AH → Nat → Nat → Prop} {χ : QxT} (X : XY K "TrailMarkers" "marksOf" cX1_marksOf (Option.some (Jvm.ClassFile.FieldType.array Jvm.ClassFile.FieldType.int)) [] 6 9 236 Y) (E : YE K Y (QvR κ) χ) : ∀ (h : AH) (n : Nat) (z : Nat) (x3 : Option Nat), P_X1_marksOf_86 K o κ χ h n z x3 → G K Y h n z 86 [(0, vR (some o)), (3, vR x3)] [] := by
  intro h n z x3 hk
  refine r_aload_n X (pc := 86) dX1_marksOf_86 rfl (q := 1) rfl ?_
  exact r_aret X E (Or.inr ⟨_, rfl⟩) (pc := 87) dX1_marksOf_87 ⟨_, rfl, hk⟩
set_option maxHeartbeats 4000000 in
theorem w_X1_marksOf {K : KT} {Y : YT} {o : Nat} {κ : Option Nat → AH → Nat → Nat → Prop} {χ : QxT} (X : XY K "TrailMarkers" "marksOf" cX1_marksOf (Option.some (Jvm.ClassFile.FieldType.array Jvm.ClassFile.FieldType.int)) [] 6 9 236 Y) (E : YE K Y (QvR κ) χ) {h : AH} {n : Nat} {z : Nat} {x1 : Option Nat} (hk : P_X1_marksOf K o κ χ h n z x1) : G K Y h n z 0 (lv_argsA 0 [vR (some o), vR x1]) [] := by
  show G K Y h n z 0 [(0, vR (some o)), (1, vR x1)] []
  refine r_hNew X (pc := 0) nw_X1_415 dX1_marksOf_0 hk (fun h88 hk => ?_)
  refine r_dup X (pc := 3) dX1_marksOf_3 rfl ?_
  refine r_callI X (pc := 4) (As := []) (st := [vR (some n)]) m_X1_417 (fun _ => s_J25_init_2 hk) ⟨by decide, by decide⟩ (Nat.le_of_ble_eq_true rfl) dX1_marksOf_4 (fun v9 h89 n90 z91 hq => ?_) (fun ci95 q96 h97 n98 z99 hf => ?_)
  · obtain ⟨rfl, hk⟩ := hq
    refine ⟨[], rfl, ?_⟩
    refine r_astore_n X (pc := 7) (lv1 := [(2, vR (some n)), (0, vR (some o)), (1, vR x1)]) dX1_marksOf_7 rfl (by decide) rfl ?_
    refine r_aload_n X (pc := 8) dX1_marksOf_8 rfl (q := 2) rfl ?_
    refine r_hGI X (pc := 9) fa_X1_370_X8 dX1_marksOf_9 hk (fun y92 hk => ?_)
    refine r_hNewA X (pc := 12) (t := 0) rfl rfl q251 (fun _ _ h9 => h9) (fun _ => rfl) (by decide) dX1_marksOf_12 hk (fun h93 hk => ?_)
    refine r_astore_n X (pc := 14) (lv1 := [(3, vR (some n90)), (2, vR (some n)), (0, vR (some o)), (1, vR x1)]) dX1_marksOf_14 rfl (by decide) rfl ?_
    refine r_iconst X (pc := 15) dX1_marksOf_15 ?_
    refine r_istore X (pc := 16) (lv1 := [(4, vI 0), (3, vR (some n90)), (2, vR (some n)), (0, vR (some o)), (1, vR x1)]) dX1_marksOf_16 (by decide) rfl ?_
    refine G.sub [3, 4, 2, 1, 0] rfl ?_
    have HH94 : ∀ (h : AH) (n : Nat) (z : Nat) (x3 : Option Nat), (P_X1_marksOf_86 K o κ χ h n z x3) → G K Y h n z 86 [(0, vR (some o)), (3, vR x3)] [] := by
        intro h n z x3 hk
        exact w_X1_marksOf_86 X E h n z x3 hk
    obtain ⟨f9, hk⟩ := hk
    exact w_X1_marksOf_18 X E HH94 f9 h93 (n90 + 1) (z91 + Int.toNat y92) x1 (some n) (some n90) 0 hk
  · have hk := hf
    exact r_out X E (fun _ h9 => nomatch h9) hk
theorem s_X1_marksOf {K : KT} {l : Launch} {o : Nat} {κ : Option Nat → AH → Nat → Nat → Prop} {χ : QxT} {h : AH} {n : Nat} {z : Nat} {x1 : Option Nat} (hk : P_X1_marksOf K o κ χ h n z x1) : Ct K l yX1_marksOf (ws_ yX1_marksOf cX1_marksOf 6 (Option.some (Jvm.ClassFile.FieldType.array Jvm.ClassFile.FieldType.int))) 9 236 ([vR (some o), vR x1].map cV) h n z (QvR κ) χ :=
  ct_of (by decide +kernel) (Nat.le_of_ble_eq_true rfl) (fun Y X E => w_X1_marksOf X E hk)
set_option maxHeartbeats 4000000 in
theorem w_X1_show {K : KT} {Y : YT} {o : Nat} {κ : Int → AH → Nat → Nat → Prop} {χ : QxT} (X : XY K "TrailMarkers" "show" cX1_show (Option.some Jvm.ClassFile.FieldType.int) [] 2 12 306 Y) (E : YE K Y (QvI κ) χ) {h : AH} {n : Nat} {z : Nat} {x1 : Option Nat} (hk : P_X1_show K o κ χ h n z x1) : G K Y h n z 0 (lv_argsA 0 [vR (some o), vR x1]) [] := by
  show G K Y h n z 0 [(0, vR (some o)), (1, vR x1)] []
  refine r_aload_n X (pc := 0) dX1_show_0 rfl (q := 0) rfl ?_
  refine r_aload_n X (pc := 1) dX1_show_1 rfl (q := 1) rfl ?_
  obtain ⟨o28, fs29, e9, b30, hk⟩ := hk
  refine r_callV X (pc := 2) (As := []) (st := [vR (some o)]) rfl rfl e9 b30 m_X1_400 (fun _ => s_J12_toString hk) ⟨by decide, by decide⟩ (Nat.le_of_ble_eq_true rfl) dX1_show_2 (fun v9 h6 n7 z8 hq => ?_) (fun ci23 q24 h25 n26 z27 hf => ?_)
  · obtain ⟨r5, rfl, hk⟩ := hq
    refine ⟨[vR r5], rfl, ?_⟩
    refine r_hPut X (pc := 5) fp_X1_31 (fit_ref r5).1 (fit_ref r5).2 dX1_show_5 hk (fun h9 hk => ?_)
    refine r_aload_n X (pc := 8) dX1_show_8 rfl (q := 0) rfl ?_
    refine r_hGR X (pc := 9) fa_X1_31 dX1_show_9 hk (fun y10 hk => ?_)
    obtain ⟨o20, fs21, e9, b22, hk⟩ := hk
    refine r_callV X (pc := 12) (As := []) (st := []) rfl rfl e9 b22 m_X1_406 (fun _ => s_J4_length hk) ⟨by decide, by decide⟩ (Nat.le_of_ble_eq_true rfl) dX1_show_12 (fun v9 h12 n13 z14 hq => ?_) (fun ci15 q16 h17 n18 z19 hf => ?_)
    · obtain ⟨r11, rfl, hk⟩ := hq
      refine ⟨[vI r11], rfl, ?_⟩
      exact r_iret X E (pc := 15) dX1_show_15 rfl ⟨_, rfl, hk⟩
    · have hk := hf
      exact r_out X E (fun _ h9 => nomatch h9) hk
  · have hk := hf
    exact r_out X E (fun _ h9 => nomatch h9) hk
theorem s_X1_show {K : KT} {l : Launch} {o : Nat} {κ : Int → AH → Nat → Nat → Prop} {χ : QxT} {h : AH} {n : Nat} {z : Nat} {x1 : Option Nat} (hk : P_X1_show K o κ χ h n z x1) : Ct K l yX1_show (ws_ yX1_show cX1_show 2 (Option.some Jvm.ClassFile.FieldType.int)) 12 306 ([vR (some o), vR x1].map cV) h n z (QvI κ) χ :=
  ct_of (by decide +kernel) (Nat.le_of_ble_eq_true rfl) (fun Y X E => w_X1_show X E hk)
set_option maxHeartbeats 4000000 in
theorem w_X1_isSame_3 {K : KT} {Y : YT} {o : Nat} {κ : Int → AH → Nat → Nat → Prop} {χ : QxT} (X : XY K "TrailMarkers" "isSame" cX1_isSame (Option.some Jvm.ClassFile.FieldType.boolean) [] 6 0 0 Y) (E : YE K Y (QvI κ) χ) {k_25 : AH → Nat → Nat → Prop} {k_33 : AH → Nat → Nat → Prop} (H_25 : ∀ (h : AH) (n : Nat) (z : Nat), k_25 h n z → G K Y h n z 25 [(0, vR (some o))] []) (H_33 : ∀ (h : AH) (n : Nat) (z : Nat), k_33 h n z → G K Y h n z 33 [(0, vR (some o))] []) : ∀ (f : Nat) (h : AH) (n : Nat) (z : Nat) (x1 : Option Nat) (x2 : Int) (x3 : Int) (x4 : Int) (x5 : Int), L_X1_isSame_3 K o k_25 k_33 κ χ f h n z x1 x2 x3 x4 x5 → G K Y h n z 3 [(0, vR (some o)), (1, vR x1), (2, vI x2), (3, vI x3), (4, vI x4), (5, vI x5)] [] := by
  intro f
  induction f with
  | zero => intro h n z x1 x2 x3 x4 x5 hk; exact hk.elim
  | succ f ih =>
    intro h n z x1 x2 x3 x4 x5 hk
    refine r_iload X (pc := 3) dX1_isSame_3 (q := 5) rfl ?_
    refine r_iload X (pc := 5) dX1_isSame_5 (q := 4) rfl ?_
    obtain ⟨b9, b10, hk⟩ := hk
    refine r_icmp_ge X (pc := 7) (tgt := 33) dX1_isSame_7 (by decide) ⟨b9, b10⟩ (fun c11 => ?_) (fun c11 => ?_)
    · have hk := hk.2 c11
      refine G.sub [0] rfl ?_
      exact H_33 h n z hk
    · have hk := hk.1 c11
      refine r_aload_n X (pc := 10) dX1_isSame_10 rfl (q := 1) rfl ?_
      refine r_iload_n X (pc := 11) dX1_isSame_11 rfl (q := 2) rfl ?_
      refine r_iload X (pc := 12) dX1_isSame_12 (q := 5) rfl ?_
      refine r_iadd X (pc := 14) dX1_isSame_14 ?_
      refine r_hAI X (pc := 15) dX1_isSame_15 hk (fun y12 hk => ?_)
      refine r_aload_n X (pc := 16) dX1_isSame_16 rfl (q := 1) rfl ?_
      refine r_iload_n X (pc := 17) dX1_isSame_17 rfl (q := 3) rfl ?_
      refine r_iload X (pc := 18) dX1_isSame_18 (q := 5) rfl ?_
      refine r_iadd X (pc := 20) dX1_isSame_20 ?_
      refine r_hAI X (pc := 21) dX1_isSame_21 hk (fun y13 hk => ?_)
      obtain ⟨b14, b15, hk⟩ := hk
      refine r_icmp_eq X (pc := 22) (tgt := 27) dX1_isSame_22 (by decide) ⟨b14, b15⟩ (fun c16 => ?_) (fun c16 => ?_)
      · have hk := hk.1 c16
        refine r_iinc X (pc := 27) (q := 5) (lv1 := [(5, vI (x5 + 1)), (0, vR (some o)), (1, vR x1), (2, vI x2), (3, vI x3), (4, vI x4)]) dX1_isSame_27 rfl (by decide) rfl ?_
        refine r_goto X (pc := 30) (tgt := 3) dX1_isSame_30 (by decide) ?_
        refine G.sub [1, 2, 3, 4, 5, 0] rfl ?_
        exact ih h n z x1 x2 x3 x4 (x5 + 1) hk
      · have hk := hk.2 c16
        refine G.sub [0] rfl ?_
        exact H_25 h n z hk
set_option maxHeartbeats 4000000 in
theorem w_X1_isSame_25 {K : KT} {Y : YT} {o : Nat} {κ : Int → AH → Nat → Nat → Prop} {χ : QxT} (X : XY K "TrailMarkers" "isSame" cX1_isSame (Option.some Jvm.ClassFile.FieldType.boolean) [] 6 0 0 Y) (E : YE K Y (QvI κ) χ) : ∀ (h : AH) (n : Nat) (z : Nat), P_X1_isSame_25 K o κ χ h n z → G K Y h n z 25 [(0, vR (some o))] [] := by
  intro h n z hk
  refine r_iconst X (pc := 25) dX1_isSame_25 ?_
  exact r_iret X E (pc := 26) dX1_isSame_26 rfl ⟨_, rfl, hk⟩
set_option maxHeartbeats 4000000 in
theorem w_X1_isSame_33 {K : KT} {Y : YT} {o : Nat} {κ : Int → AH → Nat → Nat → Prop} {χ : QxT} (X : XY K "TrailMarkers" "isSame" cX1_isSame (Option.some Jvm.ClassFile.FieldType.boolean) [] 6 0 0 Y) (E : YE K Y (QvI κ) χ) : ∀ (h : AH) (n : Nat) (z : Nat), P_X1_isSame_33 K o κ χ h n z → G K Y h n z 33 [(0, vR (some o))] [] := by
  intro h n z hk
  refine r_iconst X (pc := 33) dX1_isSame_33 ?_
  exact r_iret X E (pc := 34) dX1_isSame_34 rfl ⟨_, rfl, hk⟩
set_option maxHeartbeats 4000000 in
theorem w_X1_isSame {K : KT} {Y : YT} {o : Nat} {κ : Int → AH → Nat → Nat → Prop} {χ : QxT} (X : XY K "TrailMarkers" "isSame" cX1_isSame (Option.some Jvm.ClassFile.FieldType.boolean) [] 6 0 0 Y) (E : YE K Y (QvI κ) χ) {h : AH} {n : Nat} {z : Nat} {x1 : Option Nat} {x2 : Int} {x3 : Int} {x4 : Int} (hk : P_X1_isSame K o κ χ h n z x1 x2 x3 x4) : G K Y h n z 0 (lv_argsA 0 [vR (some o), vR x1, vI x2, vI x3, vI x4]) [] := by
  show G K Y h n z 0 [(0, vR (some o)), (1, vR x1), (2, vI x2), (3, vI x3), (4, vI x4)] []
  refine r_iconst X (pc := 0) dX1_isSame_0 ?_
  refine r_istore X (pc := 1) (lv1 := [(5, vI 0), (0, vR (some o)), (1, vR x1), (2, vI x2), (3, vI x3), (4, vI x4)]) dX1_isSame_1 (by decide) rfl ?_
  refine G.sub [1, 2, 3, 4, 5, 0] rfl ?_
  have HH17 : ∀ (h : AH) (n : Nat) (z : Nat), (P_X1_isSame_25 K o κ χ h n z) → G K Y h n z 25 [(0, vR (some o))] [] := by
      intro h n z hk
      exact w_X1_isSame_25 X E h n z hk
  have HH18 : ∀ (h : AH) (n : Nat) (z : Nat), (P_X1_isSame_33 K o κ χ h n z) → G K Y h n z 33 [(0, vR (some o))] [] := by
      intro h n z hk
      exact w_X1_isSame_33 X E h n z hk
  obtain ⟨f9, hk⟩ := hk
  exact w_X1_isSame_3 X E HH17 HH18 f9 h n z x1 x2 x3 x4 0 hk
theorem s_X1_isSame {K : KT} {l : Launch} {o : Nat} {κ : Int → AH → Nat → Nat → Prop} {χ : QxT} {h : AH} {n : Nat} {z : Nat} {x1 : Option Nat} {x2 : Int} {x3 : Int} {x4 : Int} (hk : P_X1_isSame K o κ χ h n z x1 x2 x3 x4) : Ct K l yX1_isSame (ws_ yX1_isSame cX1_isSame 6 (Option.some Jvm.ClassFile.FieldType.boolean)) 0 0 ([vR (some o), vR x1, vI x2, vI x3, vI x4].map cV) h n z (QvI κ) χ :=
  ct_of (by decide +kernel) (Nat.le_of_ble_eq_true rfl) (fun Y X E => w_X1_isSame X E hk)
set_option maxHeartbeats 4000000 in
theorem w_X1_timesAt_3 {K : KT} {Y : YT} {o : Nat} {κ : Int → AH → Nat → Nat → Prop} {χ : QxT} (X : XY K "TrailMarkers" "timesAt" cX1_timesAt (Option.some Jvm.ClassFile.FieldType.int) [] 6 1 25 Y) (E : YE K Y (QvI κ) χ) {k_47 : AH → Nat → Nat → Int → Prop} (H_47 : ∀ (h : AH) (n : Nat) (z : Nat) (x5 : Int), k_47 h n z x5 → G K Y h n z 47 [(0, vR (some o)), (5, vI x5)] []) : ∀ (f : Nat) (h : AH) (n : Nat) (z : Nat) (x1 : Option Nat) (x2 : Int) (x3 : Int) (x4 : Int) (x5 : Int), L_X1_timesAt_3 K o k_47 κ χ f h n z x1 x2 x3 x4 x5 → G K Y h n z 3 [(0, vR (some o)), (1, vR x1), (2, vI x2), (3, vI x3), (4, vI x4), (5, vI x5)] [] := by
  intro f
  induction f with
  | zero => intro h n z x1 x2 x3 x4 x5 hk; exact hk.elim
  | succ f ih =>
    intro h n z x1 x2 x3 x4 x5 hk
    refine r_iload X (pc := 3) dX1_timesAt_3 (q := 5) rfl ?_
    refine r_bipush X (pc := 5) dX1_timesAt_5 (by decide) ?_
    obtain ⟨b9, hk⟩ := hk
    refine r_icmp_ge X (pc := 7) (tgt := 47) dX1_timesAt_7 (by decide) ⟨b9, (by decide)⟩ (fun c10 => ?_) (fun c10 => ?_)
    · have hk := hk.2 c10
      refine G.sub [0, 5] rfl ?_
      exact H_47 h n z x5 hk
    · have hk := hk.1 c10
      refine r_iload_n X (pc := 10) dX1_timesAt_10 rfl (q := 3) rfl ?_
      refine r_iload X (pc := 11) dX1_timesAt_11 (q := 5) rfl ?_
      refine r_iconst X (pc := 13) dX1_timesAt_13 ?_
      refine r_iadd X (pc := 14) dX1_timesAt_14 ?_
      refine r_iload X (pc := 15) dX1_timesAt_15 (q := 4) rfl ?_
      refine r_imul X (pc := 17) dX1_timesAt_17 ?_
      refine r_iadd X (pc := 18) dX1_timesAt_18 ?_
      refine r_iload_n X (pc := 19) dX1_timesAt_19 rfl (q := 2) rfl ?_
      obtain ⟨b11, b12, hk⟩ := hk
      refine r_icmp_gt X (pc := 20) (tgt := 47) dX1_timesAt_20 (by decide) ⟨b11, b12⟩ (fun c13 => ?_) (fun c13 => ?_)
      · have hk := hk.1 c13
        refine G.sub [0, 5] rfl ?_
        exact H_47 h n z x5 hk
      · have hk := hk.2 c13
        refine r_aload_n X (pc := 23) dX1_timesAt_23 rfl (q := 0) rfl ?_
        refine r_aload_n X (pc := 24) dX1_timesAt_24 rfl (q := 1) rfl ?_
        refine r_iload_n X (pc := 25) dX1_timesAt_25 rfl (q := 3) rfl ?_
        refine r_iload_n X (pc := 26) dX1_timesAt_26 rfl (q := 3) rfl ?_
        refine r_iload X (pc := 27) dX1_timesAt_27 (q := 5) rfl ?_
        refine r_iload X (pc := 29) dX1_timesAt_29 (q := 4) rfl ?_
        refine r_imul X (pc := 31) dX1_timesAt_31 ?_
        refine r_iadd X (pc := 32) dX1_timesAt_32 ?_
        refine r_iload X (pc := 33) dX1_timesAt_33 (q := 4) rfl ?_
        obtain ⟨o25, fs26, e9, b27, hk⟩ := hk
        refine r_callV X (pc := 35) (As := [vR x1, vI x3, vI (x3 + (x5 * x4)), vI x4]) (st := []) rfl rfl e9 b27 m_X1_411 (fun _ => s_X1_isSame hk) ⟨by decide, by decide⟩ (Nat.le_of_ble_eq_true rfl) dX1_timesAt_35 (fun v9 h15 n16 z17 hq => ?_) (fun ci20 q21 h22 n23 z24 hf => ?_)
        · obtain ⟨r14, rfl, hk⟩ := hq
          refine ⟨[vI r14], rfl, ?_⟩
          obtain ⟨b18, hk⟩ := hk
          refine r_if_eq X (pc := 38) (tgt := 47) dX1_timesAt_38 (by decide) b18 (fun c19 => ?_) (fun c19 => ?_)
          · have hk := hk.1 c19
            refine G.sub [0, 5] rfl ?_
            exact H_47 h15 n16 z17 x5 hk
          · have hk := hk.2 c19
            refine r_iinc X (pc := 41) (q := 5) (lv1 := [(5, vI (x5 + 1)), (0, vR (some o)), (1, vR x1), (2, vI x2), (3, vI x3), (4, vI x4)]) dX1_timesAt_41 rfl (by decide) rfl ?_
            refine r_goto X (pc := 44) (tgt := 3) dX1_timesAt_44 (by decide) ?_
            refine G.sub [1, 2, 3, 4, 5, 0] rfl ?_
            exact ih h15 n16 z17 x1 x2 x3 x4 (x5 + 1) hk
        · have hk := hf
          exact r_out X E (fun _ h9 => nomatch h9) hk
set_option maxHeartbeats 4000000 in
theorem w_X1_timesAt_47 {K : KT} {Y : YT} {o : Nat} {κ : Int → AH → Nat → Nat → Prop} {χ : QxT} (X : XY K "TrailMarkers" "timesAt" cX1_timesAt (Option.some Jvm.ClassFile.FieldType.int) [] 6 1 25 Y) (E : YE K Y (QvI κ) χ) : ∀ (h : AH) (n : Nat) (z : Nat) (x5 : Int), P_X1_timesAt_47 K o κ χ h n z x5 → G K Y h n z 47 [(0, vR (some o)), (5, vI x5)] [] := by
  intro h n z x5 hk
  refine r_iload X (pc := 47) dX1_timesAt_47 (q := 1) rfl ?_
  exact r_iret X E (pc := 49) dX1_timesAt_49 rfl ⟨_, rfl, hk⟩
set_option maxHeartbeats 4000000 in
theorem w_X1_timesAt {K : KT} {Y : YT} {o : Nat} {κ : Int → AH → Nat → Nat → Prop} {χ : QxT} (X : XY K "TrailMarkers" "timesAt" cX1_timesAt (Option.some Jvm.ClassFile.FieldType.int) [] 6 1 25 Y) (E : YE K Y (QvI κ) χ) {h : AH} {n : Nat} {z : Nat} {x1 : Option Nat} {x2 : Int} {x3 : Int} {x4 : Int} (hk : P_X1_timesAt K o κ χ h n z x1 x2 x3 x4) : G K Y h n z 0 (lv_argsA 0 [vR (some o), vR x1, vI x2, vI x3, vI x4]) [] := by
  show G K Y h n z 0 [(0, vR (some o)), (1, vR x1), (2, vI x2), (3, vI x3), (4, vI x4)] []
  refine r_iconst X (pc := 0) dX1_timesAt_0 ?_
  refine r_istore X (pc := 1) (lv1 := [(5, vI 1), (0, vR (some o)), (1, vR x1), (2, vI x2), (3, vI x3), (4, vI x4)]) dX1_timesAt_1 (by decide) rfl ?_
  refine G.sub [1, 2, 3, 4, 5, 0] rfl ?_
  have HH28 : ∀ (h : AH) (n : Nat) (z : Nat) (x5 : Int), (P_X1_timesAt_47 K o κ χ h n z x5) → G K Y h n z 47 [(0, vR (some o)), (5, vI x5)] [] := by
      intro h n z x5 hk
      exact w_X1_timesAt_47 X E h n z x5 hk
  obtain ⟨f9, hk⟩ := hk
  exact w_X1_timesAt_3 X E HH28 f9 h n z x1 x2 x3 x4 1 hk
theorem s_X1_timesAt {K : KT} {l : Launch} {o : Nat} {κ : Int → AH → Nat → Nat → Prop} {χ : QxT} {h : AH} {n : Nat} {z : Nat} {x1 : Option Nat} {x2 : Int} {x3 : Int} {x4 : Int} (hk : P_X1_timesAt K o κ χ h n z x1 x2 x3 x4) : Ct K l yX1_timesAt (ws_ yX1_timesAt cX1_timesAt 6 (Option.some Jvm.ClassFile.FieldType.int)) 1 25 ([vR (some o), vR x1, vI x2, vI x3, vI x4].map cV) h n z (QvI κ) χ :=
  ct_of (by decide +kernel) (Nat.le_of_ble_eq_true rfl) (fun Y X E => w_X1_timesAt X E hk)
set_option maxHeartbeats 4000000 in
theorem w_X1_writeRoute_106 {K : KT} {Y : YT} {o : Nat} {κ : Int → AH → Nat → Nat → Prop} {χ : QxT} (X : XY K "TrailMarkers" "writeRoute" cX1_writeRoute (Option.some Jvm.ClassFile.FieldType.int) [] 11 13 327 Y) (E : YE K Y (QvI κ) χ) {k_55 : AH → Nat → Nat → Option Nat → Option Nat → Option Nat → Int → Int → Int → Int → Int → Prop} {k_120 : AH → Nat → Nat → Option Nat → Option Nat → Option Nat → Int → Int → Int → Int → Prop} (H_55 : ∀ (h : AH) (n : Nat) (z : Nat) (x2 : Option Nat) (x3 : Option Nat) (x4 : Option Nat) (x5 : Int) (x6 : Int) (x7 : Int) (x8 : Int) (x9 : Int), k_55 h n z x2 x3 x4 x5 x6 x7 x8 x9 → G K Y h n z 55 [(0, vR (some o)), (2, vR x2), (3, vR x3), (4, vR x4), (5, vI x5), (6, vI x6), (7, vI x7), (8, vI x8), (9, vI x9)] []) (H_120 : ∀ (h : AH) (n : Nat) (z : Nat) (x2 : Option Nat) (x3 : Option Nat) (x4 : Option Nat) (x5 : Int) (x6 : Int) (x7 : Int) (x8 : Int), k_120 h n z x2 x3 x4 x5 x6 x7 x8 → G K Y h n z 120 [(0, vR (some o)), (2, vR x2), (3, vR x3), (4, vR x4), (5, vI x5), (6, vI x6), (7, vI x7), (8, vI x8)] []) : ∀ (h : AH) (n : Nat) (z : Nat) (x2 : Option Nat) (x3 : Option Nat) (x4 : Option Nat) (x5 : Int) (x6 : Int) (x9 : Int) (x10 : Int), P_X1_writeRoute_106 K o k_55 k_120 κ χ h n z x2 x3 x4 x5 x6 x9 x10 → G K Y h n z 106 [(0, vR (some o)), (2, vR x2), (3, vR x3), (4, vR x4), (5, vI x5), (6, vI x6), (9, vI x9), (10, vI x10)] [] := by
  intro h n z x2 x3 x4 x5 x6 x9 x10 hk
  refine r_iload X (pc := 106) dX1_writeRoute_106 (q := 6) rfl ?_
  refine r_istore X (pc := 108) (lv1 := [(7, vI x9), (0, vR (some o)), (2, vR x2), (3, vR x3), (4, vR x4), (5, vI x5), (6, vI x6), (9, vI x9), (10, vI x10)]) dX1_writeRoute_108 (by decide) rfl ?_
  refine r_iload X (pc := 110) dX1_writeRoute_110 (q := 8) rfl ?_
  refine r_istore X (pc := 112) (lv1 := [(8, vI x10), (7, vI x9), (0, vR (some o)), (2, vR x2), (3, vR x3), (4, vR x4), (5, vI x5), (6, vI x6), (9, vI x9), (10, vI x10)]) dX1_writeRoute_112 (by decide) rfl ?_
  refine r_iinc X (pc := 114) (q := 8) (lv1 := [(9, vI (x9 + 1)), (8, vI x10), (7, vI x9), (0, vR (some o)), (2, vR x2), (3, vR x3), (4, vR x4), (5, vI x5), (6, vI x6), (10, vI x10)]) dX1_writeRoute_114 rfl (by decide) rfl ?_
  refine r_goto X (pc := 117) (tgt := 55) dX1_writeRoute_117 (by decide) ?_
  refine G.sub [3, 4, 5, 6, 7, 8, 2, 1, 0] rfl ?_
  exact H_55 h n z x2 x3 x4 x5 x6 x9 x10 (x9 + 1) hk
set_option maxHeartbeats 4000000 in
theorem w_X1_writeRoute_55 {K : KT} {Y : YT} {o : Nat} {κ : Int → AH → Nat → Nat → Prop} {χ : QxT} (X : XY K "TrailMarkers" "writeRoute" cX1_writeRoute (Option.some Jvm.ClassFile.FieldType.int) [] 11 13 327 Y) (E : YE K Y (QvI κ) χ) {k_120 : AH → Nat → Nat → Option Nat → Option Nat → Option Nat → Int → Int → Int → Int → Prop} (H_120 : ∀ (h : AH) (n : Nat) (z : Nat) (x2 : Option Nat) (x3 : Option Nat) (x4 : Option Nat) (x5 : Int) (x6 : Int) (x7 : Int) (x8 : Int), k_120 h n z x2 x3 x4 x5 x6 x7 x8 → G K Y h n z 120 [(0, vR (some o)), (2, vR x2), (3, vR x3), (4, vR x4), (5, vI x5), (6, vI x6), (7, vI x7), (8, vI x8)] []) : ∀ (f : Nat) (h : AH) (n : Nat) (z : Nat) (x2 : Option Nat) (x3 : Option Nat) (x4 : Option Nat) (x5 : Int) (x6 : Int) (x7 : Int) (x8 : Int) (x9 : Int), L_X1_writeRoute_55 K o k_120 κ χ f h n z x2 x3 x4 x5 x6 x7 x8 x9 → G K Y h n z 55 [(0, vR (some o)), (2, vR x2), (3, vR x3), (4, vR x4), (5, vI x5), (6, vI x6), (7, vI x7), (8, vI x8), (9, vI x9)] [] := by
  intro f
  induction f with
  | zero => intro h n z x2 x3 x4 x5 x6 x7 x8 x9 hk; exact hk.elim
  | succ f ih =>
    intro h n z x2 x3 x4 x5 x6 x7 x8 x9 hk
    refine r_iload X (pc := 55) dX1_writeRoute_55 (q := 5) rfl ?_
    refine r_iconst X (pc := 57) dX1_writeRoute_57 ?_
    refine r_iload X (pc := 58) dX1_writeRoute_58 (q := 8) rfl ?_
    refine r_imul X (pc := 60) dX1_writeRoute_60 ?_
    refine r_iadd X (pc := 61) dX1_writeRoute_61 ?_
    refine r_iload X (pc := 62) dX1_writeRoute_62 (q := 4) rfl ?_
    obtain ⟨b34, b35, hk⟩ := hk
    refine r_icmp_gt X (pc := 64) (tgt := 120) dX1_writeRoute_64 (by decide) ⟨b34, b35⟩ (fun c36 => ?_) (fun c36 => ?_)
    · have hk := hk.1 c36
      refine G.sub [0, 1, 2, 3, 4, 5, 6, 7] rfl ?_
      exact H_120 h n z x2 x3 x4 x5 x6 x7 x8 hk
    · have hk := hk.2 c36
      refine r_aload_n X (pc := 67) dX1_writeRoute_67 rfl (q := 0) rfl ?_
      refine r_aload X (pc := 68) dX1_writeRoute_68 (q := 3) rfl ?_
      refine r_iload X (pc := 70) dX1_writeRoute_70 (q := 4) rfl ?_
      refine r_iload X (pc := 72) dX1_writeRoute_72 (q := 5) rfl ?_
      refine r_iload X (pc := 74) dX1_writeRoute_74 (q := 8) rfl ?_
      obtain ⟨o55, fs56, e9, b57, hk⟩ := hk
      refine r_callV X (pc := 76) (As := [vR x4, vI x5, vI x6, vI x9]) (st := []) rfl rfl e9 b57 m_X1_441 (fun _ => s_X1_timesAt hk) ⟨by decide, by decide⟩ (Nat.le_of_ble_eq_true rfl) dX1_writeRoute_76 (fun v9 h38 n39 z40 hq => ?_) (fun ci50 q51 h52 n53 z54 hf => ?_)
      · obtain ⟨r37, rfl, hk⟩ := hq
        refine ⟨[vI r37], rfl, ?_⟩
        refine r_istore X (pc := 79) (lv1 := [(10, vI r37), (0, vR (some o)), (2, vR x2), (3, vR x3), (4, vR x4), (5, vI x5), (6, vI x6), (7, vI x7), (8, vI x8), (9, vI x9)]) dX1_writeRoute_79 (by decide) rfl ?_
        refine r_iload X (pc := 81) dX1_writeRoute_81 (q := 0) rfl ?_
        refine r_iconst X (pc := 83) dX1_writeRoute_83 ?_
        obtain ⟨b41, hk⟩ := hk
        refine r_icmp_le X (pc := 84) (tgt := 114) dX1_writeRoute_84 (by decide) ⟨b41, (by decide)⟩ (fun c42 => ?_) (fun c42 => ?_)
        · have hk := hk.2 c42
          refine r_iinc X (pc := 114) (q := 9) (lv1 := [(9, vI (x9 + 1)), (10, vI r37), (0, vR (some o)), (2, vR x2), (3, vR x3), (4, vR x4), (5, vI x5), (6, vI x6), (7, vI x7), (8, vI x8)]) dX1_writeRoute_114 rfl (by decide) rfl ?_
          refine r_goto X (pc := 117) (tgt := 55) dX1_writeRoute_117 (by decide) ?_
          refine G.sub [2, 3, 4, 5, 6, 7, 8, 9, 0] rfl ?_
          exact ih h38 n39 z40 x2 x3 x4 x5 x6 x7 x8 (x9 + 1) hk
        · have hk := hk.1 c42
          refine r_iload X (pc := 87) dX1_writeRoute_87 (q := 8) rfl ?_
          refine r_iconst X (pc := 89) dX1_writeRoute_89 ?_
          obtain ⟨b43, hk⟩ := hk
          refine r_icmp_eq X (pc := 90) (tgt := 106) dX1_writeRoute_90 (by decide) ⟨b43, (by decide)⟩ (fun c44 => ?_) (fun c44 => ?_)
          · have hk := hk.1 c44
            refine G.sub [1, 2, 3, 4, 5, 6, 9, 0] rfl ?_
            have HH45 : ∀ (h : AH) (n : Nat) (z : Nat) (x2 : Option Nat) (x3 : Option Nat) (x4 : Option Nat) (x5 : Int) (x6 : Int) (x7 : Int) (x8 : Int) (x9 : Int), (L_X1_writeRoute_55 K o k_120 κ χ f h n z x2 x3 x4 x5 x6 x7 x8 x9) → G K Y h n z 55 [(0, vR (some o)), (2, vR x2), (3, vR x3), (4, vR x4), (5, vI x5), (6, vI x6), (7, vI x7), (8, vI x8), (9, vI x9)] [] := by
                intro h n z x2 x3 x4 x5 x6 x7 x8 x9 hk
                exact ih h n z x2 x3 x4 x5 x6 x7 x8 x9 hk
            exact w_X1_writeRoute_106 X E HH45 H_120 h38 n39 z40 x2 x3 x4 x5 x6 x9 r37 hk
          · have hk := hk.2 c44
            refine r_iload X (pc := 93) dX1_writeRoute_93 (q := 0) rfl ?_
            refine r_iload X (pc := 95) dX1_writeRoute_95 (q := 9) rfl ?_
            refine r_imul X (pc := 97) dX1_writeRoute_97 ?_
            refine r_iload X (pc := 98) dX1_writeRoute_98 (q := 8) rfl ?_
            refine r_iload X (pc := 100) dX1_writeRoute_100 (q := 7) rfl ?_
            refine r_imul X (pc := 102) dX1_writeRoute_102 ?_
            obtain ⟨b46, b47, hk⟩ := hk
            refine r_icmp_le X (pc := 103) (tgt := 114) dX1_writeRoute_103 (by decide) ⟨b46, b47⟩ (fun c48 => ?_) (fun c48 => ?_)
            · have hk := hk.2 c48
              refine r_iinc X (pc := 114) (q := 9) (lv1 := [(9, vI (x9 + 1)), (10, vI r37), (0, vR (some o)), (2, vR x2), (3, vR x3), (4, vR x4), (5, vI x5), (6, vI x6), (7, vI x7), (8, vI x8)]) dX1_writeRoute_114 rfl (by decide) rfl ?_
              refine r_goto X (pc := 117) (tgt := 55) dX1_writeRoute_117 (by decide) ?_
              refine G.sub [2, 3, 4, 5, 6, 7, 8, 9, 0] rfl ?_
              exact ih h38 n39 z40 x2 x3 x4 x5 x6 x7 x8 (x9 + 1) hk
            · have hk := hk.1 c48
              refine G.sub [1, 2, 3, 4, 5, 6, 9, 0] rfl ?_
              have HH49 : ∀ (h : AH) (n : Nat) (z : Nat) (x2 : Option Nat) (x3 : Option Nat) (x4 : Option Nat) (x5 : Int) (x6 : Int) (x7 : Int) (x8 : Int) (x9 : Int), (L_X1_writeRoute_55 K o k_120 κ χ f h n z x2 x3 x4 x5 x6 x7 x8 x9) → G K Y h n z 55 [(0, vR (some o)), (2, vR x2), (3, vR x3), (4, vR x4), (5, vI x5), (6, vI x6), (7, vI x7), (8, vI x8), (9, vI x9)] [] := by
                  intro h n z x2 x3 x4 x5 x6 x7 x8 x9 hk
                  exact ih h n z x2 x3 x4 x5 x6 x7 x8 x9 hk
              exact w_X1_writeRoute_106 X E HH49 H_120 h38 n39 z40 x2 x3 x4 x5 x6 x9 r37 hk
      · have hk := hf
        exact r_out X E (fun _ h9 => nomatch h9) hk
set_option maxHeartbeats 4000000 in
theorem w_X1_writeRoute_141 {K : KT} {Y : YT} {o : Nat} {κ : Int → AH → Nat → Nat → Prop} {χ : QxT} (X : XY K "TrailMarkers" "writeRoute" cX1_writeRoute (Option.some Jvm.ClassFile.FieldType.int) [] 11 13 327 Y) (E : YE K Y (QvI κ) χ) {k_168 : AH → Nat → Nat → Option Nat → Option Nat → Option Nat → Int → Int → Int → Int → Prop} (H_168 : ∀ (h : AH) (n : Nat) (z : Nat) (x2 : Option Nat) (x3 : Option Nat) (x4 : Option Nat) (x5 : Int) (x6 : Int) (x7 : Int) (x8 : Int), k_168 h n z x2 x3 x4 x5 x6 x7 x8 → G K Y h n z 168 [(0, vR (some o)), (2, vR x2), (3, vR x3), (4, vR x4), (5, vI x5), (6, vI x6), (7, vI x7), (8, vI x8)] []) : ∀ (f : Nat) (h : AH) (n : Nat) (z : Nat) (x2 : Option Nat) (x3 : Option Nat) (x4 : Option Nat) (x5 : Int) (x6 : Int) (x7 : Int) (x8 : Int) (x9 : Int), L_X1_writeRoute_141 K o k_168 κ χ f h n z x2 x3 x4 x5 x6 x7 x8 x9 → G K Y h n z 141 [(0, vR (some o)), (2, vR x2), (3, vR x3), (4, vR x4), (5, vI x5), (6, vI x6), (7, vI x7), (8, vI x8), (9, vI x9)] [] := by
  intro f
  induction f with
  | zero => intro h n z x2 x3 x4 x5 x6 x7 x8 x9 hk; exact hk.elim
  | succ f ih =>
    intro h n z x2 x3 x4 x5 x6 x7 x8 x9 hk
    refine r_iload X (pc := 141) dX1_writeRoute_141 (q := 8) rfl ?_
    refine r_iload X (pc := 143) dX1_writeRoute_143 (q := 6) rfl ?_
    obtain ⟨b58, b59, hk⟩ := hk
    refine r_icmp_ge X (pc := 145) (tgt := 168) dX1_writeRoute_145 (by decide) ⟨b58, b59⟩ (fun c60 => ?_) (fun c60 => ?_)
    · have hk := hk.2 c60
      refine G.sub [0, 1, 2, 3, 4, 5, 6, 7] rfl ?_
      exact H_168 h n z x2 x3 x4 x5 x6 x7 x8 hk
    · have hk := hk.1 c60
      refine r_aload_n X (pc := 148) dX1_writeRoute_148 rfl (q := 1) rfl ?_
      refine r_hGR X (pc := 149) fa_X1_373_X8 dX1_writeRoute_149 hk (fun y61 hk => ?_)
      refine r_iload X (pc := 152) dX1_writeRoute_152 (q := 5) rfl ?_
      refine r_iload X (pc := 154) dX1_writeRoute_154 (q := 8) rfl ?_
      refine r_iadd X (pc := 156) dX1_writeRoute_156 ?_
      refine r_hAR X (pc := 157) (t := 7) rfl dX1_writeRoute_157 hk (fun y62 hk => ?_)
      refine r_aload_n X (pc := 158) dX1_writeRoute_158 rfl (q := 2) rfl ?_
      obtain ⟨o71, fs72, e9, b73, hk⟩ := hk
      refine r_callV X (pc := 159) (As := [vR x3]) (st := []) rfl rfl e9 b73 m_X1_452 (fun _ => s_X11_write hk) ⟨by decide, by decide⟩ (Nat.le_of_ble_eq_true rfl) dX1_writeRoute_159 (fun v9 h63 n64 z65 hq => ?_) (fun ci66 q67 h68 n69 z70 hf => ?_)
      · obtain ⟨rfl, hk⟩ := hq
        refine ⟨[], rfl, ?_⟩
        refine r_iinc X (pc := 162) (q := 8) (lv1 := [(9, vI (x9 + 1)), (0, vR (some o)), (2, vR x2), (3, vR x3), (4, vR x4), (5, vI x5), (6, vI x6), (7, vI x7), (8, vI x8)]) dX1_writeRoute_162 rfl (by decide) rfl ?_
        refine r_goto X (pc := 165) (tgt := 141) dX1_writeRoute_165 (by decide) ?_
        refine G.sub [1, 2, 3, 4, 5, 6, 7, 8, 0] rfl ?_
        exact ih h63 n64 z65 x2 x3 x4 x5 x6 x7 x8 (x9 + 1) hk
      · have hk := hf
        exact r_out X E (fun _ h9 => nomatch h9) hk
set_option maxHeartbeats 4000000 in
theorem w_X1_writeRoute_181 {K : KT} {Y : YT} {o : Nat} {κ : Int → AH → Nat → Nat → Prop} {χ : QxT} (X : XY K "TrailMarkers" "writeRoute" cX1_writeRoute (Option.some Jvm.ClassFile.FieldType.int) [] 11 13 327 Y) (E : YE K Y (QvI κ) χ) {k_39 : AH → Nat → Nat → Option Nat → Option Nat → Option Nat → Int → Int → Prop} {k_194 : AH → Nat → Nat → Option Nat → Prop} (H_39 : ∀ (h : AH) (n : Nat) (z : Nat) (x2 : Option Nat) (x3 : Option Nat) (x4 : Option Nat) (x5 : Int) (x6 : Int), k_39 h n z x2 x3 x4 x5 x6 → G K Y h n z 39 [(0, vR (some o)), (2, vR x2), (3, vR x3), (4, vR x4), (5, vI x5), (6, vI x6)] []) (H_194 : ∀ (h : AH) (n : Nat) (z : Nat) (x3 : Option Nat), k_194 h n z x3 → G K Y h n z 194 [(0, vR (some o)), (3, vR x3)] []) : ∀ (h : AH) (n : Nat) (z : Nat) (x2 : Option Nat) (x3 : Option Nat) (x4 : Option Nat) (x5 : Int) (x6 : Int) (x7 : Int) (x8 : Int), P_X1_writeRoute_181 K o k_39 k_194 κ χ h n z x2 x3 x4 x5 x6 x7 x8 → G K Y h n z 181 [(0, vR (some o)), (2, vR x2), (3, vR x3), (4, vR x4), (5, vI x5), (6, vI x6), (7, vI x7), (8, vI x8)] [] := by
  intro h n z x2 x3 x4 x5 x6 x7 x8 hk
  refine r_iload X (pc := 181) dX1_writeRoute_181 (q := 5) rfl ?_
  refine r_iload X (pc := 183) dX1_writeRoute_183 (q := 7) rfl ?_
  refine r_iload X (pc := 185) dX1_writeRoute_185 (q := 6) rfl ?_
  refine r_imul X (pc := 187) dX1_writeRoute_187 ?_
  refine r_iadd X (pc := 188) dX1_writeRoute_188 ?_
  refine r_istore X (pc := 189) (lv1 := [(6, vI (x6 + (x8 * x7))), (0, vR (some o)), (2, vR x2), (3, vR x3), (4, vR x4), (5, vI x5), (7, vI x7), (8, vI x8)]) dX1_writeRoute_189 (by decide) rfl ?_
  refine r_goto X (pc := 191) (tgt := 39) dX1_writeRoute_191 (by decide) ?_
  refine G.sub [1, 2, 3, 4, 5, 0] rfl ?_
  exact H_39 h n z x2 x3 x4 x5 (x6 + (x8 * x7)) hk
set_option maxHeartbeats 4000000 in
theorem w_X1_writeRoute_168 {K : KT} {Y : YT} {o : Nat} {κ : Int → AH → Nat → Nat → Prop} {χ : QxT} (X : XY K "TrailMarkers" "writeRoute" cX1_writeRoute (Option.some Jvm.ClassFile.FieldType.int) [] 11 13 327 Y) (E : YE K Y (QvI κ) χ) {k_39 : AH → Nat → Nat → Option Nat → Option Nat → Option Nat → Int → Int → Prop} {k_194 : AH → Nat → Nat → Option Nat → Prop} (H_39 : ∀ (h : AH) (n : Nat) (z : Nat) (x2 : Option Nat) (x3 : Option Nat) (x4 : Option Nat) (x5 : Int) (x6 : Int), k_39 h n z x2 x3 x4 x5 x6 → G K Y h n z 39 [(0, vR (some o)), (2, vR x2), (3, vR x3), (4, vR x4), (5, vI x5), (6, vI x6)] []) (H_194 : ∀ (h : AH) (n : Nat) (z : Nat) (x3 : Option Nat), k_194 h n z x3 → G K Y h n z 194 [(0, vR (some o)), (3, vR x3)] []) : ∀ (h : AH) (n : Nat) (z : Nat) (x2 : Option Nat) (x3 : Option Nat) (x4 : Option Nat) (x5 : Int) (x6 : Int) (x7 : Int) (x8 : Int), P_X1_writeRoute_168 K o k_39 k_194 κ χ h n z x2 x3 x4 x5 x6 x7 x8 → G K Y h n z 168 [(0, vR (some o)), (2, vR x2), (3, vR x3), (4, vR x4), (5, vI x5), (6, vI x6), (7, vI x7), (8, vI x8)] [] := by
  intro h n z x2 x3 x4 x5 x6 x7 x8 hk
  refine r_iload X (pc := 168) dX1_writeRoute_168 (q := 7) rfl ?_
  refine r_iconst X (pc := 170) dX1_writeRoute_170 ?_
  obtain ⟨b74, hk⟩ := hk
  refine r_icmp_le X (pc := 171) (tgt := 181) dX1_writeRoute_171 (by decide) ⟨b74, (by decide)⟩ (fun c75 => ?_) (fun c75 => ?_)
  · have hk := hk.2 c75
    exact w_X1_writeRoute_181 X E H_39 H_194 h n z x2 x3 x4 x5 x6 x7 x8 hk
  · have hk := hk.1 c75
    refine r_aload_n X (pc := 174) dX1_writeRoute_174 rfl (q := 2) rfl ?_
    refine r_bipush X (pc := 175) dX1_writeRoute_175 (by decide) ?_
    obtain ⟨o85, fs86, e9, b87, hk⟩ := hk
    refine r_callV X (pc := 177) (As := [vI 41]) (st := []) rfl rfl e9 b87 m_X1_449 (fun _ => s_J12_append hk) ⟨by decide, by decide⟩ (Nat.le_of_ble_eq_true rfl) dX1_writeRoute_177 (fun v9 h77 n78 z79 hq => ?_) (fun ci80 q81 h82 n83 z84 hf => ?_)
    · obtain ⟨r76, rfl, hk⟩ := hq
      refine ⟨[vR r76], rfl, ?_⟩
      refine r_pop X (pc := 180) dX1_writeRoute_180 rfl ?_
      exact w_X1_writeRoute_181 X E H_39 H_194 h77 n78 z79 x2 x3 x4 x5 x6 x7 x8 hk
    · have hk := hf
      exact r_out X E (fun _ h9 => nomatch h9) hk
set_option maxHeartbeats 4000000 in
theorem w_X1_writeRoute_120 {K : KT} {Y : YT} {o : Nat} {κ : Int → AH → Nat → Nat → Prop} {χ : QxT} (X : XY K "TrailMarkers" "writeRoute" cX1_writeRoute (Option.some Jvm.ClassFile.FieldType.int) [] 11 13 327 Y) (E : YE K Y (QvI κ) χ) {k_39 : AH → Nat → Nat → Option Nat → Option Nat → Option Nat → Int → Int → Prop} {k_194 : AH → Nat → Nat → Option Nat → Prop} (H_39 : ∀ (h : AH) (n : Nat) (z : Nat) (x2 : Option Nat) (x3 : Option Nat) (x4 : Option Nat) (x5 : Int) (x6 : Int), k_39 h n z x2 x3 x4 x5 x6 → G K Y h n z 39 [(0, vR (some o)), (2, vR x2), (3, vR x3), (4, vR x4), (5, vI x5), (6, vI x6)] []) (H_194 : ∀ (h : AH) (n : Nat) (z : Nat) (x3 : Option Nat), k_194 h n z x3 → G K Y h n z 194 [(0, vR (some o)), (3, vR x3)] []) : ∀ (h : AH) (n : Nat) (z : Nat) (x2 : Option Nat) (x3 : Option Nat) (x4 : Option Nat) (x5 : Int) (x6 : Int) (x7 : Int) (x8 : Int), P_X1_writeRoute_120 K o k_39 k_194 κ χ h n z x2 x3 x4 x5 x6 x7 x8 → G K Y h n z 120 [(0, vR (some o)), (2, vR x2), (3, vR x3), (4, vR x4), (5, vI x5), (6, vI x6), (7, vI x7), (8, vI x8)] [] := by
  intro h n z x2 x3 x4 x5 x6 x7 x8 hk
  refine r_iload X (pc := 120) dX1_writeRoute_120 (q := 7) rfl ?_
  refine r_iconst X (pc := 122) dX1_writeRoute_122 ?_
  obtain ⟨b88, hk⟩ := hk
  refine r_icmp_le X (pc := 123) (tgt := 138) dX1_writeRoute_123 (by decide) ⟨b88, (by decide)⟩ (fun c89 => ?_) (fun c89 => ?_)
  · have hk := hk.2 c89
    refine r_iconst X (pc := 138) dX1_writeRoute_138 ?_
    refine r_istore X (pc := 139) (lv1 := [(9, vI 0), (0, vR (some o)), (2, vR x2), (3, vR x3), (4, vR x4), (5, vI x5), (6, vI x6), (7, vI x7), (8, vI x8)]) dX1_writeRoute_139 (by decide) rfl ?_
    refine G.sub [1, 2, 3, 4, 5, 6, 7, 8, 0] rfl ?_
    have HH90 : ∀ (h : AH) (n : Nat) (z : Nat) (x2 : Option Nat) (x3 : Option Nat) (x4 : Option Nat) (x5 : Int) (x6 : Int) (x7 : Int) (x8 : Int), (P_X1_writeRoute_168 K o k_39 k_194 κ χ h n z x2 x3 x4 x5 x6 x7 x8) → G K Y h n z 168 [(0, vR (some o)), (2, vR x2), (3, vR x3), (4, vR x4), (5, vI x5), (6, vI x6), (7, vI x7), (8, vI x8)] [] := by
        intro h n z x2 x3 x4 x5 x6 x7 x8 hk
        exact w_X1_writeRoute_168 X E H_39 H_194 h n z x2 x3 x4 x5 x6 x7 x8 hk
    obtain ⟨f9, hk⟩ := hk
    exact w_X1_writeRoute_141 X E HH90 f9 h n z x2 x3 x4 x5 x6 x7 x8 0 hk
  · have hk := hk.1 c89
    refine r_aload_n X (pc := 126) dX1_writeRoute_126 rfl (q := 2) rfl ?_
    refine r_iload X (pc := 127) dX1_writeRoute_127 (q := 7) rfl ?_
    obtain ⟨o113, fs114, e9, b115, hk⟩ := hk
    refine r_callV X (pc := 129) (As := [vI x8]) (st := []) rfl rfl e9 b115 m_X1_445 (fun _ => s_J12_append_2 hk) ⟨by decide, by decide⟩ (Nat.le_of_ble_eq_true rfl) dX1_writeRoute_129 (fun v9 h92 n93 z94 hq => ?_) (fun ci108 q109 h110 n111 z112 hf => ?_)
    · obtain ⟨r91, rfl, hk⟩ := hq
      refine ⟨[vR r91], rfl, ?_⟩
      refine r_bipush X (pc := 132) dX1_writeRoute_132 (by decide) ?_
      obtain ⟨o105, fs106, e9, b107, hk⟩ := hk
      refine r_callV X (pc := 134) (As := [vI 40]) (st := []) rfl rfl e9 b107 m_X1_449 (fun _ => s_J12_append hk) ⟨by decide, by decide⟩ (Nat.le_of_ble_eq_true rfl) dX1_writeRoute_134 (fun v9 h96 n97 z98 hq => ?_) (fun ci100 q101 h102 n103 z104 hf => ?_)
      · obtain ⟨r95, rfl, hk⟩ := hq
        refine ⟨[vR r95], rfl, ?_⟩
        refine r_pop X (pc := 137) dX1_writeRoute_137 rfl ?_
        refine r_iconst X (pc := 138) dX1_writeRoute_138 ?_
        refine r_istore X (pc := 139) (lv1 := [(9, vI 0), (0, vR (some o)), (2, vR x2), (3, vR x3), (4, vR x4), (5, vI x5), (6, vI x6), (7, vI x7), (8, vI x8)]) dX1_writeRoute_139 (by decide) rfl ?_
        refine G.sub [1, 2, 3, 4, 5, 6, 7, 8, 0] rfl ?_
        have HH99 : ∀ (h : AH) (n : Nat) (z : Nat) (x2 : Option Nat) (x3 : Option Nat) (x4 : Option Nat) (x5 : Int) (x6 : Int) (x7 : Int) (x8 : Int), (P_X1_writeRoute_168 K o k_39 k_194 κ χ h n z x2 x3 x4 x5 x6 x7 x8) → G K Y h n z 168 [(0, vR (some o)), (2, vR x2), (3, vR x3), (4, vR x4), (5, vI x5), (6, vI x6), (7, vI x7), (8, vI x8)] [] := by
            intro h n z x2 x3 x4 x5 x6 x7 x8 hk
            exact w_X1_writeRoute_168 X E H_39 H_194 h n z x2 x3 x4 x5 x6 x7 x8 hk
        obtain ⟨f9, hk⟩ := hk
        exact w_X1_writeRoute_141 X E HH99 f9 h96 n97 z98 x2 x3 x4 x5 x6 x7 x8 0 hk
      · have hk := hf
        exact r_out X E (fun _ h9 => nomatch h9) hk
    · have hk := hf
      exact r_out X E (fun _ h9 => nomatch h9) hk
set_option maxHeartbeats 4000000 in
theorem w_X1_writeRoute_39 {K : KT} {Y : YT} {o : Nat} {κ : Int → AH → Nat → Nat → Prop} {χ : QxT} (X : XY K "TrailMarkers" "writeRoute" cX1_writeRoute (Option.some Jvm.ClassFile.FieldType.int) [] 11 13 327 Y) (E : YE K Y (QvI κ) χ) {k_194 : AH → Nat → Nat → Option Nat → Prop} (H_194 : ∀ (h : AH) (n : Nat) (z : Nat) (x3 : Option Nat), k_194 h n z x3 → G K Y h n z 194 [(0, vR (some o)), (3, vR x3)] []) : ∀ (f : Nat) (h : AH) (n : Nat) (z : Nat) (x2 : Option Nat) (x3 : Option Nat) (x4 : Option Nat) (x5 : Int) (x6 : Int), L_X1_writeRoute_39 K o k_194 κ χ f h n z x2 x3 x4 x5 x6 → G K Y h n z 39 [(0, vR (some o)), (2, vR x2), (3, vR x3), (4, vR x4), (5, vI x5), (6, vI x6)] [] := by
  intro f
  induction f with
  | zero => intro h n z x2 x3 x4 x5 x6 hk; exact hk.elim
  | succ f ih =>
    intro h n z x2 x3 x4 x5 x6 hk
    refine r_iload X (pc := 39) dX1_writeRoute_39 (q := 5) rfl ?_
    refine r_iload X (pc := 41) dX1_writeRoute_41 (q := 4) rfl ?_
    obtain ⟨b116, b117, hk⟩ := hk
    refine r_icmp_ge X (pc := 43) (tgt := 194) dX1_writeRoute_43 (by decide) ⟨b116, b117⟩ (fun c118 => ?_) (fun c118 => ?_)
    · have hk := hk.2 c118
      refine G.sub [0, 2] rfl ?_
      exact H_194 h n z x3 hk
    · have hk := hk.1 c118
      refine r_iconst X (pc := 46) dX1_writeRoute_46 ?_
      refine r_istore X (pc := 47) (lv1 := [(7, vI 1), (0, vR (some o)), (2, vR x2), (3, vR x3), (4, vR x4), (5, vI x5), (6, vI x6)]) dX1_writeRoute_47 (by decide) rfl ?_
      refine r_iconst X (pc := 49) dX1_writeRoute_49 ?_
      refine r_istore X (pc := 50) (lv1 := [(8, vI 1), (7, vI 1), (0, vR (some o)), (2, vR x2), (3, vR x3), (4, vR x4), (5, vI x5), (6, vI x6)]) dX1_writeRoute_50 (by decide) rfl ?_
      refine r_iconst X (pc := 52) dX1_writeRoute_52 ?_
      refine r_istore X (pc := 53) (lv1 := [(9, vI 1), (8, vI 1), (7, vI 1), (0, vR (some o)), (2, vR x2), (3, vR x3), (4, vR x4), (5, vI x5), (6, vI x6)]) dX1_writeRoute_53 (by decide) rfl ?_
      refine G.sub [3, 4, 5, 6, 7, 8, 2, 1, 0] rfl ?_
      have HH121 : ∀ (h : AH) (n : Nat) (z : Nat) (x2 : Option Nat) (x3 : Option Nat) (x4 : Option Nat) (x5 : Int) (x6 : Int) (x7 : Int) (x8 : Int), (P_X1_writeRoute_120 K o (fun h n z x2 x3 x4 x5 x6 => L_X1_writeRoute_39 K o k_194 κ χ f h n z x2 x3 x4 x5 x6) k_194 κ χ h n z x2 x3 x4 x5 x6 x7 x8) → G K Y h n z 120 [(0, vR (some o)), (2, vR x2), (3, vR x3), (4, vR x4), (5, vI x5), (6, vI x6), (7, vI x7), (8, vI x8)] [] := by
          intro h n z x2 x3 x4 x5 x6 x7 x8 hk
          have HH120 : ∀ (h : AH) (n : Nat) (z : Nat) (x2 : Option Nat) (x3 : Option Nat) (x4 : Option Nat) (x5 : Int) (x6 : Int), (L_X1_writeRoute_39 K o k_194 κ χ f h n z x2 x3 x4 x5 x6) → G K Y h n z 39 [(0, vR (some o)), (2, vR x2), (3, vR x3), (4, vR x4), (5, vI x5), (6, vI x6)] [] := by
              intro h n z x2 x3 x4 x5 x6 hk
              exact ih h n z x2 x3 x4 x5 x6 hk
          exact w_X1_writeRoute_120 X E HH120 H_194 h n z x2 x3 x4 x5 x6 x7 x8 hk
      obtain ⟨f9, hk⟩ := hk
      exact w_X1_writeRoute_55 X E HH121 f9 h n z x2 x3 x4 x5 x6 1 1 1 hk
set_option maxHeartbeats 4000000 in
theorem w_X1_writeRoute_194 {K : KT} {Y : YT} {o : Nat} {κ : Int → AH → Nat → Nat → Prop} {χ : QxT} (X : XY K "TrailMarkers" "writeRoute" cX1_writeRoute (Option.some Jvm.ClassFile.FieldType.int) [] 11 13 327 Y) (E : YE K Y (QvI κ) χ) : ∀ (h : AH) (n : Nat) (z : Nat) (x3 : Option Nat), P_X1_writeRoute_194 K o κ χ h n z x3 → G K Y h n z 194 [(0, vR (some o)), (3, vR x3)] [] := by
  intro h n z x3 hk
  refine r_aload_n X (pc := 194) dX1_writeRoute_194 rfl (q := 0) rfl ?_
  refine r_aload_n X (pc := 195) dX1_writeRoute_195 rfl (q := 1) rfl ?_
  obtain ⟨o131, fs132, e9, b133, hk⟩ := hk
  refine r_callV X (pc := 196) (As := [vR x3]) (st := []) rfl rfl e9 b133 m_X1_456 (fun _ => s_X1_show hk) ⟨by decide, by decide⟩ (Nat.le_of_ble_eq_true rfl) dX1_writeRoute_196 (fun v9 h123 n124 z125 hq => ?_) (fun ci126 q127 h128 n129 z130 hf => ?_)
  · obtain ⟨r122, rfl, hk⟩ := hq
    refine ⟨[vI r122], rfl, ?_⟩
    exact r_iret X E (pc := 199) dX1_writeRoute_199 rfl ⟨_, rfl, hk⟩
  · have hk := hf
    exact r_out X E (fun _ h9 => nomatch h9) hk
set_option maxHeartbeats 4000000 in
theorem w_X1_writeRoute_29 {K : KT} {Y : YT} {o : Nat} {κ : Int → AH → Nat → Nat → Prop} {χ : QxT} (X : XY K "TrailMarkers" "writeRoute" cX1_writeRoute (Option.some Jvm.ClassFile.FieldType.int) [] 11 13 327 Y) (E : YE K Y (QvI κ) χ) : ∀ (h : AH) (n : Nat) (z : Nat) (x2 : Option Nat) (x3 : Option Nat) (s0 : Option Nat), P_X1_writeRoute_29 K o κ χ h n z x2 x3 s0 → G K Y h n z 29 [(0, vR (some o)), (2, vR x2), (3, vR x3)] [vR s0] := by
  intro h n z x2 x3 s0 hk
  refine r_astore X (pc := 29) (lv1 := [(4, vR s0), (0, vR (some o)), (2, vR x2), (3, vR x3)]) dX1_writeRoute_29 (by decide) rfl ?_
  refine r_aload X (pc := 31) dX1_writeRoute_31 (q := 0) rfl ?_
  refine r_hLen X (pc := 33) (t := 0) rfl dX1_writeRoute_33 hk (fun y134 hk => ?_)
  refine r_istore X (pc := 34) (lv1 := [(5, vI y134), (4, vR s0), (0, vR (some o)), (2, vR x2), (3, vR x3)]) dX1_writeRoute_34 (by decide) rfl ?_
  refine r_iconst X (pc := 36) dX1_writeRoute_36 ?_
  refine r_istore X (pc := 37) (lv1 := [(6, vI 0), (5, vI y134), (4, vR s0), (0, vR (some o)), (2, vR x2), (3, vR x3)]) dX1_writeRoute_37 (by decide) rfl ?_
  refine G.sub [3, 4, 5, 2, 1, 0] rfl ?_
  have HH135 : ∀ (h : AH) (n : Nat) (z : Nat) (x3 : Option Nat), (P_X1_writeRoute_194 K o κ χ h n z x3) → G K Y h n z 194 [(0, vR (some o)), (3, vR x3)] [] := by
      intro h n z x3 hk
      exact w_X1_writeRoute_194 X E h n z x3 hk
  obtain ⟨f9, hk⟩ := hk
  exact w_X1_writeRoute_39 X E HH135 f9 h n z x2 x3 s0 y134 0 hk
set_option maxHeartbeats 4000000 in
theorem w_X1_writeRoute {K : KT} {Y : YT} {o : Nat} {κ : Int → AH → Nat → Nat → Prop} {χ : QxT} (X : XY K "TrailMarkers" "writeRoute" cX1_writeRoute (Option.some Jvm.ClassFile.FieldType.int) [] 11 13 327 Y) (E : YE K Y (QvI κ) χ) {h : AH} {n : Nat} {z : Nat} {x1 : Int} (hk : P_X1_writeRoute K o κ χ h n z x1) : G K Y h n z 0 (lv_argsA 0 [vR (some o), vI x1]) [] := by
  show G K Y h n z 0 [(0, vR (some o)), (1, vI x1)] []
  refine r_aload_n X (pc := 0) dX1_writeRoute_0 rfl (q := 0) rfl ?_
  refine r_iload_n X (pc := 1) dX1_writeRoute_1 rfl (q := 1) rfl ?_
  obtain ⟨o168, fs169, e9, b170, hk⟩ := hk
  refine r_callV X (pc := 2) (As := [vI x1]) (st := []) rfl rfl e9 b170 m_X1_288 (fun _ => s_X1_routeFrom hk) ⟨by decide, by decide⟩ (Nat.le_of_ble_eq_true rfl) dX1_writeRoute_2 (fun v9 h137 n138 z139 hq => ?_) (fun ci163 q164 h165 n166 z167 hf => ?_)
  · obtain ⟨r136, rfl, hk⟩ := hq
    refine ⟨[vR r136], rfl, ?_⟩
    refine r_astore_n X (pc := 5) (lv1 := [(2, vR r136), (0, vR (some o)), (1, vI x1)]) dX1_writeRoute_5 rfl (by decide) rfl ?_
    refine r_hNew X (pc := 6) nw_X1_401 dX1_writeRoute_6 hk (fun h140 hk => ?_)
    refine r_dup X (pc := 9) dX1_writeRoute_9 rfl ?_
    refine r_callI X (pc := 10) (As := []) (st := [vR (some n138)]) m_X1_436 (fun _ => s_J12_init hk) ⟨by decide, by decide⟩ (Nat.le_of_ble_eq_true rfl) dX1_writeRoute_10 (fun v9 h141 n142 z143 hq => ?_) (fun ci158 q159 h160 n161 z162 hf => ?_)
    · obtain ⟨rfl, hk⟩ := hq
      refine ⟨[], rfl, ?_⟩
      refine r_astore_n X (pc := 13) (lv1 := [(3, vR (some n138)), (2, vR r136), (0, vR (some o)), (1, vI x1)]) dX1_writeRoute_13 rfl (by decide) rfl ?_
      refine r_aload_n X (pc := 14) dX1_writeRoute_14 rfl (q := 1) rfl ?_
      refine r_ifnonnull X (pc := 15) (tgt := 24) dX1_writeRoute_15 (by decide) (fun c144 => ?_) (fun c144 => ?_)
      · have hk := hk.2 c144
        refine r_aload_n X (pc := 24) dX1_writeRoute_24 rfl (q := 2) rfl ?_
        refine r_aload_n X (pc := 25) dX1_writeRoute_25 rfl (q := 1) rfl ?_
        obtain ⟨o154, fs155, e9, b156, hk⟩ := hk
        refine r_callV X (pc := 26) (As := [vR r136]) (st := []) rfl rfl e9 b156 m_X1_437 (fun _ => s_X1_marksOf hk) ⟨by decide, by decide⟩ (Nat.le_of_ble_eq_true rfl) dX1_writeRoute_26 (fun v9 h146 n147 z148 hq => ?_) (fun ci149 q150 h151 n152 z153 hf => ?_)
        · obtain ⟨r145, rfl, hk⟩ := hq
          refine ⟨[vR r145], rfl, ?_⟩
          refine G.sub [2, 1, 0] rfl ?_
          exact w_X1_writeRoute_29 X E h146 n147 z148 r136 (some n138) r145 hk
        · have hk := hf
          exact r_out X E (fun _ h9 => nomatch h9) hk
      · have hk := hk.1 c144
        refine r_iconst X (pc := 18) dX1_writeRoute_18 ?_
        refine r_hNewA X (pc := 19) (t := 0) rfl rfl q251 (fun _ _ h9 => h9) (fun _ => rfl) (by decide) dX1_writeRoute_19 hk (fun h157 hk => ?_)
        refine r_goto X (pc := 21) (tgt := 29) dX1_writeRoute_21 (by decide) ?_
        refine G.sub [2, 1, 0] rfl ?_
        exact w_X1_writeRoute_29 X E h157 (n142 + 1) (z143 + Int.toNat 0) r136 (some n138) (some n142) hk
    · have hk := hf
      exact r_out X E (fun _ h9 => nomatch h9) hk
  · have hk := hf
    exact r_out X E (fun _ h9 => nomatch h9) hk
theorem s_X1_writeRoute {K : KT} {l : Launch} {o : Nat} {κ : Int → AH → Nat → Nat → Prop} {χ : QxT} {h : AH} {n : Nat} {z : Nat} {x1 : Int} (hk : P_X1_writeRoute K o κ χ h n z x1) : Ct K l yX1_writeRoute (ws_ yX1_writeRoute cX1_writeRoute 11 (Option.some Jvm.ClassFile.FieldType.int)) 13 327 ([vR (some o), vI x1].map cV) h n z (QvI κ) χ :=
  ct_of (by decide +kernel) (Nat.le_of_ble_eq_true rfl) (fun Y X E => w_X1_writeRoute X E hk)
set_option maxHeartbeats 4000000 in
theorem w_X1_writeRow_73 {K : KT} {Y : YT} {o : Nat} {κ : Int → AH → Nat → Nat → Prop} {χ : QxT} (X : XY K "TrailMarkers" "writeRow" cX1_writeRow (Option.some Jvm.ClassFile.FieldType.int) [] 5 13 327 Y) (E : YE K Y (QvI κ) χ) {k_25 : AH → Nat → Nat → Int → Option Nat → Int → Prop} {k_131 : AH → Nat → Nat → Option Nat → Prop} (H_25 : ∀ (h : AH) (n : Nat) (z : Nat) (x1 : Int) (x2 : Option Nat) (x3 : Int), k_25 h n z x1 x2 x3 → G K Y h n z 25 [(0, vR (some o)), (1, vI x1), (2, vR x2), (3, vI x3)] []) (H_131 : ∀ (h : AH) (n : Nat) (z : Nat) (x2 : Option Nat), k_131 h n z x2 → G K Y h n z 131 [(0, vR (some o)), (2, vR x2)] []) : ∀ (h : AH) (n : Nat) (z : Nat) (x1 : Int) (x2 : Option Nat) (x3 : Int) (s0 : Int) (s1 : Option Nat), P_X1_writeRow_73 K o k_25 k_131 κ χ h n z x1 x2 x3 s0 s1 → G K Y h n z 73 [(0, vR (some o)), (1, vI x1), (2, vR x2), (3, vI x3)] [vI s0, vR s1] := by
  intro h n z x1 x2 x3 s0 s1 hk
  obtain ⟨o40, fs41, e9, b42, hk⟩ := hk
  refine r_callV X (pc := 73) (As := [vI s0]) (st := []) rfl rfl e9 b42 m_X1_449 (fun _ => s_J12_append hk) ⟨by decide, by decide⟩ (Nat.le_of_ble_eq_true rfl) dX1_writeRow_73 (fun v9 h32 n33 z34 hq => ?_) (fun ci35 q36 h37 n38 z39 hf => ?_)
  · obtain ⟨r31, rfl, hk⟩ := hq
    refine ⟨[vR r31], rfl, ?_⟩
    refine r_pop X (pc := 76) dX1_writeRow_76 rfl ?_
    refine r_goto X (pc := 77) (tgt := 125) dX1_writeRow_77 (by decide) ?_
    refine r_iinc X (pc := 125) (q := 3) (lv1 := [(3, vI (x3 + 1)), (0, vR (some o)), (1, vI x1), (2, vR x2)]) dX1_writeRow_125 rfl (by decide) rfl ?_
    refine r_goto X (pc := 128) (tgt := 25) dX1_writeRow_128 (by decide) ?_
    refine G.sub [1, 2, 3, 0] rfl ?_
    exact H_25 h32 n33 z34 x1 x2 (x3 + 1) hk
  · have hk := hf
    exact r_out X E (fun _ h9 => nomatch h9) hk
set_option maxHeartbeats 4000000 in
theorem w_X1_writeRow_121 {K : KT} {Y : YT} {o : Nat} {κ : Int → AH → Nat → Nat → Prop} {χ : QxT} (X : XY K "TrailMarkers" "writeRow" cX1_writeRow (Option.some Jvm.ClassFile.FieldType.int) [] 5 13 327 Y) (E : YE K Y (QvI κ) χ) {k_25 : AH → Nat → Nat → Int → Option Nat → Int → Prop} {k_131 : AH → Nat → Nat → Option Nat → Prop} (H_25 : ∀ (h : AH) (n : Nat) (z : Nat) (x1 : Int) (x2 : Option Nat) (x3 : Int), k_25 h n z x1 x2 x3 → G K Y h n z 25 [(0, vR (some o)), (1, vI x1), (2, vR x2), (3, vI x3)] []) (H_131 : ∀ (h : AH) (n : Nat) (z : Nat) (x2 : Option Nat), k_131 h n z x2 → G K Y h n z 131 [(0, vR (some o)), (2, vR x2)] []) : ∀ (h : AH) (n : Nat) (z : Nat) (x1 : Int) (x2 : Option Nat) (x3 : Int) (s0 : Int) (s1 : Option Nat), P_X1_writeRow_121 K o k_25 k_131 κ χ h n z x1 x2 x3 s0 s1 → G K Y h n z 121 [(0, vR (some o)), (1, vI x1), (2, vR x2), (3, vI x3)] [vI s0, vR s1] := by
  intro h n z x1 x2 x3 s0 s1 hk
  obtain ⟨o52, fs53, e9, b54, hk⟩ := hk
  refine r_callV X (pc := 121) (As := [vI s0]) (st := []) rfl rfl e9 b54 m_X1_449 (fun _ => s_J12_append hk) ⟨by decide, by decide⟩ (Nat.le_of_ble_eq_true rfl) dX1_writeRow_121 (fun v9 h44 n45 z46 hq => ?_) (fun ci47 q48 h49 n50 z51 hf => ?_)
  · obtain ⟨r43, rfl, hk⟩ := hq
    refine ⟨[vR r43], rfl, ?_⟩
    refine r_pop X (pc := 124) dX1_writeRow_124 rfl ?_
    refine r_iinc X (pc := 125) (q := 3) (lv1 := [(3, vI (x3 + 1)), (0, vR (some o)), (1, vI x1), (2, vR x2)]) dX1_writeRow_125 rfl (by decide) rfl ?_
    refine r_goto X (pc := 128) (tgt := 25) dX1_writeRow_128 (by decide) ?_
    refine G.sub [1, 2, 3, 0] rfl ?_
    exact H_25 h44 n45 z46 x1 x2 (x3 + 1) hk
  · have hk := hf
    exact r_out X E (fun _ h9 => nomatch h9) hk
set_option maxHeartbeats 4000000 in
theorem w_X1_writeRow_25 {K : KT} {Y : YT} {o : Nat} {κ : Int → AH → Nat → Nat → Prop} {χ : QxT} (X : XY K "TrailMarkers" "writeRow" cX1_writeRow (Option.some Jvm.ClassFile.FieldType.int) [] 5 13 327 Y) (E : YE K Y (QvI κ) χ) {k_131 : AH → Nat → Nat → Option Nat → Prop} (H_131 : ∀ (h : AH) (n : Nat) (z : Nat) (x2 : Option Nat), k_131 h n z x2 → G K Y h n z 131 [(0, vR (some o)), (2, vR x2)] []) : ∀ (f : Nat) (h : AH) (n : Nat) (z : Nat) (x1 : Int) (x2 : Option Nat) (x3 : Int), L_X1_writeRow_25 K o k_131 κ χ f h n z x1 x2 x3 → G K Y h n z 25 [(0, vR (some o)), (1, vI x1), (2, vR x2), (3, vI x3)] [] := by
  intro f
  induction f with
  | zero => intro h n z x1 x2 x3 hk; exact hk.elim
  | succ f ih =>
    intro h n z x1 x2 x3 hk
    refine r_iload_n X (pc := 25) dX1_writeRow_25 rfl (q := 3) rfl ?_
    refine r_aload_n X (pc := 26) dX1_writeRow_26 rfl (q := 0) rfl ?_
    refine r_hGR X (pc := 27) fa_X1_14 dX1_writeRow_27 hk (fun y55 hk => ?_)
    refine r_hGI X (pc := 30) fa_X1_137_X2 dX1_writeRow_30 hk (fun y56 hk => ?_)
    obtain ⟨b57, b58, hk⟩ := hk
    refine r_icmp_ge X (pc := 33) (tgt := 131) dX1_writeRow_33 (by decide) ⟨b57, b58⟩ (fun c59 => ?_) (fun c59 => ?_)
    · have hk := hk.2 c59
      refine G.sub [0, 2] rfl ?_
      exact H_131 h n z x2 hk
    · have hk := hk.1 c59
      refine r_aload_n X (pc := 36) dX1_writeRow_36 rfl (q := 0) rfl ?_
      refine r_hGR X (pc := 37) fa_X1_14 dX1_writeRow_37 hk (fun y60 hk => ?_)
      refine r_iload_n X (pc := 40) dX1_writeRow_40 rfl (q := 3) rfl ?_
      refine r_iload_n X (pc := 41) dX1_writeRow_41 rfl (q := 1) rfl ?_
      obtain ⟨o113, fs114, e9, b115, hk⟩ := hk
      refine r_callV X (pc := 42) (As := [vI x3, vI x1]) (st := []) rfl rfl e9 b115 m_X1_256 (fun _ => s_X2_postAt hk) ⟨by decide, by decide⟩ (Nat.le_of_ble_eq_true rfl) dX1_writeRow_42 (fun v9 h62 n63 z64 hq => ?_) (fun ci108 q109 h110 n111 z112 hf => ?_)
      · obtain ⟨r61, rfl, hk⟩ := hq
        refine ⟨[vI r61], rfl, ?_⟩
        refine r_istore X (pc := 45) (lv1 := [(4, vI r61), (0, vR (some o)), (1, vI x1), (2, vR x2), (3, vI x3)]) dX1_writeRow_45 (by decide) rfl ?_
        refine r_iload X (pc := 47) dX1_writeRow_47 (q := 0) rfl ?_
        refine r_iconst X (pc := 49) dX1_writeRow_49 ?_
        obtain ⟨b65, hk⟩ := hk
        refine r_icmp_ne X (pc := 50) (tgt := 80) dX1_writeRow_50 (by decide) ⟨b65, (by decide)⟩ (fun c66 => ?_) (fun c66 => ?_)
        · have hk := hk.2 c66
          refine r_aload_n X (pc := 80) dX1_writeRow_80 rfl (q := 3) rfl ?_
          refine r_aload_n X (pc := 81) dX1_writeRow_81 rfl (q := 1) rfl ?_
          refine r_hGR X (pc := 82) fa_X1_14 dX1_writeRow_82 hk (fun y67 hk => ?_)
          refine r_hGR X (pc := 85) fa_X1_146_X2 dX1_writeRow_85 hk (fun y68 hk => ?_)
          refine r_iload X (pc := 88) dX1_writeRow_88 (q := 0) rfl ?_
          refine r_hAR X (pc := 90) (t := 5) rfl dX1_writeRow_90 hk (fun y69 hk => ?_)
          refine r_hGI X (pc := 91) fa_X1_227_X3 dX1_writeRow_91 hk (fun y70 hk => ?_)
          obtain ⟨b71, hk⟩ := hk
          refine r_if_eq X (pc := 94) (tgt := 102) dX1_writeRow_94 (by decide) b71 (fun c72 => ?_) (fun c72 => ?_)
          · have hk := hk.1 c72
            refine r_ldcSw X (pc := 102) (j := 16) rfl dX1_writeRow_102 ?_
            refine r_aload_n X (pc := 105) dX1_writeRow_105 rfl (q := 1) rfl ?_
            refine r_hGR X (pc := 106) fa_X1_14 dX1_writeRow_106 hk (fun y73 hk => ?_)
            refine r_hGR X (pc := 109) fa_X1_146_X2 dX1_writeRow_109 hk (fun y74 hk => ?_)
            refine r_iload X (pc := 112) dX1_writeRow_112 (q := 0) rfl ?_
            refine r_hAR X (pc := 114) (t := 5) rfl dX1_writeRow_114 hk (fun y75 hk => ?_)
            refine r_hGI X (pc := 115) fa_X1_169_X3 dX1_writeRow_115 hk (fun y76 hk => ?_)
            obtain ⟨o87, fs88, e9, b89, hk⟩ := hk
            refine r_callV X (pc := 118) (As := [vI y76]) (st := [vR x2]) rfl rfl e9 b89 m_X1_462 (fun _ => s_J4_charAt hk) ⟨by decide, by decide⟩ (Nat.le_of_ble_eq_true rfl) dX1_writeRow_118 (fun v9 h78 n79 z80 hq => ?_) (fun ci82 q83 h84 n85 z86 hf => ?_)
            · obtain ⟨r77, rfl, hk⟩ := hq
              refine ⟨[vI r77], rfl, ?_⟩
              refine G.sub [1, 2, 3, 4] rfl ?_
              have HH81 : ∀ (h : AH) (n : Nat) (z : Nat) (x1 : Int) (x2 : Option Nat) (x3 : Int), (L_X1_writeRow_25 K o k_131 κ χ f h n z x1 x2 x3) → G K Y h n z 25 [(0, vR (some o)), (1, vI x1), (2, vR x2), (3, vI x3)] [] := by
                  intro h n z x1 x2 x3 hk
                  exact ih h n z x1 x2 x3 hk
              exact w_X1_writeRow_121 X E HH81 H_131 h78 n79 z80 x1 x2 x3 r77 x2 hk
            · have hk := hf
              exact r_out X E (fun _ h9 => nomatch h9) hk
          · have hk := hk.2 c72
            refine r_bipush X (pc := 97) dX1_writeRow_97 (by decide) ?_
            refine r_goto X (pc := 99) (tgt := 121) dX1_writeRow_99 (by decide) ?_
            refine G.sub [1, 2, 3, 4] rfl ?_
            have HH90 : ∀ (h : AH) (n : Nat) (z : Nat) (x1 : Int) (x2 : Option Nat) (x3 : Int), (L_X1_writeRow_25 K o k_131 κ χ f h n z x1 x2 x3) → G K Y h n z 25 [(0, vR (some o)), (1, vI x1), (2, vR x2), (3, vI x3)] [] := by
                intro h n z x1 x2 x3 hk
                exact ih h n z x1 x2 x3 hk
            exact w_X1_writeRow_121 X E HH90 H_131 h62 n63 z64 x1 x2 x3 120 x2 hk
        · have hk := hk.1 c66
          refine r_aload_n X (pc := 53) dX1_writeRow_53 rfl (q := 3) rfl ?_
          refine r_aload_n X (pc := 54) dX1_writeRow_54 rfl (q := 1) rfl ?_
          refine r_hGR X (pc := 55) fa_X1_14 dX1_writeRow_55 hk (fun y91 hk => ?_)
          refine r_iload_n X (pc := 58) dX1_writeRow_58 rfl (q := 4) rfl ?_
          refine r_iload_n X (pc := 59) dX1_writeRow_59 rfl (q := 2) rfl ?_
          obtain ⟨o105, fs106, e9, b107, hk⟩ := hk
          refine r_callV X (pc := 60) (As := [vI x3, vI x1]) (st := [vR x2]) rfl rfl e9 b107 m_X1_183 (fun _ => s_X2_isBlock hk) ⟨by decide, by decide⟩ (Nat.le_of_ble_eq_true rfl) dX1_writeRow_60 (fun v9 h93 n94 z95 hq => ?_) (fun ci100 q101 h102 n103 z104 hf => ?_)
          · obtain ⟨r92, rfl, hk⟩ := hq
            refine ⟨[vI r92], rfl, ?_⟩
            obtain ⟨b96, hk⟩ := hk
            refine r_if_eq X (pc := 63) (tgt := 71) dX1_writeRow_63 (by decide) b96 (fun c97 => ?_) (fun c97 => ?_)
            · have hk := hk.1 c97
              refine r_bipush X (pc := 71) dX1_writeRow_71 (by decide) ?_
              refine G.sub [1, 2, 3, 4] rfl ?_
              have HH98 : ∀ (h : AH) (n : Nat) (z : Nat) (x1 : Int) (x2 : Option Nat) (x3 : Int), (L_X1_writeRow_25 K o k_131 κ χ f h n z x1 x2 x3) → G K Y h n z 25 [(0, vR (some o)), (1, vI x1), (2, vR x2), (3, vI x3)] [] := by
                  intro h n z x1 x2 x3 hk
                  exact ih h n z x1 x2 x3 hk
              exact w_X1_writeRow_73 X E HH98 H_131 h93 n94 z95 x1 x2 x3 46 x2 hk
            · have hk := hk.2 c97
              refine r_bipush X (pc := 66) dX1_writeRow_66 (by decide) ?_
              refine r_goto X (pc := 68) (tgt := 73) dX1_writeRow_68 (by decide) ?_
              refine G.sub [1, 2, 3, 4] rfl ?_
              have HH99 : ∀ (h : AH) (n : Nat) (z : Nat) (x1 : Int) (x2 : Option Nat) (x3 : Int), (L_X1_writeRow_25 K o k_131 κ χ f h n z x1 x2 x3) → G K Y h n z 25 [(0, vR (some o)), (1, vI x1), (2, vR x2), (3, vI x3)] [] := by
                  intro h n z x1 x2 x3 hk
                  exact ih h n z x1 x2 x3 hk
              exact w_X1_writeRow_73 X E HH99 H_131 h93 n94 z95 x1 x2 x3 35 x2 hk
          · have hk := hf
            exact r_out X E (fun _ h9 => nomatch h9) hk
      · have hk := hf
        exact r_out X E (fun _ h9 => nomatch h9) hk
set_option maxHeartbeats 4000000 in
theorem w_X1_writeRow_131 {K : KT} {Y : YT} {o : Nat} {κ : Int → AH → Nat → Nat → Prop} {χ : QxT} (X : XY K "TrailMarkers" "writeRow" cX1_writeRow (Option.some Jvm.ClassFile.FieldType.int) [] 5 13 327 Y) (E : YE K Y (QvI κ) χ) : ∀ (h : AH) (n : Nat) (z : Nat) (x2 : Option Nat), P_X1_writeRow_131 K o κ χ h n z x2 → G K Y h n z 131 [(0, vR (some o)), (2, vR x2)] [] := by
  intro h n z x2 hk
  refine r_aload_n X (pc := 131) dX1_writeRow_131 rfl (q := 0) rfl ?_
  refine r_aload_n X (pc := 132) dX1_writeRow_132 rfl (q := 1) rfl ?_
  obtain ⟨o125, fs126, e9, b127, hk⟩ := hk
  refine r_callV X (pc := 133) (As := [vR x2]) (st := []) rfl rfl e9 b127 m_X1_456 (fun _ => s_X1_show hk) ⟨by decide, by decide⟩ (Nat.le_of_ble_eq_true rfl) dX1_writeRow_133 (fun v9 h117 n118 z119 hq => ?_) (fun ci120 q121 h122 n123 z124 hf => ?_)
  · obtain ⟨r116, rfl, hk⟩ := hq
    refine ⟨[vI r116], rfl, ?_⟩
    exact r_iret X E (pc := 136) dX1_writeRow_136 rfl ⟨_, rfl, hk⟩
  · have hk := hf
    exact r_out X E (fun _ h9 => nomatch h9) hk
set_option maxHeartbeats 4000000 in
theorem w_X1_writeRow {K : KT} {Y : YT} {o : Nat} {κ : Int → AH → Nat → Nat → Prop} {χ : QxT} (X : XY K "TrailMarkers" "writeRow" cX1_writeRow (Option.some Jvm.ClassFile.FieldType.int) [] 5 13 327 Y) (E : YE K Y (QvI κ) χ) {h : AH} {n : Nat} {z : Nat} {x1 : Int} (hk : P_X1_writeRow K o κ χ h n z x1) : G K Y h n z 0 (lv_argsA 0 [vR (some o), vI x1]) [] := by
  show G K Y h n z 0 [(0, vR (some o)), (1, vI x1)] []
  refine r_aload_n X (pc := 0) dX1_writeRow_0 rfl (q := 0) rfl ?_
  refine r_iload_n X (pc := 1) dX1_writeRow_1 rfl (q := 1) rfl ?_
  refine r_iconst X (pc := 2) dX1_writeRow_2 ?_
  refine r_aload_n X (pc := 3) dX1_writeRow_3 rfl (q := 0) rfl ?_
  refine r_hGR X (pc := 4) fa_X1_14 dX1_writeRow_4 hk (fun y128 hk => ?_)
  refine r_hGI X (pc := 7) fa_X1_140_X2 dX1_writeRow_7 hk (fun y129 hk => ?_)
  refine r_iconst X (pc := 10) dX1_writeRow_10 ?_
  refine r_isub X (pc := 11) dX1_writeRow_11 ?_
  obtain ⟨o148, fs149, e9, b150, hk⟩ := hk
  refine r_callV X (pc := 12) (As := [vI x1, vI 0, vI (y129 - 1)]) (st := []) rfl rfl e9 b150 m_X1_88 (fun _ => s_X1_need hk) ⟨by decide, by decide⟩ (Nat.le_of_ble_eq_true rfl) dX1_writeRow_12 (fun v9 h130 n131 z132 hq => ?_) (fun ci143 q144 h145 n146 z147 hf => ?_)
  · obtain ⟨rfl, hk⟩ := hq
    refine ⟨[], rfl, ?_⟩
    refine r_hNew X (pc := 15) nw_X1_401 dX1_writeRow_15 hk (fun h133 hk => ?_)
    refine r_dup X (pc := 18) dX1_writeRow_18 rfl ?_
    refine r_callI X (pc := 19) (As := []) (st := [vR (some n131)]) m_X1_436 (fun _ => s_J12_init hk) ⟨by decide, by decide⟩ (Nat.le_of_ble_eq_true rfl) dX1_writeRow_19 (fun v9 h134 n135 z136 hq => ?_) (fun ci138 q139 h140 n141 z142 hf => ?_)
    · obtain ⟨rfl, hk⟩ := hq
      refine ⟨[], rfl, ?_⟩
      refine r_astore_n X (pc := 22) (lv1 := [(2, vR (some n131)), (0, vR (some o)), (1, vI x1)]) dX1_writeRow_22 rfl (by decide) rfl ?_
      refine r_iconst X (pc := 23) dX1_writeRow_23 ?_
      refine r_istore_n X (pc := 24) (lv1 := [(3, vI 0), (2, vR (some n131)), (0, vR (some o)), (1, vI x1)]) dX1_writeRow_24 rfl (by decide) rfl ?_
      refine G.sub [2, 3, 1, 0] rfl ?_
      have HH137 : ∀ (h : AH) (n : Nat) (z : Nat) (x2 : Option Nat), (P_X1_writeRow_131 K o κ χ h n z x2) → G K Y h n z 131 [(0, vR (some o)), (2, vR x2)] [] := by
          intro h n z x2 hk
          exact w_X1_writeRow_131 X E h n z x2 hk
      obtain ⟨f9, hk⟩ := hk
      exact w_X1_writeRow_25 X E HH137 f9 h134 n135 z136 x1 (some n131) 0 hk
    · have hk := hf
      exact r_out X E (fun _ h9 => nomatch h9) hk
  · have hk := hf
    exact r_out X E (fun _ h9 => nomatch h9) hk
theorem s_X1_writeRow {K : KT} {l : Launch} {o : Nat} {κ : Int → AH → Nat → Nat → Prop} {χ : QxT} {h : AH} {n : Nat} {z : Nat} {x1 : Int} (hk : P_X1_writeRow K o κ χ h n z x1) : Ct K l yX1_writeRow (ws_ yX1_writeRow cX1_writeRow 5 (Option.some Jvm.ClassFile.FieldType.int)) 13 327 ([vR (some o), vI x1].map cV) h n z (QvI κ) χ :=
  ct_of (by decide +kernel) (Nat.le_of_ble_eq_true rfl) (fun Y X E => w_X1_writeRow X E hk)
