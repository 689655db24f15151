set_option maxRecDepth 100000
set_option maxHeartbeats 4000000 in
theorem w_X6_error {K : KT} {Y : YT} {o : Nat} {κ : Option Nat → AH → Nat → Nat → Prop} {χ : QxT} (X : XY K "TrailMarkers$Reader" "error" cX6_error (Option.some (Jvm.ClassFile.FieldType.object "TrailMarkers$TextException")) [] 2 9 262 Y) (E : YE K Y (QvR κ) χ) {h : AH} {n : Nat} {z : Nat} {x1 : Int} (hk : P_X6_error K o κ χ h n z x1) : G K Y h n z 0 (lv_argsA 0 [vR (some o), vI x1]) [] := by
  show G K Y h n z 0 [(0, vR (some o)), (1, vI x1)] []
  refine r_hNew X (pc := 0) nw_X6_67 dX6_error_0 hk (fun h3 hk => ?_)
  refine r_dup X (pc := 3) dX6_error_3 rfl ?_
  refine r_iload_n X (pc := 4) dX6_error_4 rfl (q := 1) rfl ?_
  refine r_aload_n X (pc := 5) dX6_error_5 rfl (q := 0) rfl ?_
  refine r_hGI X (pc := 6) fa_X6_36 dX6_error_6 hk (fun y4 hk => ?_)
  refine r_callI X (pc := 9) (As := [vI x1, vI y4]) (st := [vR (some n)]) m_X6_69 (fun _ => s_X7_init hk) ⟨by decide, by decide⟩ (Nat.le_of_ble_eq_true rfl) dX6_error_9 (fun v9 h5 n6 z7 hq => ?_) (fun ci8 q9 h10 n11 z12 hf => ?_)
  · obtain ⟨rfl, hk⟩ := hq
    refine ⟨[], rfl, ?_⟩
    exact r_aret X E (Or.inl ⟨_, rfl⟩) (pc := 12) dX6_error_12 ⟨_, rfl, hk⟩
  · have hk := hf
    exact r_out X E (fun _ h9 => nomatch h9) hk
theorem s_X6_error {K : KT} {l : Launch} {o : Nat} {κ : Option Nat → AH → Nat → Nat → Prop} {χ : QxT} {h : AH} {n : Nat} {z : Nat} {x1 : Int} (hk : P_X6_error K o κ χ h n z x1) : Ct K l yX6_error (ws_ yX6_error cX6_error 2 (Option.some (Jvm.ClassFile.FieldType.object "TrailMarkers$TextException"))) 9 262 ([vR (some o), vI x1].map cV) h n z (QvR κ) χ :=
  ct_of (by decide +kernel) (Nat.le_of_ble_eq_true rfl) (fun Y X E => w_X6_error X E hk)
set_option maxHeartbeats 4000000 in
theorem w_X6_advance_0 {K : KT} {Y : YT} {o : Nat} {κ : AH → Nat → Nat → Prop} {χ : QxT} (X : XY K "TrailMarkers$Reader" "advance" cX6_advance (Option.none : Option Jvm.ClassFile.FieldType) [] 3 12 306 Y) (E : YE K Y (QvV κ) χ) {k_44 : AH → Nat → Nat → Prop} (H_44 : ∀ (h : AH) (n : Nat) (z : Nat), k_44 h n z → G K Y h n z 44 [(0, vR (some o))] []) : ∀ (f : Nat) (h : AH) (n : Nat) (z : Nat), L_X6_advance_0 K o k_44 κ χ f h n z → G K Y h n z 0 [(0, vR (some o))] [] := by
  intro f
  induction f with
  | zero => intro h n z hk; exact hk.elim
  | succ f ih =>
    intro h n z hk
    refine r_aload_n X (pc := 0) dX6_advance_0 rfl (q := 0) rfl ?_
    refine r_hGI X (pc := 1) fa_X6_25 dX6_advance_1 hk (fun y107 hk => ?_)
    refine r_aload_n X (pc := 4) dX6_advance_4 rfl (q := 0) rfl ?_
    refine r_hGR X (pc := 5) fa_X6_3 dX6_advance_5 hk (fun y108 hk => ?_)
    refine r_hGIN X (pc := 8) fan_X6_29 dX6_advance_8 hk (fun y109 hk => ?_)
    obtain ⟨b110, b111, hk⟩ := hk
    refine r_icmp_ge X (pc := 11) (tgt := 44) dX6_advance_11 (by decide) ⟨b110, b111⟩ (fun c112 => ?_) (fun c112 => ?_)
    · have hk := hk.2 c112
      exact H_44 h n z hk
    · have hk := hk.1 c112
      refine r_aload_n X (pc := 14) dX6_advance_14 rfl (q := 0) rfl ?_
      refine r_hGR X (pc := 15) fa_X6_3 dX6_advance_15 hk (fun y113 hk => ?_)
      refine r_hGRN X (pc := 18) fan_X6_32 dX6_advance_18 hk (fun y114 hk => ?_)
      refine r_aload_n X (pc := 21) dX6_advance_21 rfl (q := 0) rfl ?_
      refine r_hGI X (pc := 22) fa_X6_25 dX6_advance_22 hk (fun y115 hk => ?_)
      refine r_hAB X (pc := 25) dX6_advance_25 hk (fun y116 hk => ?_)
      refine r_bipush X (pc := 26) dX6_advance_26 (by decide) ?_
      obtain ⟨b117, hk⟩ := hk
      refine r_icmp_ne X (pc := 28) (tgt := 44) dX6_advance_28 (by decide) ⟨b117, (by decide)⟩ (fun c118 => ?_) (fun c118 => ?_)
      · have hk := hk.2 c118
        exact H_44 h n z hk
      · have hk := hk.1 c118
        refine r_aload_n X (pc := 31) dX6_advance_31 rfl (q := 0) rfl ?_
        refine r_dup X (pc := 32) dX6_advance_32 rfl ?_
        refine r_hGI X (pc := 33) fa_X6_25 dX6_advance_33 hk (fun y119 hk => ?_)
        refine r_iconst X (pc := 36) dX6_advance_36 ?_
        refine r_iadd X (pc := 37) dX6_advance_37 ?_
        refine r_hPut X (pc := 38) fp_X6_25 rfl rfl dX6_advance_38 hk (fun h120 hk => ?_)
        refine r_goto X (pc := 41) (tgt := 0) dX6_advance_41 (by decide) ?_
        exact ih h120 n z hk
set_option maxHeartbeats 4000000 in
theorem w_X6_advance_374 {K : KT} {Y : YT} {o : Nat} {κ : AH → Nat → Nat → Prop} {χ : QxT} (X : XY K "TrailMarkers$Reader" "advance" cX6_advance (Option.none : Option Jvm.ClassFile.FieldType) [] 3 12 306 Y) (E : YE K Y (QvV κ) χ) : ∀ (h : AH) (n : Nat) (z : Nat), P_X6_advance_374 K o κ χ h n z → G K Y h n z 374 [(0, vR (some o))] [] := by
  intro h n z hk
  exact r_vret X E (pc := 374) dX6_advance_374 ⟨rfl, hk⟩
set_option maxHeartbeats 4000000 in
theorem w_X6_advance_347 {K : KT} {Y : YT} {o : Nat} {κ : AH → Nat → Nat → Prop} {χ : QxT} (X : XY K "TrailMarkers$Reader" "advance" cX6_advance (Option.none : Option Jvm.ClassFile.FieldType) [] 3 12 306 Y) (E : YE K Y (QvV κ) χ) : ∀ (h : AH) (n : Nat) (z : Nat) (s0 : Int), P_X6_advance_347 K o κ χ h n z s0 → G K Y h n z 347 [(0, vR (some o))] [vI s0, vR (some o)] := by
  intro h n z s0 hk
  refine r_hPut X (pc := 347) fp_X6_39 rfl rfl dX6_advance_347 hk (fun h121 hk => ?_)
  refine r_aload_n X (pc := 350) dX6_advance_350 rfl (q := 0) rfl ?_
  refine r_hGI X (pc := 351) fa_X6_39 dX6_advance_351 hk (fun y122 hk => ?_)
  refine r_iconst X (pc := 354) dX6_advance_354 ?_
  obtain ⟨b123, hk⟩ := hk
  refine r_icmp_ne X (pc := 355) (tgt := 364) dX6_advance_355 (by decide) ⟨b123, (by decide)⟩ (fun c124 => ?_) (fun c124 => ?_)
  · have hk := hk.2 c124
    refine r_aload_n X (pc := 364) dX6_advance_364 rfl (q := 0) rfl ?_
    refine r_dup X (pc := 365) dX6_advance_365 rfl ?_
    refine r_hGI X (pc := 366) fa_X6_25 dX6_advance_366 hk (fun y125 hk => ?_)
    refine r_iconst X (pc := 369) dX6_advance_369 ?_
    refine r_iadd X (pc := 370) dX6_advance_370 ?_
    refine r_hPut X (pc := 371) fp_X6_25 rfl rfl dX6_advance_371 hk (fun h126 hk => ?_)
    exact w_X6_advance_374 X E h126 n z hk
  · have hk := hk.1 c124
    refine r_aload_n X (pc := 358) dX6_advance_358 rfl (q := 0) rfl ?_
    refine r_iconst X (pc := 359) dX6_advance_359 ?_
    obtain ⟨o138, fs139, e9, b140, hk⟩ := hk
    refine r_callV X (pc := 360) (As := [vI 1]) (st := []) rfl rfl e9 b140 m_X6_63 (fun _ => s_X6_error hk) ⟨by decide, by decide⟩ (Nat.le_of_ble_eq_true rfl) dX6_advance_360 (fun v9 h128 n129 z130 hq => ?_) (fun ci133 q134 h135 n136 z137 hf => ?_)
    · obtain ⟨r127, rfl, hk⟩ := hq
      refine ⟨[vR r127], rfl, ?_⟩
      refine r_hThrow X (pc := 363) dX6_advance_363 hk (fun ci131 q132 hk => ?_)
      exact r_out X E (fun _ h9 => nomatch h9) hk
    · have hk := hf
      exact r_out X E (fun _ h9 => nomatch h9) hk
set_option maxHeartbeats 4000000 in
theorem w_X6_advance_315 {K : KT} {Y : YT} {o : Nat} {κ : AH → Nat → Nat → Prop} {χ : QxT} (X : XY K "TrailMarkers$Reader" "advance" cX6_advance (Option.none : Option Jvm.ClassFile.FieldType) [] 3 12 306 Y) (E : YE K Y (QvV κ) χ) : ∀ (h : AH) (n : Nat) (z : Nat) (x1 : Int), P_X6_advance_315 K o κ χ h n z x1 → G K Y h n z 315 [(0, vR (some o)), (1, vI x1)] [] := by
  intro h n z x1 hk
  refine r_aload_n X (pc := 315) dX6_advance_315 rfl (q := 0) rfl ?_
  refine r_iload_n X (pc := 316) dX6_advance_316 rfl (q := 1) rfl ?_
  refine r_bipush X (pc := 317) dX6_advance_317 (by decide) ?_
  obtain ⟨b141, hk⟩ := hk
  refine r_icmp_ne X (pc := 319) (tgt := 326) dX6_advance_319 (by decide) ⟨b141, (by decide)⟩ (fun c142 => ?_) (fun c142 => ?_)
  · have hk := hk.2 c142
    refine r_iload_n X (pc := 326) dX6_advance_326 rfl (q := 1) rfl ?_
    refine r_bipush X (pc := 327) dX6_advance_327 (by decide) ?_
    refine r_icmp_ne X (pc := 329) (tgt := 336) dX6_advance_329 (by decide) ⟨b141, (by decide)⟩ (fun c143 => ?_) (fun c143 => ?_)
    · have hk := hk.2 c143
      refine r_iload_n X (pc := 336) dX6_advance_336 rfl (q := 1) rfl ?_
      refine r_bipush X (pc := 337) dX6_advance_337 (by decide) ?_
      refine r_icmp_ne X (pc := 339) (tgt := 346) dX6_advance_339 (by decide) ⟨b141, (by decide)⟩ (fun c144 => ?_) (fun c144 => ?_)
      · have hk := hk.2 c144
        refine r_iconst X (pc := 346) dX6_advance_346 ?_
        refine G.sub [0] rfl ?_
        exact w_X6_advance_347 X E h n z (-1) hk
      · have hk := hk.1 c144
        refine r_iconst X (pc := 342) dX6_advance_342 ?_
        refine r_goto X (pc := 343) (tgt := 347) dX6_advance_343 (by decide) ?_
        refine G.sub [0] rfl ?_
        exact w_X6_advance_347 X E h n z 4 hk
    · have hk := hk.1 c143
      refine r_iconst X (pc := 332) dX6_advance_332 ?_
      refine r_goto X (pc := 333) (tgt := 347) dX6_advance_333 (by decide) ?_
      refine G.sub [0] rfl ?_
      exact w_X6_advance_347 X E h n z 3 hk
  · have hk := hk.1 c142
    refine r_iconst X (pc := 322) dX6_advance_322 ?_
    refine r_goto X (pc := 323) (tgt := 347) dX6_advance_323 (by decide) ?_
    refine G.sub [0] rfl ?_
    exact w_X6_advance_347 X E h n z 2 hk
set_option maxHeartbeats 4000000 in
theorem w_X6_advance_225 {K : KT} {Y : YT} {o : Nat} {κ : AH → Nat → Nat → Prop} {χ : QxT} (X : XY K "TrailMarkers$Reader" "advance" cX6_advance (Option.none : Option Jvm.ClassFile.FieldType) [] 3 12 306 Y) (E : YE K Y (QvV κ) χ) {k_304 : AH → Nat → Nat → Option Nat → Prop} (H_304 : ∀ (h : AH) (n : Nat) (z : Nat) (x2 : Option Nat), k_304 h n z x2 → G K Y h n z 304 [(0, vR (some o)), (2, vR x2)] []) : ∀ (f : Nat) (h : AH) (n : Nat) (z : Nat) (x2 : Option Nat), L_X6_advance_225 K o k_304 κ χ f h n z x2 → G K Y h n z 225 [(0, vR (some o)), (2, vR x2)] [] := by
  intro f
  induction f with
  | zero => intro h n z x2 hk; exact hk.elim
  | succ f ih =>
    intro h n z x2 hk
    refine r_aload_n X (pc := 225) dX6_advance_225 rfl (q := 0) rfl ?_
    refine r_hGI X (pc := 226) fa_X6_25 dX6_advance_226 hk (fun y145 hk => ?_)
    refine r_aload_n X (pc := 229) dX6_advance_229 rfl (q := 0) rfl ?_
    refine r_hGR X (pc := 230) fa_X6_3 dX6_advance_230 hk (fun y146 hk => ?_)
    refine r_hGIN X (pc := 233) fan_X6_29 dX6_advance_233 hk (fun y147 hk => ?_)
    obtain ⟨b148, b149, hk⟩ := hk
    refine r_icmp_ge X (pc := 236) (tgt := 304) dX6_advance_236 (by decide) ⟨b148, b149⟩ (fun c150 => ?_) (fun c150 => ?_)
    · have hk := hk.2 c150
      exact H_304 h n z x2 hk
    · have hk := hk.1 c150
      refine r_aload_n X (pc := 239) dX6_advance_239 rfl (q := 0) rfl ?_
      refine r_hGR X (pc := 240) fa_X6_3 dX6_advance_240 hk (fun y151 hk => ?_)
      refine r_hGRN X (pc := 243) fan_X6_32 dX6_advance_243 hk (fun y152 hk => ?_)
      refine r_aload_n X (pc := 246) dX6_advance_246 rfl (q := 0) rfl ?_
      refine r_hGI X (pc := 247) fa_X6_25 dX6_advance_247 hk (fun y153 hk => ?_)
      refine r_hAB X (pc := 250) dX6_advance_250 hk (fun y154 hk => ?_)
      refine r_bipush X (pc := 251) dX6_advance_251 (by decide) ?_
      obtain ⟨b155, hk⟩ := hk
      refine r_icmp_lt X (pc := 253) (tgt := 304) dX6_advance_253 (by decide) ⟨b155, (by decide)⟩ (fun c156 => ?_) (fun c156 => ?_)
      · have hk := hk.1 c156
        exact H_304 h n z x2 hk
      · have hk := hk.2 c156
        refine r_aload_n X (pc := 256) dX6_advance_256 rfl (q := 0) rfl ?_
        refine r_hGR X (pc := 257) fa_X6_3 dX6_advance_257 hk (fun y157 hk => ?_)
        refine r_hGRN X (pc := 260) fan_X6_32 dX6_advance_260 hk (fun y158 hk => ?_)
        refine r_aload_n X (pc := 263) dX6_advance_263 rfl (q := 0) rfl ?_
        refine r_hGI X (pc := 264) fa_X6_25 dX6_advance_264 hk (fun y159 hk => ?_)
        refine r_hAB X (pc := 267) dX6_advance_267 hk (fun y160 hk => ?_)
        refine r_bipush X (pc := 268) dX6_advance_268 (by decide) ?_
        obtain ⟨b161, hk⟩ := hk
        refine r_icmp_gt X (pc := 270) (tgt := 304) dX6_advance_270 (by decide) ⟨b161, (by decide)⟩ (fun c162 => ?_) (fun c162 => ?_)
        · have hk := hk.1 c162
          exact H_304 h n z x2 hk
        · have hk := hk.2 c162
          refine r_aload_n X (pc := 273) dX6_advance_273 rfl (q := 1) rfl ?_
          refine r_aload_n X (pc := 274) dX6_advance_274 rfl (q := 0) rfl ?_
          refine r_hGR X (pc := 275) fa_X6_3 dX6_advance_275 hk (fun y163 hk => ?_)
          refine r_hGRN X (pc := 278) fan_X6_32 dX6_advance_278 hk (fun y164 hk => ?_)
          refine r_aload_n X (pc := 281) dX6_advance_281 rfl (q := 0) rfl ?_
          refine r_hGI X (pc := 282) fa_X6_25 dX6_advance_282 hk (fun y165 hk => ?_)
          refine r_hAB X (pc := 285) dX6_advance_285 hk (fun y166 hk => ?_)
          refine r_i2c X (pc := 286) dX6_advance_286 ?_
          obtain ⟨o178, fs179, e9, b180, hk⟩ := hk
          refine r_callV X (pc := 287) (As := [vI (i2c y166)]) (st := []) rfl rfl e9 b180 m_X6_55 (fun _ => s_J12_append hk) ⟨by decide, by decide⟩ (Nat.le_of_ble_eq_true rfl) dX6_advance_287 (fun v9 h168 n169 z170 hq => ?_) (fun ci173 q174 h175 n176 z177 hf => ?_)
          · obtain ⟨r167, rfl, hk⟩ := hq
            refine ⟨[vR r167], rfl, ?_⟩
            refine r_pop X (pc := 290) dX6_advance_290 rfl ?_
            refine r_aload_n X (pc := 291) dX6_advance_291 rfl (q := 0) rfl ?_
            refine r_dup X (pc := 292) dX6_advance_292 rfl ?_
            refine r_hGI X (pc := 293) fa_X6_25 dX6_advance_293 hk (fun y171 hk => ?_)
            refine r_iconst X (pc := 296) dX6_advance_296 ?_
            refine r_iadd X (pc := 297) dX6_advance_297 ?_
            refine r_hPut X (pc := 298) fp_X6_25 rfl rfl dX6_advance_298 hk (fun h172 hk => ?_)
            refine r_goto X (pc := 301) (tgt := 225) dX6_advance_301 (by decide) ?_
            exact ih h172 n169 z170 x2 hk
          · have hk := hf
            exact r_out X E (fun _ h9 => nomatch h9) hk
set_option maxHeartbeats 4000000 in
theorem w_X6_advance_304 {K : KT} {Y : YT} {o : Nat} {κ : AH → Nat → Nat → Prop} {χ : QxT} (X : XY K "TrailMarkers$Reader" "advance" cX6_advance (Option.none : Option Jvm.ClassFile.FieldType) [] 3 12 306 Y) (E : YE K Y (QvV κ) χ) : ∀ (h : AH) (n : Nat) (z : Nat) (x2 : Option Nat), P_X6_advance_304 K o κ χ h n z x2 → G K Y h n z 304 [(0, vR (some o)), (2, vR x2)] [] := by
  intro h n z x2 hk
  refine r_aload_n X (pc := 304) dX6_advance_304 rfl (q := 0) rfl ?_
  refine r_aload_n X (pc := 305) dX6_advance_305 rfl (q := 1) rfl ?_
  obtain ⟨o191, fs192, e9, b193, hk⟩ := hk
  refine r_callV X (pc := 306) (As := []) (st := [vR (some o)]) rfl rfl e9 b193 m_X6_59 (fun _ => s_J12_toString hk) ⟨by decide, by decide⟩ (Nat.le_of_ble_eq_true rfl) dX6_advance_306 (fun v9 h182 n183 z184 hq => ?_) (fun ci186 q187 h188 n189 z190 hf => ?_)
  · obtain ⟨r181, rfl, hk⟩ := hq
    refine ⟨[vR r181], rfl, ?_⟩
    refine r_hPut X (pc := 309) fp_X6_17 (fit_ref r181).1 (fit_ref r181).2 dX6_advance_309 hk (fun h185 hk => ?_)
    refine r_goto X (pc := 312) (tgt := 374) dX6_advance_312 (by decide) ?_
    refine G.sub [0] rfl ?_
    exact w_X6_advance_374 X E h185 n183 z184 hk
  · have hk := hf
    exact r_out X E (fun _ h9 => nomatch h9) hk
set_option maxHeartbeats 4000000 in
theorem w_X6_advance_200 {K : KT} {Y : YT} {o : Nat} {κ : AH → Nat → Nat → Prop} {χ : QxT} (X : XY K "TrailMarkers$Reader" "advance" cX6_advance (Option.none : Option Jvm.ClassFile.FieldType) [] 3 12 306 Y) (E : YE K Y (QvV κ) χ) : ∀ (h : AH) (n : Nat) (z : Nat) (x1 : Int), P_X6_advance_200 K o κ χ h n z x1 → G K Y h n z 200 [(0, vR (some o)), (1, vI x1)] [] := by
  intro h n z x1 hk
  refine r_iload_n X (pc := 200) dX6_advance_200 rfl (q := 1) rfl ?_
  refine r_bipush X (pc := 201) dX6_advance_201 (by decide) ?_
  obtain ⟨b194, hk⟩ := hk
  refine r_icmp_lt X (pc := 203) (tgt := 315) dX6_advance_203 (by decide) ⟨b194, (by decide)⟩ (fun c195 => ?_) (fun c195 => ?_)
  · have hk := hk.1 c195
    exact w_X6_advance_315 X E h n z x1 hk
  · have hk := hk.2 c195
    refine r_iload_n X (pc := 206) dX6_advance_206 rfl (q := 1) rfl ?_
    refine r_bipush X (pc := 207) dX6_advance_207 (by decide) ?_
    refine r_icmp_gt X (pc := 209) (tgt := 315) dX6_advance_209 (by decide) ⟨b194, (by decide)⟩ (fun c196 => ?_) (fun c196 => ?_)
    · have hk := hk.1 c196
      exact w_X6_advance_315 X E h n z x1 hk
    · have hk := hk.2 c196
      refine r_aload_n X (pc := 212) dX6_advance_212 rfl (q := 0) rfl ?_
      refine r_iconst X (pc := 213) dX6_advance_213 ?_
      refine r_hPut X (pc := 214) fp_X6_39 rfl rfl dX6_advance_214 hk (fun h197 hk => ?_)
      refine r_hNew X (pc := 217) nw_X6_52 dX6_advance_217 hk (fun h198 hk => ?_)
      refine r_dup X (pc := 220) dX6_advance_220 rfl ?_
      refine r_callI X (pc := 221) (As := []) (st := [vR (some n)]) m_X6_54 (fun _ => s_J12_init hk) ⟨by decide, by decide⟩ (Nat.le_of_ble_eq_true rfl) dX6_advance_221 (fun v9 h199 n200 z201 hq => ?_) (fun ci203 q204 h205 n206 z207 hf => ?_)
      · obtain ⟨rfl, hk⟩ := hq
        refine ⟨[], rfl, ?_⟩
        refine r_astore_n X (pc := 224) (lv1 := [(2, vR (some n)), (0, vR (some o)), (1, vI x1)]) dX6_advance_224 rfl (by decide) rfl ?_
        refine G.sub [1, 0] rfl ?_
        have HH202 : ∀ (h : AH) (n : Nat) (z : Nat) (x2 : Option Nat), (P_X6_advance_304 K o κ χ h n z x2) → G K Y h n z 304 [(0, vR (some o)), (2, vR x2)] [] := by
            intro h n z x2 hk
            exact w_X6_advance_304 X E h n z x2 hk
        obtain ⟨f9, hk⟩ := hk
        exact w_X6_advance_225 X E HH202 f9 h199 n200 z201 (some n) hk
      · have hk := hf
        exact r_out X E (fun _ h9 => nomatch h9) hk
set_option maxHeartbeats 4000000 in
theorem w_X6_advance_107 {K : KT} {Y : YT} {o : Nat} {κ : AH → Nat → Nat → Prop} {χ : QxT} (X : XY K "TrailMarkers$Reader" "advance" cX6_advance (Option.none : Option Jvm.ClassFile.FieldType) [] 3 12 306 Y) (E : YE K Y (QvV κ) χ) {k_374 : AH → Nat → Nat → Prop} (H_374 : ∀ (h : AH) (n : Nat) (z : Nat), k_374 h n z → G K Y h n z 374 [(0, vR (some o))] []) : ∀ (f : Nat) (h : AH) (n : Nat) (z : Nat), L_X6_advance_107 K o k_374 κ χ f h n z → G K Y h n z 107 [(0, vR (some o))] [] := by
  intro f
  induction f with
  | zero => intro h n z hk; exact hk.elim
  | succ f ih =>
    intro h n z hk
    refine r_aload_n X (pc := 107) dX6_advance_107 rfl (q := 0) rfl ?_
    refine r_hGI X (pc := 108) fa_X6_25 dX6_advance_108 hk (fun y208 hk => ?_)
    refine r_aload_n X (pc := 111) dX6_advance_111 rfl (q := 0) rfl ?_
    refine r_hGR X (pc := 112) fa_X6_3 dX6_advance_112 hk (fun y209 hk => ?_)
    refine r_hGIN X (pc := 115) fan_X6_29 dX6_advance_115 hk (fun y210 hk => ?_)
    obtain ⟨b211, b212, hk⟩ := hk
    refine r_icmp_ge X (pc := 118) (tgt := 374) dX6_advance_118 (by decide) ⟨b211, b212⟩ (fun c213 => ?_) (fun c213 => ?_)
    · have hk := hk.2 c213
      exact H_374 h n z hk
    · have hk := hk.1 c213
      refine r_aload_n X (pc := 121) dX6_advance_121 rfl (q := 0) rfl ?_
      refine r_hGR X (pc := 122) fa_X6_3 dX6_advance_122 hk (fun y214 hk => ?_)
      refine r_hGRN X (pc := 125) fan_X6_32 dX6_advance_125 hk (fun y215 hk => ?_)
      refine r_aload_n X (pc := 128) dX6_advance_128 rfl (q := 0) rfl ?_
      refine r_hGI X (pc := 129) fa_X6_25 dX6_advance_129 hk (fun y216 hk => ?_)
      refine r_hAB X (pc := 132) dX6_advance_132 hk (fun y217 hk => ?_)
      refine r_bipush X (pc := 133) dX6_advance_133 (by decide) ?_
      obtain ⟨b218, hk⟩ := hk
      refine r_icmp_lt X (pc := 135) (tgt := 374) dX6_advance_135 (by decide) ⟨b218, (by decide)⟩ (fun c219 => ?_) (fun c219 => ?_)
      · have hk := hk.1 c219
        exact H_374 h n z hk
      · have hk := hk.2 c219
        refine r_aload_n X (pc := 138) dX6_advance_138 rfl (q := 0) rfl ?_
        refine r_hGR X (pc := 139) fa_X6_3 dX6_advance_139 hk (fun y220 hk => ?_)
        refine r_hGRN X (pc := 142) fan_X6_32 dX6_advance_142 hk (fun y221 hk => ?_)
        refine r_aload_n X (pc := 145) dX6_advance_145 rfl (q := 0) rfl ?_
        refine r_hGI X (pc := 146) fa_X6_25 dX6_advance_146 hk (fun y222 hk => ?_)
        refine r_hAB X (pc := 149) dX6_advance_149 hk (fun y223 hk => ?_)
        refine r_bipush X (pc := 150) dX6_advance_150 (by decide) ?_
        obtain ⟨b224, hk⟩ := hk
        refine r_icmp_gt X (pc := 152) (tgt := 374) dX6_advance_152 (by decide) ⟨b224, (by decide)⟩ (fun c225 => ?_) (fun c225 => ?_)
        · have hk := hk.1 c225
          exact H_374 h n z hk
        · have hk := hk.2 c225
          refine r_aload_n X (pc := 155) dX6_advance_155 rfl (q := 0) rfl ?_
          refine r_ldcI X (pc := 156) (v := 100000) dX6_advance_156 q510 (by decide) ?_
          refine r_aload_n X (pc := 158) dX6_advance_158 rfl (q := 0) rfl ?_
          refine r_hGI X (pc := 159) fa_X6_42 dX6_advance_159 hk (fun y226 hk => ?_)
          refine r_bipush X (pc := 162) dX6_advance_162 (by decide) ?_
          refine r_imul X (pc := 164) dX6_advance_164 ?_
          refine r_aload_n X (pc := 165) dX6_advance_165 rfl (q := 0) rfl ?_
          refine r_hGR X (pc := 166) fa_X6_3 dX6_advance_166 hk (fun y227 hk => ?_)
          refine r_hGRN X (pc := 169) fan_X6_32 dX6_advance_169 hk (fun y228 hk => ?_)
          refine r_aload_n X (pc := 172) dX6_advance_172 rfl (q := 0) rfl ?_
          refine r_hGI X (pc := 173) fa_X6_25 dX6_advance_173 hk (fun y229 hk => ?_)
          refine r_hAB X (pc := 176) dX6_advance_176 hk (fun y230 hk => ?_)
          refine r_iadd X (pc := 177) dX6_advance_177 ?_
          refine r_bipush X (pc := 178) dX6_advance_178 (by decide) ?_
          refine r_isub X (pc := 180) dX6_advance_180 ?_
          obtain ⟨b231, hk⟩ := hk
          refine r_mmin X (pc := 181) q511 q512 q152 q513 (by decide) b231 ⟨by decide, Nat.le_of_ble_eq_true rfl⟩ dX6_advance_181 ?_
          refine r_hPut X (pc := 184) fp_X6_42 rfl rfl dX6_advance_184 hk (fun h232 hk => ?_)
          refine r_aload_n X (pc := 187) dX6_advance_187 rfl (q := 0) rfl ?_
          refine r_dup X (pc := 188) dX6_advance_188 rfl ?_
          refine r_hGI X (pc := 189) fa_X6_25 dX6_advance_189 hk (fun y233 hk => ?_)
          refine r_iconst X (pc := 192) dX6_advance_192 ?_
          refine r_iadd X (pc := 193) dX6_advance_193 ?_
          refine r_hPut X (pc := 194) fp_X6_25 rfl rfl dX6_advance_194 hk (fun h234 hk => ?_)
          refine r_goto X (pc := 197) (tgt := 107) dX6_advance_197 (by decide) ?_
          exact ih h234 n z hk
set_option maxHeartbeats 4000000 in
theorem w_X6_advance_44 {K : KT} {Y : YT} {o : Nat} {κ : AH → Nat → Nat → Prop} {χ : QxT} (X : XY K "TrailMarkers$Reader" "advance" cX6_advance (Option.none : Option Jvm.ClassFile.FieldType) [] 3 12 306 Y) (E : YE K Y (QvV κ) χ) : ∀ (h : AH) (n : Nat) (z : Nat), P_X6_advance_44 K o κ χ h n z → G K Y h n z 44 [(0, vR (some o))] [] := by
  intro h n z hk
  refine r_aload_n X (pc := 44) dX6_advance_44 rfl (q := 0) rfl ?_
  refine r_aload_n X (pc := 45) dX6_advance_45 rfl (q := 0) rfl ?_
  refine r_hGI X (pc := 46) fa_X6_25 dX6_advance_46 hk (fun y235 hk => ?_)
  refine r_hPut X (pc := 49) fp_X6_36 rfl rfl dX6_advance_49 hk (fun h236 hk => ?_)
  refine r_aload_n X (pc := 52) dX6_advance_52 rfl (q := 0) rfl ?_
  refine r_hGI X (pc := 53) fa_X6_25 dX6_advance_53 hk (fun y237 hk => ?_)
  refine r_aload_n X (pc := 56) dX6_advance_56 rfl (q := 0) rfl ?_
  refine r_hGR X (pc := 57) fa_X6_3 dX6_advance_57 hk (fun y238 hk => ?_)
  refine r_hGIN X (pc := 60) fan_X6_29 dX6_advance_60 hk (fun y239 hk => ?_)
  obtain ⟨b240, b241, hk⟩ := hk
  refine r_icmp_ne X (pc := 63) (tgt := 72) dX6_advance_63 (by decide) ⟨b240, b241⟩ (fun c242 => ?_) (fun c242 => ?_)
  · have hk := hk.2 c242
    refine r_aload_n X (pc := 72) dX6_advance_72 rfl (q := 0) rfl ?_
    refine r_hGR X (pc := 73) fa_X6_3 dX6_advance_73 hk (fun y243 hk => ?_)
    refine r_hGRN X (pc := 76) fan_X6_32 dX6_advance_76 hk (fun y244 hk => ?_)
    refine r_aload_n X (pc := 79) dX6_advance_79 rfl (q := 0) rfl ?_
    refine r_hGI X (pc := 80) fa_X6_25 dX6_advance_80 hk (fun y245 hk => ?_)
    refine r_hAB X (pc := 83) dX6_advance_83 hk (fun y246 hk => ?_)
    refine r_istore_n X (pc := 84) (lv1 := [(1, vI y246), (0, vR (some o))]) dX6_advance_84 rfl (by decide) rfl ?_
    refine r_iload_n X (pc := 85) dX6_advance_85 rfl (q := 0) rfl ?_
    refine r_bipush X (pc := 86) dX6_advance_86 (by decide) ?_
    obtain ⟨b247, hk⟩ := hk
    refine r_icmp_lt X (pc := 88) (tgt := 200) dX6_advance_88 (by decide) ⟨b247, (by decide)⟩ (fun c248 => ?_) (fun c248 => ?_)
    · have hk := hk.1 c248
      refine G.sub [1, 0] rfl ?_
      exact w_X6_advance_200 X E h236 n z y246 hk
    · have hk := hk.2 c248
      refine r_iload_n X (pc := 91) dX6_advance_91 rfl (q := 0) rfl ?_
      refine r_bipush X (pc := 92) dX6_advance_92 (by decide) ?_
      refine r_icmp_gt X (pc := 94) (tgt := 200) dX6_advance_94 (by decide) ⟨b247, (by decide)⟩ (fun c249 => ?_) (fun c249 => ?_)
      · have hk := hk.1 c249
        refine G.sub [1, 0] rfl ?_
        exact w_X6_advance_200 X E h236 n z y246 hk
      · have hk := hk.2 c249
        refine r_aload_n X (pc := 97) dX6_advance_97 rfl (q := 1) rfl ?_
        refine r_iconst X (pc := 98) dX6_advance_98 ?_
        refine r_hPut X (pc := 99) fp_X6_39 rfl rfl dX6_advance_99 hk (fun h250 hk => ?_)
        refine r_aload_n X (pc := 102) dX6_advance_102 rfl (q := 1) rfl ?_
        refine r_iconst X (pc := 103) dX6_advance_103 ?_
        refine r_hPut X (pc := 104) fp_X6_42 rfl rfl dX6_advance_104 hk (fun h251 hk => ?_)
        refine G.sub [1] rfl ?_
        have HH252 : ∀ (h : AH) (n : Nat) (z : Nat), (P_X6_advance_374 K o κ χ h n z) → G K Y h n z 374 [(0, vR (some o))] [] := by
            intro h n z hk
            exact w_X6_advance_374 X E h n z hk
        obtain ⟨f9, hk⟩ := hk
        exact w_X6_advance_107 X E HH252 f9 h251 n z hk
  · have hk := hk.1 c242
    refine r_aload_n X (pc := 66) dX6_advance_66 rfl (q := 0) rfl ?_
    refine r_iconst X (pc := 67) dX6_advance_67 ?_
    refine r_hPut X (pc := 68) fp_X6_39 rfl rfl dX6_advance_68 hk (fun h253 hk => ?_)
    exact r_vret X E (pc := 71) dX6_advance_71 ⟨rfl, hk⟩
set_option maxHeartbeats 4000000 in
theorem w_X6_advance {K : KT} {Y : YT} {o : Nat} {κ : AH → Nat → Nat → Prop} {χ : QxT} (X : XY K "TrailMarkers$Reader" "advance" cX6_advance (Option.none : Option Jvm.ClassFile.FieldType) [] 3 12 306 Y) (E : YE K Y (QvV κ) χ) {h : AH} {n : Nat} {z : Nat} (hk : P_X6_advance K o κ χ h n z) : G K Y h n z 0 (lv_argsA 0 [vR (some o)]) [] := by
  show G K Y h n z 0 [(0, vR (some o))] []
  have HH254 : ∀ (h : AH) (n : Nat) (z : Nat), (P_X6_advance_44 K o κ χ h n z) → G K Y h n z 44 [(0, vR (some o))] [] := by
      intro h n z hk
      exact w_X6_advance_44 X E h n z hk
  obtain ⟨f9, hk⟩ := hk
  exact w_X6_advance_0 X E HH254 f9 h n z hk
theorem s_X6_advance {K : KT} {l : Launch} {o : Nat} {κ : AH → Nat → Nat → Prop} {χ : QxT} {h : AH} {n : Nat} {z : Nat} (hk : P_X6_advance K o κ χ h n z) : Ct K l yX6_advance (ws_ yX6_advance cX6_advance 3 (Option.none : Option Jvm.ClassFile.FieldType)) 12 306 ([vR (some o)].map cV) h n z (QvV κ) χ :=
  ct_of (by decide +kernel) (Nat.le_of_ble_eq_true rfl) (fun Y X E => w_X6_advance X E hk)
set_option maxHeartbeats 4000000 in
theorem w_X6_expect {K : KT} {Y : YT} {o : Nat} {κ : AH → Nat → Nat → Prop} {χ : QxT} (X : XY K "TrailMarkers$Reader" "expect" cX6_expect (Option.none : Option Jvm.ClassFile.FieldType) [] 2 10 283 Y) (E : YE K Y (QvV κ) χ) {h : AH} {n : Nat} {z : Nat} {x1 : Int} (hk : P_X6_expect K o κ χ h n z x1) : G K Y h n z 0 (lv_argsA 0 [vR (some o), vI x1]) [] := by
  show G K Y h n z 0 [(0, vR (some o)), (1, vI x1)] []
  refine r_aload_n X (pc := 0) dX6_expect_0 rfl (q := 0) rfl ?_
  refine r_hGI X (pc := 1) fa_X6_39 dX6_expect_1 hk (fun y6 hk => ?_)
  refine r_iload_n X (pc := 4) dX6_expect_4 rfl (q := 1) rfl ?_
  obtain ⟨b7, b8, hk⟩ := hk
  refine r_icmp_eq X (pc := 5) (tgt := 14) dX6_expect_5 (by decide) ⟨b7, b8⟩ (fun c9 => ?_) (fun c9 => ?_)
  · have hk := hk.1 c9
    exact r_vret X E (pc := 14) dX6_expect_14 ⟨rfl, hk⟩
  · have hk := hk.2 c9
    refine r_aload_n X (pc := 8) dX6_expect_8 rfl (q := 0) rfl ?_
    refine r_iconst X (pc := 9) dX6_expect_9 ?_
    obtain ⟨o21, fs22, e9, b23, hk⟩ := hk
    refine r_callV X (pc := 10) (As := [vI 1]) (st := []) rfl rfl e9 b23 m_X6_63 (fun _ => s_X6_error hk) ⟨by decide, by decide⟩ (Nat.le_of_ble_eq_true rfl) dX6_expect_10 (fun v9 h11 n12 z13 hq => ?_) (fun ci16 q17 h18 n19 z20 hf => ?_)
    · obtain ⟨r10, rfl, hk⟩ := hq
      refine ⟨[vR r10], rfl, ?_⟩
      refine r_hThrow X (pc := 13) dX6_expect_13 hk (fun ci14 q15 hk => ?_)
      exact r_out X E (fun _ h9 => nomatch h9) hk
    · have hk := hf
      exact r_out X E (fun _ h9 => nomatch h9) hk
theorem s_X6_expect {K : KT} {l : Launch} {o : Nat} {κ : AH → Nat → Nat → Prop} {χ : QxT} {h : AH} {n : Nat} {z : Nat} {x1 : Int} (hk : P_X6_expect K o κ χ h n z x1) : Ct K l yX6_expect (ws_ yX6_expect cX6_expect 2 (Option.none : Option Jvm.ClassFile.FieldType)) 10 283 ([vR (some o), vI x1].map cV) h n z (QvV κ) χ :=
  ct_of (by decide +kernel) (Nat.le_of_ble_eq_true rfl) (fun Y X E => w_X6_expect X E hk)
set_option maxHeartbeats 4000000 in
theorem w_X6_group_31 {K : KT} {Y : YT} {fr lo : Nat} {o : Nat} {κ : AH → Nat → Nat → Prop} {χ : QxT} (X : XY K "TrailMarkers$Reader" "group" cX6_group (Option.none : Option Jvm.ClassFile.FieldType) [] 4 fr lo Y) (E : YE K Y (QvV κ) χ) {I : Nat → (AH → Nat → Nat → Prop) → QxT → AH → Nat → Nat → Prop} {frI loI : Nat} (HI : ∀ {o9 : Nat} {κ9 : AH → Nat → Nat → Prop} {χ9 : QxT} {h9 : AH} {n9 z9 : Nat}, I o9 κ9 χ9 h9 n9 z9 → ∀ l : Launch, Ct K l yX6_items (ws_ yX6_items cX6_items 2 (Option.none : Option Jvm.ClassFile.FieldType)) frI loI ([vR (some o9)].map cV) h9 n9 z9 (QvV κ9) χ9) (hR : frI + 1 ≤ fr ∧ loI + 21 ≤ lo ∧ 13 ≤ fr ∧ 328 ≤ lo) {k_60 : AH → Nat → Nat → Prop} (H_60 : ∀ (h : AH) (n : Nat) (z : Nat), k_60 h n z → G K Y h n z 60 [(0, vR (some o))] []) : ∀ (f : Nat) (h : AH) (n : Nat) (z : Nat) (x1 : Int) (x2 : Int) (x3 : Int), L_X6_group_31 K I o k_60 κ χ f h n z x1 x2 x3 → G K Y h n z 31 [(0, vR (some o)), (1, vI x1), (2, vI x2), (3, vI x3)] [] := by
  intro f
  induction f with
  | zero => intro h n z x1 x2 x3 hk; exact hk.elim
  | succ f ih =>
    intro h n z x1 x2 x3 hk
    refine r_iload_n X (pc := 31) dX6_group_31 rfl (q := 3) rfl ?_
    refine r_iload_n X (pc := 32) dX6_group_32 rfl (q := 1) rfl ?_
    obtain ⟨b14, b15, hk⟩ := hk
    refine r_icmp_ge X (pc := 33) (tgt := 60) dX6_group_33 (by decide) ⟨b14, b15⟩ (fun c16 => ?_) (fun c16 => ?_)
    · have hk := hk.2 c16
      refine G.sub [0] rfl ?_
      exact H_60 h n z hk
    · have hk := hk.1 c16
      refine r_aload_n X (pc := 36) dX6_group_36 rfl (q := 0) rfl ?_
      refine r_iload_n X (pc := 37) dX6_group_37 rfl (q := 2) rfl ?_
      refine r_hPut X (pc := 38) fp_X6_25 rfl rfl dX6_group_38 hk (fun h17 hk => ?_)
      refine r_aload_n X (pc := 41) dX6_group_41 rfl (q := 0) rfl ?_
      obtain ⟨o48, fs49, e9, b50, hk⟩ := hk
      refine r_callV X (pc := 42) (As := []) (st := []) rfl rfl e9 b50 m_X6_72 (fun _ => s_X6_advance hk) ⟨by omega, by omega⟩ (Nat.le_of_ble_eq_true rfl) dX6_group_42 (fun v9 h18 n19 z20 hq => ?_) (fun ci43 q44 h45 n46 z47 hf => ?_)
      · obtain ⟨rfl, hk⟩ := hq
        refine ⟨[], rfl, ?_⟩
        refine r_aload_n X (pc := 45) dX6_group_45 rfl (q := 0) rfl ?_
        obtain ⟨o40, fs41, e9, b42, hk⟩ := hk
        refine r_callV X (pc := 46) (As := []) (st := []) rfl rfl e9 b42 m_X6_167 (fun _ => HI hk _) ⟨by omega, by omega⟩ (Nat.le_of_ble_eq_true rfl) dX6_group_46 (fun v9 h21 n22 z23 hq => ?_) (fun ci35 q36 h37 n38 z39 hf => ?_)
        · obtain ⟨rfl, hk⟩ := hq
          refine ⟨[], rfl, ?_⟩
          refine r_aload_n X (pc := 49) dX6_group_49 rfl (q := 0) rfl ?_
          refine r_iconst X (pc := 50) dX6_group_50 ?_
          obtain ⟨o32, fs33, e9, b34, hk⟩ := hk
          refine r_callV X (pc := 51) (As := [vI 4]) (st := []) rfl rfl e9 b34 m_X6_75 (fun _ => s_X6_expect hk) ⟨by omega, by omega⟩ (Nat.le_of_ble_eq_true rfl) dX6_group_51 (fun v9 h24 n25 z26 hq => ?_) (fun ci27 q28 h29 n30 z31 hf => ?_)
          · obtain ⟨rfl, hk⟩ := hq
            refine ⟨[], rfl, ?_⟩
            refine r_iinc X (pc := 54) (q := 3) (lv1 := [(3, vI (x3 + 1)), (0, vR (some o)), (1, vI x1), (2, vI x2)]) dX6_group_54 rfl (by decide) rfl ?_
            refine r_goto X (pc := 57) (tgt := 31) dX6_group_57 (by decide) ?_
            refine G.sub [1, 2, 3, 0] rfl ?_
            exact ih h24 n25 z26 x1 x2 (x3 + 1) hk
          · have hk := hf
            exact r_out X E (fun _ h9 => nomatch h9) hk
        · have hk := hf
          exact r_out X E (fun _ h9 => nomatch h9) hk
      · have hk := hf
        exact r_out X E (fun _ h9 => nomatch h9) hk
set_option maxHeartbeats 4000000 in
theorem w_X6_group_60 {K : KT} {Y : YT} {fr lo : Nat} {o : Nat} {κ : AH → Nat → Nat → Prop} {χ : QxT} (X : XY K "TrailMarkers$Reader" "group" cX6_group (Option.none : Option Jvm.ClassFile.FieldType) [] 4 fr lo Y) (E : YE K Y (QvV κ) χ) {I : Nat → (AH → Nat → Nat → Prop) → QxT → AH → Nat → Nat → Prop} {frI loI : Nat} (HI : ∀ {o9 : Nat} {κ9 : AH → Nat → Nat → Prop} {χ9 : QxT} {h9 : AH} {n9 z9 : Nat}, I o9 κ9 χ9 h9 n9 z9 → ∀ l : Launch, Ct K l yX6_items (ws_ yX6_items cX6_items 2 (Option.none : Option Jvm.ClassFile.FieldType)) frI loI ([vR (some o9)].map cV) h9 n9 z9 (QvV κ9) χ9) (hR : frI + 1 ≤ fr ∧ loI + 21 ≤ lo ∧ 13 ≤ fr ∧ 328 ≤ lo) : ∀ (h : AH) (n : Nat) (z : Nat), P_X6_group_60 K I o κ χ h n z → G K Y h n z 60 [(0, vR (some o))] [] := by
  intro h n z hk
  refine r_aload_n X (pc := 60) dX6_group_60 rfl (q := 0) rfl ?_
  refine r_dup X (pc := 61) dX6_group_61 rfl ?_
  refine r_hGI X (pc := 62) fa_X6_164 dX6_group_62 hk (fun y51 hk => ?_)
  refine r_iconst X (pc := 65) dX6_group_65 ?_
  refine r_isub X (pc := 66) dX6_group_66 ?_
  refine r_hPut X (pc := 67) fp_X6_164 rfl rfl dX6_group_67 hk (fun h52 hk => ?_)
  refine r_aload_n X (pc := 70) dX6_group_70 rfl (q := 0) rfl ?_
  obtain ⟨o61, fs62, e9, b63, hk⟩ := hk
  refine r_callV X (pc := 71) (As := []) (st := []) rfl rfl e9 b63 m_X6_72 (fun _ => s_X6_advance hk) ⟨by omega, by omega⟩ (Nat.le_of_ble_eq_true rfl) dX6_group_71 (fun v9 h53 n54 z55 hq => ?_) (fun ci56 q57 h58 n59 z60 hf => ?_)
  · obtain ⟨rfl, hk⟩ := hq
    refine ⟨[], rfl, ?_⟩
    exact r_vret X E (pc := 74) dX6_group_74 ⟨rfl, hk⟩
  · have hk := hf
    exact r_out X E (fun _ h9 => nomatch h9) hk
set_option maxHeartbeats 4000000 in
theorem w_X6_group {K : KT} {Y : YT} {fr lo : Nat} {o : Nat} {κ : AH → Nat → Nat → Prop} {χ : QxT} (X : XY K "TrailMarkers$Reader" "group" cX6_group (Option.none : Option Jvm.ClassFile.FieldType) [] 4 fr lo Y) (E : YE K Y (QvV κ) χ) {I : Nat → (AH → Nat → Nat → Prop) → QxT → AH → Nat → Nat → Prop} {frI loI : Nat} (HI : ∀ {o9 : Nat} {κ9 : AH → Nat → Nat → Prop} {χ9 : QxT} {h9 : AH} {n9 z9 : Nat}, I o9 κ9 χ9 h9 n9 z9 → ∀ l : Launch, Ct K l yX6_items (ws_ yX6_items cX6_items 2 (Option.none : Option Jvm.ClassFile.FieldType)) frI loI ([vR (some o9)].map cV) h9 n9 z9 (QvV κ9) χ9) (hR : frI + 1 ≤ fr ∧ loI + 21 ≤ lo ∧ 13 ≤ fr ∧ 328 ≤ lo) {h : AH} {n : Nat} {z : Nat} {x1 : Int} (hk : P_X6_group K I o κ χ h n z x1) : G K Y h n z 0 (lv_argsA 0 [vR (some o), vI x1]) [] := by
  show G K Y h n z 0 [(0, vR (some o)), (1, vI x1)] []
  refine r_aload_n X (pc := 0) dX6_group_0 rfl (q := 0) rfl ?_
  refine r_hGI X (pc := 1) fa_X6_164 dX6_group_1 hk (fun y64 hk => ?_)
  refine r_iconst X (pc := 4) dX6_group_4 ?_
  obtain ⟨b65, hk⟩ := hk
  refine r_icmp_ne X (pc := 5) (tgt := 14) dX6_group_5 (by decide) ⟨b65, (by decide)⟩ (fun c66 => ?_) (fun c66 => ?_)
  · have hk := hk.2 c66
    refine r_aload_n X (pc := 14) dX6_group_14 rfl (q := 0) rfl ?_
    refine r_hGI X (pc := 15) fa_X6_25 dX6_group_15 hk (fun y67 hk => ?_)
    refine r_istore_n X (pc := 18) (lv1 := [(2, vI y67), (0, vR (some o)), (1, vI x1)]) dX6_group_18 rfl (by decide) rfl ?_
    refine r_aload_n X (pc := 19) dX6_group_19 rfl (q := 1) rfl ?_
    refine r_dup X (pc := 20) dX6_group_20 rfl ?_
    refine r_hGI X (pc := 21) fa_X6_164 dX6_group_21 hk (fun y68 hk => ?_)
    refine r_iconst X (pc := 24) dX6_group_24 ?_
    refine r_iadd X (pc := 25) dX6_group_25 ?_
    refine r_hPut X (pc := 26) fp_X6_164 rfl rfl dX6_group_26 hk (fun h69 hk => ?_)
    refine r_iconst X (pc := 29) dX6_group_29 ?_
    refine r_istore_n X (pc := 30) (lv1 := [(3, vI 0), (2, vI y67), (0, vR (some o)), (1, vI x1)]) dX6_group_30 rfl (by decide) rfl ?_
    refine G.sub [2, 3, 1, 0] rfl ?_
    have HH70 : ∀ (h : AH) (n : Nat) (z : Nat), (P_X6_group_60 K I o κ χ h n z) → G K Y h n z 60 [(0, vR (some o))] [] := by
        intro h n z hk
        exact w_X6_group_60 X E HI hR h n z hk
    obtain ⟨f9, hk⟩ := hk
    exact w_X6_group_31 X E HI hR HH70 f9 h69 n z x1 y67 0 hk
  · have hk := hk.1 c66
    refine r_aload_n X (pc := 8) dX6_group_8 rfl (q := 0) rfl ?_
    refine r_iconst X (pc := 9) dX6_group_9 ?_
    obtain ⟨o82, fs83, e9, b84, hk⟩ := hk
    refine r_callV X (pc := 10) (As := [vI 4]) (st := []) rfl rfl e9 b84 m_X6_63 (fun _ => s_X6_error hk) ⟨by omega, by omega⟩ (Nat.le_of_ble_eq_true rfl) dX6_group_10 (fun v9 h72 n73 z74 hq => ?_) (fun ci77 q78 h79 n80 z81 hf => ?_)
    · obtain ⟨r71, rfl, hk⟩ := hq
      refine ⟨[vR r71], rfl, ?_⟩
      refine r_hThrow X (pc := 13) dX6_group_13 hk (fun ci75 q76 hk => ?_)
      exact r_out X E (fun _ h9 => nomatch h9) hk
    · have hk := hf
      exact r_out X E (fun _ h9 => nomatch h9) hk
theorem s_X6_group {K : KT} {l : Launch} {fr lo : Nat} {I : Nat → (AH → Nat → Nat → Prop) → QxT → AH → Nat → Nat → Prop} {frI loI : Nat} (HI : ∀ {o9 : Nat} {κ9 : AH → Nat → Nat → Prop} {χ9 : QxT} {h9 : AH} {n9 z9 : Nat}, I o9 κ9 χ9 h9 n9 z9 → ∀ l : Launch, Ct K l yX6_items (ws_ yX6_items cX6_items 2 (Option.none : Option Jvm.ClassFile.FieldType)) frI loI ([vR (some o9)].map cV) h9 n9 z9 (QvV κ9) χ9) (hR : frI + 1 ≤ fr ∧ loI + 21 ≤ lo ∧ 13 ≤ fr ∧ 328 ≤ lo) {o : Nat} {κ : AH → Nat → Nat → Prop} {χ : QxT} {h : AH} {n : Nat} {z : Nat} {x1 : Int} (hk : P_X6_group K I o κ χ h n z x1) : Ct K l yX6_group (ws_ yX6_group cX6_group 4 (Option.none : Option Jvm.ClassFile.FieldType)) fr lo ([vR (some o), vI x1].map cV) h n z (QvV κ) χ :=
  ct_of (by decide +kernel) (Nat.le_of_ble_eq_true rfl) (fun Y X E => w_X6_group X E HI hR hk)
set_option maxHeartbeats 4000000 in
theorem w_X6_directionOfWord_7 {K : KT} {Y : YT} {o : Nat} {κ : Int → AH → Nat → Nat → Prop} {χ : QxT} (X : XY K "TrailMarkers$Reader" "directionOfWord" cX6_directionOfWord (Option.some Jvm.ClassFile.FieldType.int) [] 2 11 304 Y) (E : YE K Y (QvI κ) χ) {k_40 : AH → Nat → Nat → Int → Prop} {k_48 : AH → Nat → Nat → Prop} (H_40 : ∀ (h : AH) (n : Nat) (z : Nat) (x1 : Int), k_40 h n z x1 → G K Y h n z 40 [(0, vR (some o)), (1, vI x1)] []) (H_48 : ∀ (h : AH) (n : Nat) (z : Nat), k_48 h n z → G K Y h n z 48 [(0, vR (some o))] []) : ∀ (f : Nat) (h : AH) (n : Nat) (z : Nat) (x1 : Int), L_X6_directionOfWord_7 K o k_40 k_48 κ χ f h n z x1 → G K Y h n z 7 [(0, vR (some o)), (1, vI x1)] [] := by
  intro f
  induction f with
  | zero => intro h n z x1 hk; exact hk.elim
  | succ f ih =>
    intro h n z x1 hk
    refine r_iload_n X (pc := 7) dX6_directionOfWord_7 rfl (q := 1) rfl ?_
    refine r_iconst X (pc := 8) dX6_directionOfWord_8 ?_
    obtain ⟨b14, hk⟩ := hk
    refine r_icmp_ge X (pc := 9) (tgt := 48) dX6_directionOfWord_9 (by decide) ⟨b14, (by decide)⟩ (fun c15 => ?_) (fun c15 => ?_)
    · have hk := hk.2 c15
      refine G.sub [0] rfl ?_
      exact H_48 h n z hk
    · have hk := hk.1 c15
      refine r_aload_n X (pc := 12) dX6_directionOfWord_12 rfl (q := 0) rfl ?_
      refine r_hGR X (pc := 13) fa_X6_17 dX6_directionOfWord_13 hk (fun y16 hk => ?_)
      obtain ⟨o56, fs57, e9, b58, hk⟩ := hk
      refine r_callV X (pc := 16) (As := []) (st := []) rfl rfl e9 b58 m_X6_208 (fun _ => s_J4_length hk) ⟨by decide, by decide⟩ (Nat.le_of_ble_eq_true rfl) dX6_directionOfWord_16 (fun v9 h18 n19 z20 hq => ?_) (fun ci51 q52 h53 n54 z55 hf => ?_)
      · obtain ⟨r17, rfl, hk⟩ := hq
        refine ⟨[vI r17], rfl, ?_⟩
        refine r_iconst X (pc := 19) dX6_directionOfWord_19 ?_
        obtain ⟨b21, hk⟩ := hk
        refine r_icmp_ne X (pc := 20) (tgt := 42) dX6_directionOfWord_20 (by decide) ⟨b21, (by decide)⟩ (fun c22 => ?_) (fun c22 => ?_)
        · have hk := hk.2 c22
          refine r_iinc X (pc := 42) (q := 1) (lv1 := [(1, vI (x1 + 1)), (0, vR (some o))]) dX6_directionOfWord_42 rfl (by decide) rfl ?_
          refine r_goto X (pc := 45) (tgt := 7) dX6_directionOfWord_45 (by decide) ?_
          refine G.sub [1, 0] rfl ?_
          exact ih h18 n19 z20 (x1 + 1) hk
        · have hk := hk.1 c22
          refine r_aload_n X (pc := 23) dX6_directionOfWord_23 rfl (q := 0) rfl ?_
          refine r_hGR X (pc := 24) fa_X6_17 dX6_directionOfWord_24 hk (fun y23 hk => ?_)
          refine r_iconst X (pc := 27) dX6_directionOfWord_27 ?_
          obtain ⟨o48, fs49, e9, b50, hk⟩ := hk
          refine r_callV X (pc := 28) (As := [vI 0]) (st := []) rfl rfl e9 b50 m_X6_211 (fun _ => s_J4_charAt hk) ⟨by decide, by decide⟩ (Nat.le_of_ble_eq_true rfl) dX6_directionOfWord_28 (fun v9 h25 n26 z27 hq => ?_) (fun ci43 q44 h45 n46 z47 hf => ?_)
          · obtain ⟨r24, rfl, hk⟩ := hq
            refine ⟨[vI r24], rfl, ?_⟩
            refine r_ldcS X (pc := 31) (j := 13) rfl dX6_directionOfWord_31 ?_
            refine r_iload_n X (pc := 33) dX6_directionOfWord_33 rfl (q := 1) rfl ?_
            obtain ⟨o40, fs41, e9, b42, hk⟩ := hk
            refine r_callV X (pc := 34) (As := [vI x1]) (st := [vI r24]) rfl rfl e9 b42 m_X6_211 (fun _ => s_J4_charAt hk) ⟨by decide, by decide⟩ (Nat.le_of_ble_eq_true rfl) dX6_directionOfWord_34 (fun v9 h29 n30 z31 hq => ?_) (fun ci35 q36 h37 n38 z39 hf => ?_)
            · obtain ⟨r28, rfl, hk⟩ := hq
              refine ⟨[vI r28], rfl, ?_⟩
              obtain ⟨b32, b33, hk⟩ := hk
              refine r_icmp_ne X (pc := 37) (tgt := 42) dX6_directionOfWord_37 (by decide) ⟨b32, b33⟩ (fun c34 => ?_) (fun c34 => ?_)
              · have hk := hk.2 c34
                refine r_iinc X (pc := 42) (q := 1) (lv1 := [(1, vI (x1 + 1)), (0, vR (some o))]) dX6_directionOfWord_42 rfl (by decide) rfl ?_
                refine r_goto X (pc := 45) (tgt := 7) dX6_directionOfWord_45 (by decide) ?_
                refine G.sub [1, 0] rfl ?_
                exact ih h29 n30 z31 (x1 + 1) hk
              · have hk := hk.1 c34
                exact H_40 h29 n30 z31 x1 hk
            · have hk := hf
              exact r_out X E (fun _ h9 => nomatch h9) hk
          · have hk := hf
            exact r_out X E (fun _ h9 => nomatch h9) hk
      · have hk := hf
        exact r_out X E (fun _ h9 => nomatch h9) hk
set_option maxHeartbeats 4000000 in
theorem w_X6_directionOfWord_40 {K : KT} {Y : YT} {o : Nat} {κ : Int → AH → Nat → Nat → Prop} {χ : QxT} (X : XY K "TrailMarkers$Reader" "directionOfWord" cX6_directionOfWord (Option.some Jvm.ClassFile.FieldType.int) [] 2 11 304 Y) (E : YE K Y (QvI κ) χ) : ∀ (h : AH) (n : Nat) (z : Nat) (x1 : Int), P_X6_directionOfWord_40 K o κ χ h n z x1 → G K Y h n z 40 [(0, vR (some o)), (1, vI x1)] [] := by
  intro h n z x1 hk
  refine r_iload_n X (pc := 40) dX6_directionOfWord_40 rfl (q := 1) rfl ?_
  exact r_iret X E (pc := 41) dX6_directionOfWord_41 rfl ⟨_, rfl, hk⟩
set_option maxHeartbeats 4000000 in
theorem w_X6_directionOfWord_48 {K : KT} {Y : YT} {o : Nat} {κ : Int → AH → Nat → Nat → Prop} {χ : QxT} (X : XY K "TrailMarkers$Reader" "directionOfWord" cX6_directionOfWord (Option.some Jvm.ClassFile.FieldType.int) [] 2 11 304 Y) (E : YE K Y (QvI κ) χ) : ∀ (h : AH) (n : Nat) (z : Nat), P_X6_directionOfWord_48 K o κ χ h n z → G K Y h n z 48 [(0, vR (some o))] [] := by
  intro h n z hk
  refine r_aload_n X (pc := 48) dX6_directionOfWord_48 rfl (q := 0) rfl ?_
  refine r_iconst X (pc := 49) dX6_directionOfWord_49 ?_
  obtain ⟨o70, fs71, e9, b72, hk⟩ := hk
  refine r_callV X (pc := 50) (As := [vI 1]) (st := []) rfl rfl e9 b72 m_X6_63 (fun _ => s_X6_error hk) ⟨by decide, by decide⟩ (Nat.le_of_ble_eq_true rfl) dX6_directionOfWord_50 (fun v9 h60 n61 z62 hq => ?_) (fun ci65 q66 h67 n68 z69 hf => ?_)
  · obtain ⟨r59, rfl, hk⟩ := hq
    refine ⟨[vR r59], rfl, ?_⟩
    refine r_hThrow X (pc := 53) dX6_directionOfWord_53 hk (fun ci63 q64 hk => ?_)
    exact r_out X E (fun _ h9 => nomatch h9) hk
  · have hk := hf
    exact r_out X E (fun _ h9 => nomatch h9) hk
set_option maxHeartbeats 4000000 in
theorem w_X6_directionOfWord {K : KT} {Y : YT} {o : Nat} {κ : Int → AH → Nat → Nat → Prop} {χ : QxT} (X : XY K "TrailMarkers$Reader" "directionOfWord" cX6_directionOfWord (Option.some Jvm.ClassFile.FieldType.int) [] 2 11 304 Y) (E : YE K Y (QvI κ) χ) {h : AH} {n : Nat} {z : Nat} (hk : P_X6_directionOfWord K o κ χ h n z) : G K Y h n z 0 (lv_argsA 0 [vR (some o)]) [] := by
  show G K Y h n z 0 [(0, vR (some o))] []
  refine r_aload_n X (pc := 0) dX6_directionOfWord_0 rfl (q := 0) rfl ?_
  refine r_iconst X (pc := 1) dX6_directionOfWord_1 ?_
  obtain ⟨o83, fs84, e9, b85, hk⟩ := hk
  refine r_callV X (pc := 2) (As := [vI 0]) (st := []) rfl rfl e9 b85 m_X6_75 (fun _ => s_X6_expect hk) ⟨by decide, by decide⟩ (Nat.le_of_ble_eq_true rfl) dX6_directionOfWord_2 (fun v9 h73 n74 z75 hq => ?_) (fun ci78 q79 h80 n81 z82 hf => ?_)
  · obtain ⟨rfl, hk⟩ := hq
    refine ⟨[], rfl, ?_⟩
    refine r_iconst X (pc := 5) dX6_directionOfWord_5 ?_
    refine r_istore_n X (pc := 6) (lv1 := [(1, vI 0), (0, vR (some o))]) dX6_directionOfWord_6 rfl (by decide) rfl ?_
    refine G.sub [1, 0] rfl ?_
    have HH76 : ∀ (h : AH) (n : Nat) (z : Nat) (x1 : Int), (P_X6_directionOfWord_40 K o κ χ h n z x1) → G K Y h n z 40 [(0, vR (some o)), (1, vI x1)] [] := by
        intro h n z x1 hk
        exact w_X6_directionOfWord_40 X E h n z x1 hk
    have HH77 : ∀ (h : AH) (n : Nat) (z : Nat), (P_X6_directionOfWord_48 K o κ χ h n z) → G K Y h n z 48 [(0, vR (some o))] [] := by
        intro h n z hk
        exact w_X6_directionOfWord_48 X E h n z hk
    obtain ⟨f9, hk⟩ := hk
    exact w_X6_directionOfWord_7 X E HH76 HH77 f9 h73 n74 z75 0 hk
  · have hk := hf
    exact r_out X E (fun _ h9 => nomatch h9) hk
theorem s_X6_directionOfWord {K : KT} {l : Launch} {o : Nat} {κ : Int → AH → Nat → Nat → Prop} {χ : QxT} {h : AH} {n : Nat} {z : Nat} (hk : P_X6_directionOfWord K o κ χ h n z) : Ct K l yX6_directionOfWord (ws_ yX6_directionOfWord cX6_directionOfWord 2 (Option.some Jvm.ClassFile.FieldType.int)) 11 304 ([vR (some o)].map cV) h n z (QvI κ) χ :=
  ct_of (by decide +kernel) (Nat.le_of_ble_eq_true rfl) (fun Y X E => w_X6_directionOfWord X E hk)
set_option maxHeartbeats 4000000 in
theorem w_X6_leg {K : KT} {Y : YT} {o : Nat} {κ : AH → Nat → Nat → Prop} {χ : QxT} (X : XY K "TrailMarkers$Reader" "leg" cX6_leg (Option.none : Option Jvm.ClassFile.FieldType) [] 7 13 328 Y) (E : YE K Y (QvV κ) χ) {h : AH} {n : Nat} {z : Nat} {x1 : Int} (hk : P_X6_leg K o κ χ h n z x1) : G K Y h n z 0 (lv_argsA 0 [vR (some o), vI x1]) [] := by
  show G K Y h n z 0 [(0, vR (some o)), (1, vI x1)] []
  refine r_aload_n X (pc := 0) dX6_leg_0 rfl (q := 0) rfl ?_
  obtain ⟨o137, fs138, e9, b139, hk⟩ := hk
  refine r_callV X (pc := 1) (As := []) (st := []) rfl rfl e9 b139 m_X6_176 (fun _ => s_X6_directionOfWord hk) ⟨by decide, by decide⟩ (Nat.le_of_ble_eq_true rfl) dX6_leg_1 (fun v9 h29 n30 z31 hq => ?_) (fun ci132 q133 h134 n135 z136 hf => ?_)
  · obtain ⟨r28, rfl, hk⟩ := hq
    refine ⟨[vI r28], rfl, ?_⟩
    refine r_istore_n X (pc := 4) (lv1 := [(2, vI r28), (0, vR (some o)), (1, vI x1)]) dX6_leg_4 rfl (by decide) rfl ?_
    refine r_aload_n X (pc := 5) dX6_leg_5 rfl (q := 1) rfl ?_
    refine r_hGR X (pc := 6) fa_X6_21 dX6_leg_6 hk (fun y32 hk => ?_)
    refine r_hGR X (pc := 9) fa_X6_179_X2 dX6_leg_9 hk (fun y33 hk => ?_)
    refine r_aload_n X (pc := 12) dX6_leg_12 rfl (q := 1) rfl ?_
    refine r_hGI X (pc := 13) fa_X6_161 dX6_leg_13 hk (fun y34 hk => ?_)
    refine r_hAR X (pc := 16) (t := 5) rfl dX6_leg_16 hk (fun y35 hk => ?_)
    refine r_astore_n X (pc := 17) (lv1 := [(3, vR y35), (2, vI r28), (0, vR (some o)), (1, vI x1)]) dX6_leg_17 rfl (by decide) rfl ?_
    refine r_aload_n X (pc := 18) dX6_leg_18 rfl (q := 0) rfl ?_
    refine r_hGI X (pc := 19) fa_X6_183_X3 dX6_leg_19 hk (fun y36 hk => ?_)
    refine r_iload_n X (pc := 22) dX6_leg_22 rfl (q := 3) rfl ?_
    refine r_iload_n X (pc := 23) dX6_leg_23 rfl (q := 1) rfl ?_
    refine r_callSN X (pc := 24) (As := [vI r28]) (st := [vI x1, vI y36]) m_X6_186 (fun _ => s_X1_stepX hk) ⟨by decide, by decide⟩ (Nat.le_of_ble_eq_true rfl) dX6_leg_24 (fun v9 h9 n9 z9 hq => ?_) (fun ci9 q9 h9 n9 z9 hf => ?_)
    · obtain ⟨r37, rfl, rfl, rfl, rfl, hk⟩ := hq
      refine ⟨[vI r37], rfl, ?_⟩
      refine r_imul X (pc := 27) dX6_leg_27 ?_
      refine r_iadd X (pc := 28) dX6_leg_28 ?_
      refine r_istore X (pc := 29) (lv1 := [(4, vI (y36 + (x1 * r37))), (3, vR y35), (2, vI r28), (0, vR (some o)), (1, vI x1)]) dX6_leg_29 (by decide) rfl ?_
      refine r_aload_n X (pc := 31) dX6_leg_31 rfl (q := 1) rfl ?_
      refine r_hGI X (pc := 32) fa_X6_190_X3 dX6_leg_32 hk (fun y38 hk => ?_)
      refine r_iload_n X (pc := 35) dX6_leg_35 rfl (q := 4) rfl ?_
      refine r_iload_n X (pc := 36) dX6_leg_36 rfl (q := 2) rfl ?_
      refine r_callSN X (pc := 37) (As := [vI r28]) (st := [vI x1, vI y38]) m_X6_193 (fun _ => s_X1_stepY hk) ⟨by decide, by decide⟩ (Nat.le_of_ble_eq_true rfl) dX6_leg_37 (fun v9 h9 n9 z9 hq => ?_) (fun ci9 q9 h9 n9 z9 hf => ?_)
      · obtain ⟨r39, rfl, rfl, rfl, rfl, hk⟩ := hq
        refine ⟨[vI r39], rfl, ?_⟩
        refine r_imul X (pc := 40) dX6_leg_40 ?_
        refine r_iadd X (pc := 41) dX6_leg_41 ?_
        refine r_istore X (pc := 42) (lv1 := [(5, vI (y38 + (x1 * r39))), (4, vI (y36 + (x1 * r37))), (3, vR y35), (2, vI r28), (0, vR (some o)), (1, vI x1)]) dX6_leg_42 (by decide) rfl ?_
        refine r_aload_n X (pc := 44) dX6_leg_44 rfl (q := 4) rfl ?_
        refine r_hGR X (pc := 45) fa_X6_21 dX6_leg_45 hk (fun y40 hk => ?_)
        refine r_hNew X (pc := 48) nw_X6_152 dX6_leg_48 hk (fun h41 hk => ?_)
        refine r_dup X (pc := 51) dX6_leg_51 rfl ?_
        refine r_iload X (pc := 52) dX6_leg_52 (q := 1) rfl ?_
        refine r_iload X (pc := 54) dX6_leg_54 (q := 0) rfl ?_
        refine r_aload_n X (pc := 56) dX6_leg_56 rfl (q := 2) rfl ?_
        refine r_hGI X (pc := 57) fa_X6_196_X3 dX6_leg_57 hk (fun y42 hk => ?_)
        refine r_iconst X (pc := 60) dX6_leg_60 ?_
        refine r_iconst X (pc := 61) dX6_leg_61 ?_
        refine r_callI X (pc := 62) (As := [vI (y36 + (x1 * r37)), vI (y38 + (x1 * r39)), vI y42, vI 4, vI 0]) (st := [vR (some n30), vR y40]) m_X6_154 (fun _ => s_X3_init hk) ⟨by decide, by decide⟩ (Nat.le_of_ble_eq_true rfl) dX6_leg_62 (fun v9 h43 n44 z45 hq => ?_) (fun ci127 q128 h129 n130 z131 hf => ?_)
        · obtain ⟨rfl, hk⟩ := hq
          refine ⟨[], rfl, ?_⟩
          obtain ⟨o124, fs125, e9, b126, hk⟩ := hk
          refine r_callV X (pc := 65) (As := [vR (some n30)]) (st := []) rfl rfl e9 b126 m_X6_157 (fun _ => s_X2_add hk) ⟨by decide, by decide⟩ (Nat.le_of_ble_eq_true rfl) dX6_leg_65 (fun v9 h47 n48 z49 hq => ?_) (fun ci119 q120 h121 n122 z123 hf => ?_)
          · obtain ⟨r46, rfl, hk⟩ := hq
            refine ⟨[vI r46], rfl, ?_⟩
            refine r_istore X (pc := 68) (lv1 := [(6, vI r46), (5, vI (y38 + (x1 * r39))), (4, vI (y36 + (x1 * r37))), (3, vR y35), (2, vI r28), (0, vR (some o)), (1, vI x1)]) dX6_leg_68 (by decide) rfl ?_
            refine r_aload_n X (pc := 70) dX6_leg_70 rfl (q := 5) rfl ?_
            refine r_hGR X (pc := 71) fa_X6_21 dX6_leg_71 hk (fun y50 hk => ?_)
            refine r_hGR X (pc := 74) fa_X6_179_X2 dX6_leg_74 hk (fun y51 hk => ?_)
            refine r_aload_n X (pc := 77) dX6_leg_77 rfl (q := 5) rfl ?_
            refine r_hGI X (pc := 78) fa_X6_161 dX6_leg_78 hk (fun y52 hk => ?_)
            refine r_aload_n X (pc := 81) dX6_leg_81 rfl (q := 3) rfl ?_
            refine r_iload_n X (pc := 82) dX6_leg_82 rfl (q := 4) rfl ?_
            obtain ⟨o116, fs117, e9, b118, hk⟩ := hk
            refine r_callV X (pc := 83) (As := [vI r28]) (st := [vI y52, vR y51]) rfl rfl e9 b118 m_X6_199 (fun _ => s_X3_turned hk) ⟨by decide, by decide⟩ (Nat.le_of_ble_eq_true rfl) dX6_leg_83 (fun v9 h54 n55 z56 hq => ?_) (fun ci111 q112 h113 n114 z115 hf => ?_)
            · obtain ⟨r53, rfl, hk⟩ := hq
              refine ⟨[vR r53], rfl, ?_⟩
              refine r_hSR X (pc := 86) (t := 5) rfl cos_TrailMarkers_Post_2 dX6_leg_86 hk (fun h57 hk => ?_)
              refine r_aload_n X (pc := 87) dX6_leg_87 rfl (q := 5) rfl ?_
              refine r_iload X (pc := 88) dX6_leg_88 (q := 0) rfl ?_
              refine r_hPut X (pc := 90) fp_X6_161 rfl rfl dX6_leg_90 hk (fun h58 hk => ?_)
              refine r_aload_n X (pc := 93) dX6_leg_93 rfl (q := 5) rfl ?_
              obtain ⟨o108, fs109, e9, b110, hk⟩ := hk
              refine r_callV X (pc := 94) (As := []) (st := []) rfl rfl e9 b110 m_X6_72 (fun _ => s_X6_advance hk) ⟨by decide, by decide⟩ (Nat.le_of_ble_eq_true rfl) dX6_leg_94 (fun v9 h59 n60 z61 hq => ?_) (fun ci103 q104 h105 n106 z107 hf => ?_)
              · obtain ⟨rfl, hk⟩ := hq
                refine ⟨[], rfl, ?_⟩
                refine r_aload_n X (pc := 97) dX6_leg_97 rfl (q := 5) rfl ?_
                refine r_hGI X (pc := 98) fa_X6_39 dX6_leg_98 hk (fun y62 hk => ?_)
                obtain ⟨b63, hk⟩ := hk
                refine r_if_ne X (pc := 101) (tgt := 130) dX6_leg_101 (by decide) b63 (fun c64 => ?_) (fun c64 => ?_)
                · have hk := hk.2 c64
                  exact r_vret X E (pc := 130) dX6_leg_130 ⟨rfl, hk⟩
                · have hk := hk.1 c64
                  refine r_aload_n X (pc := 104) dX6_leg_104 rfl (q := 5) rfl ?_
                  refine r_hGR X (pc := 105) fa_X6_17 dX6_leg_105 hk (fun y65 hk => ?_)
                  refine r_ldcS X (pc := 108) (j := 14) rfl dX6_leg_108 ?_
                  obtain ⟨o100, fs101, e9, b102, hk⟩ := hk
                  refine r_callV X (pc := 110) (As := [vR (some (kl K 14))]) (st := []) rfl rfl e9 b102 m_X6_84 (fun _ => s_J4_equals hk) ⟨by decide, by decide⟩ (Nat.le_of_ble_eq_true rfl) dX6_leg_110 (fun v9 h67 n68 z69 hq => ?_) (fun ci95 q96 h97 n98 z99 hf => ?_)
                  · obtain ⟨r66, rfl, hk⟩ := hq
                    refine ⟨[vI r66], rfl, ?_⟩
                    obtain ⟨b70, hk⟩ := hk
                    refine r_if_eq X (pc := 113) (tgt := 130) dX6_leg_113 (by decide) b70 (fun c71 => ?_) (fun c71 => ?_)
                    · have hk := hk.1 c71
                      exact r_vret X E (pc := 130) dX6_leg_130 ⟨rfl, hk⟩
                    · have hk := hk.2 c71
                      refine r_aload_n X (pc := 116) dX6_leg_116 rfl (q := 5) rfl ?_
                      refine r_hGR X (pc := 117) fa_X6_21 dX6_leg_117 hk (fun y72 hk => ?_)
                      refine r_iload X (pc := 120) dX6_leg_120 (q := 0) rfl ?_
                      refine r_iconst X (pc := 122) dX6_leg_122 ?_
                      obtain ⟨o92, fs93, e9, b94, hk⟩ := hk
                      refine r_callV X (pc := 123) (As := [vI r46, vI 1]) (st := []) rfl rfl e9 b94 m_X6_204 (fun _ => s_X2_change hk) ⟨by decide, by decide⟩ (Nat.le_of_ble_eq_true rfl) dX6_leg_123 (fun v9 h73 n74 z75 hq => ?_) (fun ci87 q88 h89 n90 z91 hf => ?_)
                      · obtain ⟨rfl, hk⟩ := hq
                        refine ⟨[], rfl, ?_⟩
                        refine r_aload_n X (pc := 126) dX6_leg_126 rfl (q := 5) rfl ?_
                        obtain ⟨o84, fs85, e9, b86, hk⟩ := hk
                        refine r_callV X (pc := 127) (As := []) (st := []) rfl rfl e9 b86 m_X6_72 (fun _ => s_X6_advance hk) ⟨by decide, by decide⟩ (Nat.le_of_ble_eq_true rfl) dX6_leg_127 (fun v9 h76 n77 z78 hq => ?_) (fun ci79 q80 h81 n82 z83 hf => ?_)
                        · obtain ⟨rfl, hk⟩ := hq
                          refine ⟨[], rfl, ?_⟩
                          exact r_vret X E (pc := 130) dX6_leg_130 ⟨rfl, hk⟩
                        · have hk := hf
                          exact r_out X E (fun _ h9 => nomatch h9) hk
                      · have hk := hf
                        exact r_out X E (fun _ h9 => nomatch h9) hk
                  · have hk := hf
                    exact r_out X E (fun _ h9 => nomatch h9) hk
              · have hk := hf
                exact r_out X E (fun _ h9 => nomatch h9) hk
            · have hk := hf
              exact r_out X E (fun _ h9 => nomatch h9) hk
          · have hk := hf
            exact r_out X E (fun _ h9 => nomatch h9) hk
        · have hk := hf
          exact r_out X E (fun _ h9 => nomatch h9) hk
      · exact hf.elim
    · exact hf.elim
  · have hk := hf
    exact r_out X E (fun _ h9 => nomatch h9) hk
theorem s_X6_leg {K : KT} {l : Launch} {o : Nat} {κ : AH → Nat → Nat → Prop} {χ : QxT} {h : AH} {n : Nat} {z : Nat} {x1 : Int} (hk : P_X6_leg K o κ χ h n z x1) : Ct K l yX6_leg (ws_ yX6_leg cX6_leg 7 (Option.none : Option Jvm.ClassFile.FieldType)) 13 328 ([vR (some o), vI x1].map cV) h n z (QvV κ) χ :=
  ct_of (by decide +kernel) (Nat.le_of_ble_eq_true rfl) (fun Y X E => w_X6_leg X E hk)
set_option maxHeartbeats 4000000 in
theorem w_X6_needRange {K : KT} {Y : YT} {o : Nat} {κ : AH → Nat → Nat → Prop} {χ : QxT} (X : XY K "TrailMarkers$Reader" "needRange" cX6_needRange (Option.none : Option Jvm.ClassFile.FieldType) [] 3 10 283 Y) (E : YE K Y (QvV κ) χ) {h : AH} {n : Nat} {z : Nat} {x1 : Int} {x2 : Int} (hk : P_X6_needRange K o κ χ h n z x1 x2) : G K Y h n z 0 (lv_argsA 0 [vR (some o), vI x1, vI x2]) [] := by
  show G K Y h n z 0 [(0, vR (some o)), (1, vI x1), (2, vI x2)] []
  refine r_aload_n X (pc := 0) dX6_needRange_0 rfl (q := 0) rfl ?_
  refine r_hGI X (pc := 1) fa_X6_42 dX6_needRange_1 hk (fun y10 hk => ?_)
  refine r_iload_n X (pc := 4) dX6_needRange_4 rfl (q := 1) rfl ?_
  obtain ⟨b11, b12, hk⟩ := hk
  refine r_icmp_lt X (pc := 5) (tgt := 16) dX6_needRange_5 (by decide) ⟨b11, b12⟩ (fun c13 => ?_) (fun c13 => ?_)
  · have hk := hk.1 c13
    refine r_aload_n X (pc := 16) dX6_needRange_16 rfl (q := 0) rfl ?_
    refine r_iconst X (pc := 17) dX6_needRange_17 ?_
    obtain ⟨o25, fs26, e9, b27, hk⟩ := hk
    refine r_callV X (pc := 18) (As := [vI 2]) (st := []) rfl rfl e9 b27 m_X6_63 (fun _ => s_X6_error hk) ⟨by decide, by decide⟩ (Nat.le_of_ble_eq_true rfl) dX6_needRange_18 (fun v9 h15 n16 z17 hq => ?_) (fun ci20 q21 h22 n23 z24 hf => ?_)
    · obtain ⟨r14, rfl, hk⟩ := hq
      refine ⟨[vR r14], rfl, ?_⟩
      refine r_hThrow X (pc := 21) dX6_needRange_21 hk (fun ci18 q19 hk => ?_)
      exact r_out X E (fun _ h9 => nomatch h9) hk
    · have hk := hf
      exact r_out X E (fun _ h9 => nomatch h9) hk
  · have hk := hk.2 c13
    refine r_aload_n X (pc := 8) dX6_needRange_8 rfl (q := 0) rfl ?_
    refine r_hGI X (pc := 9) fa_X6_42 dX6_needRange_9 hk (fun y28 hk => ?_)
    refine r_iload_n X (pc := 12) dX6_needRange_12 rfl (q := 2) rfl ?_
    obtain ⟨b29, b30, hk⟩ := hk
    refine r_icmp_le X (pc := 13) (tgt := 22) dX6_needRange_13 (by decide) ⟨b29, b30⟩ (fun c31 => ?_) (fun c31 => ?_)
    · have hk := hk.2 c31
      exact r_vret X E (pc := 22) dX6_needRange_22 ⟨rfl, hk⟩
    · have hk := hk.1 c31
      refine r_aload_n X (pc := 16) dX6_needRange_16 rfl (q := 0) rfl ?_
      refine r_iconst X (pc := 17) dX6_needRange_17 ?_
      obtain ⟨o43, fs44, e9, b45, hk⟩ := hk
      refine r_callV X (pc := 18) (As := [vI 2]) (st := []) rfl rfl e9 b45 m_X6_63 (fun _ => s_X6_error hk) ⟨by decide, by decide⟩ (Nat.le_of_ble_eq_true rfl) dX6_needRange_18 (fun v9 h33 n34 z35 hq => ?_) (fun ci38 q39 h40 n41 z42 hf => ?_)
      · obtain ⟨r32, rfl, hk⟩ := hq
        refine ⟨[vR r32], rfl, ?_⟩
        refine r_hThrow X (pc := 21) dX6_needRange_21 hk (fun ci36 q37 hk => ?_)
        exact r_out X E (fun _ h9 => nomatch h9) hk
      · have hk := hf
        exact r_out X E (fun _ h9 => nomatch h9) hk
theorem s_X6_needRange {K : KT} {l : Launch} {o : Nat} {κ : AH → Nat → Nat → Prop} {χ : QxT} {h : AH} {n : Nat} {z : Nat} {x1 : Int} {x2 : Int} (hk : P_X6_needRange K o κ χ h n z x1 x2) : Ct K l yX6_needRange (ws_ yX6_needRange cX6_needRange 3 (Option.none : Option Jvm.ClassFile.FieldType)) 10 283 ([vR (some o), vI x1, vI x2].map cV) h n z (QvV κ) χ :=
  ct_of (by decide +kernel) (Nat.le_of_ble_eq_true rfl) (fun Y X E => w_X6_needRange X E hk)
set_option maxHeartbeats 4000000 in
theorem w_X6_items_5 {K : KT} {Y : YT} {fr lo : Nat} {o : Nat} {κ : AH → Nat → Nat → Prop} {χ : QxT} (X : XY K "TrailMarkers$Reader" "items" cX6_items (Option.none : Option Jvm.ClassFile.FieldType) [] 2 fr lo Y) (E : YE K Y (QvV κ) χ) {I : Nat → (AH → Nat → Nat → Prop) → QxT → AH → Nat → Nat → Prop} {frI loI : Nat} (HI : ∀ {o9 : Nat} {κ9 : AH → Nat → Nat → Prop} {χ9 : QxT} {h9 : AH} {n9 z9 : Nat}, I o9 κ9 χ9 h9 n9 z9 → ∀ l : Launch, Ct K l yX6_items (ws_ yX6_items cX6_items 2 (Option.none : Option Jvm.ClassFile.FieldType)) frI loI ([vR (some o9)].map cV) h9 n9 z9 (QvV κ9) χ9) (hR : frI + 2 ≤ fr ∧ loI + 44 ≤ lo ∧ 14 ≤ fr ∧ 354 ≤ lo) {k_53 : AH → Nat → Nat → Prop} (H_53 : ∀ (h : AH) (n : Nat) (z : Nat), k_53 h n z → G K Y h n z 53 [(0, vR (some o))] []) : ∀ (f : Nat) (h : AH) (n : Nat) (z : Nat), L_X6_items_5 K I o k_53 κ χ f h n z → G K Y h n z 5 [(0, vR (some o))] [] := by
  intro f
  induction f with
  | zero => intro h n z hk; exact hk.elim
  | succ f ih =>
    intro h n z hk
    refine r_aload_n X (pc := 5) dX6_items_5 rfl (q := 0) rfl ?_
    refine r_hGI X (pc := 6) fa_X6_39 dX6_items_6 hk (fun y8 hk => ?_)
    refine r_iconst X (pc := 9) dX6_items_9 ?_
    obtain ⟨b9, hk⟩ := hk
    refine r_icmp_ne X (pc := 10) (tgt := 53) dX6_items_10 (by decide) ⟨b9, (by decide)⟩ (fun c10 => ?_) (fun c10 => ?_)
    · have hk := hk.2 c10
      exact H_53 h n z hk
    · have hk := hk.1 c10
      refine r_aload_n X (pc := 13) dX6_items_13 rfl (q := 0) rfl ?_
      refine r_iconst X (pc := 14) dX6_items_14 ?_
      refine r_bipush X (pc := 15) dX6_items_15 (by decide) ?_
      obtain ⟨o56, fs57, e9, b58, hk⟩ := hk
      refine r_callV X (pc := 17) (As := [vI 1, vI 19]) (st := []) rfl rfl e9 b58 m_X6_79 (fun _ => s_X6_needRange hk) ⟨by omega, by omega⟩ (Nat.le_of_ble_eq_true rfl) dX6_items_17 (fun v9 h11 n12 z13 hq => ?_) (fun ci51 q52 h53 n54 z55 hf => ?_)
      · obtain ⟨rfl, hk⟩ := hq
        refine ⟨[], rfl, ?_⟩
        refine r_aload_n X (pc := 20) dX6_items_20 rfl (q := 0) rfl ?_
        refine r_hGI X (pc := 21) fa_X6_42 dX6_items_21 hk (fun y14 hk => ?_)
        refine r_istore_n X (pc := 24) (lv1 := [(1, vI y14), (0, vR (some o))]) dX6_items_24 rfl (by decide) rfl ?_
        refine r_aload_n X (pc := 25) dX6_items_25 rfl (q := 1) rfl ?_
        obtain ⟨o48, fs49, e9, b50, hk⟩ := hk
        refine r_callV X (pc := 26) (As := []) (st := []) rfl rfl e9 b50 m_X6_72 (fun _ => s_X6_advance hk) ⟨by omega, by omega⟩ (Nat.le_of_ble_eq_true rfl) dX6_items_26 (fun v9 h15 n16 z17 hq => ?_) (fun ci43 q44 h45 n46 z47 hf => ?_)
        · obtain ⟨rfl, hk⟩ := hq
          refine ⟨[], rfl, ?_⟩
          refine r_aload_n X (pc := 29) dX6_items_29 rfl (q := 1) rfl ?_
          refine r_hGI X (pc := 30) fa_X6_39 dX6_items_30 hk (fun y18 hk => ?_)
          refine r_iconst X (pc := 33) dX6_items_33 ?_
          obtain ⟨b19, hk⟩ := hk
          refine r_icmp_ne X (pc := 34) (tgt := 45) dX6_items_34 (by decide) ⟨b19, (by decide)⟩ (fun c20 => ?_) (fun c20 => ?_)
          · have hk := hk.2 c20
            refine r_aload_n X (pc := 45) dX6_items_45 rfl (q := 1) rfl ?_
            refine r_iload_n X (pc := 46) dX6_items_46 rfl (q := 0) rfl ?_
            obtain ⟨o29, fs30, e9, b31, hk⟩ := hk
            refine r_callV X (pc := 47) (As := [vI y14]) (st := []) rfl rfl e9 b31 m_X6_173 (fun _ => s_X6_leg hk) ⟨by omega, by omega⟩ (Nat.le_of_ble_eq_true rfl) dX6_items_47 (fun v9 h21 n22 z23 hq => ?_) (fun ci24 q25 h26 n27 z28 hf => ?_)
            · obtain ⟨rfl, hk⟩ := hq
              refine ⟨[], rfl, ?_⟩
              refine r_goto X (pc := 50) (tgt := 5) dX6_items_50 (by decide) ?_
              refine G.sub [1] rfl ?_
              exact ih h21 n22 z23 hk
            · have hk := hf
              exact r_out X E (fun _ h9 => nomatch h9) hk
          · have hk := hk.1 c20
            refine r_aload_n X (pc := 37) dX6_items_37 rfl (q := 1) rfl ?_
            refine r_iload_n X (pc := 38) dX6_items_38 rfl (q := 0) rfl ?_
            obtain ⟨o40, fs41, e9, b42, hk⟩ := hk
            refine r_callV X (pc := 39) (As := [vI y14]) (st := []) rfl rfl e9 b42 m_X6_170 (fun _ => s_X6_group (fr := fr - 1) (lo := lo - 23) HI (by omega) hk) ⟨by omega, by omega⟩ (Nat.le_of_ble_eq_true rfl) dX6_items_39 (fun v9 h32 n33 z34 hq => ?_) (fun ci35 q36 h37 n38 z39 hf => ?_)
            · obtain ⟨rfl, hk⟩ := hq
              refine ⟨[], rfl, ?_⟩
              refine r_goto X (pc := 42) (tgt := 50) dX6_items_42 (by decide) ?_
              refine r_goto X (pc := 50) (tgt := 5) dX6_items_50 (by decide) ?_
              refine G.sub [1] rfl ?_
              exact ih h32 n33 z34 hk
            · have hk := hf
              exact r_out X E (fun _ h9 => nomatch h9) hk
        · have hk := hf
          exact r_out X E (fun _ h9 => nomatch h9) hk
      · have hk := hf
        exact r_out X E (fun _ h9 => nomatch h9) hk
set_option maxHeartbeats 4000000 in
theorem w_X6_items_53 {K : KT} {Y : YT} {fr lo : Nat} {o : Nat} {κ : AH → Nat → Nat → Prop} {χ : QxT} (X : XY K "TrailMarkers$Reader" "items" cX6_items (Option.none : Option Jvm.ClassFile.FieldType) [] 2 fr lo Y) (E : YE K Y (QvV κ) χ) {I : Nat → (AH → Nat → Nat → Prop) → QxT → AH → Nat → Nat → Prop} {frI loI : Nat} (HI : ∀ {o9 : Nat} {κ9 : AH → Nat → Nat → Prop} {χ9 : QxT} {h9 : AH} {n9 z9 : Nat}, I o9 κ9 χ9 h9 n9 z9 → ∀ l : Launch, Ct K l yX6_items (ws_ yX6_items cX6_items 2 (Option.none : Option Jvm.ClassFile.FieldType)) frI loI ([vR (some o9)].map cV) h9 n9 z9 (QvV κ9) χ9) (hR : frI + 2 ≤ fr ∧ loI + 44 ≤ lo ∧ 14 ≤ fr ∧ 354 ≤ lo) : ∀ (h : AH) (n : Nat) (z : Nat), P_X6_items_53 K I o κ χ h n z → G K Y h n z 53 [(0, vR (some o))] [] := by
  intro h n z hk
  exact r_vret X E (pc := 53) dX6_items_53 ⟨rfl, hk⟩
set_option maxHeartbeats 4000000 in
theorem w_X6_items {K : KT} {Y : YT} {fr lo : Nat} {o : Nat} {κ : AH → Nat → Nat → Prop} {χ : QxT} (X : XY K "TrailMarkers$Reader" "items" cX6_items (Option.none : Option Jvm.ClassFile.FieldType) [] 2 fr lo Y) (E : YE K Y (QvV κ) χ) {I : Nat → (AH → Nat → Nat → Prop) → QxT → AH → Nat → Nat → Prop} {frI loI : Nat} (HI : ∀ {o9 : Nat} {κ9 : AH → Nat → Nat → Prop} {χ9 : QxT} {h9 : AH} {n9 z9 : Nat}, I o9 κ9 χ9 h9 n9 z9 → ∀ l : Launch, Ct K l yX6_items (ws_ yX6_items cX6_items 2 (Option.none : Option Jvm.ClassFile.FieldType)) frI loI ([vR (some o9)].map cV) h9 n9 z9 (QvV κ9) χ9) (hR : frI + 2 ≤ fr ∧ loI + 44 ≤ lo ∧ 14 ≤ fr ∧ 354 ≤ lo) {h : AH} {n : Nat} {z : Nat} (hk : P_X6_items K I o κ χ h n z) : G K Y h n z 0 (lv_argsA 0 [vR (some o)]) [] := by
  show G K Y h n z 0 [(0, vR (some o))] []
  refine r_aload_n X (pc := 0) dX6_items_0 rfl (q := 0) rfl ?_
  refine r_iconst X (pc := 1) dX6_items_1 ?_
  obtain ⟨o68, fs69, e9, b70, hk⟩ := hk
  refine r_callV X (pc := 2) (As := [vI 1]) (st := []) rfl rfl e9 b70 m_X6_75 (fun _ => s_X6_expect hk) ⟨by omega, by omega⟩ (Nat.le_of_ble_eq_true rfl) dX6_items_2 (fun v9 h59 n60 z61 hq => ?_) (fun ci63 q64 h65 n66 z67 hf => ?_)
  · obtain ⟨rfl, hk⟩ := hq
    refine ⟨[], rfl, ?_⟩
    have HH62 : ∀ (h : AH) (n : Nat) (z : Nat), (P_X6_items_53 K I o κ χ h n z) → G K Y h n z 53 [(0, vR (some o))] [] := by
        intro h n z hk
        exact w_X6_items_53 X E HI hR h n z hk
    obtain ⟨f9, hk⟩ := hk
    exact w_X6_items_5 X E HI hR HH62 f9 h59 n60 z61 hk
  · have hk := hf
    exact r_out X E (fun _ h9 => nomatch h9) hk
theorem s_X6_items {K : KT} {l : Launch} {fr lo : Nat} {I : Nat → (AH → Nat → Nat → Prop) → QxT → AH → Nat → Nat → Prop} {frI loI : Nat} (HI : ∀ {o9 : Nat} {κ9 : AH → Nat → Nat → Prop} {χ9 : QxT} {h9 : AH} {n9 z9 : Nat}, I o9 κ9 χ9 h9 n9 z9 → ∀ l : Launch, Ct K l yX6_items (ws_ yX6_items cX6_items 2 (Option.none : Option Jvm.ClassFile.FieldType)) frI loI ([vR (some o9)].map cV) h9 n9 z9 (QvV κ9) χ9) (hR : frI + 2 ≤ fr ∧ loI + 44 ≤ lo ∧ 14 ≤ fr ∧ 354 ≤ lo) {o : Nat} {κ : AH → Nat → Nat → Prop} {χ : QxT} {h : AH} {n : Nat} {z : Nat} (hk : P_X6_items K I o κ χ h n z) : Ct K l yX6_items (ws_ yX6_items cX6_items 2 (Option.none : Option Jvm.ClassFile.FieldType)) fr lo ([vR (some o)].map cV) h n z (QvV κ) χ :=
  ct_of (by decide +kernel) (Nat.le_of_ble_eq_true rfl) (fun Y X E => w_X6_items X E HI hR hk)
theorem s_X6_itemsD {K : KT} : ∀ (d : Nat) {o : Nat} {κ : AH → Nat → Nat → Prop} {χ : QxT} {h : AH} {n z : Nat}, P_X6_itemsD K d o κ χ h n z → ∀ l : Launch, Ct K l yX6_items (ws_ yX6_items cX6_items 2 (Option.none : Option Jvm.ClassFile.FieldType)) (14 + 2 * d) (398 + 44 * d) ([vR (some o)].map cV) h n z (QvV κ) χ := by
  intro d
  induction d with
  | zero => intro o κ χ h n z hk; exact hk.elim
  | succ d ih => intro o κ χ h n z hk l; exact s_X6_items (frI := 14 + 2 * d) (loI := 398 + 44 * d) ih ⟨by omega, by omega, by omega, by omega⟩ hk
theorem s_X6_itemsC {K : KT} {l : Launch} {o : Nat} {κ : AH → Nat → Nat → Prop} {χ : QxT} {h : AH} {n z : Nat} (hk : P_X6_itemsC K o κ χ h n z) : Ct K l yX6_items (ws_ yX6_items cX6_items 2 (Option.none : Option Jvm.ClassFile.FieldType)) (26) (662) ([vR (some o)].map cV) h n z (QvV κ) χ := s_X6_itemsD 6 hk l
set_option maxHeartbeats 4000000 in
theorem w_X6_init {K : KT} {Y : YT} {o : Nat} {κ : AH → Nat → Nat → Prop} {χ : QxT} (X : XY K "TrailMarkers$Reader" "<init>" cX6_init none [] 3 1 60 Y) (E : YE K Y (QvV κ) χ) {h : AH} {n : Nat} {z : Nat} {x1 : Option Nat} {x2 : Option Nat} (hk : P_X6_init K o κ χ h n z x1 x2) : G K Y h n z 0 (lv_argsA 0 [vR (some o), vR x1, vR x2]) [] := by
  show G K Y h n z 0 [(0, vR (some o)), (1, vR x1), (2, vR x2)] []
  refine r_aload_n X (pc := 0) dX6_init_0 rfl (q := 0) rfl ?_
  refine r_aload_n X (pc := 1) dX6_init_1 rfl (q := 1) rfl ?_
  refine r_hPutF X (pc := 2) fp_X6_3 rfl (fit_ref x1).1 (fit_ref x1).2 dX6_init_2 hk (fun h4 hk => ?_)
  refine r_aload_n X (pc := 5) dX6_init_5 rfl (q := 0) rfl ?_
  refine r_objinit X (pc := 6) q472 q203 q204 ⟨by decide, Nat.le_of_ble_eq_true rfl⟩ dX6_init_6 ?_
  refine r_aload_n X (pc := 9) dX6_init_9 rfl (q := 0) rfl ?_
  refine r_ldcS X (pc := 10) (j := 1) rfl dX6_init_10 ?_
  refine r_hPut X (pc := 12) fp_X6_17 (fit_ref (some (kl K 1))).1 (fit_ref (some (kl K 1))).2 dX6_init_12 hk (fun h5 hk => ?_)
  refine r_aload_n X (pc := 15) dX6_init_15 rfl (q := 0) rfl ?_
  refine r_aload_n X (pc := 16) dX6_init_16 rfl (q := 2) rfl ?_
  refine r_hPut X (pc := 17) fp_X6_21 (fit_ref x2).1 (fit_ref x2).2 dX6_init_17 hk (fun h6 hk => ?_)
  exact r_vret X E (pc := 20) dX6_init_20 ⟨rfl, hk⟩
theorem s_X6_init {K : KT} {l : Launch} {o : Nat} {κ : AH → Nat → Nat → Prop} {χ : QxT} {h : AH} {n : Nat} {z : Nat} {x1 : Option Nat} {x2 : Option Nat} (hk : P_X6_init K o κ χ h n z x1 x2) : Ct K l yX6_init (ws_ yX6_init cX6_init 3 none) 1 60 ([vR (some o), vR x1, vR x2].map cV) h n z (QvV κ) χ :=
  ct_of (by decide +kernel) (Nat.le_of_ble_eq_true rfl) (fun Y X E => w_X6_init X E hk)
set_option maxHeartbeats 4000000 in
theorem w_X6_number {K : KT} {Y : YT} {o : Nat} {κ : Int → AH → Nat → Nat → Prop} {χ : QxT} (X : XY K "TrailMarkers$Reader" "number" cX6_number (Option.some Jvm.ClassFile.FieldType.int) [] 3 13 328 Y) (E : YE K Y (QvI κ) χ) {h : AH} {n : Nat} {z : Nat} {x1 : Int} {x2 : Int} (hk : P_X6_number K o κ χ h n z x1 x2) : G K Y h n z 0 (lv_argsA 0 [vR (some o), vI x1, vI x2]) [] := by
  show G K Y h n z 0 [(0, vR (some o)), (1, vI x1), (2, vI x2)] []
  refine r_aload_n X (pc := 0) dX6_number_0 rfl (q := 0) rfl ?_
  obtain ⟨o33, fs34, e9, b35, hk⟩ := hk
  refine r_callV X (pc := 1) (As := []) (st := []) rfl rfl e9 b35 m_X6_72 (fun _ => s_X6_advance hk) ⟨by decide, by decide⟩ (Nat.le_of_ble_eq_true rfl) dX6_number_1 (fun v9 h2 n3 z4 hq => ?_) (fun ci28 q29 h30 n31 z32 hf => ?_)
  · obtain ⟨rfl, hk⟩ := hq
    refine ⟨[], rfl, ?_⟩
    refine r_aload_n X (pc := 4) dX6_number_4 rfl (q := 0) rfl ?_
    refine r_iconst X (pc := 5) dX6_number_5 ?_
    obtain ⟨o25, fs26, e9, b27, hk⟩ := hk
    refine r_callV X (pc := 6) (As := [vI 1]) (st := []) rfl rfl e9 b27 m_X6_75 (fun _ => s_X6_expect hk) ⟨by decide, by decide⟩ (Nat.le_of_ble_eq_true rfl) dX6_number_6 (fun v9 h5 n6 z7 hq => ?_) (fun ci20 q21 h22 n23 z24 hf => ?_)
    · obtain ⟨rfl, hk⟩ := hq
      refine ⟨[], rfl, ?_⟩
      refine r_aload_n X (pc := 9) dX6_number_9 rfl (q := 0) rfl ?_
      refine r_iload_n X (pc := 10) dX6_number_10 rfl (q := 1) rfl ?_
      refine r_iload_n X (pc := 11) dX6_number_11 rfl (q := 2) rfl ?_
      obtain ⟨o17, fs18, e9, b19, hk⟩ := hk
      refine r_callV X (pc := 12) (As := [vI x1, vI x2]) (st := []) rfl rfl e9 b19 m_X6_79 (fun _ => s_X6_needRange hk) ⟨by decide, by decide⟩ (Nat.le_of_ble_eq_true rfl) dX6_number_12 (fun v9 h8 n9 z10 hq => ?_) (fun ci12 q13 h14 n15 z16 hf => ?_)
      · obtain ⟨rfl, hk⟩ := hq
        refine ⟨[], rfl, ?_⟩
        refine r_aload_n X (pc := 15) dX6_number_15 rfl (q := 0) rfl ?_
        refine r_hGI X (pc := 16) fa_X6_42 dX6_number_16 hk (fun y11 hk => ?_)
        exact r_iret X E (pc := 19) dX6_number_19 rfl ⟨_, rfl, hk⟩
      · have hk := hf
        exact r_out X E (fun _ h9 => nomatch h9) hk
    · have hk := hf
      exact r_out X E (fun _ h9 => nomatch h9) hk
  · have hk := hf
    exact r_out X E (fun _ h9 => nomatch h9) hk
theorem s_X6_number {K : KT} {l : Launch} {o : Nat} {κ : Int → AH → Nat → Nat → Prop} {χ : QxT} {h : AH} {n : Nat} {z : Nat} {x1 : Int} {x2 : Int} (hk : P_X6_number K o κ χ h n z x1 x2) : Ct K l yX6_number (ws_ yX6_number cX6_number 3 (Option.some Jvm.ClassFile.FieldType.int)) 13 328 ([vR (some o), vI x1, vI x2].map cV) h n z (QvI κ) χ :=
  ct_of (by decide +kernel) (Nat.le_of_ble_eq_true rfl) (fun Y X E => w_X6_number X E hk)
set_option maxHeartbeats 4000000 in
theorem w_X6_head {K : KT} {Y : YT} {o : Nat} {κ : Option Nat → AH → Nat → Nat → Prop} {χ : QxT} (X : XY K "TrailMarkers$Reader" "head" cX6_head (Option.some (Jvm.ClassFile.FieldType.object "TrailMarkers$Trails")) [] 4 14 350 Y) (E : YE K Y (QvR κ) χ) {h : AH} {n : Nat} {z : Nat} (hk : P_X6_head K o κ χ h n z) : G K Y h n z 0 (lv_argsA 0 [vR (some o)]) [] := by
  show G K Y h n z 0 [(0, vR (some o))] []
  refine r_aload_n X (pc := 0) dX6_head_0 rfl (q := 0) rfl ?_
  obtain ⟨o153, fs154, e9, b155, hk⟩ := hk
  refine r_callV X (pc := 1) (As := []) (st := []) rfl rfl e9 b155 m_X6_72 (fun _ => s_X6_advance hk) ⟨by decide, by decide⟩ (Nat.le_of_ble_eq_true rfl) dX6_head_1 (fun v9 h13 n14 z15 hq => ?_) (fun ci148 q149 h150 n151 z152 hf => ?_)
  · obtain ⟨rfl, hk⟩ := hq
    refine ⟨[], rfl, ?_⟩
    refine r_aload_n X (pc := 4) dX6_head_4 rfl (q := 0) rfl ?_
    refine r_iconst X (pc := 5) dX6_head_5 ?_
    obtain ⟨o145, fs146, e9, b147, hk⟩ := hk
    refine r_callV X (pc := 6) (As := [vI 0]) (st := []) rfl rfl e9 b147 m_X6_75 (fun _ => s_X6_expect hk) ⟨by decide, by decide⟩ (Nat.le_of_ble_eq_true rfl) dX6_head_6 (fun v9 h16 n17 z18 hq => ?_) (fun ci140 q141 h142 n143 z144 hf => ?_)
    · obtain ⟨rfl, hk⟩ := hq
      refine ⟨[], rfl, ?_⟩
      refine r_aload_n X (pc := 9) dX6_head_9 rfl (q := 0) rfl ?_
      refine r_hGR X (pc := 10) fa_X6_17 dX6_head_10 hk (fun y19 hk => ?_)
      refine r_ldcS X (pc := 13) (j := 2) rfl dX6_head_13 ?_
      obtain ⟨o137, fs138, e9, b139, hk⟩ := hk
      refine r_callV X (pc := 15) (As := [vR (some (kl K 2))]) (st := []) rfl rfl e9 b139 m_X6_84 (fun _ => s_J4_equals hk) ⟨by decide, by decide⟩ (Nat.le_of_ble_eq_true rfl) dX6_head_15 (fun v9 h21 n22 z23 hq => ?_) (fun ci132 q133 h134 n135 z136 hf => ?_)
      · obtain ⟨r20, rfl, hk⟩ := hq
        refine ⟨[vI r20], rfl, ?_⟩
        obtain ⟨b24, hk⟩ := hk
        refine r_if_ne X (pc := 18) (tgt := 27) dX6_head_18 (by decide) b24 (fun c25 => ?_) (fun c25 => ?_)
        · have hk := hk.2 c25
          refine r_aload_n X (pc := 27) dX6_head_27 rfl (q := 0) rfl ?_
          refine r_iconst X (pc := 28) dX6_head_28 ?_
          refine r_bipush X (pc := 29) dX6_head_29 (by decide) ?_
          obtain ⟨o115, fs116, e9, b117, hk⟩ := hk
          refine r_callV X (pc := 31) (As := [vI 4, vI 20]) (st := []) rfl rfl e9 b117 m_X6_90 (fun _ => s_X6_number hk) ⟨by decide, by decide⟩ (Nat.le_of_ble_eq_true rfl) dX6_head_31 (fun v9 h27 n28 z29 hq => ?_) (fun ci110 q111 h112 n113 z114 hf => ?_)
          · obtain ⟨r26, rfl, hk⟩ := hq
            refine ⟨[vI r26], rfl, ?_⟩
            refine r_istore_n X (pc := 34) (lv1 := [(1, vI r26), (0, vR (some o))]) dX6_head_34 rfl (by decide) rfl ?_
            refine r_aload_n X (pc := 35) dX6_head_35 rfl (q := 1) rfl ?_
            refine r_iconst X (pc := 36) dX6_head_36 ?_
            refine r_bipush X (pc := 37) dX6_head_37 (by decide) ?_
            obtain ⟨o107, fs108, e9, b109, hk⟩ := hk
            refine r_callV X (pc := 39) (As := [vI 4, vI 20]) (st := []) rfl rfl e9 b109 m_X6_90 (fun _ => s_X6_number hk) ⟨by decide, by decide⟩ (Nat.le_of_ble_eq_true rfl) dX6_head_39 (fun v9 h31 n32 z33 hq => ?_) (fun ci102 q103 h104 n105 z106 hf => ?_)
            · obtain ⟨r30, rfl, hk⟩ := hq
              refine ⟨[vI r30], rfl, ?_⟩
              refine r_istore_n X (pc := 42) (lv1 := [(2, vI r30), (1, vI r26), (0, vR (some o))]) dX6_head_42 rfl (by decide) rfl ?_
              refine r_aload_n X (pc := 43) dX6_head_43 rfl (q := 2) rfl ?_
              refine r_iconst X (pc := 44) dX6_head_44 ?_
              refine r_bipush X (pc := 45) dX6_head_45 (by decide) ?_
              obtain ⟨o99, fs100, e9, b101, hk⟩ := hk
              refine r_callV X (pc := 47) (As := [vI 1, vI 12]) (st := []) rfl rfl e9 b101 m_X6_90 (fun _ => s_X6_number hk) ⟨by decide, by decide⟩ (Nat.le_of_ble_eq_true rfl) dX6_head_47 (fun v9 h35 n36 z37 hq => ?_) (fun ci94 q95 h96 n97 z98 hf => ?_)
              · obtain ⟨r34, rfl, hk⟩ := hq
                refine ⟨[vI r34], rfl, ?_⟩
                refine r_istore_n X (pc := 50) (lv1 := [(3, vI r34), (2, vI r30), (1, vI r26), (0, vR (some o))]) dX6_head_50 rfl (by decide) rfl ?_
                refine r_aload_n X (pc := 51) dX6_head_51 rfl (q := 3) rfl ?_
                refine r_hNew X (pc := 52) nw_X6_93 dX6_head_52 hk (fun h38 hk => ?_)
                refine r_dup X (pc := 55) dX6_head_55 rfl ?_
                refine r_iload_n X (pc := 56) dX6_head_56 rfl (q := 2) rfl ?_
                refine r_iload_n X (pc := 57) dX6_head_57 rfl (q := 1) rfl ?_
                refine r_iload_n X (pc := 58) dX6_head_58 rfl (q := 0) rfl ?_
                refine r_aload_n X (pc := 59) dX6_head_59 rfl (q := 3) rfl ?_
                refine r_iconst X (pc := 60) dX6_head_60 ?_
                refine r_iconst X (pc := 61) dX6_head_61 ?_
                obtain ⟨o91, fs92, e9, b93, hk⟩ := hk
                refine r_callV X (pc := 62) (As := [vI 0, vI 2]) (st := [vI r34, vI r30, vI r26, vR (some n36), vR (some n36), vR (some o)]) rfl rfl e9 b93 m_X6_90 (fun _ => s_X6_number hk) ⟨by decide, by decide⟩ (Nat.le_of_ble_eq_true rfl) dX6_head_62 (fun v9 h40 n41 z42 hq => ?_) (fun ci86 q87 h88 n89 z90 hf => ?_)
                · obtain ⟨r39, rfl, hk⟩ := hq
                  refine ⟨[vI r39], rfl, ?_⟩
                  refine r_callI X (pc := 65) (As := [vI r26, vI r30, vI r34, vI r39]) (st := [vR (some n36), vR (some o)]) m_X6_95 (fun _ => s_X2_init hk) ⟨by decide, by decide⟩ (Nat.le_of_ble_eq_true rfl) dX6_head_65 (fun v9 h43 n44 z45 hq => ?_) (fun ci81 q82 h83 n84 z85 hf => ?_)
                  · obtain ⟨rfl, hk⟩ := hq
                    refine ⟨[], rfl, ?_⟩
                    refine r_hPut X (pc := 68) fp_X6_21 (fit_ref (some n36)).1 (fit_ref (some n36)).2 dX6_head_68 hk (fun h46 hk => ?_)
                    refine r_aload_n X (pc := 71) dX6_head_71 rfl (q := 3) rfl ?_
                    obtain ⟨o78, fs79, e9, b80, hk⟩ := hk
                    refine r_callV X (pc := 72) (As := []) (st := []) rfl rfl e9 b80 m_X6_72 (fun _ => s_X6_advance hk) ⟨by decide, by decide⟩ (Nat.le_of_ble_eq_true rfl) dX6_head_72 (fun v9 h47 n48 z49 hq => ?_) (fun ci73 q74 h75 n76 z77 hf => ?_)
                    · obtain ⟨rfl, hk⟩ := hq
                      refine ⟨[], rfl, ?_⟩
                      refine r_aload_n X (pc := 75) dX6_head_75 rfl (q := 3) rfl ?_
                      refine r_iconst X (pc := 76) dX6_head_76 ?_
                      obtain ⟨o70, fs71, e9, b72, hk⟩ := hk
                      refine r_callV X (pc := 77) (As := [vI 2]) (st := []) rfl rfl e9 b72 m_X6_75 (fun _ => s_X6_expect hk) ⟨by decide, by decide⟩ (Nat.le_of_ble_eq_true rfl) dX6_head_77 (fun v9 h50 n51 z52 hq => ?_) (fun ci65 q66 h67 n68 z69 hf => ?_)
                      · obtain ⟨rfl, hk⟩ := hq
                        refine ⟨[], rfl, ?_⟩
                        refine r_aload_n X (pc := 80) dX6_head_80 rfl (q := 3) rfl ?_
                        obtain ⟨o62, fs63, e9, b64, hk⟩ := hk
                        refine r_callV X (pc := 81) (As := []) (st := []) rfl rfl e9 b64 m_X6_72 (fun _ => s_X6_advance hk) ⟨by decide, by decide⟩ (Nat.le_of_ble_eq_true rfl) dX6_head_81 (fun v9 h53 n54 z55 hq => ?_) (fun ci57 q58 h59 n60 z61 hf => ?_)
                        · obtain ⟨rfl, hk⟩ := hq
                          refine ⟨[], rfl, ?_⟩
                          refine r_aload_n X (pc := 84) dX6_head_84 rfl (q := 3) rfl ?_
                          refine r_hGR X (pc := 85) fa_X6_21 dX6_head_85 hk (fun y56 hk => ?_)
                          exact r_aret X E (Or.inl ⟨_, rfl⟩) (pc := 88) dX6_head_88 ⟨_, rfl, hk⟩
                        · have hk := hf
                          exact r_out X E (fun _ h9 => nomatch h9) hk
                      · have hk := hf
                        exact r_out X E (fun _ h9 => nomatch h9) hk
                    · have hk := hf
                      exact r_out X E (fun _ h9 => nomatch h9) hk
                  · have hk := hf
                    exact r_out X E (fun _ h9 => nomatch h9) hk
                · have hk := hf
                  exact r_out X E (fun _ h9 => nomatch h9) hk
              · have hk := hf
                exact r_out X E (fun _ h9 => nomatch h9) hk
            · have hk := hf
              exact r_out X E (fun _ h9 => nomatch h9) hk
          · have hk := hf
            exact r_out X E (fun _ h9 => nomatch h9) hk
        · have hk := hk.1 c25
          refine r_aload_n X (pc := 21) dX6_head_21 rfl (q := 0) rfl ?_
          refine r_iconst X (pc := 22) dX6_head_22 ?_
          obtain ⟨o129, fs130, e9, b131, hk⟩ := hk
          refine r_callV X (pc := 23) (As := [vI 1]) (st := []) rfl rfl e9 b131 m_X6_63 (fun _ => s_X6_error hk) ⟨by decide, by decide⟩ (Nat.le_of_ble_eq_true rfl) dX6_head_23 (fun v9 h119 n120 z121 hq => ?_) (fun ci124 q125 h126 n127 z128 hf => ?_)
          · obtain ⟨r118, rfl, hk⟩ := hq
            refine ⟨[vR r118], rfl, ?_⟩
            refine r_hThrow X (pc := 26) dX6_head_26 hk (fun ci122 q123 hk => ?_)
            exact r_out X E (fun _ h9 => nomatch h9) hk
          · have hk := hf
            exact r_out X E (fun _ h9 => nomatch h9) hk
      · have hk := hf
        exact r_out X E (fun _ h9 => nomatch h9) hk
    · have hk := hf
      exact r_out X E (fun _ h9 => nomatch h9) hk
  · have hk := hf
    exact r_out X E (fun _ h9 => nomatch h9) hk
theorem s_X6_head {K : KT} {l : Launch} {o : Nat} {κ : Option Nat → AH → Nat → Nat → Prop} {χ : QxT} {h : AH} {n : Nat} {z : Nat} (hk : P_X6_head K o κ χ h n z) : Ct K l yX6_head (ws_ yX6_head cX6_head 4 (Option.some (Jvm.ClassFile.FieldType.object "TrailMarkers$Trails"))) 14 350 ([vR (some o)].map cV) h n z (QvR κ) χ :=
  ct_of (by decide +kernel) (Nat.le_of_ble_eq_true rfl) (fun Y X E => w_X6_head X E hk)
set_option maxHeartbeats 4000000 in
theorem w_X6_colourWord_117 {K : KT} {Y : YT} {o : Nat} {κ : Int → AH → Nat → Nat → Prop} {χ : QxT} (X : XY K "TrailMarkers$Reader" "colourWord" cX6_colourWord (Option.some Jvm.ClassFile.FieldType.int) [] 3 13 328 Y) (E : YE K Y (QvI κ) χ) : ∀ (h : AH) (n : Nat) (z : Nat) (x2 : Int), P_X6_colourWord_117 K o κ χ h n z x2 → G K Y h n z 117 [(0, vR (some o)), (2, vI x2)] [] := by
  intro h n z x2 hk
  refine r_iload_n X (pc := 117) dX6_colourWord_117 rfl (q := 1) rfl ?_
  obtain ⟨b16, hk⟩ := hk
  by_cases c31 : x2 = 0
  · have hk := hk.1 c31
    refine r_tswIn X (pc := 118) (j := 0) (tgt := 148) dX6_colourWord_118 b16 (by omega) (by decide) rfl (by decide) ?_
    refine r_iconst X (pc := 148) dX6_colourWord_148 ?_
    exact r_iret X E (pc := 149) dX6_colourWord_149 rfl ⟨_, rfl, hk⟩
  · have hk := hk.2 c31
    by_cases c32 : x2 = 1
    · have hk := hk.1 c32
      refine r_tswIn X (pc := 118) (j := 1) (tgt := 150) dX6_colourWord_118 b16 (by omega) (by decide) rfl (by decide) ?_
      refine r_iconst X (pc := 150) dX6_colourWord_150 ?_
      exact r_iret X E (pc := 151) dX6_colourWord_151 rfl ⟨_, rfl, hk⟩
    · have hk := hk.2 c32
      by_cases c33 : x2 = 2
      · have hk := hk.1 c33
        refine r_tswIn X (pc := 118) (j := 2) (tgt := 152) dX6_colourWord_118 b16 (by omega) (by decide) rfl (by decide) ?_
        refine r_iconst X (pc := 152) dX6_colourWord_152 ?_
        exact r_iret X E (pc := 153) dX6_colourWord_153 rfl ⟨_, rfl, hk⟩
      · have hk := hk.2 c33
        by_cases c34 : x2 = 3
        · have hk := hk.1 c34
          refine r_tswIn X (pc := 118) (j := 3) (tgt := 154) dX6_colourWord_118 b16 (by omega) (by decide) rfl (by decide) ?_
          refine r_iconst X (pc := 154) dX6_colourWord_154 ?_
          exact r_iret X E (pc := 155) dX6_colourWord_155 rfl ⟨_, rfl, hk⟩
        · have hk := hk.2 c34
          refine r_tswOut X (pc := 118) (tgt := 156) dX6_colourWord_118 b16 (by omega) (by decide) ?_
          refine r_aload_n X (pc := 156) dX6_colourWord_156 rfl (q := 0) rfl ?_
          refine r_iconst X (pc := 157) dX6_colourWord_157 ?_
          obtain ⟨o28, fs29, e9, b30, hk⟩ := hk
          refine r_callV X (pc := 158) (As := [vI 3]) (st := []) rfl rfl e9 b30 m_X6_63 (fun _ => s_X6_error hk) ⟨by decide, by decide⟩ (Nat.le_of_ble_eq_true rfl) dX6_colourWord_158 (fun v9 h18 n19 z20 hq => ?_) (fun ci23 q24 h25 n26 z27 hf => ?_)
          · obtain ⟨r17, rfl, hk⟩ := hq
            refine ⟨[vR r17], rfl, ?_⟩
            refine r_hThrow X (pc := 161) dX6_colourWord_161 hk (fun ci21 q22 hk => ?_)
            exact r_out X E (fun _ h9 => nomatch h9) hk
          · have hk := hf
            exact r_out X E (fun _ h9 => nomatch h9) hk
set_option maxHeartbeats 4000000 in
theorem w_X6_colourWord {K : KT} {Y : YT} {o : Nat} {κ : Int → AH → Nat → Nat → Prop} {χ : QxT} (X : XY K "TrailMarkers$Reader" "colourWord" cX6_colourWord (Option.some Jvm.ClassFile.FieldType.int) [] 3 13 328 Y) (E : YE K Y (QvI κ) χ) {h : AH} {n : Nat} {z : Nat} (hk : P_X6_colourWord K o κ χ h n z) : G K Y h n z 0 (lv_argsA 0 [vR (some o)]) [] := by
  show G K Y h n z 0 [(0, vR (some o))] []
  refine r_aload_n X (pc := 0) dX6_colourWord_0 rfl (q := 0) rfl ?_
  obtain ⟨o128, fs129, e9, b130, hk⟩ := hk
  refine r_callV X (pc := 1) (As := []) (st := []) rfl rfl e9 b130 m_X6_72 (fun _ => s_X6_advance hk) ⟨by decide, by decide⟩ (Nat.le_of_ble_eq_true rfl) dX6_colourWord_1 (fun v9 h35 n36 z37 hq => ?_) (fun ci123 q124 h125 n126 z127 hf => ?_)
  · obtain ⟨rfl, hk⟩ := hq
    refine ⟨[], rfl, ?_⟩
    refine r_aload_n X (pc := 4) dX6_colourWord_4 rfl (q := 0) rfl ?_
    refine r_iconst X (pc := 5) dX6_colourWord_5 ?_
    obtain ⟨o120, fs121, e9, b122, hk⟩ := hk
    refine r_callV X (pc := 6) (As := [vI 0]) (st := []) rfl rfl e9 b122 m_X6_75 (fun _ => s_X6_expect hk) ⟨by decide, by decide⟩ (Nat.le_of_ble_eq_true rfl) dX6_colourWord_6 (fun v9 h38 n39 z40 hq => ?_) (fun ci115 q116 h117 n118 z119 hf => ?_)
    · obtain ⟨rfl, hk⟩ := hq
      refine ⟨[], rfl, ?_⟩
      refine r_aload_n X (pc := 9) dX6_colourWord_9 rfl (q := 0) rfl ?_
      refine r_hGR X (pc := 10) fa_X6_17 dX6_colourWord_10 hk (fun y41 hk => ?_)
      refine r_astore_n X (pc := 13) (lv1 := [(1, vR y41), (0, vR (some o))]) dX6_colourWord_13 rfl (by decide) rfl ?_
      refine r_iconst X (pc := 14) dX6_colourWord_14 ?_
      refine r_istore_n X (pc := 15) (lv1 := [(2, vI (-1)), (1, vR y41), (0, vR (some o))]) dX6_colourWord_15 rfl (by decide) rfl ?_
      refine r_aload_n X (pc := 16) dX6_colourWord_16 rfl (q := 1) rfl ?_
      obtain ⟨o112, fs113, e9, b114, hk⟩ := hk
      refine r_callV X (pc := 17) (As := []) (st := []) rfl rfl e9 b114 m_X6_106 (fun _ => s_J4_hashCode hk) ⟨by decide, by decide⟩ (Nat.le_of_ble_eq_true rfl) dX6_colourWord_17 (fun v9 h43 n44 z45 hq => ?_) (fun ci107 q108 h109 n110 z111 hf => ?_)
      · obtain ⟨r42, rfl, hk⟩ := hq
        refine ⟨[vI r42], rfl, ?_⟩
        obtain ⟨b46, hk⟩ := hk
        by_cases c47 : r42 = 112785
        · have hk := hk.1 c47
          refine r_lsw X (pc := 20) (tgt := 64) dX6_colourWord_20 b46 (by decide) (off := 44) (by rw [c47]; first | done | rfl) (by decide) ?_
          refine r_aload_n X (pc := 64) dX6_colourWord_64 rfl (q := 1) rfl ?_
          refine r_ldcS X (pc := 65) (j := 9) rfl dX6_colourWord_65 ?_
          obtain ⟨o59, fs60, e9, b61, hk⟩ := hk
          refine r_callV X (pc := 67) (As := [vR (some (kl K 9))]) (st := []) rfl rfl e9 b61 m_X6_84 (fun _ => s_J4_equals hk) ⟨by decide, by decide⟩ (Nat.le_of_ble_eq_true rfl) dX6_colourWord_67 (fun v9 h49 n50 z51 hq => ?_) (fun ci54 q55 h56 n57 z58 hf => ?_)
          · obtain ⟨r48, rfl, hk⟩ := hq
            refine ⟨[vI r48], rfl, ?_⟩
            obtain ⟨b52, hk⟩ := hk
            refine r_if_eq X (pc := 70) (tgt := 117) dX6_colourWord_70 (by decide) b52 (fun c53 => ?_) (fun c53 => ?_)
            · have hk := hk.1 c53
              refine G.sub [2, 0] rfl ?_
              exact w_X6_colourWord_117 X E h49 n50 z51 (-1) hk
            · have hk := hk.2 c53
              refine r_iconst X (pc := 73) dX6_colourWord_73 ?_
              refine r_istore_n X (pc := 74) (lv1 := [(2, vI 0), (1, vR y41), (0, vR (some o))]) dX6_colourWord_74 rfl (by decide) rfl ?_
              refine r_goto X (pc := 75) (tgt := 117) dX6_colourWord_75 (by decide) ?_
              refine G.sub [2, 0] rfl ?_
              exact w_X6_colourWord_117 X E h49 n50 z51 0 hk
          · have hk := hf
            exact r_out X E (fun _ h9 => nomatch h9) hk
        · have hk := hk.2 c47
          by_cases c62 : r42 = 3027034
          · have hk := hk.1 c62
            refine r_lsw X (pc := 20) (tgt := 78) dX6_colourWord_20 b46 (by decide) (off := 58) (by rw [c62]; first | done | rfl) (by decide) ?_
            refine r_aload_n X (pc := 78) dX6_colourWord_78 rfl (q := 1) rfl ?_
            refine r_ldcS X (pc := 79) (j := 10) rfl dX6_colourWord_79 ?_
            obtain ⟨o74, fs75, e9, b76, hk⟩ := hk
            refine r_callV X (pc := 81) (As := [vR (some (kl K 10))]) (st := []) rfl rfl e9 b76 m_X6_84 (fun _ => s_J4_equals hk) ⟨by decide, by decide⟩ (Nat.le_of_ble_eq_true rfl) dX6_colourWord_81 (fun v9 h64 n65 z66 hq => ?_) (fun ci69 q70 h71 n72 z73 hf => ?_)
            · obtain ⟨r63, rfl, hk⟩ := hq
              refine ⟨[vI r63], rfl, ?_⟩
              obtain ⟨b67, hk⟩ := hk
              refine r_if_eq X (pc := 84) (tgt := 117) dX6_colourWord_84 (by decide) b67 (fun c68 => ?_) (fun c68 => ?_)
              · have hk := hk.1 c68
                refine G.sub [2, 0] rfl ?_
                exact w_X6_colourWord_117 X E h64 n65 z66 (-1) hk
              · have hk := hk.2 c68
                refine r_iconst X (pc := 87) dX6_colourWord_87 ?_
                refine r_istore_n X (pc := 88) (lv1 := [(2, vI 1), (1, vR y41), (0, vR (some o))]) dX6_colourWord_88 rfl (by decide) rfl ?_
                refine r_goto X (pc := 89) (tgt := 117) dX6_colourWord_89 (by decide) ?_
                refine G.sub [2, 0] rfl ?_
                exact w_X6_colourWord_117 X E h64 n65 z66 1 hk
            · have hk := hf
              exact r_out X E (fun _ h9 => nomatch h9) hk
          · have hk := hk.2 c62
            by_cases c77 : r42 = 3178592
            · have hk := hk.1 c77
              refine r_lsw X (pc := 20) (tgt := 106) dX6_colourWord_20 b46 (by decide) (off := 86) (by rw [c77]; first | done | rfl) (by decide) ?_
              refine r_aload_n X (pc := 106) dX6_colourWord_106 rfl (q := 1) rfl ?_
              refine r_ldcS X (pc := 107) (j := 12) rfl dX6_colourWord_107 ?_
              obtain ⟨o89, fs90, e9, b91, hk⟩ := hk
              refine r_callV X (pc := 109) (As := [vR (some (kl K 12))]) (st := []) rfl rfl e9 b91 m_X6_84 (fun _ => s_J4_equals hk) ⟨by decide, by decide⟩ (Nat.le_of_ble_eq_true rfl) dX6_colourWord_109 (fun v9 h79 n80 z81 hq => ?_) (fun ci84 q85 h86 n87 z88 hf => ?_)
              · obtain ⟨r78, rfl, hk⟩ := hq
                refine ⟨[vI r78], rfl, ?_⟩
                obtain ⟨b82, hk⟩ := hk
                refine r_if_eq X (pc := 112) (tgt := 117) dX6_colourWord_112 (by decide) b82 (fun c83 => ?_) (fun c83 => ?_)
                · have hk := hk.1 c83
                  refine G.sub [2, 0] rfl ?_
                  exact w_X6_colourWord_117 X E h79 n80 z81 (-1) hk
                · have hk := hk.2 c83
                  refine r_iconst X (pc := 115) dX6_colourWord_115 ?_
                  refine r_istore_n X (pc := 116) (lv1 := [(2, vI 3), (1, vR y41), (0, vR (some o))]) dX6_colourWord_116 rfl (by decide) rfl ?_
                  refine G.sub [2, 0] rfl ?_
                  exact w_X6_colourWord_117 X E h79 n80 z81 3 hk
              · have hk := hf
                exact r_out X E (fun _ h9 => nomatch h9) hk
            · have hk := hk.2 c77
              by_cases c92 : r42 = 113101865
              · have hk := hk.1 c92
                refine r_lsw X (pc := 20) (tgt := 92) dX6_colourWord_20 b46 (by decide) (off := 72) (by rw [c92]; first | done | rfl) (by decide) ?_
                refine r_aload_n X (pc := 92) dX6_colourWord_92 rfl (q := 1) rfl ?_
                refine r_ldcS X (pc := 93) (j := 11) rfl dX6_colourWord_93 ?_
                obtain ⟨o104, fs105, e9, b106, hk⟩ := hk
                refine r_callV X (pc := 95) (As := [vR (some (kl K 11))]) (st := []) rfl rfl e9 b106 m_X6_84 (fun _ => s_J4_equals hk) ⟨by decide, by decide⟩ (Nat.le_of_ble_eq_true rfl) dX6_colourWord_95 (fun v9 h94 n95 z96 hq => ?_) (fun ci99 q100 h101 n102 z103 hf => ?_)
                · obtain ⟨r93, rfl, hk⟩ := hq
                  refine ⟨[vI r93], rfl, ?_⟩
                  obtain ⟨b97, hk⟩ := hk
                  refine r_if_eq X (pc := 98) (tgt := 117) dX6_colourWord_98 (by decide) b97 (fun c98 => ?_) (fun c98 => ?_)
                  · have hk := hk.1 c98
                    refine G.sub [2, 0] rfl ?_
                    exact w_X6_colourWord_117 X E h94 n95 z96 (-1) hk
                  · have hk := hk.2 c98
                    refine r_iconst X (pc := 101) dX6_colourWord_101 ?_
                    refine r_istore_n X (pc := 102) (lv1 := [(2, vI 2), (1, vR y41), (0, vR (some o))]) dX6_colourWord_102 rfl (by decide) rfl ?_
                    refine r_goto X (pc := 103) (tgt := 117) dX6_colourWord_103 (by decide) ?_
                    refine G.sub [2, 0] rfl ?_
                    exact w_X6_colourWord_117 X E h94 n95 z96 2 hk
                · have hk := hf
                  exact r_out X E (fun _ h9 => nomatch h9) hk
              · have hk := hk.2 c92
                refine r_lsw X (pc := 20) (tgt := 117) dX6_colourWord_20 b46 (by decide) (off := 97) (by simp only [Op.lookupswitch.offset, beq_iff_eq, c47, Ne.symm c47, c62, Ne.symm c62, c77, Ne.symm c77, c92, Ne.symm c92, if_false, ↓reduceIte]) (by decide) ?_
                refine G.sub [2, 0] rfl ?_
                exact w_X6_colourWord_117 X E h43 n44 z45 (-1) hk
      · have hk := hf
        exact r_out X E (fun _ h9 => nomatch h9) hk
    · have hk := hf
      exact r_out X E (fun _ h9 => nomatch h9) hk
  · have hk := hf
    exact r_out X E (fun _ h9 => nomatch h9) hk
theorem s_X6_colourWord {K : KT} {l : Launch} {o : Nat} {κ : Int → AH → Nat → Nat → Prop} {χ : QxT} {h : AH} {n : Nat} {z : Nat} (hk : P_X6_colourWord K o κ χ h n z) : Ct K l yX6_colourWord (ws_ yX6_colourWord cX6_colourWord 3 (Option.some Jvm.ClassFile.FieldType.int)) 13 328 ([vR (some o)].map cV) h n z (QvI κ) χ :=
  ct_of (by decide +kernel) (Nat.le_of_ble_eq_true rfl) (fun Y X E => w_X6_colourWord X E hk)
set_option maxHeartbeats 4000000 in
theorem w_X6_blaze {K : KT} {Y : YT} {o : Nat} {κ : AH → Nat → Nat → Prop} {χ : QxT} (X : XY K "TrailMarkers$Reader" "blaze" cX6_blaze (Option.none : Option Jvm.ClassFile.FieldType) [] 4 27 683 Y) (E : YE K Y (QvV κ) χ) {h : AH} {n : Nat} {z : Nat} (hk : P_X6_blaze K o κ χ h n z) : G K Y h n z 0 (lv_argsA 0 [vR (some o)]) [] := by
  show G K Y h n z 0 [(0, vR (some o))] []
  refine r_aload_n X (pc := 0) dX6_blaze_0 rfl (q := 0) rfl ?_
  obtain ⟨o96, fs97, e9, b98, hk⟩ := hk
  refine r_callV X (pc := 1) (As := []) (st := []) rfl rfl e9 b98 m_X6_143 (fun _ => s_X6_colourWord hk) ⟨by decide, by decide⟩ (Nat.le_of_ble_eq_true rfl) dX6_blaze_1 (fun v9 h14 n15 z16 hq => ?_) (fun ci91 q92 h93 n94 z95 hf => ?_)
  · obtain ⟨r13, rfl, hk⟩ := hq
    refine ⟨[vI r13], rfl, ?_⟩
    refine r_istore_n X (pc := 4) (lv1 := [(1, vI r13), (0, vR (some o))]) dX6_blaze_4 rfl (by decide) rfl ?_
    refine r_aload_n X (pc := 5) dX6_blaze_5 rfl (q := 1) rfl ?_
    refine r_iconst X (pc := 6) dX6_blaze_6 ?_
    refine r_aload_n X (pc := 7) dX6_blaze_7 rfl (q := 1) rfl ?_
    refine r_hGR X (pc := 8) fa_X6_21 dX6_blaze_8 hk (fun y17 hk => ?_)
    refine r_hGI X (pc := 11) fa_X6_146_X2 dX6_blaze_11 hk (fun y18 hk => ?_)
    refine r_iconst X (pc := 14) dX6_blaze_14 ?_
    refine r_isub X (pc := 15) dX6_blaze_15 ?_
    obtain ⟨o88, fs89, e9, b90, hk⟩ := hk
    refine r_callV X (pc := 16) (As := [vI 0, vI (y18 - 1)]) (st := []) rfl rfl e9 b90 m_X6_90 (fun _ => s_X6_number hk) ⟨by decide, by decide⟩ (Nat.le_of_ble_eq_true rfl) dX6_blaze_16 (fun v9 h20 n21 z22 hq => ?_) (fun ci83 q84 h85 n86 z87 hf => ?_)
    · obtain ⟨r19, rfl, hk⟩ := hq
      refine ⟨[vI r19], rfl, ?_⟩
      refine r_istore_n X (pc := 19) (lv1 := [(2, vI r19), (1, vI r13), (0, vR (some o))]) dX6_blaze_19 rfl (by decide) rfl ?_
      refine r_aload_n X (pc := 20) dX6_blaze_20 rfl (q := 2) rfl ?_
      refine r_iconst X (pc := 21) dX6_blaze_21 ?_
      refine r_aload_n X (pc := 22) dX6_blaze_22 rfl (q := 2) rfl ?_
      refine r_hGR X (pc := 23) fa_X6_21 dX6_blaze_23 hk (fun y23 hk => ?_)
      refine r_hGI X (pc := 26) fa_X6_149_X2 dX6_blaze_26 hk (fun y24 hk => ?_)
      refine r_iconst X (pc := 29) dX6_blaze_29 ?_
      refine r_isub X (pc := 30) dX6_blaze_30 ?_
      obtain ⟨o80, fs81, e9, b82, hk⟩ := hk
      refine r_callV X (pc := 31) (As := [vI 0, vI (y24 - 1)]) (st := []) rfl rfl e9 b82 m_X6_90 (fun _ => s_X6_number hk) ⟨by decide, by decide⟩ (Nat.le_of_ble_eq_true rfl) dX6_blaze_31 (fun v9 h26 n27 z28 hq => ?_) (fun ci75 q76 h77 n78 z79 hf => ?_)
      · obtain ⟨r25, rfl, hk⟩ := hq
        refine ⟨[vI r25], rfl, ?_⟩
        refine r_istore_n X (pc := 34) (lv1 := [(3, vI r25), (2, vI r19), (1, vI r13), (0, vR (some o))]) dX6_blaze_34 rfl (by decide) rfl ?_
        refine r_aload_n X (pc := 35) dX6_blaze_35 rfl (q := 3) rfl ?_
        refine r_aload_n X (pc := 36) dX6_blaze_36 rfl (q := 3) rfl ?_
        refine r_hGR X (pc := 37) fa_X6_21 dX6_blaze_37 hk (fun y29 hk => ?_)
        refine r_hNew X (pc := 40) nw_X6_152 dX6_blaze_40 hk (fun h30 hk => ?_)
        refine r_dup X (pc := 43) dX6_blaze_43 rfl ?_
        refine r_iload_n X (pc := 44) dX6_blaze_44 rfl (q := 1) rfl ?_
        refine r_iload_n X (pc := 45) dX6_blaze_45 rfl (q := 0) rfl ?_
        refine r_iload_n X (pc := 46) dX6_blaze_46 rfl (q := 2) rfl ?_
        refine r_iconst X (pc := 47) dX6_blaze_47 ?_
        refine r_iconst X (pc := 48) dX6_blaze_48 ?_
        refine r_callI X (pc := 49) (As := [vI r19, vI r25, vI r13, vI 4, vI 0]) (st := [vR (some n27), vR y29, vR (some o)]) m_X6_154 (fun _ => s_X3_init hk) ⟨by decide, by decide⟩ (Nat.le_of_ble_eq_true rfl) dX6_blaze_49 (fun v9 h31 n32 z33 hq => ?_) (fun ci70 q71 h72 n73 z74 hf => ?_)
        · obtain ⟨rfl, hk⟩ := hq
          refine ⟨[], rfl, ?_⟩
          obtain ⟨o67, fs68, e9, b69, hk⟩ := hk
          refine r_callV X (pc := 52) (As := [vR (some n27)]) (st := [vR (some o)]) rfl rfl e9 b69 m_X6_157 (fun _ => s_X2_add hk) ⟨by decide, by decide⟩ (Nat.le_of_ble_eq_true rfl) dX6_blaze_52 (fun v9 h35 n36 z37 hq => ?_) (fun ci62 q63 h64 n65 z66 hf => ?_)
          · obtain ⟨r34, rfl, hk⟩ := hq
            refine ⟨[vI r34], rfl, ?_⟩
            refine r_hPut X (pc := 55) fp_X6_161 rfl rfl dX6_blaze_55 hk (fun h38 hk => ?_)
            refine r_aload_n X (pc := 58) dX6_blaze_58 rfl (q := 3) rfl ?_
            refine r_iconst X (pc := 59) dX6_blaze_59 ?_
            refine r_hPut X (pc := 60) fp_X6_164 rfl rfl dX6_blaze_60 hk (fun h39 hk => ?_)
            refine r_aload_n X (pc := 63) dX6_blaze_63 rfl (q := 3) rfl ?_
            obtain ⟨o59, fs60, e9, b61, hk⟩ := hk
            refine r_callV X (pc := 64) (As := []) (st := []) rfl rfl e9 b61 m_X6_72 (fun _ => s_X6_advance hk) ⟨by decide, by decide⟩ (Nat.le_of_ble_eq_true rfl) dX6_blaze_64 (fun v9 h40 n41 z42 hq => ?_) (fun ci54 q55 h56 n57 z58 hf => ?_)
            · obtain ⟨rfl, hk⟩ := hq
              refine ⟨[], rfl, ?_⟩
              refine r_aload_n X (pc := 67) dX6_blaze_67 rfl (q := 3) rfl ?_
              obtain ⟨o51, fs52, e9, b53, hk⟩ := hk
              refine r_callV X (pc := 68) (As := []) (st := []) rfl rfl e9 b53 m_X6_167 (fun _ => s_X6_itemsC hk) ⟨by decide, by decide⟩ (Nat.le_of_ble_eq_true rfl) dX6_blaze_68 (fun v9 h43 n44 z45 hq => ?_) (fun ci46 q47 h48 n49 z50 hf => ?_)
              · obtain ⟨rfl, hk⟩ := hq
                refine ⟨[], rfl, ?_⟩
                exact r_vret X E (pc := 71) dX6_blaze_71 ⟨rfl, hk⟩
              · have hk := hf
                exact r_out X E (fun _ h9 => nomatch h9) hk
            · have hk := hf
              exact r_out X E (fun _ h9 => nomatch h9) hk
          · have hk := hf
            exact r_out X E (fun _ h9 => nomatch h9) hk
        · have hk := hf
          exact r_out X E (fun _ h9 => nomatch h9) hk
      · have hk := hf
        exact r_out X E (fun _ h9 => nomatch h9) hk
    · have hk := hf
      exact r_out X E (fun _ h9 => nomatch h9) hk
  · have hk := hf
    exact r_out X E (fun _ h9 => nomatch h9) hk
theorem s_X6_blaze {K : KT} {l : Launch} {o : Nat} {κ : AH → Nat → Nat → Prop} {χ : QxT} {h : AH} {n : Nat} {z : Nat} (hk : P_X6_blaze K o κ χ h n z) : Ct K l yX6_blaze (ws_ yX6_blaze cX6_blaze 4 (Option.none : Option Jvm.ClassFile.FieldType)) 27 683 ([vR (some o)].map cV) h n z (QvV κ) χ :=
  ct_of (by decide +kernel) (Nat.le_of_ble_eq_true rfl) (fun Y X E => w_X6_blaze X E hk)
set_option maxHeartbeats 4000000 in
theorem w_X6_blockAll_9 {K : KT} {Y : YT} {o : Nat} {κ : AH → Nat → Nat → Prop} {χ : QxT} (X : XY K "TrailMarkers$Reader" "blockAll" cX6_blockAll (Option.none : Option Jvm.ClassFile.FieldType) [] 2 14 350 Y) (E : YE K Y (QvV κ) χ) {k_65 : AH → Nat → Nat → Prop} (H_65 : ∀ (h : AH) (n : Nat) (z : Nat), k_65 h n z → G K Y h n z 65 [(0, vR (some o))] []) : ∀ (f : Nat) (h : AH) (n : Nat) (z : Nat), L_X6_blockAll_9 K o k_65 κ χ f h n z → G K Y h n z 9 [(0, vR (some o))] [] := by
  intro f
  induction f with
  | zero => intro h n z hk; exact hk.elim
  | succ f ih =>
    intro h n z hk
    refine r_aload_n X (pc := 9) dX6_blockAll_9 rfl (q := 0) rfl ?_
    refine r_hGI X (pc := 10) fa_X6_39 dX6_blockAll_10 hk (fun y11 hk => ?_)
    refine r_iconst X (pc := 13) dX6_blockAll_13 ?_
    obtain ⟨b12, hk⟩ := hk
    refine r_icmp_ne X (pc := 14) (tgt := 65) dX6_blockAll_14 (by decide) ⟨b12, (by decide)⟩ (fun c13 => ?_) (fun c13 => ?_)
    · have hk := hk.2 c13
      exact H_65 h n z hk
    · have hk := hk.1 c13
      refine r_aload_n X (pc := 17) dX6_blockAll_17 rfl (q := 0) rfl ?_
      refine r_iconst X (pc := 18) dX6_blockAll_18 ?_
      refine r_aload_n X (pc := 19) dX6_blockAll_19 rfl (q := 0) rfl ?_
      refine r_hGR X (pc := 20) fa_X6_21 dX6_blockAll_20 hk (fun y14 hk => ?_)
      refine r_hGI X (pc := 23) fa_X6_146_X2 dX6_blockAll_23 hk (fun y15 hk => ?_)
      refine r_iconst X (pc := 26) dX6_blockAll_26 ?_
      refine r_isub X (pc := 27) dX6_blockAll_27 ?_
      obtain ⟨o62, fs63, e9, b64, hk⟩ := hk
      refine r_callV X (pc := 28) (As := [vI 0, vI (y15 - 1)]) (st := []) rfl rfl e9 b64 m_X6_79 (fun _ => s_X6_needRange hk) ⟨by decide, by decide⟩ (Nat.le_of_ble_eq_true rfl) dX6_blockAll_28 (fun v9 h16 n17 z18 hq => ?_) (fun ci57 q58 h59 n60 z61 hf => ?_)
      · obtain ⟨rfl, hk⟩ := hq
        refine ⟨[], rfl, ?_⟩
        refine r_aload_n X (pc := 31) dX6_blockAll_31 rfl (q := 0) rfl ?_
        refine r_hGI X (pc := 32) fa_X6_42 dX6_blockAll_32 hk (fun y19 hk => ?_)
        refine r_istore_n X (pc := 35) (lv1 := [(1, vI y19), (0, vR (some o))]) dX6_blockAll_35 rfl (by decide) rfl ?_
        refine r_aload_n X (pc := 36) dX6_blockAll_36 rfl (q := 1) rfl ?_
        refine r_hGR X (pc := 37) fa_X6_21 dX6_blockAll_37 hk (fun y20 hk => ?_)
        refine r_iload_n X (pc := 40) dX6_blockAll_40 rfl (q := 0) rfl ?_
        refine r_aload_n X (pc := 41) dX6_blockAll_41 rfl (q := 1) rfl ?_
        refine r_iconst X (pc := 42) dX6_blockAll_42 ?_
        refine r_aload_n X (pc := 43) dX6_blockAll_43 rfl (q := 1) rfl ?_
        refine r_hGR X (pc := 44) fa_X6_21 dX6_blockAll_44 hk (fun y21 hk => ?_)
        refine r_hGI X (pc := 47) fa_X6_149_X2 dX6_blockAll_47 hk (fun y22 hk => ?_)
        refine r_iconst X (pc := 50) dX6_blockAll_50 ?_
        refine r_isub X (pc := 51) dX6_blockAll_51 ?_
        obtain ⟨o54, fs55, e9, b56, hk⟩ := hk
        refine r_callV X (pc := 52) (As := [vI 0, vI (y22 - 1)]) (st := [vI y19, vR y20]) rfl rfl e9 b56 m_X6_90 (fun _ => s_X6_number hk) ⟨by decide, by decide⟩ (Nat.le_of_ble_eq_true rfl) dX6_blockAll_52 (fun v9 h24 n25 z26 hq => ?_) (fun ci49 q50 h51 n52 z53 hf => ?_)
        · obtain ⟨r23, rfl, hk⟩ := hq
          refine ⟨[vI r23], rfl, ?_⟩
          obtain ⟨o46, fs47, e9, b48, hk⟩ := hk
          refine r_callV X (pc := 55) (As := [vI y19, vI r23]) (st := []) rfl rfl e9 b48 m_X6_217 (fun _ => s_X2_layBlock hk) ⟨by decide, by decide⟩ (Nat.le_of_ble_eq_true rfl) dX6_blockAll_55 (fun v9 h27 n28 z29 hq => ?_) (fun ci41 q42 h43 n44 z45 hf => ?_)
          · obtain ⟨rfl, hk⟩ := hq
            refine ⟨[], rfl, ?_⟩
            refine r_aload_n X (pc := 58) dX6_blockAll_58 rfl (q := 1) rfl ?_
            obtain ⟨o38, fs39, e9, b40, hk⟩ := hk
            refine r_callV X (pc := 59) (As := []) (st := []) rfl rfl e9 b40 m_X6_72 (fun _ => s_X6_advance hk) ⟨by decide, by decide⟩ (Nat.le_of_ble_eq_true rfl) dX6_blockAll_59 (fun v9 h30 n31 z32 hq => ?_) (fun ci33 q34 h35 n36 z37 hf => ?_)
            · obtain ⟨rfl, hk⟩ := hq
              refine ⟨[], rfl, ?_⟩
              refine r_goto X (pc := 62) (tgt := 9) dX6_blockAll_62 (by decide) ?_
              refine G.sub [1] rfl ?_
              exact ih h30 n31 z32 hk
            · have hk := hf
              exact r_out X E (fun _ h9 => nomatch h9) hk
          · have hk := hf
            exact r_out X E (fun _ h9 => nomatch h9) hk
        · have hk := hf
          exact r_out X E (fun _ h9 => nomatch h9) hk
      · have hk := hf
        exact r_out X E (fun _ h9 => nomatch h9) hk
set_option maxHeartbeats 4000000 in
theorem w_X6_blockAll_65 {K : KT} {Y : YT} {o : Nat} {κ : AH → Nat → Nat → Prop} {χ : QxT} (X : XY K "TrailMarkers$Reader" "blockAll" cX6_blockAll (Option.none : Option Jvm.ClassFile.FieldType) [] 2 14 350 Y) (E : YE K Y (QvV κ) χ) : ∀ (h : AH) (n : Nat) (z : Nat), P_X6_blockAll_65 K o κ χ h n z → G K Y h n z 65 [(0, vR (some o))] [] := by
  intro h n z hk
  exact r_vret X E (pc := 65) dX6_blockAll_65 ⟨rfl, hk⟩
set_option maxHeartbeats 4000000 in
theorem w_X6_blockAll {K : KT} {Y : YT} {o : Nat} {κ : AH → Nat → Nat → Prop} {χ : QxT} (X : XY K "TrailMarkers$Reader" "blockAll" cX6_blockAll (Option.none : Option Jvm.ClassFile.FieldType) [] 2 14 350 Y) (E : YE K Y (QvV κ) χ) {h : AH} {n : Nat} {z : Nat} (hk : P_X6_blockAll K o κ χ h n z) : G K Y h n z 0 (lv_argsA 0 [vR (some o)]) [] := by
  show G K Y h n z 0 [(0, vR (some o))] []
  refine r_aload_n X (pc := 0) dX6_blockAll_0 rfl (q := 0) rfl ?_
  obtain ⟨o85, fs86, e9, b87, hk⟩ := hk
  refine r_callV X (pc := 1) (As := []) (st := []) rfl rfl e9 b87 m_X6_72 (fun _ => s_X6_advance hk) ⟨by decide, by decide⟩ (Nat.le_of_ble_eq_true rfl) dX6_blockAll_1 (fun v9 h65 n66 z67 hq => ?_) (fun ci80 q81 h82 n83 z84 hf => ?_)
  · obtain ⟨rfl, hk⟩ := hq
    refine ⟨[], rfl, ?_⟩
    refine r_aload_n X (pc := 4) dX6_blockAll_4 rfl (q := 0) rfl ?_
    refine r_iconst X (pc := 5) dX6_blockAll_5 ?_
    obtain ⟨o77, fs78, e9, b79, hk⟩ := hk
    refine r_callV X (pc := 6) (As := [vI 1]) (st := []) rfl rfl e9 b79 m_X6_75 (fun _ => s_X6_expect hk) ⟨by decide, by decide⟩ (Nat.le_of_ble_eq_true rfl) dX6_blockAll_6 (fun v9 h68 n69 z70 hq => ?_) (fun ci72 q73 h74 n75 z76 hf => ?_)
    · obtain ⟨rfl, hk⟩ := hq
      refine ⟨[], rfl, ?_⟩
      have HH71 : ∀ (h : AH) (n : Nat) (z : Nat), (P_X6_blockAll_65 K o κ χ h n z) → G K Y h n z 65 [(0, vR (some o))] [] := by
          intro h n z hk
          exact w_X6_blockAll_65 X E h n z hk
      obtain ⟨f9, hk⟩ := hk
      exact w_X6_blockAll_9 X E HH71 f9 h68 n69 z70 hk
    · have hk := hf
      exact r_out X E (fun _ h9 => nomatch h9) hk
  · have hk := hf
    exact r_out X E (fun _ h9 => nomatch h9) hk
theorem s_X6_blockAll {K : KT} {l : Launch} {o : Nat} {κ : AH → Nat → Nat → Prop} {χ : QxT} {h : AH} {n : Nat} {z : Nat} (hk : P_X6_blockAll K o κ χ h n z) : Ct K l yX6_blockAll (ws_ yX6_blockAll cX6_blockAll 2 (Option.none : Option Jvm.ClassFile.FieldType)) 14 350 ([vR (some o)].map cV) h n z (QvV κ) χ :=
  ct_of (by decide +kernel) (Nat.le_of_ble_eq_true rfl) (fun Y X E => w_X6_blockAll X E hk)
set_option maxHeartbeats 4000000 in
theorem w_X6_changeAll_9 {K : KT} {Y : YT} {o : Nat} {κ : AH → Nat → Nat → Prop} {χ : QxT} (X : XY K "TrailMarkers$Reader" "changeAll" cX6_changeAll (Option.none : Option Jvm.ClassFile.FieldType) [] 2 13 328 Y) (E : YE K Y (QvV κ) χ) {k_50 : AH → Nat → Nat → Prop} (H_50 : ∀ (h : AH) (n : Nat) (z : Nat), k_50 h n z → G K Y h n z 50 [(0, vR (some o))] []) : ∀ (f : Nat) (h : AH) (n : Nat) (z : Nat) (x1 : Int), L_X6_changeAll_9 K o k_50 κ χ f h n z x1 → G K Y h n z 9 [(0, vR (some o)), (1, vI x1)] [] := by
  intro f
  induction f with
  | zero => intro h n z x1 hk; exact hk.elim
  | succ f ih =>
    intro h n z x1 hk
    refine r_aload_n X (pc := 9) dX6_changeAll_9 rfl (q := 0) rfl ?_
    refine r_hGI X (pc := 10) fa_X6_39 dX6_changeAll_10 hk (fun y8 hk => ?_)
    refine r_iconst X (pc := 13) dX6_changeAll_13 ?_
    obtain ⟨b9, hk⟩ := hk
    refine r_icmp_ne X (pc := 14) (tgt := 50) dX6_changeAll_14 (by decide) ⟨b9, (by decide)⟩ (fun c10 => ?_) (fun c10 => ?_)
    · have hk := hk.2 c10
      refine G.sub [0] rfl ?_
      exact H_50 h n z hk
    · have hk := hk.1 c10
      refine r_aload_n X (pc := 17) dX6_changeAll_17 rfl (q := 0) rfl ?_
      refine r_iconst X (pc := 18) dX6_changeAll_18 ?_
      refine r_aload_n X (pc := 19) dX6_changeAll_19 rfl (q := 0) rfl ?_
      refine r_hGR X (pc := 20) fa_X6_21 dX6_changeAll_20 hk (fun y11 hk => ?_)
      refine r_hGI X (pc := 23) fa_X6_220_X2 dX6_changeAll_23 hk (fun y12 hk => ?_)
      refine r_iconst X (pc := 26) dX6_changeAll_26 ?_
      refine r_isub X (pc := 27) dX6_changeAll_27 ?_
      obtain ⟨o45, fs46, e9, b47, hk⟩ := hk
      refine r_callV X (pc := 28) (As := [vI 0, vI (y12 - 1)]) (st := []) rfl rfl e9 b47 m_X6_79 (fun _ => s_X6_needRange hk) ⟨by decide, by decide⟩ (Nat.le_of_ble_eq_true rfl) dX6_changeAll_28 (fun v9 h13 n14 z15 hq => ?_) (fun ci40 q41 h42 n43 z44 hf => ?_)
      · obtain ⟨rfl, hk⟩ := hq
        refine ⟨[], rfl, ?_⟩
        refine r_aload_n X (pc := 31) dX6_changeAll_31 rfl (q := 0) rfl ?_
        refine r_hGR X (pc := 32) fa_X6_21 dX6_changeAll_32 hk (fun y16 hk => ?_)
        refine r_aload_n X (pc := 35) dX6_changeAll_35 rfl (q := 0) rfl ?_
        refine r_hGI X (pc := 36) fa_X6_42 dX6_changeAll_36 hk (fun y17 hk => ?_)
        refine r_iload_n X (pc := 39) dX6_changeAll_39 rfl (q := 1) rfl ?_
        obtain ⟨o37, fs38, e9, b39, hk⟩ := hk
        refine r_callV X (pc := 40) (As := [vI y17, vI x1]) (st := []) rfl rfl e9 b39 m_X6_204 (fun _ => s_X2_change hk) ⟨by decide, by decide⟩ (Nat.le_of_ble_eq_true rfl) dX6_changeAll_40 (fun v9 h18 n19 z20 hq => ?_) (fun ci32 q33 h34 n35 z36 hf => ?_)
        · obtain ⟨rfl, hk⟩ := hq
          refine ⟨[], rfl, ?_⟩
          refine r_aload_n X (pc := 43) dX6_changeAll_43 rfl (q := 0) rfl ?_
          obtain ⟨o29, fs30, e9, b31, hk⟩ := hk
          refine r_callV X (pc := 44) (As := []) (st := []) rfl rfl e9 b31 m_X6_72 (fun _ => s_X6_advance hk) ⟨by decide, by decide⟩ (Nat.le_of_ble_eq_true rfl) dX6_changeAll_44 (fun v9 h21 n22 z23 hq => ?_) (fun ci24 q25 h26 n27 z28 hf => ?_)
          · obtain ⟨rfl, hk⟩ := hq
            refine ⟨[], rfl, ?_⟩
            refine r_goto X (pc := 47) (tgt := 9) dX6_changeAll_47 (by decide) ?_
            exact ih h21 n22 z23 x1 hk
          · have hk := hf
            exact r_out X E (fun _ h9 => nomatch h9) hk
        · have hk := hf
          exact r_out X E (fun _ h9 => nomatch h9) hk
      · have hk := hf
        exact r_out X E (fun _ h9 => nomatch h9) hk
set_option maxHeartbeats 4000000 in
theorem w_X6_changeAll_50 {K : KT} {Y : YT} {o : Nat} {κ : AH → Nat → Nat → Prop} {χ : QxT} (X : XY K "TrailMarkers$Reader" "changeAll" cX6_changeAll (Option.none : Option Jvm.ClassFile.FieldType) [] 2 13 328 Y) (E : YE K Y (QvV κ) χ) : ∀ (h : AH) (n : Nat) (z : Nat), P_X6_changeAll_50 K o κ χ h n z → G K Y h n z 50 [(0, vR (some o))] [] := by
  intro h n z hk
  exact r_vret X E (pc := 50) dX6_changeAll_50 ⟨rfl, hk⟩
set_option maxHeartbeats 4000000 in
theorem w_X6_changeAll {K : KT} {Y : YT} {o : Nat} {κ : AH → Nat → Nat → Prop} {χ : QxT} (X : XY K "TrailMarkers$Reader" "changeAll" cX6_changeAll (Option.none : Option Jvm.ClassFile.FieldType) [] 2 13 328 Y) (E : YE K Y (QvV κ) χ) {h : AH} {n : Nat} {z : Nat} {x1 : Int} (hk : P_X6_changeAll K o κ χ h n z x1) : G K Y h n z 0 (lv_argsA 0 [vR (some o), vI x1]) [] := by
  show G K Y h n z 0 [(0, vR (some o)), (1, vI x1)] []
  refine r_aload_n X (pc := 0) dX6_changeAll_0 rfl (q := 0) rfl ?_
  obtain ⟨o68, fs69, e9, b70, hk⟩ := hk
  refine r_callV X (pc := 1) (As := []) (st := []) rfl rfl e9 b70 m_X6_72 (fun _ => s_X6_advance hk) ⟨by decide, by decide⟩ (Nat.le_of_ble_eq_true rfl) dX6_changeAll_1 (fun v9 h48 n49 z50 hq => ?_) (fun ci63 q64 h65 n66 z67 hf => ?_)
  · obtain ⟨rfl, hk⟩ := hq
    refine ⟨[], rfl, ?_⟩
    refine r_aload_n X (pc := 4) dX6_changeAll_4 rfl (q := 0) rfl ?_
    refine r_iconst X (pc := 5) dX6_changeAll_5 ?_
    obtain ⟨o60, fs61, e9, b62, hk⟩ := hk
    refine r_callV X (pc := 6) (As := [vI 1]) (st := []) rfl rfl e9 b62 m_X6_75 (fun _ => s_X6_expect hk) ⟨by decide, by decide⟩ (Nat.le_of_ble_eq_true rfl) dX6_changeAll_6 (fun v9 h51 n52 z53 hq => ?_) (fun ci55 q56 h57 n58 z59 hf => ?_)
    · obtain ⟨rfl, hk⟩ := hq
      refine ⟨[], rfl, ?_⟩
      have HH54 : ∀ (h : AH) (n : Nat) (z : Nat), (P_X6_changeAll_50 K o κ χ h n z) → G K Y h n z 50 [(0, vR (some o))] [] := by
          intro h n z hk
          exact w_X6_changeAll_50 X E h n z hk
      obtain ⟨f9, hk⟩ := hk
      exact w_X6_changeAll_9 X E HH54 f9 h51 n52 z53 x1 hk
    · have hk := hf
      exact r_out X E (fun _ h9 => nomatch h9) hk
  · have hk := hf
    exact r_out X E (fun _ h9 => nomatch h9) hk
theorem s_X6_changeAll {K : KT} {l : Launch} {o : Nat} {κ : AH → Nat → Nat → Prop} {χ : QxT} {h : AH} {n : Nat} {z : Nat} {x1 : Int} (hk : P_X6_changeAll K o κ χ h n z x1) : Ct K l yX6_changeAll (ws_ yX6_changeAll cX6_changeAll 2 (Option.none : Option Jvm.ClassFile.FieldType)) 13 328 ([vR (some o), vI x1].map cV) h n z (QvV κ) χ :=
  ct_of (by decide +kernel) (Nat.le_of_ble_eq_true rfl) (fun Y X E => w_X6_changeAll X E hk)
set_option maxHeartbeats 4000000 in
theorem w_X6_command_149 {K : KT} {Y : YT} {o : Nat} {κ : AH → Nat → Nat → Prop} {χ : QxT} (X : XY K "TrailMarkers$Reader" "command" cX6_command (Option.none : Option Jvm.ClassFile.FieldType) [] 3 28 706 Y) (E : YE K Y (QvV κ) χ) : ∀ (h : AH) (n : Nat) (z : Nat) (x2 : Int), P_X6_command_149 K o κ χ h n z x2 → G K Y h n z 149 [(0, vR (some o)), (2, vI x2)] [] := by
  intro h n z x2 hk
  refine r_iload_n X (pc := 149) dX6_command_149 rfl (q := 1) rfl ?_
  obtain ⟨b30, hk⟩ := hk
  by_cases c45 : x2 = 0
  · have hk := hk.1 c45
    refine r_tswIn X (pc := 150) (j := 0) (tgt := 188) dX6_command_150 b30 (by omega) (by decide) rfl (by decide) ?_
    refine r_aload_n X (pc := 188) dX6_command_188 rfl (q := 0) rfl ?_
    obtain ⟨o54, fs55, e9, b56, hk⟩ := hk
    refine r_callV X (pc := 189) (As := []) (st := []) rfl rfl e9 b56 m_X6_122 (fun _ => s_X6_blaze hk) ⟨by decide, by decide⟩ (Nat.le_of_ble_eq_true rfl) dX6_command_189 (fun v9 h46 n47 z48 hq => ?_) (fun ci49 q50 h51 n52 z53 hf => ?_)
    · obtain ⟨rfl, hk⟩ := hq
      refine ⟨[], rfl, ?_⟩
      refine r_goto X (pc := 192) (tgt := 269) dX6_command_192 (by decide) ?_
      exact r_vret X E (pc := 269) dX6_command_269 ⟨rfl, hk⟩
    · have hk := hf
      exact r_out X E (fun _ h9 => nomatch h9) hk
  · have hk := hk.2 c45
    by_cases c57 : x2 = 1
    · have hk := hk.1 c57
      refine r_tswIn X (pc := 150) (j := 1) (tgt := 195) dX6_command_150 b30 (by omega) (by decide) rfl (by decide) ?_
      refine r_aload_n X (pc := 195) dX6_command_195 rfl (q := 0) rfl ?_
      obtain ⟨o66, fs67, e9, b68, hk⟩ := hk
      refine r_callV X (pc := 196) (As := []) (st := []) rfl rfl e9 b68 m_X6_124 (fun _ => s_X6_blockAll hk) ⟨by decide, by decide⟩ (Nat.le_of_ble_eq_true rfl) dX6_command_196 (fun v9 h58 n59 z60 hq => ?_) (fun ci61 q62 h63 n64 z65 hf => ?_)
      · obtain ⟨rfl, hk⟩ := hq
        refine ⟨[], rfl, ?_⟩
        refine r_goto X (pc := 199) (tgt := 269) dX6_command_199 (by decide) ?_
        exact r_vret X E (pc := 269) dX6_command_269 ⟨rfl, hk⟩
      · have hk := hf
        exact r_out X E (fun _ h9 => nomatch h9) hk
    · have hk := hk.2 c57
      by_cases c69 : x2 = 2
      · have hk := hk.1 c69
        refine r_tswIn X (pc := 150) (j := 2) (tgt := 202) dX6_command_150 b30 (by omega) (by decide) rfl (by decide) ?_
        refine r_aload_n X (pc := 202) dX6_command_202 rfl (q := 0) rfl ?_
        refine r_iconst X (pc := 203) dX6_command_203 ?_
        obtain ⟨o78, fs79, e9, b80, hk⟩ := hk
        refine r_callV X (pc := 204) (As := [vI 1]) (st := []) rfl rfl e9 b80 m_X6_127 (fun _ => s_X6_changeAll hk) ⟨by decide, by decide⟩ (Nat.le_of_ble_eq_true rfl) dX6_command_204 (fun v9 h70 n71 z72 hq => ?_) (fun ci73 q74 h75 n76 z77 hf => ?_)
        · obtain ⟨rfl, hk⟩ := hq
          refine ⟨[], rfl, ?_⟩
          refine r_goto X (pc := 207) (tgt := 269) dX6_command_207 (by decide) ?_
          exact r_vret X E (pc := 269) dX6_command_269 ⟨rfl, hk⟩
        · have hk := hf
          exact r_out X E (fun _ h9 => nomatch h9) hk
      · have hk := hk.2 c69
        by_cases c81 : x2 = 3
        · have hk := hk.1 c81
          refine r_tswIn X (pc := 150) (j := 3) (tgt := 210) dX6_command_150 b30 (by omega) (by decide) rfl (by decide) ?_
          refine r_aload_n X (pc := 210) dX6_command_210 rfl (q := 0) rfl ?_
          refine r_iconst X (pc := 211) dX6_command_211 ?_
          obtain ⟨o90, fs91, e9, b92, hk⟩ := hk
          refine r_callV X (pc := 212) (As := [vI 0]) (st := []) rfl rfl e9 b92 m_X6_127 (fun _ => s_X6_changeAll hk) ⟨by decide, by decide⟩ (Nat.le_of_ble_eq_true rfl) dX6_command_212 (fun v9 h82 n83 z84 hq => ?_) (fun ci85 q86 h87 n88 z89 hf => ?_)
          · obtain ⟨rfl, hk⟩ := hq
            refine ⟨[], rfl, ?_⟩
            refine r_goto X (pc := 215) (tgt := 269) dX6_command_215 (by decide) ?_
            exact r_vret X E (pc := 269) dX6_command_269 ⟨rfl, hk⟩
          · have hk := hf
            exact r_out X E (fun _ h9 => nomatch h9) hk
        · have hk := hk.2 c81
          by_cases c93 : x2 = 4
          · have hk := hk.1 c93
            refine r_tswIn X (pc := 150) (j := 4) (tgt := 218) dX6_command_150 b30 (by omega) (by decide) rfl (by decide) ?_
            refine r_aload_n X (pc := 218) dX6_command_218 rfl (q := 0) rfl ?_
            refine r_hGR X (pc := 219) fa_X6_21 dX6_command_219 hk (fun y94 hk => ?_)
            refine r_hGR X (pc := 222) fa_X6_131_X2 dX6_command_222 hk (fun y95 hk => ?_)
            refine r_iconst X (pc := 225) dX6_command_225 ?_
            refine r_aload_n X (pc := 226) dX6_command_226 rfl (q := 0) rfl ?_
            refine r_iconst X (pc := 227) dX6_command_227 ?_
            refine r_bipush X (pc := 228) dX6_command_228 (by decide) ?_
            obtain ⟨o117, fs118, e9, b119, hk⟩ := hk
            refine r_callV X (pc := 230) (As := [vI 1, vI 12]) (st := [vI 0, vR y95]) rfl rfl e9 b119 m_X6_90 (fun _ => s_X6_number hk) ⟨by decide, by decide⟩ (Nat.le_of_ble_eq_true rfl) dX6_command_230 (fun v9 h97 n98 z99 hq => ?_) (fun ci112 q113 h114 n115 z116 hf => ?_)
            · obtain ⟨r96, rfl, hk⟩ := hq
              refine ⟨[vI r96], rfl, ?_⟩
              refine r_hSI X (pc := 233) dX6_command_233 hk (fun h100 hk => ?_)
              refine r_aload_n X (pc := 234) dX6_command_234 rfl (q := 0) rfl ?_
              obtain ⟨o109, fs110, e9, b111, hk⟩ := hk
              refine r_callV X (pc := 235) (As := []) (st := []) rfl rfl e9 b111 m_X6_72 (fun _ => s_X6_advance hk) ⟨by decide, by decide⟩ (Nat.le_of_ble_eq_true rfl) dX6_command_235 (fun v9 h101 n102 z103 hq => ?_) (fun ci104 q105 h106 n107 z108 hf => ?_)
              · obtain ⟨rfl, hk⟩ := hq
                refine ⟨[], rfl, ?_⟩
                refine r_goto X (pc := 238) (tgt := 269) dX6_command_238 (by decide) ?_
                exact r_vret X E (pc := 269) dX6_command_269 ⟨rfl, hk⟩
              · have hk := hf
                exact r_out X E (fun _ h9 => nomatch h9) hk
            · have hk := hf
              exact r_out X E (fun _ h9 => nomatch h9) hk
          · have hk := hk.2 c93
            by_cases c120 : x2 = 5
            · have hk := hk.1 c120
              refine r_tswIn X (pc := 150) (j := 5) (tgt := 241) dX6_command_150 b30 (by omega) (by decide) rfl (by decide) ?_
              refine r_aload_n X (pc := 241) dX6_command_241 rfl (q := 0) rfl ?_
              refine r_hGR X (pc := 242) fa_X6_21 dX6_command_242 hk (fun y121 hk => ?_)
              refine r_hGR X (pc := 245) fa_X6_131_X2 dX6_command_245 hk (fun y122 hk => ?_)
              refine r_iconst X (pc := 248) dX6_command_248 ?_
              refine r_aload_n X (pc := 249) dX6_command_249 rfl (q := 0) rfl ?_
              refine r_iconst X (pc := 250) dX6_command_250 ?_
              refine r_iconst X (pc := 251) dX6_command_251 ?_
              obtain ⟨o144, fs145, e9, b146, hk⟩ := hk
              refine r_callV X (pc := 252) (As := [vI 0, vI 2]) (st := [vI 1, vR y122]) rfl rfl e9 b146 m_X6_90 (fun _ => s_X6_number hk) ⟨by decide, by decide⟩ (Nat.le_of_ble_eq_true rfl) dX6_command_252 (fun v9 h124 n125 z126 hq => ?_) (fun ci139 q140 h141 n142 z143 hf => ?_)
              · obtain ⟨r123, rfl, hk⟩ := hq
                refine ⟨[vI r123], rfl, ?_⟩
                refine r_hSI X (pc := 255) dX6_command_255 hk (fun h127 hk => ?_)
                refine r_aload_n X (pc := 256) dX6_command_256 rfl (q := 0) rfl ?_
                obtain ⟨o136, fs137, e9, b138, hk⟩ := hk
                refine r_callV X (pc := 257) (As := []) (st := []) rfl rfl e9 b138 m_X6_72 (fun _ => s_X6_advance hk) ⟨by decide, by decide⟩ (Nat.le_of_ble_eq_true rfl) dX6_command_257 (fun v9 h128 n129 z130 hq => ?_) (fun ci131 q132 h133 n134 z135 hf => ?_)
                · obtain ⟨rfl, hk⟩ := hq
                  refine ⟨[], rfl, ?_⟩
                  refine r_goto X (pc := 260) (tgt := 269) dX6_command_260 (by decide) ?_
                  exact r_vret X E (pc := 269) dX6_command_269 ⟨rfl, hk⟩
                · have hk := hf
                  exact r_out X E (fun _ h9 => nomatch h9) hk
              · have hk := hf
                exact r_out X E (fun _ h9 => nomatch h9) hk
            · have hk := hk.2 c120
              refine r_tswOut X (pc := 150) (tgt := 263) dX6_command_150 b30 (by omega) (by decide) ?_
              refine r_aload_n X (pc := 263) dX6_command_263 rfl (q := 0) rfl ?_
              refine r_iconst X (pc := 264) dX6_command_264 ?_
              obtain ⟨o42, fs43, e9, b44, hk⟩ := hk
              refine r_callV X (pc := 265) (As := [vI 1]) (st := []) rfl rfl e9 b44 m_X6_63 (fun _ => s_X6_error hk) ⟨by decide, by decide⟩ (Nat.le_of_ble_eq_true rfl) dX6_command_265 (fun v9 h32 n33 z34 hq => ?_) (fun ci37 q38 h39 n40 z41 hf => ?_)
              · obtain ⟨r31, rfl, hk⟩ := hq
                refine ⟨[vR r31], rfl, ?_⟩
                refine r_hThrow X (pc := 268) dX6_command_268 hk (fun ci35 q36 hk => ?_)
                exact r_out X E (fun _ h9 => nomatch h9) hk
              · have hk := hf
                exact r_out X E (fun _ h9 => nomatch h9) hk
set_option maxHeartbeats 4000000 in
theorem w_X6_command {K : KT} {Y : YT} {o : Nat} {κ : AH → Nat → Nat → Prop} {χ : QxT} (X : XY K "TrailMarkers$Reader" "command" cX6_command (Option.none : Option Jvm.ClassFile.FieldType) [] 3 28 706 Y) (E : YE K Y (QvV κ) χ) {h : AH} {n : Nat} {z : Nat} (hk : P_X6_command K o κ χ h n z) : G K Y h n z 0 (lv_argsA 0 [vR (some o)]) [] := by
  show G K Y h n z 0 [(0, vR (some o))] []
  refine r_aload_n X (pc := 0) dX6_command_0 rfl (q := 0) rfl ?_
  refine r_hGR X (pc := 1) fa_X6_17 dX6_command_1 hk (fun y147 hk => ?_)
  refine r_astore_n X (pc := 4) (lv1 := [(1, vR y147), (0, vR (some o))]) dX6_command_4 rfl (by decide) rfl ?_
  refine r_iconst X (pc := 5) dX6_command_5 ?_
  refine r_istore_n X (pc := 6) (lv1 := [(2, vI (-1)), (1, vR y147), (0, vR (some o))]) dX6_command_6 rfl (by decide) rfl ?_
  refine r_aload_n X (pc := 7) dX6_command_7 rfl (q := 1) rfl ?_
  obtain ⟨o248, fs249, e9, b250, hk⟩ := hk
  refine r_callV X (pc := 8) (As := []) (st := []) rfl rfl e9 b250 m_X6_106 (fun _ => s_J4_hashCode hk) ⟨by decide, by decide⟩ (Nat.le_of_ble_eq_true rfl) dX6_command_8 (fun v9 h149 n150 z151 hq => ?_) (fun ci243 q244 h245 n246 z247 hf => ?_)
  · obtain ⟨r148, rfl, hk⟩ := hq
    refine ⟨[vI r148], rfl, ?_⟩
    obtain ⟨b152, hk⟩ := hk
    by_cases c153 : r148 = 102102
    · have hk := hk.1 c153
      refine r_lsw X (pc := 11) (tgt := 124) dX6_command_11 b152 (by decide) (off := 113) (by rw [c153]; first | done | rfl) (by decide) ?_
      refine r_aload_n X (pc := 124) dX6_command_124 rfl (q := 1) rfl ?_
      refine r_ldcS X (pc := 125) (j := 7) rfl dX6_command_125 ?_
      obtain ⟨o165, fs166, e9, b167, hk⟩ := hk
      refine r_callV X (pc := 127) (As := [vR (some (kl K 7))]) (st := []) rfl rfl e9 b167 m_X6_84 (fun _ => s_J4_equals hk) ⟨by decide, by decide⟩ (Nat.le_of_ble_eq_true rfl) dX6_command_127 (fun v9 h155 n156 z157 hq => ?_) (fun ci160 q161 h162 n163 z164 hf => ?_)
      · obtain ⟨r154, rfl, hk⟩ := hq
        refine ⟨[vI r154], rfl, ?_⟩
        obtain ⟨b158, hk⟩ := hk
        refine r_if_eq X (pc := 130) (tgt := 149) dX6_command_130 (by decide) b158 (fun c159 => ?_) (fun c159 => ?_)
        · have hk := hk.1 c159
          refine G.sub [2, 0] rfl ?_
          exact w_X6_command_149 X E h155 n156 z157 (-1) hk
        · have hk := hk.2 c159
          refine r_iconst X (pc := 133) dX6_command_133 ?_
          refine r_istore_n X (pc := 134) (lv1 := [(2, vI 4), (1, vR y147), (0, vR (some o))]) dX6_command_134 rfl (by decide) rfl ?_
          refine r_goto X (pc := 135) (tgt := 149) dX6_command_135 (by decide) ?_
          refine G.sub [2, 0] rfl ?_
          exact w_X6_command_149 X E h155 n156 z157 4 hk
      · have hk := hf
        exact r_out X E (fun _ h9 => nomatch h9) hk
    · have hk := hk.2 c153
      by_cases c168 : r148 = 3327765
      · have hk := hk.1 c168
        refine r_lsw X (pc := 11) (tgt := 96) dX6_command_11 b152 (by decide) (off := 85) (by rw [c168]; first | done | rfl) (by decide) ?_
        refine r_aload_n X (pc := 96) dX6_command_96 rfl (q := 1) rfl ?_
        refine r_ldcS X (pc := 97) (j := 5) rfl dX6_command_97 ?_
        obtain ⟨o180, fs181, e9, b182, hk⟩ := hk
        refine r_callV X (pc := 99) (As := [vR (some (kl K 5))]) (st := []) rfl rfl e9 b182 m_X6_84 (fun _ => s_J4_equals hk) ⟨by decide, by decide⟩ (Nat.le_of_ble_eq_true rfl) dX6_command_99 (fun v9 h170 n171 z172 hq => ?_) (fun ci175 q176 h177 n178 z179 hf => ?_)
        · obtain ⟨r169, rfl, hk⟩ := hq
          refine ⟨[vI r169], rfl, ?_⟩
          obtain ⟨b173, hk⟩ := hk
          refine r_if_eq X (pc := 102) (tgt := 149) dX6_command_102 (by decide) b173 (fun c174 => ?_) (fun c174 => ?_)
          · have hk := hk.1 c174
            refine G.sub [2, 0] rfl ?_
            exact w_X6_command_149 X E h170 n171 z172 (-1) hk
          · have hk := hk.2 c174
            refine r_iconst X (pc := 105) dX6_command_105 ?_
            refine r_istore_n X (pc := 106) (lv1 := [(2, vI 2), (1, vR y147), (0, vR (some o))]) dX6_command_106 rfl (by decide) rfl ?_
            refine r_goto X (pc := 107) (tgt := 149) dX6_command_107 (by decide) ?_
            refine G.sub [2, 0] rfl ?_
            exact w_X6_command_149 X E h170 n171 z172 2 hk
        · have hk := hf
          exact r_out X E (fun _ h9 => nomatch h9) hk
      · have hk := hk.2 c168
        by_cases c183 : r148 = 3347790
        · have hk := hk.1 c183
          refine r_lsw X (pc := 11) (tgt := 110) dX6_command_11 b152 (by decide) (off := 99) (by rw [c183]; first | done | rfl) (by decide) ?_
          refine r_aload_n X (pc := 110) dX6_command_110 rfl (q := 1) rfl ?_
          refine r_ldcS X (pc := 111) (j := 6) rfl dX6_command_111 ?_
          obtain ⟨o195, fs196, e9, b197, hk⟩ := hk
          refine r_callV X (pc := 113) (As := [vR (some (kl K 6))]) (st := []) rfl rfl e9 b197 m_X6_84 (fun _ => s_J4_equals hk) ⟨by decide, by decide⟩ (Nat.le_of_ble_eq_true rfl) dX6_command_113 (fun v9 h185 n186 z187 hq => ?_) (fun ci190 q191 h192 n193 z194 hf => ?_)
          · obtain ⟨r184, rfl, hk⟩ := hq
            refine ⟨[vI r184], rfl, ?_⟩
            obtain ⟨b188, hk⟩ := hk
            refine r_if_eq X (pc := 116) (tgt := 149) dX6_command_116 (by decide) b188 (fun c189 => ?_) (fun c189 => ?_)
            · have hk := hk.1 c189
              refine G.sub [2, 0] rfl ?_
              exact w_X6_command_149 X E h185 n186 z187 (-1) hk
            · have hk := hk.2 c189
              refine r_iconst X (pc := 119) dX6_command_119 ?_
              refine r_istore_n X (pc := 120) (lv1 := [(2, vI 3), (1, vR y147), (0, vR (some o))]) dX6_command_120 rfl (by decide) rfl ?_
              refine r_goto X (pc := 121) (tgt := 149) dX6_command_121 (by decide) ?_
              refine G.sub [2, 0] rfl ?_
              exact w_X6_command_149 X E h185 n186 z187 3 hk
          · have hk := hf
            exact r_out X E (fun _ h9 => nomatch h9) hk
        · have hk := hk.2 c183
          by_cases c198 : r148 = 3351804
          · have hk := hk.1 c198
            refine r_lsw X (pc := 11) (tgt := 138) dX6_command_11 b152 (by decide) (off := 127) (by rw [c198]; first | done | rfl) (by decide) ?_
            refine r_aload_n X (pc := 138) dX6_command_138 rfl (q := 1) rfl ?_
            refine r_ldcS X (pc := 139) (j := 8) rfl dX6_command_139 ?_
            obtain ⟨o210, fs211, e9, b212, hk⟩ := hk
            refine r_callV X (pc := 141) (As := [vR (some (kl K 8))]) (st := []) rfl rfl e9 b212 m_X6_84 (fun _ => s_J4_equals hk) ⟨by decide, by decide⟩ (Nat.le_of_ble_eq_true rfl) dX6_command_141 (fun v9 h200 n201 z202 hq => ?_) (fun ci205 q206 h207 n208 z209 hf => ?_)
            · obtain ⟨r199, rfl, hk⟩ := hq
              refine ⟨[vI r199], rfl, ?_⟩
              obtain ⟨b203, hk⟩ := hk
              refine r_if_eq X (pc := 144) (tgt := 149) dX6_command_144 (by decide) b203 (fun c204 => ?_) (fun c204 => ?_)
              · have hk := hk.1 c204
                refine G.sub [2, 0] rfl ?_
                exact w_X6_command_149 X E h200 n201 z202 (-1) hk
              · have hk := hk.2 c204
                refine r_iconst X (pc := 147) dX6_command_147 ?_
                refine r_istore_n X (pc := 148) (lv1 := [(2, vI 5), (1, vR y147), (0, vR (some o))]) dX6_command_148 rfl (by decide) rfl ?_
                refine G.sub [2, 0] rfl ?_
                exact w_X6_command_149 X E h200 n201 z202 5 hk
            · have hk := hf
              exact r_out X E (fun _ h9 => nomatch h9) hk
          · have hk := hk.2 c198
            by_cases c213 : r148 = 93819586
            · have hk := hk.1 c213
              refine r_lsw X (pc := 11) (tgt := 68) dX6_command_11 b152 (by decide) (off := 57) (by rw [c213]; first | done | rfl) (by decide) ?_
              refine r_aload_n X (pc := 68) dX6_command_68 rfl (q := 1) rfl ?_
              refine r_ldcS X (pc := 69) (j := 3) rfl dX6_command_69 ?_
              obtain ⟨o225, fs226, e9, b227, hk⟩ := hk
              refine r_callV X (pc := 71) (As := [vR (some (kl K 3))]) (st := []) rfl rfl e9 b227 m_X6_84 (fun _ => s_J4_equals hk) ⟨by decide, by decide⟩ (Nat.le_of_ble_eq_true rfl) dX6_command_71 (fun v9 h215 n216 z217 hq => ?_) (fun ci220 q221 h222 n223 z224 hf => ?_)
              · obtain ⟨r214, rfl, hk⟩ := hq
                refine ⟨[vI r214], rfl, ?_⟩
                obtain ⟨b218, hk⟩ := hk
                refine r_if_eq X (pc := 74) (tgt := 149) dX6_command_74 (by decide) b218 (fun c219 => ?_) (fun c219 => ?_)
                · have hk := hk.1 c219
                  refine G.sub [2, 0] rfl ?_
                  exact w_X6_command_149 X E h215 n216 z217 (-1) hk
                · have hk := hk.2 c219
                  refine r_iconst X (pc := 77) dX6_command_77 ?_
                  refine r_istore_n X (pc := 78) (lv1 := [(2, vI 0), (1, vR y147), (0, vR (some o))]) dX6_command_78 rfl (by decide) rfl ?_
                  refine r_goto X (pc := 79) (tgt := 149) dX6_command_79 (by decide) ?_
                  refine G.sub [2, 0] rfl ?_
                  exact w_X6_command_149 X E h215 n216 z217 0 hk
              · have hk := hf
                exact r_out X E (fun _ h9 => nomatch h9) hk
            · have hk := hk.2 c213
              by_cases c228 : r148 = 93832333
              · have hk := hk.1 c228
                refine r_lsw X (pc := 11) (tgt := 82) dX6_command_11 b152 (by decide) (off := 71) (by rw [c228]; first | done | rfl) (by decide) ?_
                refine r_aload_n X (pc := 82) dX6_command_82 rfl (q := 1) rfl ?_
                refine r_ldcS X (pc := 83) (j := 4) rfl dX6_command_83 ?_
                obtain ⟨o240, fs241, e9, b242, hk⟩ := hk
                refine r_callV X (pc := 85) (As := [vR (some (kl K 4))]) (st := []) rfl rfl e9 b242 m_X6_84 (fun _ => s_J4_equals hk) ⟨by decide, by decide⟩ (Nat.le_of_ble_eq_true rfl) dX6_command_85 (fun v9 h230 n231 z232 hq => ?_) (fun ci235 q236 h237 n238 z239 hf => ?_)
                · obtain ⟨r229, rfl, hk⟩ := hq
                  refine ⟨[vI r229], rfl, ?_⟩
                  obtain ⟨b233, hk⟩ := hk
                  refine r_if_eq X (pc := 88) (tgt := 149) dX6_command_88 (by decide) b233 (fun c234 => ?_) (fun c234 => ?_)
                  · have hk := hk.1 c234
                    refine G.sub [2, 0] rfl ?_
                    exact w_X6_command_149 X E h230 n231 z232 (-1) hk
                  · have hk := hk.2 c234
                    refine r_iconst X (pc := 91) dX6_command_91 ?_
                    refine r_istore_n X (pc := 92) (lv1 := [(2, vI 1), (1, vR y147), (0, vR (some o))]) dX6_command_92 rfl (by decide) rfl ?_
                    refine r_goto X (pc := 93) (tgt := 149) dX6_command_93 (by decide) ?_
                    refine G.sub [2, 0] rfl ?_
                    exact w_X6_command_149 X E h230 n231 z232 1 hk
                · have hk := hf
                  exact r_out X E (fun _ h9 => nomatch h9) hk
              · have hk := hk.2 c228
                refine r_lsw X (pc := 11) (tgt := 149) dX6_command_11 b152 (by decide) (off := 138) (by simp only [Op.lookupswitch.offset, beq_iff_eq, c153, Ne.symm c153, c168, Ne.symm c168, c183, Ne.symm c183, c198, Ne.symm c198, c213, Ne.symm c213, c228, Ne.symm c228, if_false, ↓reduceIte]) (by decide) ?_
                refine G.sub [2, 0] rfl ?_
                exact w_X6_command_149 X E h149 n150 z151 (-1) hk
  · have hk := hf
    exact r_out X E (fun _ h9 => nomatch h9) hk
theorem s_X6_command {K : KT} {l : Launch} {o : Nat} {κ : AH → Nat → Nat → Prop} {χ : QxT} {h : AH} {n : Nat} {z : Nat} (hk : P_X6_command K o κ χ h n z) : Ct K l yX6_command (ws_ yX6_command cX6_command 3 (Option.none : Option Jvm.ClassFile.FieldType)) 28 706 ([vR (some o)].map cV) h n z (QvV κ) χ :=
  ct_of (by decide +kernel) (Nat.le_of_ble_eq_true rfl) (fun Y X E => w_X6_command X E hk)
set_option maxHeartbeats 4000000 in
theorem w_X6_commands_2 {K : KT} {Y : YT} {o : Nat} {κ : Int → AH → Nat → Nat → Prop} {χ : QxT} (X : XY K "TrailMarkers$Reader" "commands" cX6_commands (Option.some Jvm.ClassFile.FieldType.int) (tableOf [((15 : Nat), (19 : Nat), (22 : Nat), (101 : Nat))]) 3 29 728 Y) (E : YE K Y (QvI κ) χ) {k_22 : AH → Nat → Nat → Option Nat → Prop} {k_51 : AH → Nat → Nat → Int → Prop} (H_22 : ∀ (h : AH) (n : Nat) (z : Nat) (s0 : Option Nat), k_22 h n z s0 → G K Y h n z 22 [(0, vR (some o))] [vR s0]) (H_51 : ∀ (h : AH) (n : Nat) (z : Nat) (x1 : Int), k_51 h n z x1 → G K Y h n z 51 [(0, vR (some o)), (1, vI x1)] []) : ∀ (f : Nat) (h : AH) (n : Nat) (z : Nat) (x1 : Int), L_X6_commands_2 K o k_22 k_51 κ χ f h n z x1 → G K Y h n z 2 [(0, vR (some o)), (1, vI x1)] [] := by
  intro f
  induction f with
  | zero => intro h n z x1 hk; exact hk.elim
  | succ f ih =>
    intro h n z x1 hk
    refine r_aload_n X (pc := 2) dX6_commands_2 rfl (q := 0) rfl ?_
    refine r_hGI X (pc := 3) fa_X6_39 dX6_commands_3 hk (fun y6 hk => ?_)
    refine r_iconst X (pc := 6) dX6_commands_6 ?_
    obtain ⟨b7, hk⟩ := hk
    refine r_icmp_eq X (pc := 7) (tgt := 51) dX6_commands_7 (by decide) ⟨b7, (by decide)⟩ (fun c8 => ?_) (fun c8 => ?_)
    · have hk := hk.1 c8
      exact H_51 h n z x1 hk
    · have hk := hk.2 c8
      refine r_aload_n X (pc := 10) dX6_commands_10 rfl (q := 0) rfl ?_
      refine r_iconst X (pc := 11) dX6_commands_11 ?_
      obtain ⟨o52, fs53, e9, b54, hk⟩ := hk
      refine r_callV X (pc := 12) (As := [vI 0]) (st := []) rfl rfl e9 b54 m_X6_75 (fun _ => s_X6_expect hk) ⟨by decide, by decide⟩ (Nat.le_of_ble_eq_true rfl) dX6_commands_12 (fun v9 h9 n10 z11 hq => ?_) (fun ci47 q48 h49 n50 z51 hf => ?_)
      · obtain ⟨rfl, hk⟩ := hq
        refine ⟨[], rfl, ?_⟩
        refine r_aload_n X (pc := 15) dX6_commands_15 rfl (q := 0) rfl ?_
        obtain ⟨o44, fs45, e9, b46, hk⟩ := hk
        refine r_callV X (pc := 16) (As := []) (st := []) rfl rfl e9 b46 m_X6_98 (fun _ => s_X6_command hk) ⟨by decide, by decide⟩ (Nat.le_of_ble_eq_true rfl) dX6_commands_16 (fun v9 h12 n13 z14 hq => ?_) (fun ci37 q38 h39 n40 z41 hf => ?_)
        · obtain ⟨rfl, hk⟩ := hq
          refine ⟨[], rfl, ?_⟩
          refine r_goto X (pc := 19) (tgt := 36) dX6_commands_19 (by decide) ?_
          refine r_aload_n X (pc := 36) dX6_commands_36 rfl (q := 0) rfl ?_
          refine r_iconst X (pc := 37) dX6_commands_37 ?_
          obtain ⟨o34, fs35, e9, b36, hk⟩ := hk
          refine r_callV X (pc := 38) (As := [vI 2]) (st := []) rfl rfl e9 b36 m_X6_75 (fun _ => s_X6_expect hk) ⟨by decide, by decide⟩ (Nat.le_of_ble_eq_true rfl) dX6_commands_38 (fun v9 h15 n16 z17 hq => ?_) (fun ci29 q30 h31 n32 z33 hf => ?_)
          · obtain ⟨rfl, hk⟩ := hq
            refine ⟨[], rfl, ?_⟩
            refine r_aload_n X (pc := 41) dX6_commands_41 rfl (q := 0) rfl ?_
            obtain ⟨o26, fs27, e9, b28, hk⟩ := hk
            refine r_callV X (pc := 42) (As := []) (st := []) rfl rfl e9 b28 m_X6_72 (fun _ => s_X6_advance hk) ⟨by decide, by decide⟩ (Nat.le_of_ble_eq_true rfl) dX6_commands_42 (fun v9 h18 n19 z20 hq => ?_) (fun ci21 q22 h23 n24 z25 hf => ?_)
            · obtain ⟨rfl, hk⟩ := hq
              refine ⟨[], rfl, ?_⟩
              refine r_iinc X (pc := 45) (q := 1) (lv1 := [(1, vI (x1 + 1)), (0, vR (some o))]) dX6_commands_45 rfl (by decide) rfl ?_
              refine r_goto X (pc := 48) (tgt := 2) dX6_commands_48 (by decide) ?_
              refine G.sub [1, 0] rfl ?_
              exact ih h18 n19 z20 (x1 + 1) hk
            · have hk := hf
              exact r_out X E (List.forall_mem_cons.mpr ⟨Or.inl (by decide), (fun _ h9 => nomatch h9)⟩) hk
          · have hk := hf
            exact r_out X E (List.forall_mem_cons.mpr ⟨Or.inl (by decide), (fun _ h9 => nomatch h9)⟩) hk
        · have hk := hf
          by_cases c42 : ci37 = 3
          · replace hk := hk.1 c42
            subst c42
            refine r_catch X (pc := 16) [] ({ startPc := 15, endPc := 19, handlerPc := 22, catchType := 101 } : ExceptionTableEntry) [] rfl (fun _ h9 => nomatch h9) (by decide) (by decide) q856 co_3_TrailMarkers_PlaceException ?_
            refine G.sub [0] rfl ?_
            exact H_22 h39 n40 z41 (some q38) hk
          · replace hk := hk.2 c42
            obtain ⟨b43, hk⟩ := hk
            exact r_out X E (List.forall_mem_cons.mpr ⟨Or.inr ⟨by decide, "TrailMarkers$PlaceException", q856, cns_TrailMarkers_PlaceException_6_22_21_23 _ b43⟩, (fun _ h9 => nomatch h9)⟩) hk
      · have hk := hf
        exact r_out X E (List.forall_mem_cons.mpr ⟨Or.inl (by decide), (fun _ h9 => nomatch h9)⟩) hk
set_option maxHeartbeats 4000000 in
theorem w_X6_commands_22 {K : KT} {Y : YT} {o : Nat} {κ : Int → AH → Nat → Nat → Prop} {χ : QxT} (X : XY K "TrailMarkers$Reader" "commands" cX6_commands (Option.some Jvm.ClassFile.FieldType.int) (tableOf [((15 : Nat), (19 : Nat), (22 : Nat), (101 : Nat))]) 3 29 728 Y) (E : YE K Y (QvI κ) χ) : ∀ (h : AH) (n : Nat) (z : Nat) (s0 : Option Nat), P_X6_commands_22 K o κ χ h n z s0 → G K Y h n z 22 [(0, vR (some o))] [vR s0] := by
  intro h n z s0 hk
  refine r_astore_n X (pc := 22) (lv1 := [(2, vR s0), (0, vR (some o))]) dX6_commands_22 rfl (by decide) rfl ?_
  refine r_hNew X (pc := 23) nw_X6_67 dX6_commands_23 hk (fun h55 hk => ?_)
  refine r_dup X (pc := 26) dX6_commands_26 rfl ?_
  refine r_aload_n X (pc := 27) dX6_commands_27 rfl (q := 0) rfl ?_
  refine r_aload_n X (pc := 28) dX6_commands_28 rfl (q := 1) rfl ?_
  refine r_hGI X (pc := 29) fa_X6_36 dX6_commands_29 hk (fun y56 hk => ?_)
  refine r_callI X (pc := 32) (As := [vR s0, vI y56]) (st := [vR (some n)]) m_X6_103 (fun _ => s_X7_init_2 hk) ⟨by decide, by decide⟩ (Nat.le_of_ble_eq_true rfl) dX6_commands_32 (fun v9 h57 n58 z59 hq => ?_) (fun ci62 q63 h64 n65 z66 hf => ?_)
  · obtain ⟨rfl, hk⟩ := hq
    refine ⟨[], rfl, ?_⟩
    refine r_hThrow X (pc := 35) dX6_commands_35 hk (fun ci60 q61 hk => ?_)
    exact r_out X E (List.forall_mem_cons.mpr ⟨Or.inl (by decide), (fun _ h9 => nomatch h9)⟩) hk
  · have hk := hf
    exact r_out X E (List.forall_mem_cons.mpr ⟨Or.inl (by decide), (fun _ h9 => nomatch h9)⟩) hk
set_option maxHeartbeats 4000000 in
theorem w_X6_commands_51 {K : KT} {Y : YT} {o : Nat} {κ : Int → AH → Nat → Nat → Prop} {χ : QxT} (X : XY K "TrailMarkers$Reader" "commands" cX6_commands (Option.some Jvm.ClassFile.FieldType.int) (tableOf [((15 : Nat), (19 : Nat), (22 : Nat), (101 : Nat))]) 3 29 728 Y) (E : YE K Y (QvI κ) χ) : ∀ (h : AH) (n : Nat) (z : Nat) (x1 : Int), P_X6_commands_51 K o κ χ h n z x1 → G K Y h n z 51 [(0, vR (some o)), (1, vI x1)] [] := by
  intro h n z x1 hk
  refine r_iload_n X (pc := 51) dX6_commands_51 rfl (q := 1) rfl ?_
  exact r_iret X E (pc := 52) dX6_commands_52 rfl ⟨_, rfl, hk⟩
set_option maxHeartbeats 4000000 in
theorem w_X6_commands {K : KT} {Y : YT} {o : Nat} {κ : Int → AH → Nat → Nat → Prop} {χ : QxT} (X : XY K "TrailMarkers$Reader" "commands" cX6_commands (Option.some Jvm.ClassFile.FieldType.int) (tableOf [((15 : Nat), (19 : Nat), (22 : Nat), (101 : Nat))]) 3 29 728 Y) (E : YE K Y (QvI κ) χ) {h : AH} {n : Nat} {z : Nat} (hk : P_X6_commands K o κ χ h n z) : G K Y h n z 0 (lv_argsA 0 [vR (some o)]) [] := by
  show G K Y h n z 0 [(0, vR (some o))] []
  refine r_iconst X (pc := 0) dX6_commands_0 ?_
  refine r_istore_n X (pc := 1) (lv1 := [(1, vI 0), (0, vR (some o))]) dX6_commands_1 rfl (by decide) rfl ?_
  refine G.sub [1, 0] rfl ?_
  have HH67 : ∀ (h : AH) (n : Nat) (z : Nat) (s0 : Option Nat), (P_X6_commands_22 K o κ χ h n z s0) → G K Y h n z 22 [(0, vR (some o))] [vR s0] := by
      intro h n z s0 hk
      exact w_X6_commands_22 X E h n z s0 hk
  have HH68 : ∀ (h : AH) (n : Nat) (z : Nat) (x1 : Int), (P_X6_commands_51 K o κ χ h n z x1) → G K Y h n z 51 [(0, vR (some o)), (1, vI x1)] [] := by
      intro h n z x1 hk
      exact w_X6_commands_51 X E h n z x1 hk
  obtain ⟨f9, hk⟩ := hk
  exact w_X6_commands_2 X E HH67 HH68 f9 h n z 0 hk
theorem s_X6_commands {K : KT} {l : Launch} {o : Nat} {κ : Int → AH → Nat → Nat → Prop} {χ : QxT} {h : AH} {n : Nat} {z : Nat} (hk : P_X6_commands K o κ χ h n z) : Ct K l yX6_commands (wsW_ yX6_commands cX6_commands 3 (Option.some Jvm.ClassFile.FieldType.int) [((15 : Nat), (19 : Nat), (22 : Nat), (101 : Nat))]) 29 728 ([vR (some o)].map cV) h n z (QvI κ) χ :=
  ct_ofH (by decide +kernel) (Nat.le_of_ble_eq_true rfl) (fun Y X E => w_X6_commands X E hk)
