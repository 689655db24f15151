set_option maxRecDepth 100000
set_option maxHeartbeats 4000000 in
theorem w_X5_items_4 {K : KT} {Y : YT} {fr lo : Nat} {Qx : QxT} {t n z : Nat} {h0 : AH} {κ : TS → Prop} (X : XY K "TrailMarkersModel" "items" cX5_items (Option.none : Option Jvm.ClassFile.FieldType) [] 1 fr lo Y) (E : YE K Y (tQv t h0 n z κ) Qx) (hz : kz K ≤ t) (hL : LitOK K h0) {I : (TS → Prop) → TS → Prop} {frI loI : Nat} (HI : ∀ {κ9 : TS → Prop} {sg9 : TS}, I κ9 sg9 → ∀ l : Launch, Ct K l yX5_item (ws_ yX5_item cX5_item 3 (Option.none : Option Jvm.ClassFile.FieldType)) frI loI ([vR (some t)].map cV) (tw t sg9 h0) n z (tQv t h0 n z κ9) noX) (hR : frI + 1 ≤ fr ∧ loI + 22 ≤ lo ∧ 0 ≤ fr ∧ 0 ≤ lo) {k_26 : TS → Prop} (H_26 : ∀ (sg : TS), k_26 sg → G K Y (tw t sg h0) n z 26 [(0, vR (some t))] []) : ∀ (f : Nat) (sg : TS), L_X5_items_4 I k_26 κ f sg → G K Y (tw t sg h0) n z 4 [(0, vR (some t))] [] := by
  intro f
  induction f with
  | zero => intro sg hk; exact hk.elim
  | succ f ih =>
    intro sg hk
    refine r_aload_n X (pc := 4) dX5_items_4 rfl (q := 0) rfl ?_
    refine r_tgI X (pc := 5) (v := sg.1 43) fa_X5_288 (by decide) rfl dX5_items_5 ?_
    obtain ⟨b7, hk⟩ := hk
    refine r_if_ne X (pc := 8) (tgt := 26) dX5_items_8 (by decide) b7 (fun c8 => ?_) (fun c8 => ?_)
    · have hk := hk.2 c8
      exact H_26 sg hk
    · have hk := hk.1 c8
      refine r_aload_n X (pc := 11) dX5_items_11 rfl (q := 0) rfl ?_
      refine r_tgI X (pc := 12) (v := sg.1 39) fa_X5_268 (by decide) rfl dX5_items_12 ?_
      refine r_iconst X (pc := 15) dX5_items_15 ?_
      obtain ⟨b9, hk⟩ := hk
      refine r_icmp_ne X (pc := 16) (tgt := 26) dX5_items_16 (by decide) ⟨b9, (by decide)⟩ (fun c10 => ?_) (fun c10 => ?_)
      · have hk := hk.2 c10
        exact H_26 sg hk
      · have hk := hk.1 c10
        refine r_aload_n X (pc := 19) dX5_items_19 rfl (q := 0) rfl ?_
        refine r_callV X (pc := 20) (As := []) (st := []) rfl rfl rfl (tw_t t _ h0) m_X5_353 (fun _ => HI hk _) ⟨by omega, by omega⟩ (Nat.le_of_ble_eq_true rfl) dX5_items_20 (fun v9 h9 n9 z9 hq => ?_) (fun _ _ _ _ _ hf => hf.elim)
        obtain ⟨rfl, rfl, rfl, sg11, rfl, hk⟩ := hq
        refine ⟨[], rfl, ?_⟩
        refine r_goto X (pc := 23) (tgt := 4) dX5_items_23 (by decide) ?_
        exact ih sg11 hk
set_option maxHeartbeats 4000000 in
theorem w_X5_items_26 {K : KT} {Y : YT} {fr lo : Nat} {Qx : QxT} {t n z : Nat} {h0 : AH} {κ : TS → Prop} (X : XY K "TrailMarkersModel" "items" cX5_items (Option.none : Option Jvm.ClassFile.FieldType) [] 1 fr lo Y) (E : YE K Y (tQv t h0 n z κ) Qx) (hz : kz K ≤ t) (hL : LitOK K h0) {I : (TS → Prop) → TS → Prop} {frI loI : Nat} (HI : ∀ {κ9 : TS → Prop} {sg9 : TS}, I κ9 sg9 → ∀ l : Launch, Ct K l yX5_item (ws_ yX5_item cX5_item 3 (Option.none : Option Jvm.ClassFile.FieldType)) frI loI ([vR (some t)].map cV) (tw t sg9 h0) n z (tQv t h0 n z κ9) noX) (hR : frI + 1 ≤ fr ∧ loI + 22 ≤ lo ∧ 0 ≤ fr ∧ 0 ≤ lo) : ∀ (sg : TS), P_X5_items_26 I κ sg → G K Y (tw t sg h0) n z 26 [(0, vR (some t))] [] := by
  intro sg hk
  exact r_vret X E (pc := 26) dX5_items_26 ⟨rfl, rfl, rfl, _, rfl, hk⟩
set_option maxHeartbeats 4000000 in
theorem w_X5_items {K : KT} {Y : YT} {fr lo : Nat} {Qx : QxT} {t n z : Nat} {h0 : AH} {κ : TS → Prop} (X : XY K "TrailMarkersModel" "items" cX5_items (Option.none : Option Jvm.ClassFile.FieldType) [] 1 fr lo Y) (E : YE K Y (tQv t h0 n z κ) Qx) (hz : kz K ≤ t) (hL : LitOK K h0) {I : (TS → Prop) → TS → Prop} {frI loI : Nat} (HI : ∀ {κ9 : TS → Prop} {sg9 : TS}, I κ9 sg9 → ∀ l : Launch, Ct K l yX5_item (ws_ yX5_item cX5_item 3 (Option.none : Option Jvm.ClassFile.FieldType)) frI loI ([vR (some t)].map cV) (tw t sg9 h0) n z (tQv t h0 n z κ9) noX) (hR : frI + 1 ≤ fr ∧ loI + 22 ≤ lo ∧ 0 ≤ fr ∧ 0 ≤ lo) {sg : TS} (hk : P_X5_items I κ sg) : G K Y (tw t sg h0) n z 0 (lv_argsA 0 [vR (some t)]) [] := by
  show G K Y (tw t sg h0) n z 0 [(0, vR (some t))] []
  refine r_aload_n X (pc := 0) dX5_items_0 rfl (q := 0) rfl ?_
  refine r_callV X (pc := 1) (As := []) (st := []) rfl rfl rfl (tw_t t _ h0) m_X5_353 (fun _ => HI hk _) ⟨by omega, by omega⟩ (Nat.le_of_ble_eq_true rfl) dX5_items_1 (fun v9 h9 n9 z9 hq => ?_) (fun _ _ _ _ _ hf => hf.elim)
  obtain ⟨rfl, rfl, rfl, sg12, rfl, hk⟩ := hq
  refine ⟨[], rfl, ?_⟩
  have HH13 : ∀ (sg : TS), (P_X5_items_26 I κ sg) → G K Y (tw t sg h0) n z 26 [(0, vR (some t))] [] := by
      intro sg hk
      exact w_X5_items_26 X E hz hL HI hR sg hk
  obtain ⟨f9, hk⟩ := hk
  exact w_X5_items_4 X E hz hL HI hR HH13 f9 sg12 hk
theorem s_X5_items {fr lo : Nat} {K : KT} {l : Launch} {t n z : Nat} {h0 : AH} {κ : TS → Prop} {I : (TS → Prop) → TS → Prop} {frI loI : Nat} (HI : ∀ {κ9 : TS → Prop} {sg9 : TS}, I κ9 sg9 → ∀ l : Launch, Ct K l yX5_item (ws_ yX5_item cX5_item 3 (Option.none : Option Jvm.ClassFile.FieldType)) frI loI ([vR (some t)].map cV) (tw t sg9 h0) n z (tQv t h0 n z κ9) noX) (hR : frI + 1 ≤ fr ∧ loI + 22 ≤ lo ∧ 0 ≤ fr ∧ 0 ≤ lo) (hz : kz K ≤ t) (hL : LitOK K h0) {sg : TS} (hk : P_X5_items I κ sg) : Ct K l yX5_items (ws_ yX5_items cX5_items 1 (Option.none : Option Jvm.ClassFile.FieldType)) fr lo ([vR (some t)].map cV) (tw t sg h0) n z (tQv t h0 n z κ) noX :=
  ct_of (by decide +kernel) (Nat.le_of_ble_eq_true rfl) (fun Y X E => w_X5_items X E hz hL HI hR hk)
set_option maxHeartbeats 4000000 in
theorem w_X5_group_98 {K : KT} {Y : YT} {fr lo : Nat} {Qx : QxT} {t n z : Nat} {h0 : AH} {κ : TS → Prop} (X : XY K "TrailMarkersModel" "group" cX5_group (Option.none : Option Jvm.ClassFile.FieldType) [] 6 fr lo Y) (E : YE K Y (tQv t h0 n z κ) Qx) (hz : kz K ≤ t) (hL : LitOK K h0) {I : (TS → Prop) → TS → Prop} {frI loI : Nat} (HI : ∀ {κ9 : TS → Prop} {sg9 : TS}, I κ9 sg9 → ∀ l : Launch, Ct K l yX5_item (ws_ yX5_item cX5_item 3 (Option.none : Option Jvm.ClassFile.FieldType)) frI loI ([vR (some t)].map cV) (tw t sg9 h0) n z (tQv t h0 n z κ9) noX) (hR : frI + 2 ≤ fr ∧ loI + 42 ≤ lo ∧ 4 ≤ fr ∧ 100 ≤ lo) {k_149 : TS → Int → Int → Int → Int → Prop} (H_149 : ∀ (sg : TS) (x1 : Int) (x2 : Int) (x3 : Int) (x4 : Int), k_149 sg x1 x2 x3 x4 → G K Y (tw t sg h0) n z 149 [(0, vR (some t)), (1, vI x1), (2, vI x2), (3, vI x3), (4, vI x4)] []) : ∀ (f : Nat) (sg : TS) (x1 : Int) (x2 : Int) (x3 : Int) (x4 : Int) (x5 : Int), L_X5_group_98 I k_149 κ f sg x1 x2 x3 x4 x5 → G K Y (tw t sg h0) n z 98 [(0, vR (some t)), (1, vI x1), (2, vI x2), (3, vI x3), (4, vI x4), (5, vI x5)] [] := by
  intro f
  induction f with
  | zero => intro sg x1 x2 x3 x4 x5 hk; exact hk.elim
  | succ f ih =>
    intro sg x1 x2 x3 x4 x5 hk
    refine r_iload X (pc := 98) dX5_group_98 (q := 5) rfl ?_
    refine r_iload_n X (pc := 100) dX5_group_100 rfl (q := 3) rfl ?_
    obtain ⟨b27, b28, hk⟩ := hk
    refine r_icmp_ge X (pc := 101) (tgt := 149) dX5_group_101 (by decide) ⟨b27, b28⟩ (fun c29 => ?_) (fun c29 => ?_)
    · have hk := hk.2 c29
      refine G.sub [0, 1, 2, 3, 4] rfl ?_
      exact H_149 sg x1 x2 x3 x4 hk
    · have hk := hk.1 c29
      refine r_aload_n X (pc := 104) dX5_group_104 rfl (q := 0) rfl ?_
      refine r_tgI X (pc := 105) (v := sg.1 43) fa_X5_288 (by decide) rfl dX5_group_105 ?_
      obtain ⟨b30, hk⟩ := hk
      refine r_if_ne X (pc := 108) (tgt := 149) dX5_group_108 (by decide) b30 (fun c31 => ?_) (fun c31 => ?_)
      · have hk := hk.2 c31
        refine G.sub [0, 1, 2, 3, 4] rfl ?_
        exact H_149 sg x1 x2 x3 x4 hk
      · have hk := hk.1 c31
        refine r_aload_n X (pc := 111) dX5_group_111 rfl (q := 0) rfl ?_
        refine r_aload_n X (pc := 112) dX5_group_112 rfl (q := 0) rfl ?_
        refine r_tgR X (pc := 113) (ty := 0) (N := 25) fa_X5_63 rfl (by decide) dX5_group_113 ?_
        refine r_iload X (pc := 116) dX5_group_116 (q := 5) rfl ?_
        obtain ⟨b32, hk⟩ := hk
        refine r_tiald X (pc := 118) (v := sg.2 44 x5) (N := 25) rfl rfl dX5_group_118 b32 ?_
        refine r_aload_n X (pc := 119) dX5_group_119 rfl (q := 0) rfl ?_
        refine r_tgR X (pc := 120) (ty := 0) (N := 25) fa_X5_66 rfl (by decide) dX5_group_120 ?_
        refine r_iload X (pc := 123) dX5_group_123 (q := 5) rfl ?_
        refine r_tiald X (pc := 125) (v := sg.2 45 x5) (N := 25) rfl rfl dX5_group_125 b32 ?_
        refine r_aload_n X (pc := 126) dX5_group_126 rfl (q := 0) rfl ?_
        refine r_tgR X (pc := 127) (ty := 2) (N := 25) fa_X5_72 rfl (by decide) dX5_group_127 ?_
        refine r_iload X (pc := 130) dX5_group_130 (q := 5) rfl ?_
        refine r_tzald X (pc := 132) (v := sg.2 47 x5) (N := 25) rfl rfl dX5_group_132 b32 ?_
        refine r_aload_n X (pc := 133) dX5_group_133 rfl (q := 0) rfl ?_
        refine r_tgR X (pc := 134) (ty := 0) (N := 25) fa_X5_69 rfl (by decide) dX5_group_134 ?_
        refine r_iload X (pc := 137) dX5_group_137 (q := 5) rfl ?_
        refine r_tiald X (pc := 139) (v := sg.2 46 x5) (N := 25) rfl rfl dX5_group_139 b32 ?_
        refine r_callV X (pc := 140) (As := [vI (sg.2 44 x5), vI (sg.2 45 x5), vI (sg.2 47 x5), vI (sg.2 46 x5)]) (st := []) rfl rfl rfl (tw_t t _ h0) m_X5_347 (fun _ => s_X5_layLeg hz hk) ⟨by omega, by omega⟩ (Nat.le_of_ble_eq_true rfl) dX5_group_140 (fun v9 h9 n9 z9 hq => ?_) (fun _ _ _ _ _ hf => hf.elim)
        obtain ⟨rfl, rfl, rfl, sg33, rfl, hk⟩ := hq
        refine ⟨[], rfl, ?_⟩
        refine r_iinc X (pc := 143) (q := 5) (lv1 := [(5, vI (x5 + 1)), (0, vR (some t)), (1, vI x1), (2, vI x2), (3, vI x3), (4, vI x4)]) dX5_group_143 rfl (by decide) rfl ?_
        refine r_goto X (pc := 146) (tgt := 98) dX5_group_146 (by decide) ?_
        refine G.sub [1, 2, 3, 4, 5, 0] rfl ?_
        exact ih sg33 x1 x2 x3 x4 (x5 + 1) hk
set_option maxHeartbeats 4000000 in
theorem w_X5_group_149 {K : KT} {Y : YT} {fr lo : Nat} {Qx : QxT} {t n z : Nat} {h0 : AH} {κ : TS → Prop} (X : XY K "TrailMarkersModel" "group" cX5_group (Option.none : Option Jvm.ClassFile.FieldType) [] 6 fr lo Y) (E : YE K Y (tQv t h0 n z κ) Qx) (hz : kz K ≤ t) (hL : LitOK K h0) {I : (TS → Prop) → TS → Prop} {frI loI : Nat} (HI : ∀ {κ9 : TS → Prop} {sg9 : TS}, I κ9 sg9 → ∀ l : Launch, Ct K l yX5_item (ws_ yX5_item cX5_item 3 (Option.none : Option Jvm.ClassFile.FieldType)) frI loI ([vR (some t)].map cV) (tw t sg9 h0) n z (tQv t h0 n z κ9) noX) (hR : frI + 2 ≤ fr ∧ loI + 42 ≤ lo ∧ 4 ≤ fr ∧ 100 ≤ lo) {k_82 : TS → Int → Int → Int → Int → Prop} {k_155 : TS → Prop} (H_82 : ∀ (sg : TS) (x1 : Int) (x2 : Int) (x3 : Int) (x4 : Int), k_82 sg x1 x2 x3 x4 → G K Y (tw t sg h0) n z 82 [(0, vR (some t)), (1, vI x1), (2, vI x2), (3, vI x3), (4, vI x4)] []) (H_155 : ∀ (sg : TS), k_155 sg → G K Y (tw t sg h0) n z 155 [(0, vR (some t))] []) : ∀ (sg : TS) (x1 : Int) (x2 : Int) (x3 : Int) (x4 : Int), P_X5_group_149 I k_82 k_155 κ sg x1 x2 x3 x4 → G K Y (tw t sg h0) n z 149 [(0, vR (some t)), (1, vI x1), (2, vI x2), (3, vI x3), (4, vI x4)] [] := by
  intro sg x1 x2 x3 x4 hk
  refine r_iinc X (pc := 149) (q := 4) (lv1 := [(4, vI (x4 + 1)), (0, vR (some t)), (1, vI x1), (2, vI x2), (3, vI x3)]) dX5_group_149 rfl (by decide) rfl ?_
  refine r_goto X (pc := 152) (tgt := 82) dX5_group_152 (by decide) ?_
  refine G.sub [1, 2, 3, 4, 0] rfl ?_
  exact H_82 sg x1 x2 x3 (x4 + 1) hk
set_option maxHeartbeats 4000000 in
theorem w_X5_group_82 {K : KT} {Y : YT} {fr lo : Nat} {Qx : QxT} {t n z : Nat} {h0 : AH} {κ : TS → Prop} (X : XY K "TrailMarkersModel" "group" cX5_group (Option.none : Option Jvm.ClassFile.FieldType) [] 6 fr lo Y) (E : YE K Y (tQv t h0 n z κ) Qx) (hz : kz K ≤ t) (hL : LitOK K h0) {I : (TS → Prop) → TS → Prop} {frI loI : Nat} (HI : ∀ {κ9 : TS → Prop} {sg9 : TS}, I κ9 sg9 → ∀ l : Launch, Ct K l yX5_item (ws_ yX5_item cX5_item 3 (Option.none : Option Jvm.ClassFile.FieldType)) frI loI ([vR (some t)].map cV) (tw t sg9 h0) n z (tQv t h0 n z κ9) noX) (hR : frI + 2 ≤ fr ∧ loI + 42 ≤ lo ∧ 4 ≤ fr ∧ 100 ≤ lo) {k_155 : TS → Prop} (H_155 : ∀ (sg : TS), k_155 sg → G K Y (tw t sg h0) n z 155 [(0, vR (some t))] []) : ∀ (f : Nat) (sg : TS) (x1 : Int) (x2 : Int) (x3 : Int) (x4 : Int), L_X5_group_82 I k_155 κ f sg x1 x2 x3 x4 → G K Y (tw t sg h0) n z 82 [(0, vR (some t)), (1, vI x1), (2, vI x2), (3, vI x3), (4, vI x4)] [] := by
  intro f
  induction f with
  | zero => intro sg x1 x2 x3 x4 hk; exact hk.elim
  | succ f ih =>
    intro sg x1 x2 x3 x4 hk
    refine r_iload X (pc := 82) dX5_group_82 (q := 4) rfl ?_
    refine r_iload_n X (pc := 84) dX5_group_84 rfl (q := 1) rfl ?_
    obtain ⟨b34, b35, hk⟩ := hk
    refine r_icmp_ge X (pc := 85) (tgt := 155) dX5_group_85 (by decide) ⟨b34, b35⟩ (fun c36 => ?_) (fun c36 => ?_)
    · have hk := hk.2 c36
      refine G.sub [0] rfl ?_
      exact H_155 sg hk
    · have hk := hk.1 c36
      refine r_aload_n X (pc := 88) dX5_group_88 rfl (q := 0) rfl ?_
      refine r_tgI X (pc := 89) (v := sg.1 43) fa_X5_288 (by decide) rfl dX5_group_89 ?_
      obtain ⟨b37, hk⟩ := hk
      refine r_if_ne X (pc := 92) (tgt := 155) dX5_group_92 (by decide) b37 (fun c38 => ?_) (fun c38 => ?_)
      · have hk := hk.2 c38
        refine G.sub [0] rfl ?_
        exact H_155 sg hk
      · have hk := hk.1 c38
        refine r_iload_n X (pc := 95) dX5_group_95 rfl (q := 2) rfl ?_
        refine r_istore X (pc := 96) (lv1 := [(5, vI x2), (0, vR (some t)), (1, vI x1), (2, vI x2), (3, vI x3), (4, vI x4)]) dX5_group_96 (by decide) rfl ?_
        refine G.sub [1, 2, 3, 4, 5, 0] rfl ?_
        have HH41 : ∀ (sg : TS) (x1 : Int) (x2 : Int) (x3 : Int) (x4 : Int), (P_X5_group_149 I (fun sg x1 x2 x3 x4 => L_X5_group_82 I k_155 κ f sg x1 x2 x3 x4) k_155 κ sg x1 x2 x3 x4) → G K Y (tw t sg h0) n z 149 [(0, vR (some t)), (1, vI x1), (2, vI x2), (3, vI x3), (4, vI x4)] [] := by
            intro sg x1 x2 x3 x4 hk
            have HH40 : ∀ (sg : TS) (x1 : Int) (x2 : Int) (x3 : Int) (x4 : Int), (L_X5_group_82 I k_155 κ f sg x1 x2 x3 x4) → G K Y (tw t sg h0) n z 82 [(0, vR (some t)), (1, vI x1), (2, vI x2), (3, vI x3), (4, vI x4)] [] := by
                intro sg x1 x2 x3 x4 hk
                exact ih sg x1 x2 x3 x4 hk
            exact w_X5_group_149 X E hz hL HI hR HH40 H_155 sg x1 x2 x3 x4 hk
        obtain ⟨f9, hk⟩ := hk
        exact w_X5_group_98 X E hz hL HI hR HH41 f9 sg x1 x2 x3 x4 x2 hk
set_option maxHeartbeats 4000000 in
theorem w_X5_group_155 {K : KT} {Y : YT} {fr lo : Nat} {Qx : QxT} {t n z : Nat} {h0 : AH} {κ : TS → Prop} (X : XY K "TrailMarkersModel" "group" cX5_group (Option.none : Option Jvm.ClassFile.FieldType) [] 6 fr lo Y) (E : YE K Y (tQv t h0 n z κ) Qx) (hz : kz K ≤ t) (hL : LitOK K h0) {I : (TS → Prop) → TS → Prop} {frI loI : Nat} (HI : ∀ {κ9 : TS → Prop} {sg9 : TS}, I κ9 sg9 → ∀ l : Launch, Ct K l yX5_item (ws_ yX5_item cX5_item 3 (Option.none : Option Jvm.ClassFile.FieldType)) frI loI ([vR (some t)].map cV) (tw t sg9 h0) n z (tQv t h0 n z κ9) noX) (hR : frI + 2 ≤ fr ∧ loI + 42 ≤ lo ∧ 4 ≤ fr ∧ 100 ≤ lo) : ∀ (sg : TS), P_X5_group_155 I κ sg → G K Y (tw t sg h0) n z 155 [(0, vR (some t))] [] := by
  intro sg hk
  refine r_aload_n X (pc := 155) dX5_group_155 rfl (q := 0) rfl ?_
  refine r_dup X (pc := 156) dX5_group_156 rfl ?_
  refine r_tgI X (pc := 157) (v := sg.1 49) fa_X5_356 (by decide) rfl dX5_group_157 ?_
  refine r_iconst X (pc := 160) dX5_group_160 ?_
  refine r_isub X (pc := 161) dX5_group_161 ?_
  refine r_tpI X (pc := 162) fp_X5_356 hz (by decide) dX5_group_162 ?_
  refine r_aload_n X (pc := 165) dX5_group_165 rfl (q := 0) rfl ?_
  refine r_callV X (pc := 166) (As := []) (st := []) rfl rfl rfl (tw_t t _ h0) m_X5_304 (fun _ => s_X5_go hz hk) ⟨by omega, by omega⟩ (Nat.le_of_ble_eq_true rfl) dX5_group_166 (fun v9 h9 n9 z9 hq => ?_) (fun _ _ _ _ _ hf => hf.elim)
  obtain ⟨rfl, rfl, rfl, sg42, rfl, hk⟩ := hq
  refine ⟨[], rfl, ?_⟩
  exact r_vret X E (pc := 169) dX5_group_169 ⟨rfl, rfl, rfl, _, rfl, hk⟩
set_option maxHeartbeats 4000000 in
theorem w_X5_group_70 {K : KT} {Y : YT} {fr lo : Nat} {Qx : QxT} {t n z : Nat} {h0 : AH} {κ : TS → Prop} (X : XY K "TrailMarkersModel" "group" cX5_group (Option.none : Option Jvm.ClassFile.FieldType) [] 6 fr lo Y) (E : YE K Y (tQv t h0 n z κ) Qx) (hz : kz K ≤ t) (hL : LitOK K h0) {I : (TS → Prop) → TS → Prop} {frI loI : Nat} (HI : ∀ {κ9 : TS → Prop} {sg9 : TS}, I κ9 sg9 → ∀ l : Launch, Ct K l yX5_item (ws_ yX5_item cX5_item 3 (Option.none : Option Jvm.ClassFile.FieldType)) frI loI ([vR (some t)].map cV) (tw t sg9 h0) n z (tQv t h0 n z κ9) noX) (hR : frI + 2 ≤ fr ∧ loI + 42 ≤ lo ∧ 4 ≤ fr ∧ 100 ≤ lo) : ∀ (sg : TS) (x1 : Int) (x2 : Int) (s0 : Int), P_X5_group_70 I κ sg x1 x2 s0 → G K Y (tw t sg h0) n z 70 [(0, vR (some t)), (1, vI x1), (2, vI x2)] [vI s0, vR (some t)] := by
  intro sg x1 x2 s0 hk
  refine r_iconst X (pc := 70) dX5_group_70 ?_
  refine r_callV X (pc := 71) (As := [vI s0, vI 1]) (st := []) rfl rfl rfl (tw_t t _ h0) m_X5_297 (fun _ => s_X5_wrong hz hk) ⟨by omega, by omega⟩ (Nat.le_of_ble_eq_true rfl) dX5_group_71 (fun v9 h9 n9 z9 hq => ?_) (fun _ _ _ _ _ hf => hf.elim)
  obtain ⟨rfl, rfl, rfl, sg43, rfl, hk⟩ := hq
  refine ⟨[], rfl, ?_⟩
  refine r_aload_n X (pc := 74) dX5_group_74 rfl (q := 0) rfl ?_
  refine r_tgI X (pc := 75) (v := sg43.1 48) fa_X5_324 (by decide) rfl dX5_group_75 ?_
  refine r_istore_n X (pc := 78) (lv1 := [(3, vI (sg43.1 48)), (0, vR (some t)), (1, vI x1), (2, vI x2)]) dX5_group_78 rfl (by decide) rfl ?_
  refine r_iconst X (pc := 79) dX5_group_79 ?_
  refine r_istore X (pc := 80) (lv1 := [(4, vI 1), (3, vI (sg43.1 48)), (0, vR (some t)), (1, vI x1), (2, vI x2)]) dX5_group_80 (by decide) rfl ?_
  refine G.sub [2, 3, 4, 1, 0] rfl ?_
  have HH44 : ∀ (sg : TS), (P_X5_group_155 I κ sg) → G K Y (tw t sg h0) n z 155 [(0, vR (some t))] [] := by
      intro sg hk
      exact w_X5_group_155 X E hz hL HI hR sg hk
  obtain ⟨f9, hk⟩ := hk
  exact w_X5_group_82 X E hz hL HI hR HH44 f9 sg43 x1 x2 (sg43.1 48) 1 hk
set_option maxHeartbeats 4000000 in
theorem w_X5_group_48 {K : KT} {Y : YT} {fr lo : Nat} {Qx : QxT} {t n z : Nat} {h0 : AH} {κ : TS → Prop} (X : XY K "TrailMarkersModel" "group" cX5_group (Option.none : Option Jvm.ClassFile.FieldType) [] 6 fr lo Y) (E : YE K Y (tQv t h0 n z κ) Qx) (hz : kz K ≤ t) (hL : LitOK K h0) {I : (TS → Prop) → TS → Prop} {frI loI : Nat} (HI : ∀ {κ9 : TS → Prop} {sg9 : TS}, I κ9 sg9 → ∀ l : Launch, Ct K l yX5_item (ws_ yX5_item cX5_item 3 (Option.none : Option Jvm.ClassFile.FieldType)) frI loI ([vR (some t)].map cV) (tw t sg9 h0) n z (tQv t h0 n z κ9) noX) (hR : frI + 2 ≤ fr ∧ loI + 42 ≤ lo ∧ 4 ≤ fr ∧ 100 ≤ lo) : ∀ (sg : TS) (x1 : Int) (x2 : Int), P_X5_group_48 I κ sg x1 x2 → G K Y (tw t sg h0) n z 48 [(0, vR (some t)), (1, vI x1), (2, vI x2)] [] := by
  intro sg x1 x2 hk
  refine r_aload_n X (pc := 48) dX5_group_48 rfl (q := 0) rfl ?_
  refine r_aload_n X (pc := 49) dX5_group_49 rfl (q := 0) rfl ?_
  refine r_tgI X (pc := 50) (v := sg.1 43) fa_X5_288 (by decide) rfl dX5_group_50 ?_
  obtain ⟨b45, hk⟩ := hk
  refine r_if_ne X (pc := 53) (tgt := 69) dX5_group_53 (by decide) b45 (fun c46 => ?_) (fun c46 => ?_)
  · have hk := hk.2 c46
    refine r_iconst X (pc := 69) dX5_group_69 ?_
    exact w_X5_group_70 X E hz hL HI hR sg x1 x2 0 hk
  · have hk := hk.1 c46
    refine r_aload_n X (pc := 56) dX5_group_56 rfl (q := 0) rfl ?_
    refine r_bipush X (pc := 57) dX5_group_57 (by decide) ?_
    refine r_callV X (pc := 59) (As := [vI 41]) (st := [vR (some t)]) rfl rfl rfl (tw_t t _ h0) m_X5_307 (fun _ => s_X5_isSign hz hk) ⟨by omega, by omega⟩ (Nat.le_of_ble_eq_true rfl) dX5_group_59 (fun v9 h9 n9 z9 hq => ?_) (fun _ _ _ _ _ hf => hf.elim)
    obtain ⟨r47, rfl, rfl, rfl, sg48, rfl, hk⟩ := hq
    refine ⟨[vI r47], rfl, ?_⟩
    obtain ⟨b49, hk⟩ := hk
    refine r_if_ne X (pc := 62) (tgt := 69) dX5_group_62 (by decide) b49 (fun c50 => ?_) (fun c50 => ?_)
    · have hk := hk.2 c50
      refine r_iconst X (pc := 69) dX5_group_69 ?_
      exact w_X5_group_70 X E hz hL HI hR sg48 x1 x2 0 hk
    · have hk := hk.1 c50
      refine r_iconst X (pc := 65) dX5_group_65 ?_
      refine r_goto X (pc := 66) (tgt := 70) dX5_group_66 (by decide) ?_
      exact w_X5_group_70 X E hz hL HI hR sg48 x1 x2 1 hk
set_option maxHeartbeats 4000000 in
theorem w_X5_group_14 {K : KT} {Y : YT} {fr lo : Nat} {Qx : QxT} {t n z : Nat} {h0 : AH} {κ : TS → Prop} (X : XY K "TrailMarkersModel" "group" cX5_group (Option.none : Option Jvm.ClassFile.FieldType) [] 6 fr lo Y) (E : YE K Y (tQv t h0 n z κ) Qx) (hz : kz K ≤ t) (hL : LitOK K h0) {I : (TS → Prop) → TS → Prop} {frI loI : Nat} (HI : ∀ {κ9 : TS → Prop} {sg9 : TS}, I κ9 sg9 → ∀ l : Launch, Ct K l yX5_item (ws_ yX5_item cX5_item 3 (Option.none : Option Jvm.ClassFile.FieldType)) frI loI ([vR (some t)].map cV) (tw t sg9 h0) n z (tQv t h0 n z κ9) noX) (hR : frI + 2 ≤ fr ∧ loI + 42 ≤ lo ∧ 4 ≤ fr ∧ 100 ≤ lo) : ∀ (sg : TS) (x1 : Int) (s0 : Int), P_X5_group_14 I κ sg x1 s0 → G K Y (tw t sg h0) n z 14 [(0, vR (some t)), (1, vI x1)] [vI s0, vR (some t)] := by
  intro sg x1 s0 hk
  refine r_iconst X (pc := 14) dX5_group_14 ?_
  refine r_callV X (pc := 15) (As := [vI s0, vI 4]) (st := []) rfl rfl rfl (tw_t t _ h0) m_X5_297 (fun _ => s_X5_wrong hz hk) ⟨by omega, by omega⟩ (Nat.le_of_ble_eq_true rfl) dX5_group_15 (fun v9 h9 n9 z9 hq => ?_) (fun _ _ _ _ _ hf => hf.elim)
  obtain ⟨rfl, rfl, rfl, sg51, rfl, hk⟩ := hq
  refine ⟨[], rfl, ?_⟩
  refine r_aload_n X (pc := 18) dX5_group_18 rfl (q := 0) rfl ?_
  refine r_callV X (pc := 19) (As := []) (st := []) rfl rfl rfl (tw_t t _ h0) m_X5_304 (fun _ => s_X5_go hz hk) ⟨by omega, by omega⟩ (Nat.le_of_ble_eq_true rfl) dX5_group_19 (fun v9 h9 n9 z9 hq => ?_) (fun _ _ _ _ _ hf => hf.elim)
  obtain ⟨rfl, rfl, rfl, sg52, rfl, hk⟩ := hq
  refine ⟨[], rfl, ?_⟩
  refine r_aload_n X (pc := 22) dX5_group_22 rfl (q := 0) rfl ?_
  refine r_dup X (pc := 23) dX5_group_23 rfl ?_
  refine r_tgI X (pc := 24) (v := sg52.1 49) fa_X5_356 (by decide) rfl dX5_group_24 ?_
  refine r_iconst X (pc := 27) dX5_group_27 ?_
  refine r_iadd X (pc := 28) dX5_group_28 ?_
  refine r_tpI X (pc := 29) fp_X5_356 hz (by decide) dX5_group_29 ?_
  refine r_aload_n X (pc := 32) dX5_group_32 rfl (q := 0) rfl ?_
  refine r_tgI X (pc := 33) (v := sg52.1 48) fa_X5_324 (by decide) rfl dX5_group_33 ?_
  refine r_istore_n X (pc := 36) (lv1 := [(2, vI (sg52.1 48)), (0, vR (some t)), (1, vI x1)]) dX5_group_36 rfl (by decide) rfl ?_
  refine r_aload_n X (pc := 37) dX5_group_37 rfl (q := 1) rfl ?_
  refine r_tgI X (pc := 38) (v := sg52.1 43) fa_X5_288 (by decide) rfl dX5_group_38 ?_
  obtain ⟨b53, hk⟩ := hk
  refine r_if_ne X (pc := 41) (tgt := 48) dX5_group_41 (by decide) b53 (fun c54 => ?_) (fun c54 => ?_)
  · have hk := hk.2 c54
    refine G.sub [1, 2, 0] rfl ?_
    exact w_X5_group_48 X E hz hL HI hR (setS sg52 49 ((sg52.1 49) + 1)) x1 (sg52.1 48) hk
  · have hk := hk.1 c54
    refine r_aload_n X (pc := 44) dX5_group_44 rfl (q := 1) rfl ?_
    refine r_callV X (pc := 45) (As := []) (st := []) rfl rfl rfl (tw_t t _ h0) m_X5_359 (fun _ => s_X5_items (fr := fr - 1) (lo := lo - 20) HI (by omega) hz hL hk) ⟨by omega, by omega⟩ (Nat.le_of_ble_eq_true rfl) dX5_group_45 (fun v9 h9 n9 z9 hq => ?_) (fun _ _ _ _ _ hf => hf.elim)
    obtain ⟨rfl, rfl, rfl, sg55, rfl, hk⟩ := hq
    refine ⟨[], rfl, ?_⟩
    refine G.sub [1, 2, 0] rfl ?_
    exact w_X5_group_48 X E hz hL HI hR sg55 x1 (sg52.1 48) hk
set_option maxHeartbeats 4000000 in
theorem w_X5_group {K : KT} {Y : YT} {fr lo : Nat} {Qx : QxT} {t n z : Nat} {h0 : AH} {κ : TS → Prop} (X : XY K "TrailMarkersModel" "group" cX5_group (Option.none : Option Jvm.ClassFile.FieldType) [] 6 fr lo Y) (E : YE K Y (tQv t h0 n z κ) Qx) (hz : kz K ≤ t) (hL : LitOK K h0) {I : (TS → Prop) → TS → Prop} {frI loI : Nat} (HI : ∀ {κ9 : TS → Prop} {sg9 : TS}, I κ9 sg9 → ∀ l : Launch, Ct K l yX5_item (ws_ yX5_item cX5_item 3 (Option.none : Option Jvm.ClassFile.FieldType)) frI loI ([vR (some t)].map cV) (tw t sg9 h0) n z (tQv t h0 n z κ9) noX) (hR : frI + 2 ≤ fr ∧ loI + 42 ≤ lo ∧ 4 ≤ fr ∧ 100 ≤ lo) {sg : TS} {x1 : Int} (hk : P_X5_group I κ sg x1) : G K Y (tw t sg h0) n z 0 (lv_argsA 0 [vR (some t), vI x1]) [] := by
  show G K Y (tw t sg h0) n z 0 [(0, vR (some t)), (1, vI x1)] []
  refine r_aload_n X (pc := 0) dX5_group_0 rfl (q := 0) rfl ?_
  refine r_aload_n X (pc := 1) dX5_group_1 rfl (q := 0) rfl ?_
  refine r_tgI X (pc := 2) (v := sg.1 49) fa_X5_356 (by decide) rfl dX5_group_2 ?_
  refine r_iconst X (pc := 5) dX5_group_5 ?_
  obtain ⟨b56, hk⟩ := hk
  refine r_icmp_ne X (pc := 6) (tgt := 13) dX5_group_6 (by decide) ⟨b56, (by decide)⟩ (fun c57 => ?_) (fun c57 => ?_)
  · have hk := hk.2 c57
    refine r_iconst X (pc := 13) dX5_group_13 ?_
    exact w_X5_group_14 X E hz hL HI hR sg x1 0 hk
  · have hk := hk.1 c57
    refine r_iconst X (pc := 9) dX5_group_9 ?_
    refine r_goto X (pc := 10) (tgt := 14) dX5_group_10 (by decide) ?_
    exact w_X5_group_14 X E hz hL HI hR sg x1 1 hk
theorem s_X5_group {fr lo : Nat} {K : KT} {l : Launch} {t n z : Nat} {h0 : AH} {κ : TS → Prop} {I : (TS → Prop) → TS → Prop} {frI loI : Nat} (HI : ∀ {κ9 : TS → Prop} {sg9 : TS}, I κ9 sg9 → ∀ l : Launch, Ct K l yX5_item (ws_ yX5_item cX5_item 3 (Option.none : Option Jvm.ClassFile.FieldType)) frI loI ([vR (some t)].map cV) (tw t sg9 h0) n z (tQv t h0 n z κ9) noX) (hR : frI + 2 ≤ fr ∧ loI + 42 ≤ lo ∧ 4 ≤ fr ∧ 100 ≤ lo) (hz : kz K ≤ t) (hL : LitOK K h0) {sg : TS} {x1 : Int} (hk : P_X5_group I κ sg x1) : Ct K l yX5_group (ws_ yX5_group cX5_group 6 (Option.none : Option Jvm.ClassFile.FieldType)) fr lo ([vR (some t), vI x1].map cV) (tw t sg h0) n z (tQv t h0 n z κ) noX :=
  ct_of (by decide +kernel) (Nat.le_of_ble_eq_true rfl) (fun Y X E => w_X5_group X E hz hL HI hR hk)
set_option maxHeartbeats 4000000 in
theorem w_X5_is_28 {K : KT} {Y : YT} {Qx : QxT} {t n z : Nat} {h0 : AH} {κ : Int → TS → Prop} (X : XY K "TrailMarkersModel" "is" cX5_is (Option.some Jvm.ClassFile.FieldType.boolean) [] 3 4 85 Y) (E : YE K Y (tQ t h0 n z κ) Qx) (hz : kz K ≤ t) (hL : LitOK K h0) {k_55 : TS → Prop} {k_63 : TS → Prop} (H_55 : ∀ (sg : TS), k_55 sg → G K Y (tw t sg h0) n z 55 [(0, vR (some t))] []) (H_63 : ∀ (sg : TS), k_63 sg → G K Y (tw t sg h0) n z 63 [(0, vR (some t))] []) : ∀ (f : Nat) (sg : TS) (x1 : Nat) (x2 : Int), L_X5_is_28 k_55 k_63 κ f sg x1 x2 → G K Y (tw t sg h0) n z 28 [(0, vR (some t)), (1, vR (some (kl K x1))), (2, vI x2)] [] := by
  intro f
  induction f with
  | zero => intro sg x1 x2 hk; exact hk.elim
  | succ f ih =>
    intro sg x1 x2 hk
    refine r_iload_n X (pc := 28) dX5_is_28 rfl (q := 2) rfl ?_
    refine r_aload_n X (pc := 29) dX5_is_29 rfl (q := 1) rfl ?_
    obtain ⟨b17, hk⟩ := hk
    refine r_tslen X (pc := 30) (i := x1) hz hL b17 m_X5_87 ⟨by decide, by decide⟩ (Nat.le_of_ble_eq_true rfl) dX5_is_30 ?_
    obtain ⟨b18, b19, hk⟩ := hk
    refine r_icmp_ge X (pc := 33) (tgt := 63) dX5_is_33 (by decide) ⟨b18, b19⟩ (fun c20 => ?_) (fun c20 => ?_)
    · have hk := hk.2 c20
      refine G.sub [0] rfl ?_
      exact H_63 sg hk
    · have hk := hk.1 c20
      refine r_aload_n X (pc := 36) dX5_is_36 rfl (q := 0) rfl ?_
      refine r_tgR X (pc := 37) (ty := 0) (N := 700) fa_X5_29 rfl (by decide) dX5_is_37 ?_
      refine r_aload_n X (pc := 40) dX5_is_40 rfl (q := 0) rfl ?_
      refine r_tgI X (pc := 41) (v := sg.1 40) fa_X5_265 (by decide) rfl dX5_is_41 ?_
      refine r_iload_n X (pc := 44) dX5_is_44 rfl (q := 2) rfl ?_
      refine r_iadd X (pc := 45) dX5_is_45 ?_
      obtain ⟨b21, hk⟩ := hk
      refine r_tiald X (pc := 46) (v := sg.2 8 ((sg.1 40) + x2)) (N := 700) rfl rfl dX5_is_46 b21 ?_
      refine r_aload_n X (pc := 47) dX5_is_47 rfl (q := 1) rfl ?_
      refine r_iload_n X (pc := 48) dX5_is_48 rfl (q := 2) rfl ?_
      obtain ⟨b22, hk⟩ := hk
      refine r_tschar X (pc := 49) (i := x1) hz hL b17 b22 m_X5_96 ⟨by decide, by decide⟩ (Nat.le_of_ble_eq_true rfl) dX5_is_49 ?_
      obtain ⟨b23, b24, hk⟩ := hk
      refine r_icmp_eq X (pc := 52) (tgt := 57) dX5_is_52 (by decide) ⟨b23, b24⟩ (fun c25 => ?_) (fun c25 => ?_)
      · have hk := hk.1 c25
        refine r_iinc X (pc := 57) (q := 2) (lv1 := [(2, vI (x2 + 1)), (0, vR (some t)), (1, vR (some (kl K x1)))]) dX5_is_57 rfl (by decide) rfl ?_
        refine r_goto X (pc := 60) (tgt := 28) dX5_is_60 (by decide) ?_
        refine G.sub [1, 2, 0] rfl ?_
        exact ih sg x1 (x2 + 1) hk
      · have hk := hk.2 c25
        refine G.sub [0] rfl ?_
        exact H_55 sg hk
set_option maxHeartbeats 4000000 in
theorem w_X5_is_55 {K : KT} {Y : YT} {Qx : QxT} {t n z : Nat} {h0 : AH} {κ : Int → TS → Prop} (X : XY K "TrailMarkersModel" "is" cX5_is (Option.some Jvm.ClassFile.FieldType.boolean) [] 3 4 85 Y) (E : YE K Y (tQ t h0 n z κ) Qx) (hz : kz K ≤ t) (hL : LitOK K h0) : ∀ (sg : TS), P_X5_is_55 κ sg → G K Y (tw t sg h0) n z 55 [(0, vR (some t))] [] := by
  intro sg hk
  refine r_iconst X (pc := 55) dX5_is_55 ?_
  exact r_iret X E (pc := 56) dX5_is_56 rfl ⟨_, rfl, rfl, rfl, _, rfl, hk⟩
set_option maxHeartbeats 4000000 in
theorem w_X5_is_63 {K : KT} {Y : YT} {Qx : QxT} {t n z : Nat} {h0 : AH} {κ : Int → TS → Prop} (X : XY K "TrailMarkersModel" "is" cX5_is (Option.some Jvm.ClassFile.FieldType.boolean) [] 3 4 85 Y) (E : YE K Y (tQ t h0 n z κ) Qx) (hz : kz K ≤ t) (hL : LitOK K h0) : ∀ (sg : TS), P_X5_is_63 κ sg → G K Y (tw t sg h0) n z 63 [(0, vR (some t))] [] := by
  intro sg hk
  refine r_iconst X (pc := 63) dX5_is_63 ?_
  exact r_iret X E (pc := 64) dX5_is_64 rfl ⟨_, rfl, rfl, rfl, _, rfl, hk⟩
set_option maxHeartbeats 4000000 in
theorem w_X5_is {K : KT} {Y : YT} {Qx : QxT} {t n z : Nat} {h0 : AH} {κ : Int → TS → Prop} (X : XY K "TrailMarkersModel" "is" cX5_is (Option.some Jvm.ClassFile.FieldType.boolean) [] 3 4 85 Y) (E : YE K Y (tQ t h0 n z κ) Qx) (hz : kz K ≤ t) (hL : LitOK K h0) {sg : TS} {x1 : Nat} (hk : P_X5_is κ sg x1) : G K Y (tw t sg h0) n z 0 (lv_argsA 0 [vR (some t), vR (some (kl K x1))]) [] := by
  show G K Y (tw t sg h0) n z 0 [(0, vR (some t)), (1, vR (some (kl K x1)))] []
  refine r_aload_n X (pc := 0) dX5_is_0 rfl (q := 0) rfl ?_
  refine r_tgI X (pc := 1) (v := sg.1 39) fa_X5_268 (by decide) rfl dX5_is_1 ?_
  refine r_iconst X (pc := 4) dX5_is_4 ?_
  obtain ⟨b26, hk⟩ := hk
  refine r_icmp_ne X (pc := 5) (tgt := 24) dX5_is_5 (by decide) ⟨b26, (by decide)⟩ (fun c27 => ?_) (fun c27 => ?_)
  · have hk := hk.2 c27
    refine r_iconst X (pc := 24) dX5_is_24 ?_
    exact r_iret X E (pc := 25) dX5_is_25 rfl ⟨_, rfl, rfl, rfl, _, rfl, hk⟩
  · have hk := hk.1 c27
    refine r_aload_n X (pc := 8) dX5_is_8 rfl (q := 0) rfl ?_
    refine r_tgI X (pc := 9) (v := sg.1 41) fa_X5_262 (by decide) rfl dX5_is_9 ?_
    refine r_aload_n X (pc := 12) dX5_is_12 rfl (q := 0) rfl ?_
    refine r_tgI X (pc := 13) (v := sg.1 40) fa_X5_265 (by decide) rfl dX5_is_13 ?_
    refine r_isub X (pc := 16) dX5_is_16 ?_
    refine r_aload_n X (pc := 17) dX5_is_17 rfl (q := 1) rfl ?_
    obtain ⟨b28, hk⟩ := hk
    refine r_tslen X (pc := 18) (i := x1) hz hL b28 m_X5_87 ⟨by decide, by decide⟩ (Nat.le_of_ble_eq_true rfl) dX5_is_18 ?_
    obtain ⟨b29, b30, hk⟩ := hk
    refine r_icmp_eq X (pc := 21) (tgt := 26) dX5_is_21 (by decide) ⟨b29, b30⟩ (fun c31 => ?_) (fun c31 => ?_)
    · have hk := hk.1 c31
      refine r_iconst X (pc := 26) dX5_is_26 ?_
      refine r_istore_n X (pc := 27) (lv1 := [(2, vI 0), (0, vR (some t)), (1, vR (some (kl K x1)))]) dX5_is_27 rfl (by decide) rfl ?_
      refine G.sub [1, 2, 0] rfl ?_
      have HH32 : ∀ (sg : TS), (P_X5_is_55 κ sg) → G K Y (tw t sg h0) n z 55 [(0, vR (some t))] [] := by
          intro sg hk
          exact w_X5_is_55 X E hz hL sg hk
      have HH33 : ∀ (sg : TS), (P_X5_is_63 κ sg) → G K Y (tw t sg h0) n z 63 [(0, vR (some t))] [] := by
          intro sg hk
          exact w_X5_is_63 X E hz hL sg hk
      obtain ⟨f9, hk⟩ := hk
      exact w_X5_is_28 X E hz hL HH32 HH33 f9 sg x1 0 hk
    · have hk := hk.2 c31
      refine r_iconst X (pc := 24) dX5_is_24 ?_
      exact r_iret X E (pc := 25) dX5_is_25 rfl ⟨_, rfl, rfl, rfl, _, rfl, hk⟩
theorem s_X5_is {K : KT} {l : Launch} {t n z : Nat} {h0 : AH} {κ : Int → TS → Prop} (hz : kz K ≤ t) (hL : LitOK K h0) {sg : TS} {x1 : Nat} (hk : P_X5_is κ sg x1) : Ct K l yX5_is (ws_ yX5_is cX5_is 3 (Option.some Jvm.ClassFile.FieldType.boolean)) 4 85 ([vR (some t), vR (some (kl K x1))].map cV) (tw t sg h0) n z (tQ t h0 n z κ) noX :=
  ct_of (by decide +kernel) (Nat.le_of_ble_eq_true rfl) (fun Y X E => w_X5_is X E hz hL hk)
set_option maxHeartbeats 4000000 in
theorem w_X5_side {K : KT} {Y : YT} {Qx : QxT} {t n z : Nat} {h0 : AH} {κ : Int → TS → Prop} (X : XY K "TrailMarkersModel" "side" cX5_side (Option.some Jvm.ClassFile.FieldType.int) [] 1 5 107 Y) (E : YE K Y (tQ t h0 n z κ) Qx) (hz : kz K ≤ t) (hL : LitOK K h0) {sg : TS} (hk : P_X5_side κ sg) : G K Y (tw t sg h0) n z 0 (lv_argsA 0 [vR (some t)]) [] := by
  show G K Y (tw t sg h0) n z 0 [(0, vR (some t))] []
  refine r_aload_n X (pc := 0) dX5_side_0 rfl (q := 0) rfl ?_
  refine r_ldcSw X (pc := 1) (j := 24) rfl dX5_side_1 ?_
  refine r_callV X (pc := 4) (As := [vR (some (kl K 24))]) (st := []) rfl rfl rfl (tw_t t _ h0) m_X5_329 (fun _ => s_X5_is hz hL hk) ⟨by decide, by decide⟩ (Nat.le_of_ble_eq_true rfl) dX5_side_4 (fun v9 h9 n9 z9 hq => ?_) (fun _ _ _ _ _ hf => hf.elim)
  obtain ⟨r13, rfl, rfl, rfl, sg14, rfl, hk⟩ := hq
  refine ⟨[vI r13], rfl, ?_⟩
  obtain ⟨b15, hk⟩ := hk
  refine r_if_eq X (pc := 7) (tgt := 14) dX5_side_7 (by decide) b15 (fun c16 => ?_) (fun c16 => ?_)
  · have hk := hk.1 c16
    refine r_aload_n X (pc := 14) dX5_side_14 rfl (q := 0) rfl ?_
    refine r_ldcSw X (pc := 15) (j := 25) rfl dX5_side_15 ?_
    refine r_callV X (pc := 18) (As := [vR (some (kl K 25))]) (st := []) rfl rfl rfl (tw_t t _ h0) m_X5_329 (fun _ => s_X5_is hz hL hk) ⟨by decide, by decide⟩ (Nat.le_of_ble_eq_true rfl) dX5_side_18 (fun v9 h9 n9 z9 hq => ?_) (fun _ _ _ _ _ hf => hf.elim)
    obtain ⟨r17, rfl, rfl, rfl, sg18, rfl, hk⟩ := hq
    refine ⟨[vI r17], rfl, ?_⟩
    obtain ⟨b19, hk⟩ := hk
    refine r_if_eq X (pc := 21) (tgt := 28) dX5_side_21 (by decide) b19 (fun c20 => ?_) (fun c20 => ?_)
    · have hk := hk.1 c20
      refine r_aload_n X (pc := 28) dX5_side_28 rfl (q := 0) rfl ?_
      refine r_ldcSw X (pc := 29) (j := 26) rfl dX5_side_29 ?_
      refine r_callV X (pc := 32) (As := [vR (some (kl K 26))]) (st := []) rfl rfl rfl (tw_t t _ h0) m_X5_329 (fun _ => s_X5_is hz hL hk) ⟨by decide, by decide⟩ (Nat.le_of_ble_eq_true rfl) dX5_side_32 (fun v9 h9 n9 z9 hq => ?_) (fun _ _ _ _ _ hf => hf.elim)
      obtain ⟨r21, rfl, rfl, rfl, sg22, rfl, hk⟩ := hq
      refine ⟨[vI r21], rfl, ?_⟩
      obtain ⟨b23, hk⟩ := hk
      refine r_if_eq X (pc := 35) (tgt := 42) dX5_side_35 (by decide) b23 (fun c24 => ?_) (fun c24 => ?_)
      · have hk := hk.1 c24
        refine r_aload_n X (pc := 42) dX5_side_42 rfl (q := 0) rfl ?_
        refine r_ldcSw X (pc := 43) (j := 27) rfl dX5_side_43 ?_
        refine r_callV X (pc := 46) (As := [vR (some (kl K 27))]) (st := []) rfl rfl rfl (tw_t t _ h0) m_X5_329 (fun _ => s_X5_is hz hL hk) ⟨by decide, by decide⟩ (Nat.le_of_ble_eq_true rfl) dX5_side_46 (fun v9 h9 n9 z9 hq => ?_) (fun _ _ _ _ _ hf => hf.elim)
        obtain ⟨r25, rfl, rfl, rfl, sg26, rfl, hk⟩ := hq
        refine ⟨[vI r25], rfl, ?_⟩
        obtain ⟨b27, hk⟩ := hk
        refine r_if_eq X (pc := 49) (tgt := 56) dX5_side_49 (by decide) b27 (fun c28 => ?_) (fun c28 => ?_)
        · have hk := hk.1 c28
          refine r_iconst X (pc := 56) dX5_side_56 ?_
          exact r_iret X E (pc := 57) dX5_side_57 rfl ⟨_, rfl, rfl, rfl, _, rfl, hk⟩
        · have hk := hk.2 c28
          refine r_iconst X (pc := 52) dX5_side_52 ?_
          refine r_goto X (pc := 53) (tgt := 57) dX5_side_53 (by decide) ?_
          exact r_iret X E (pc := 57) dX5_side_57 rfl ⟨_, rfl, rfl, rfl, _, rfl, hk⟩
      · have hk := hk.2 c24
        refine r_iconst X (pc := 38) dX5_side_38 ?_
        refine r_goto X (pc := 39) (tgt := 57) dX5_side_39 (by decide) ?_
        exact r_iret X E (pc := 57) dX5_side_57 rfl ⟨_, rfl, rfl, rfl, _, rfl, hk⟩
    · have hk := hk.2 c20
      refine r_iconst X (pc := 24) dX5_side_24 ?_
      refine r_goto X (pc := 25) (tgt := 57) dX5_side_25 (by decide) ?_
      exact r_iret X E (pc := 57) dX5_side_57 rfl ⟨_, rfl, rfl, rfl, _, rfl, hk⟩
  · have hk := hk.2 c16
    refine r_iconst X (pc := 10) dX5_side_10 ?_
    refine r_goto X (pc := 11) (tgt := 57) dX5_side_11 (by decide) ?_
    exact r_iret X E (pc := 57) dX5_side_57 rfl ⟨_, rfl, rfl, rfl, _, rfl, hk⟩
theorem s_X5_side {K : KT} {l : Launch} {t n z : Nat} {h0 : AH} {κ : Int → TS → Prop} (hz : kz K ≤ t) (hL : LitOK K h0) {sg : TS} (hk : P_X5_side κ sg) : Ct K l yX5_side (ws_ yX5_side cX5_side 1 (Option.some Jvm.ClassFile.FieldType.int)) 5 107 ([vR (some t)].map cV) (tw t sg h0) n z (tQ t h0 n z κ) noX :=
  ct_of (by decide +kernel) (Nat.le_of_ble_eq_true rfl) (fun Y X E => w_X5_side X E hz hL hk)
set_option maxHeartbeats 4000000 in
theorem w_X5_item_47 {K : KT} {Y : YT} {fr lo : Nat} {Qx : QxT} {t n z : Nat} {h0 : AH} {κ : TS → Prop} (X : XY K "TrailMarkersModel" "item" cX5_item (Option.none : Option Jvm.ClassFile.FieldType) [] 3 fr lo Y) (E : YE K Y (tQv t h0 n z κ) Qx) (hz : kz K ≤ t) (hL : LitOK K h0) {I : (TS → Prop) → TS → Prop} {frI loI : Nat} (HI : ∀ {κ9 : TS → Prop} {sg9 : TS}, I κ9 sg9 → ∀ l : Launch, Ct K l yX5_item (ws_ yX5_item cX5_item 3 (Option.none : Option Jvm.ClassFile.FieldType)) frI loI ([vR (some t)].map cV) (tw t sg9 h0) n z (tQv t h0 n z κ9) noX) (hR : frI + 3 ≤ fr ∧ loI + 67 ≤ lo ∧ 6 ≤ fr ∧ 127 ≤ lo) : ∀ (sg : TS) (x1 : Int) (x2 : Int) (s0 : Int), P_X5_item_47 I κ sg x1 x2 s0 → G K Y (tw t sg h0) n z 47 [(0, vR (some t)), (1, vI x1), (2, vI x2)] [vI s0, vR (some t)] := by
  intro sg x1 x2 s0 hk
  refine r_iconst X (pc := 47) dX5_item_47 ?_
  refine r_callV X (pc := 48) (As := [vI s0, vI 1]) (st := []) rfl rfl rfl (tw_t t _ h0) m_X5_297 (fun _ => s_X5_wrong hz hk) ⟨by omega, by omega⟩ (Nat.le_of_ble_eq_true rfl) dX5_item_48 (fun v9 h9 n9 z9 hq => ?_) (fun _ _ _ _ _ hf => hf.elim)
  obtain ⟨rfl, rfl, rfl, sg22, rfl, hk⟩ := hq
  refine ⟨[], rfl, ?_⟩
  refine r_aload_n X (pc := 51) dX5_item_51 rfl (q := 0) rfl ?_
  refine r_iload_n X (pc := 52) dX5_item_52 rfl (q := 1) rfl ?_
  refine r_iload_n X (pc := 53) dX5_item_53 rfl (q := 2) rfl ?_
  refine r_iconst X (pc := 54) dX5_item_54 ?_
  refine r_aload_n X (pc := 55) dX5_item_55 rfl (q := 0) rfl ?_
  refine r_tgI X (pc := 56) (v := sg22.1 40) fa_X5_265 (by decide) rfl dX5_item_56 ?_
  refine r_callV X (pc := 59) (As := [vI x1, vI x2, vI 0, vI (sg22.1 40)]) (st := []) rfl rfl rfl (tw_t t _ h0) m_X5_347 (fun _ => s_X5_layLeg hz hk) ⟨by omega, by omega⟩ (Nat.le_of_ble_eq_true rfl) dX5_item_59 (fun v9 h9 n9 z9 hq => ?_) (fun _ _ _ _ _ hf => hf.elim)
  obtain ⟨rfl, rfl, rfl, sg23, rfl, hk⟩ := hq
  refine ⟨[], rfl, ?_⟩
  refine r_aload_n X (pc := 62) dX5_item_62 rfl (q := 0) rfl ?_
  refine r_callV X (pc := 63) (As := []) (st := []) rfl rfl rfl (tw_t t _ h0) m_X5_304 (fun _ => s_X5_go hz hk) ⟨by omega, by omega⟩ (Nat.le_of_ble_eq_true rfl) dX5_item_63 (fun v9 h9 n9 z9 hq => ?_) (fun _ _ _ _ _ hf => hf.elim)
  obtain ⟨rfl, rfl, rfl, sg24, rfl, hk⟩ := hq
  refine ⟨[], rfl, ?_⟩
  refine r_aload_n X (pc := 66) dX5_item_66 rfl (q := 0) rfl ?_
  refine r_tgI X (pc := 67) (v := sg24.1 43) fa_X5_288 (by decide) rfl dX5_item_67 ?_
  obtain ⟨b25, hk⟩ := hk
  refine r_if_ne X (pc := 70) (tgt := 83) dX5_item_70 (by decide) b25 (fun c26 => ?_) (fun c26 => ?_)
  · have hk := hk.2 c26
    exact r_vret X E (pc := 83) dX5_item_83 ⟨rfl, rfl, rfl, _, rfl, hk⟩
  · have hk := hk.1 c26
    refine r_aload_n X (pc := 73) dX5_item_73 rfl (q := 0) rfl ?_
    refine r_ldcSw X (pc := 74) (j := 28) rfl dX5_item_74 ?_
    refine r_callV X (pc := 77) (As := [vR (some (kl K 28))]) (st := []) rfl rfl rfl (tw_t t _ h0) m_X5_329 (fun _ => s_X5_is hz hL hk) ⟨by omega, by omega⟩ (Nat.le_of_ble_eq_true rfl) dX5_item_77 (fun v9 h9 n9 z9 hq => ?_) (fun _ _ _ _ _ hf => hf.elim)
    obtain ⟨r27, rfl, rfl, rfl, sg28, rfl, hk⟩ := hq
    refine ⟨[vI r27], rfl, ?_⟩
    obtain ⟨b29, hk⟩ := hk
    refine r_if_ne X (pc := 80) (tgt := 84) dX5_item_80 (by decide) b29 (fun c30 => ?_) (fun c30 => ?_)
    · have hk := hk.2 c30
      refine r_aload_n X (pc := 84) dX5_item_84 rfl (q := 0) rfl ?_
      refine r_aload_n X (pc := 85) dX5_item_85 rfl (q := 0) rfl ?_
      refine r_tgI X (pc := 86) (v := sg28.1 50) fa_X5_314 (by decide) rfl dX5_item_86 ?_
      refine r_iconst X (pc := 89) dX5_item_89 ?_
      refine r_iconst X (pc := 90) dX5_item_90 ?_
      refine r_callV X (pc := 91) (As := [vI (sg28.1 50), vI 4, vI 1]) (st := []) rfl rfl rfl (tw_t t _ h0) m_X5_310 (fun _ => s_X5_put hz hk) ⟨by omega, by omega⟩ (Nat.le_of_ble_eq_true rfl) dX5_item_91 (fun v9 h9 n9 z9 hq => ?_) (fun _ _ _ _ _ hf => hf.elim)
      obtain ⟨rfl, rfl, rfl, sg31, rfl, hk⟩ := hq
      refine ⟨[], rfl, ?_⟩
      refine r_aload_n X (pc := 94) dX5_item_94 rfl (q := 0) rfl ?_
      refine r_tgR X (pc := 95) (ty := 2) (N := 25) fa_X5_72 rfl (by decide) dX5_item_95 ?_
      refine r_aload_n X (pc := 98) dX5_item_98 rfl (q := 0) rfl ?_
      refine r_tgI X (pc := 99) (v := sg31.1 48) fa_X5_324 (by decide) rfl dX5_item_99 ?_
      refine r_iconst X (pc := 102) dX5_item_102 ?_
      refine r_isub X (pc := 103) dX5_item_103 ?_
      refine r_iconst X (pc := 104) dX5_item_104 ?_
      obtain ⟨b32, hk⟩ := hk
      refine r_tzast X (pc := 105) hz (N := 25) rfl (Or.inr rfl) dX5_item_105 b32 ?_
      refine r_aload_n X (pc := 106) dX5_item_106 rfl (q := 0) rfl ?_
      refine r_callV X (pc := 107) (As := []) (st := []) rfl rfl rfl (tw_t t _ h0) m_X5_304 (fun _ => s_X5_go hz hk) ⟨by omega, by omega⟩ (Nat.le_of_ble_eq_true rfl) dX5_item_107 (fun v9 h9 n9 z9 hq => ?_) (fun _ _ _ _ _ hf => hf.elim)
      obtain ⟨rfl, rfl, rfl, sg33, rfl, hk⟩ := hq
      refine ⟨[], rfl, ?_⟩
      exact r_vret X E (pc := 110) dX5_item_110 ⟨rfl, rfl, rfl, _, rfl, hk⟩
    · have hk := hk.1 c30
      exact r_vret X E (pc := 83) dX5_item_83 ⟨rfl, rfl, rfl, _, rfl, hk⟩
set_option maxHeartbeats 4000000 in
theorem w_X5_item {K : KT} {Y : YT} {fr lo : Nat} {Qx : QxT} {t n z : Nat} {h0 : AH} {κ : TS → Prop} (X : XY K "TrailMarkersModel" "item" cX5_item (Option.none : Option Jvm.ClassFile.FieldType) [] 3 fr lo Y) (E : YE K Y (tQv t h0 n z κ) Qx) (hz : kz K ≤ t) (hL : LitOK K h0) {I : (TS → Prop) → TS → Prop} {frI loI : Nat} (HI : ∀ {κ9 : TS → Prop} {sg9 : TS}, I κ9 sg9 → ∀ l : Launch, Ct K l yX5_item (ws_ yX5_item cX5_item 3 (Option.none : Option Jvm.ClassFile.FieldType)) frI loI ([vR (some t)].map cV) (tw t sg9 h0) n z (tQv t h0 n z κ9) noX) (hR : frI + 3 ≤ fr ∧ loI + 67 ≤ lo ∧ 6 ≤ fr ∧ 127 ≤ lo) {sg : TS} (hk : P_X5_item I κ sg) : G K Y (tw t sg h0) n z 0 (lv_argsA 0 [vR (some t)]) [] := by
  show G K Y (tw t sg h0) n z 0 [(0, vR (some t))] []
  refine r_aload_n X (pc := 0) dX5_item_0 rfl (q := 0) rfl ?_
  refine r_iconst X (pc := 1) dX5_item_1 ?_
  refine r_bipush X (pc := 2) dX5_item_2 (by decide) ?_
  refine r_callV X (pc := 4) (As := [vI 1, vI 19]) (st := []) rfl rfl rfl (tw_t t _ h0) m_X5_338 (fun _ => s_X5_number hz hk) ⟨by omega, by omega⟩ (Nat.le_of_ble_eq_true rfl) dX5_item_4 (fun v9 h9 n9 z9 hq => ?_) (fun _ _ _ _ _ hf => hf.elim)
  obtain ⟨r34, rfl, rfl, rfl, sg35, rfl, hk⟩ := hq
  refine ⟨[vI r34], rfl, ?_⟩
  refine r_istore_n X (pc := 7) (lv1 := [(1, vI r34), (0, vR (some t))]) dX5_item_7 rfl (by decide) rfl ?_
  refine r_aload_n X (pc := 8) dX5_item_8 rfl (q := 1) rfl ?_
  refine r_tgI X (pc := 9) (v := sg35.1 43) fa_X5_288 (by decide) rfl dX5_item_9 ?_
  obtain ⟨b36, hk⟩ := hk
  refine r_if_eq X (pc := 12) (tgt := 16) dX5_item_12 (by decide) b36 (fun c37 => ?_) (fun c37 => ?_)
  · have hk := hk.1 c37
    refine r_aload_n X (pc := 16) dX5_item_16 rfl (q := 1) rfl ?_
    refine r_bipush X (pc := 17) dX5_item_17 (by decide) ?_
    refine r_callV X (pc := 19) (As := [vI 40]) (st := []) rfl rfl rfl (tw_t t _ h0) m_X5_307 (fun _ => s_X5_isSign hz hk) ⟨by omega, by omega⟩ (Nat.le_of_ble_eq_true rfl) dX5_item_19 (fun v9 h9 n9 z9 hq => ?_) (fun _ _ _ _ _ hf => hf.elim)
    obtain ⟨r38, rfl, rfl, rfl, sg39, rfl, hk⟩ := hq
    refine ⟨[vI r38], rfl, ?_⟩
    obtain ⟨b40, hk⟩ := hk
    refine r_if_eq X (pc := 22) (tgt := 31) dX5_item_22 (by decide) b40 (fun c41 => ?_) (fun c41 => ?_)
    · have hk := hk.1 c41
      refine r_aload_n X (pc := 31) dX5_item_31 rfl (q := 1) rfl ?_
      refine r_callV X (pc := 32) (As := []) (st := []) rfl rfl rfl (tw_t t _ h0) m_X5_344 (fun _ => s_X5_side hz hL hk) ⟨by omega, by omega⟩ (Nat.le_of_ble_eq_true rfl) dX5_item_32 (fun v9 h9 n9 z9 hq => ?_) (fun _ _ _ _ _ hf => hf.elim)
      obtain ⟨r42, rfl, rfl, rfl, sg43, rfl, hk⟩ := hq
      refine ⟨[vI r42], rfl, ?_⟩
      refine r_istore_n X (pc := 35) (lv1 := [(2, vI r42), (1, vI r34), (0, vR (some t))]) dX5_item_35 rfl (by decide) rfl ?_
      refine r_aload_n X (pc := 36) dX5_item_36 rfl (q := 2) rfl ?_
      refine r_iload_n X (pc := 37) dX5_item_37 rfl (q := 0) rfl ?_
      refine r_iconst X (pc := 38) dX5_item_38 ?_
      obtain ⟨b44, hk⟩ := hk
      refine r_icmp_ne X (pc := 39) (tgt := 46) dX5_item_39 (by decide) ⟨b44, (by decide)⟩ (fun c45 => ?_) (fun c45 => ?_)
      · have hk := hk.2 c45
        refine r_iconst X (pc := 46) dX5_item_46 ?_
        refine G.sub [2, 1, 0] rfl ?_
        exact w_X5_item_47 X E hz hL HI hR sg43 r34 r42 0 hk
      · have hk := hk.1 c45
        refine r_iconst X (pc := 42) dX5_item_42 ?_
        refine r_goto X (pc := 43) (tgt := 47) dX5_item_43 (by decide) ?_
        refine G.sub [2, 1, 0] rfl ?_
        exact w_X5_item_47 X E hz hL HI hR sg43 r34 r42 1 hk
    · have hk := hk.2 c41
      refine r_aload_n X (pc := 25) dX5_item_25 rfl (q := 1) rfl ?_
      refine r_iload_n X (pc := 26) dX5_item_26 rfl (q := 0) rfl ?_
      refine r_callV X (pc := 27) (As := [vI r34]) (st := []) rfl rfl rfl (tw_t t _ h0) m_X5_341 (fun _ => s_X5_group (fr := fr - 1) (lo := lo - 25) HI (by omega) hz hL hk) ⟨by omega, by omega⟩ (Nat.le_of_ble_eq_true rfl) dX5_item_27 (fun v9 h9 n9 z9 hq => ?_) (fun _ _ _ _ _ hf => hf.elim)
      obtain ⟨rfl, rfl, rfl, sg46, rfl, hk⟩ := hq
      refine ⟨[], rfl, ?_⟩
      exact r_vret X E (pc := 30) dX5_item_30 ⟨rfl, rfl, rfl, _, rfl, hk⟩
  · have hk := hk.2 c37
    exact r_vret X E (pc := 15) dX5_item_15 ⟨rfl, rfl, rfl, _, rfl, hk⟩
theorem s_X5_item {fr lo : Nat} {K : KT} {l : Launch} {t n z : Nat} {h0 : AH} {κ : TS → Prop} {I : (TS → Prop) → TS → Prop} {frI loI : Nat} (HI : ∀ {κ9 : TS → Prop} {sg9 : TS}, I κ9 sg9 → ∀ l : Launch, Ct K l yX5_item (ws_ yX5_item cX5_item 3 (Option.none : Option Jvm.ClassFile.FieldType)) frI loI ([vR (some t)].map cV) (tw t sg9 h0) n z (tQv t h0 n z κ9) noX) (hR : frI + 3 ≤ fr ∧ loI + 67 ≤ lo ∧ 6 ≤ fr ∧ 127 ≤ lo) (hz : kz K ≤ t) (hL : LitOK K h0) {sg : TS} (hk : P_X5_item I κ sg) : Ct K l yX5_item (ws_ yX5_item cX5_item 3 (Option.none : Option Jvm.ClassFile.FieldType)) fr lo ([vR (some t)].map cV) (tw t sg h0) n z (tQv t h0 n z κ) noX :=
  ct_of (by decide +kernel) (Nat.le_of_ble_eq_true rfl) (fun Y X E => w_X5_item X E hz hL HI hR hk)
theorem s_X5_itemD {K : KT} {t n z : Nat} {h0 : AH} (hz : kz K ≤ t) (hL : LitOK K h0) : ∀ (d : Nat) {κ : TS → Prop} {sg : TS}, P_X5_itemD d κ sg → ∀ l : Launch, Ct K l yX5_item (ws_ yX5_item cX5_item 3 (Option.none : Option Jvm.ClassFile.FieldType)) (9 + 3 * d) (194 + 67 * d) ([vR (some t)].map cV) (tw t sg h0) n z (tQv t h0 n z κ) noX := by
  intro d
  induction d with
  | zero => intro κ sg hk; exact hk.elim
  | succ d ih => intro κ sg hk l; exact s_X5_item (frI := 9 + 3 * d) (loI := 194 + 67 * d) ih ⟨by omega, by omega, by omega, by omega⟩ hz hL hk
theorem s_X5_itemsC {l : Launch} {K : KT} {t n z : Nat} {h0 : AH} (hz : kz K ≤ t) (hL : LitOK K h0) {κ : TS → Prop} {sg : TS} (hk : P_X5_itemsC κ sg) : Ct K l yX5_items (ws_ yX5_items cX5_items 1 (Option.none : Option Jvm.ClassFile.FieldType)) 28 618 ([vR (some t)].map cV) (tw t sg h0) n z (tQv t h0 n z κ) noX :=
  s_X5_items (frI := 27) (loI := 596) (s_X5_itemD hz hL 6) ⟨by decide, by decide, by decide, by decide⟩ hz hL hk
set_option maxHeartbeats 4000000 in
theorem w_X5_blazed_157 {K : KT} {Y : YT} {Qx : QxT} {t n z : Nat} {h0 : AH} {κ : TS → Prop} (X : XY K "TrailMarkersModel" "blazed" cX5_blazed (Option.none : Option Jvm.ClassFile.FieldType) [] 5 29 638 Y) (E : YE K Y (tQv t h0 n z κ) Qx) (hz : kz K ≤ t) (hL : LitOK K h0) : ∀ (sg : TS) (x1 : Int) (x2 : Int) (x3 : Int) (x4 : Int) (s0 : Int), P_X5_blazed_157 κ sg x1 x2 x3 x4 s0 → G K Y (tw t sg h0) n z 157 [(0, vR (some t)), (1, vI x1), (2, vI x2), (3, vI x3), (4, vI x4)] [vI s0, vR (some t)] := by
  intro sg x1 x2 x3 x4 s0 hk
  refine r_iconst X (pc := 157) dX5_blazed_157 ?_
  refine r_iload X (pc := 158) dX5_blazed_158 (q := 4) rfl ?_
  refine r_aload_n X (pc := 160) dX5_blazed_160 rfl (q := 0) rfl ?_
  refine r_tgI X (pc := 161) (v := sg.1 40) fa_X5_265 (by decide) rfl dX5_blazed_161 ?_
  refine r_callV X (pc := 164) (As := [vI s0, vI 5, vI x4, vI (sg.1 40)]) (st := []) rfl rfl rfl (tw_t t _ h0) m_X5_284 (fun _ => s_X5_refused hz hk) ⟨by decide, by decide⟩ (Nat.le_of_ble_eq_true rfl) dX5_blazed_164 (fun v9 h9 n9 z9 hq => ?_) (fun _ _ _ _ _ hf => hf.elim)
  obtain ⟨rfl, rfl, rfl, sg34, rfl, hk⟩ := hq
  refine ⟨[], rfl, ?_⟩
  refine r_aload_n X (pc := 167) dX5_blazed_167 rfl (q := 0) rfl ?_
  refine r_tgI X (pc := 168) (v := sg34.1 43) fa_X5_288 (by decide) rfl dX5_blazed_168 ?_
  obtain ⟨b35, hk⟩ := hk
  refine r_if_eq X (pc := 171) (tgt := 175) dX5_blazed_171 (by decide) b35 (fun c36 => ?_) (fun c36 => ?_)
  · have hk := hk.1 c36
    refine r_aload_n X (pc := 175) dX5_blazed_175 rfl (q := 0) rfl ?_
    refine r_iconst X (pc := 176) dX5_blazed_176 ?_
    refine r_tpI X (pc := 177) fp_X5_324 hz (by decide) dX5_blazed_177 ?_
    refine r_aload_n X (pc := 180) dX5_blazed_180 rfl (q := 0) rfl ?_
    refine r_iconst X (pc := 181) dX5_blazed_181 ?_
    refine r_tpI X (pc := 182) fp_X5_356 hz (by decide) dX5_blazed_182 ?_
    refine r_aload_n X (pc := 185) dX5_blazed_185 rfl (q := 0) rfl ?_
    refine r_aload_n X (pc := 186) dX5_blazed_186 rfl (q := 0) rfl ?_
    refine r_iload_n X (pc := 187) dX5_blazed_187 rfl (q := 2) rfl ?_
    refine r_iload_n X (pc := 188) dX5_blazed_188 rfl (q := 3) rfl ?_
    refine r_iload_n X (pc := 189) dX5_blazed_189 rfl (q := 1) rfl ?_
    refine r_iconst X (pc := 190) dX5_blazed_190 ?_
    refine r_callV X (pc := 191) (As := [vI x2, vI x3, vI x1, vI 4]) (st := [vR (some t)]) rfl rfl rfl (tw_t t _ h0) m_X5_320 (fun _ => s_X5_lay hz hk) ⟨by decide, by decide⟩ (Nat.le_of_ble_eq_true rfl) dX5_blazed_191 (fun v9 h9 n9 z9 hq => ?_) (fun _ _ _ _ _ hf => hf.elim)
    obtain ⟨r37, rfl, rfl, rfl, sg38, rfl, hk⟩ := hq
    refine ⟨[vI r37], rfl, ?_⟩
    refine r_tpI X (pc := 194) fp_X5_314 hz (by decide) dX5_blazed_194 ?_
    refine r_aload_n X (pc := 197) dX5_blazed_197 rfl (q := 0) rfl ?_
    refine r_callV X (pc := 198) (As := []) (st := []) rfl rfl rfl (tw_t t _ h0) m_X5_304 (fun _ => s_X5_go hz hk) ⟨by decide, by decide⟩ (Nat.le_of_ble_eq_true rfl) dX5_blazed_198 (fun v9 h9 n9 z9 hq => ?_) (fun _ _ _ _ _ hf => hf.elim)
    obtain ⟨rfl, rfl, rfl, sg39, rfl, hk⟩ := hq
    refine ⟨[], rfl, ?_⟩
    refine r_aload_n X (pc := 201) dX5_blazed_201 rfl (q := 0) rfl ?_
    refine r_callV X (pc := 202) (As := []) (st := []) rfl rfl rfl (tw_t t _ h0) m_X5_359 (fun _ => s_X5_itemsC hz hL hk) ⟨by decide, by decide⟩ (Nat.le_of_ble_eq_true rfl) dX5_blazed_202 (fun v9 h9 n9 z9 hq => ?_) (fun _ _ _ _ _ hf => hf.elim)
    obtain ⟨rfl, rfl, rfl, sg40, rfl, hk⟩ := hq
    refine ⟨[], rfl, ?_⟩
    exact r_vret X E (pc := 205) dX5_blazed_205 ⟨rfl, rfl, rfl, _, rfl, hk⟩
  · have hk := hk.2 c36
    exact r_vret X E (pc := 174) dX5_blazed_174 ⟨rfl, rfl, rfl, _, rfl, hk⟩
set_option maxHeartbeats 4000000 in
theorem w_X5_blazed_144 {K : KT} {Y : YT} {Qx : QxT} {t n z : Nat} {h0 : AH} {κ : TS → Prop} (X : XY K "TrailMarkersModel" "blazed" cX5_blazed (Option.none : Option Jvm.ClassFile.FieldType) [] 5 29 638 Y) (E : YE K Y (tQv t h0 n z κ) Qx) (hz : kz K ≤ t) (hL : LitOK K h0) : ∀ (sg : TS) (x1 : Int) (x2 : Int) (x3 : Int) (s0 : Int), P_X5_blazed_144 κ sg x1 x2 x3 s0 → G K Y (tw t sg h0) n z 144 [(0, vR (some t)), (1, vI x1), (2, vI x2), (3, vI x3)] [vI s0] := by
  intro sg x1 x2 x3 s0 hk
  refine r_istore X (pc := 144) (lv1 := [(4, vI s0), (0, vR (some t)), (1, vI x1), (2, vI x2), (3, vI x3)]) dX5_blazed_144 (by decide) rfl ?_
  refine r_aload_n X (pc := 146) dX5_blazed_146 rfl (q := 1) rfl ?_
  refine r_iload X (pc := 147) dX5_blazed_147 (q := 0) rfl ?_
  obtain ⟨b41, hk⟩ := hk
  refine r_if_le X (pc := 149) (tgt := 156) dX5_blazed_149 (by decide) b41 (fun c42 => ?_) (fun c42 => ?_)
  · have hk := hk.2 c42
    refine r_iconst X (pc := 156) dX5_blazed_156 ?_
    refine G.sub [1, 2, 3, 4, 0] rfl ?_
    exact w_X5_blazed_157 X E hz hL sg x1 x2 x3 s0 0 hk
  · have hk := hk.1 c42
    refine r_iconst X (pc := 152) dX5_blazed_152 ?_
    refine r_goto X (pc := 153) (tgt := 157) dX5_blazed_153 (by decide) ?_
    refine G.sub [1, 2, 3, 4, 0] rfl ?_
    exact w_X5_blazed_157 X E hz hL sg x1 x2 x3 s0 1 hk
set_option maxHeartbeats 4000000 in
theorem w_X5_blazed_91 {K : KT} {Y : YT} {Qx : QxT} {t n z : Nat} {h0 : AH} {κ : TS → Prop} (X : XY K "TrailMarkersModel" "blazed" cX5_blazed (Option.none : Option Jvm.ClassFile.FieldType) [] 5 29 638 Y) (E : YE K Y (tQv t h0 n z κ) Qx) (hz : kz K ≤ t) (hL : LitOK K h0) : ∀ (sg : TS) (x1 : Int) (s0 : Int), P_X5_blazed_91 κ sg x1 s0 → G K Y (tw t sg h0) n z 91 [(0, vR (some t)), (1, vI x1)] [vI s0, vR (some t)] := by
  intro sg x1 s0 hk
  refine r_iconst X (pc := 91) dX5_blazed_91 ?_
  refine r_callV X (pc := 92) (As := [vI s0, vI 3]) (st := []) rfl rfl rfl (tw_t t _ h0) m_X5_297 (fun _ => s_X5_wrong hz hk) ⟨by decide, by decide⟩ (Nat.le_of_ble_eq_true rfl) dX5_blazed_92 (fun v9 h9 n9 z9 hq => ?_) (fun _ _ _ _ _ hf => hf.elim)
  obtain ⟨rfl, rfl, rfl, sg43, rfl, hk⟩ := hq
  refine ⟨[], rfl, ?_⟩
  refine r_aload_n X (pc := 95) dX5_blazed_95 rfl (q := 0) rfl ?_
  refine r_callV X (pc := 96) (As := []) (st := []) rfl rfl rfl (tw_t t _ h0) m_X5_304 (fun _ => s_X5_go hz hk) ⟨by decide, by decide⟩ (Nat.le_of_ble_eq_true rfl) dX5_blazed_96 (fun v9 h9 n9 z9 hq => ?_) (fun _ _ _ _ _ hf => hf.elim)
  obtain ⟨rfl, rfl, rfl, sg44, rfl, hk⟩ := hq
  refine ⟨[], rfl, ?_⟩
  refine r_aload_n X (pc := 99) dX5_blazed_99 rfl (q := 0) rfl ?_
  refine r_iconst X (pc := 100) dX5_blazed_100 ?_
  refine r_aload_n X (pc := 101) dX5_blazed_101 rfl (q := 0) rfl ?_
  refine r_tgR X (pc := 102) (ty := 0) (N := 526) fa_X5_9 rfl (by decide) dX5_blazed_102 ?_
  refine r_iconst X (pc := 105) dX5_blazed_105 ?_
  refine r_tiald X (pc := 106) (v := sg44.2 0 0) (N := 526) rfl rfl dX5_blazed_106 (by decide) ?_
  refine r_iconst X (pc := 107) dX5_blazed_107 ?_
  refine r_isub X (pc := 108) dX5_blazed_108 ?_
  refine r_callV X (pc := 109) (As := [vI 0, vI ((sg44.2 0 0) - 1)]) (st := []) rfl rfl rfl (tw_t t _ h0) m_X5_338 (fun _ => s_X5_number hz hk) ⟨by decide, by decide⟩ (Nat.le_of_ble_eq_true rfl) dX5_blazed_109 (fun v9 h9 n9 z9 hq => ?_) (fun _ _ _ _ _ hf => hf.elim)
  obtain ⟨r45, rfl, rfl, rfl, sg46, rfl, hk⟩ := hq
  refine ⟨[vI r45], rfl, ?_⟩
  refine r_istore_n X (pc := 112) (lv1 := [(2, vI r45), (0, vR (some t)), (1, vI x1)]) dX5_blazed_112 rfl (by decide) rfl ?_
  refine r_aload_n X (pc := 113) dX5_blazed_113 rfl (q := 1) rfl ?_
  refine r_iconst X (pc := 114) dX5_blazed_114 ?_
  refine r_aload_n X (pc := 115) dX5_blazed_115 rfl (q := 1) rfl ?_
  refine r_tgR X (pc := 116) (ty := 0) (N := 526) fa_X5_9 rfl (by decide) dX5_blazed_116 ?_
  refine r_iconst X (pc := 119) dX5_blazed_119 ?_
  refine r_tiald X (pc := 120) (v := sg46.2 0 1) (N := 526) rfl rfl dX5_blazed_120 (by decide) ?_
  refine r_iconst X (pc := 121) dX5_blazed_121 ?_
  refine r_isub X (pc := 122) dX5_blazed_122 ?_
  refine r_callV X (pc := 123) (As := [vI 0, vI ((sg46.2 0 1) - 1)]) (st := []) rfl rfl rfl (tw_t t _ h0) m_X5_301 (fun _ => s_X5_here hz hk) ⟨by decide, by decide⟩ (Nat.le_of_ble_eq_true rfl) dX5_blazed_123 (fun v9 h9 n9 z9 hq => ?_) (fun _ _ _ _ _ hf => hf.elim)
  obtain ⟨r47, rfl, rfl, rfl, sg48, rfl, hk⟩ := hq
  refine ⟨[vI r47], rfl, ?_⟩
  refine r_istore_n X (pc := 126) (lv1 := [(3, vI r47), (2, vI r45), (0, vR (some t)), (1, vI x1)]) dX5_blazed_126 rfl (by decide) rfl ?_
  refine r_aload_n X (pc := 127) dX5_blazed_127 rfl (q := 2) rfl ?_
  refine r_tgI X (pc := 128) (v := sg48.1 43) fa_X5_288 (by decide) rfl dX5_blazed_128 ?_
  obtain ⟨b49, hk⟩ := hk
  refine r_if_eq X (pc := 131) (tgt := 138) dX5_blazed_131 (by decide) b49 (fun c50 => ?_) (fun c50 => ?_)
  · have hk := hk.1 c50
    refine r_aload_n X (pc := 138) dX5_blazed_138 rfl (q := 2) rfl ?_
    refine r_iload_n X (pc := 139) dX5_blazed_139 rfl (q := 1) rfl ?_
    refine r_iload_n X (pc := 140) dX5_blazed_140 rfl (q := 0) rfl ?_
    refine r_callV X (pc := 141) (As := [vI r45, vI r47]) (st := []) rfl rfl rfl (tw_t t _ h0) m_X5_317 (fun _ => s_X5_whyNoPost hz hk) ⟨by decide, by decide⟩ (Nat.le_of_ble_eq_true rfl) dX5_blazed_141 (fun v9 h9 n9 z9 hq => ?_) (fun _ _ _ _ _ hf => hf.elim)
    obtain ⟨r51, rfl, rfl, rfl, sg52, rfl, hk⟩ := hq
    refine ⟨[vI r51], rfl, ?_⟩
    refine G.sub [2, 3, 1, 0] rfl ?_
    exact w_X5_blazed_144 X E hz hL sg52 x1 r45 r47 r51 hk
  · have hk := hk.2 c50
    refine r_iconst X (pc := 134) dX5_blazed_134 ?_
    refine r_goto X (pc := 135) (tgt := 144) dX5_blazed_135 (by decide) ?_
    refine G.sub [2, 3, 1, 0] rfl ?_
    exact w_X5_blazed_144 X E hz hL sg48 x1 r45 r47 0 hk
set_option maxHeartbeats 4000000 in
theorem w_X5_blazed_79 {K : KT} {Y : YT} {Qx : QxT} {t n z : Nat} {h0 : AH} {κ : TS → Prop} (X : XY K "TrailMarkersModel" "blazed" cX5_blazed (Option.none : Option Jvm.ClassFile.FieldType) [] 5 29 638 Y) (E : YE K Y (tQv t h0 n z κ) Qx) (hz : kz K ≤ t) (hL : LitOK K h0) : ∀ (sg : TS) (s0 : Int), P_X5_blazed_79 κ sg s0 → G K Y (tw t sg h0) n z 79 [(0, vR (some t))] [vI s0] := by
  intro sg s0 hk
  refine r_istore_n X (pc := 79) (lv1 := [(1, vI s0), (0, vR (some t))]) dX5_blazed_79 rfl (by decide) rfl ?_
  refine r_aload_n X (pc := 80) dX5_blazed_80 rfl (q := 1) rfl ?_
  refine r_iload_n X (pc := 81) dX5_blazed_81 rfl (q := 0) rfl ?_
  refine r_iconst X (pc := 82) dX5_blazed_82 ?_
  obtain ⟨b53, hk⟩ := hk
  refine r_icmp_ne X (pc := 83) (tgt := 90) dX5_blazed_83 (by decide) ⟨b53, (by decide)⟩ (fun c54 => ?_) (fun c54 => ?_)
  · have hk := hk.2 c54
    refine r_iconst X (pc := 90) dX5_blazed_90 ?_
    refine G.sub [1, 0] rfl ?_
    exact w_X5_blazed_91 X E hz hL sg s0 0 hk
  · have hk := hk.1 c54
    refine r_iconst X (pc := 86) dX5_blazed_86 ?_
    refine r_goto X (pc := 87) (tgt := 91) dX5_blazed_87 (by decide) ?_
    refine G.sub [1, 0] rfl ?_
    exact w_X5_blazed_91 X E hz hL sg s0 1 hk
set_option maxHeartbeats 4000000 in
theorem w_X5_blazed_18 {K : KT} {Y : YT} {Qx : QxT} {t n z : Nat} {h0 : AH} {κ : TS → Prop} (X : XY K "TrailMarkersModel" "blazed" cX5_blazed (Option.none : Option Jvm.ClassFile.FieldType) [] 5 29 638 Y) (E : YE K Y (tQv t h0 n z κ) Qx) (hz : kz K ≤ t) (hL : LitOK K h0) : ∀ (sg : TS) (s0 : Int), P_X5_blazed_18 κ sg s0 → G K Y (tw t sg h0) n z 18 [(0, vR (some t))] [vI s0, vR (some t)] := by
  intro sg s0 hk
  refine r_iconst X (pc := 18) dX5_blazed_18 ?_
  refine r_callV X (pc := 19) (As := [vI s0, vI 1]) (st := []) rfl rfl rfl (tw_t t _ h0) m_X5_297 (fun _ => s_X5_wrong hz hk) ⟨by decide, by decide⟩ (Nat.le_of_ble_eq_true rfl) dX5_blazed_19 (fun v9 h9 n9 z9 hq => ?_) (fun _ _ _ _ _ hf => hf.elim)
  obtain ⟨rfl, rfl, rfl, sg55, rfl, hk⟩ := hq
  refine ⟨[], rfl, ?_⟩
  refine r_aload_n X (pc := 22) dX5_blazed_22 rfl (q := 0) rfl ?_
  refine r_ldcSw X (pc := 23) (j := 20) rfl dX5_blazed_23 ?_
  refine r_callV X (pc := 26) (As := [vR (some (kl K 20))]) (st := []) rfl rfl rfl (tw_t t _ h0) m_X5_329 (fun _ => s_X5_is hz hL hk) ⟨by decide, by decide⟩ (Nat.le_of_ble_eq_true rfl) dX5_blazed_26 (fun v9 h9 n9 z9 hq => ?_) (fun _ _ _ _ _ hf => hf.elim)
  obtain ⟨r56, rfl, rfl, rfl, sg57, rfl, hk⟩ := hq
  refine ⟨[vI r56], rfl, ?_⟩
  obtain ⟨b58, hk⟩ := hk
  refine r_if_eq X (pc := 29) (tgt := 36) dX5_blazed_29 (by decide) b58 (fun c59 => ?_) (fun c59 => ?_)
  · have hk := hk.1 c59
    refine r_aload_n X (pc := 36) dX5_blazed_36 rfl (q := 0) rfl ?_
    refine r_ldcSw X (pc := 37) (j := 21) rfl dX5_blazed_37 ?_
    refine r_callV X (pc := 40) (As := [vR (some (kl K 21))]) (st := []) rfl rfl rfl (tw_t t _ h0) m_X5_329 (fun _ => s_X5_is hz hL hk) ⟨by decide, by decide⟩ (Nat.le_of_ble_eq_true rfl) dX5_blazed_40 (fun v9 h9 n9 z9 hq => ?_) (fun _ _ _ _ _ hf => hf.elim)
    obtain ⟨r60, rfl, rfl, rfl, sg61, rfl, hk⟩ := hq
    refine ⟨[vI r60], rfl, ?_⟩
    obtain ⟨b62, hk⟩ := hk
    refine r_if_eq X (pc := 43) (tgt := 50) dX5_blazed_43 (by decide) b62 (fun c63 => ?_) (fun c63 => ?_)
    · have hk := hk.1 c63
      refine r_aload_n X (pc := 50) dX5_blazed_50 rfl (q := 0) rfl ?_
      refine r_ldcSw X (pc := 51) (j := 22) rfl dX5_blazed_51 ?_
      refine r_callV X (pc := 54) (As := [vR (some (kl K 22))]) (st := []) rfl rfl rfl (tw_t t _ h0) m_X5_329 (fun _ => s_X5_is hz hL hk) ⟨by decide, by decide⟩ (Nat.le_of_ble_eq_true rfl) dX5_blazed_54 (fun v9 h9 n9 z9 hq => ?_) (fun _ _ _ _ _ hf => hf.elim)
      obtain ⟨r64, rfl, rfl, rfl, sg65, rfl, hk⟩ := hq
      refine ⟨[vI r64], rfl, ?_⟩
      obtain ⟨b66, hk⟩ := hk
      refine r_if_eq X (pc := 57) (tgt := 64) dX5_blazed_57 (by decide) b66 (fun c67 => ?_) (fun c67 => ?_)
      · have hk := hk.1 c67
        refine r_aload_n X (pc := 64) dX5_blazed_64 rfl (q := 0) rfl ?_
        refine r_ldcSw X (pc := 65) (j := 23) rfl dX5_blazed_65 ?_
        refine r_callV X (pc := 68) (As := [vR (some (kl K 23))]) (st := []) rfl rfl rfl (tw_t t _ h0) m_X5_329 (fun _ => s_X5_is hz hL hk) ⟨by decide, by decide⟩ (Nat.le_of_ble_eq_true rfl) dX5_blazed_68 (fun v9 h9 n9 z9 hq => ?_) (fun _ _ _ _ _ hf => hf.elim)
        obtain ⟨r68, rfl, rfl, rfl, sg69, rfl, hk⟩ := hq
        refine ⟨[vI r68], rfl, ?_⟩
        obtain ⟨b70, hk⟩ := hk
        refine r_if_eq X (pc := 71) (tgt := 78) dX5_blazed_71 (by decide) b70 (fun c71 => ?_) (fun c71 => ?_)
        · have hk := hk.1 c71
          refine r_iconst X (pc := 78) dX5_blazed_78 ?_
          exact w_X5_blazed_79 X E hz hL sg69 (-1) hk
        · have hk := hk.2 c71
          refine r_iconst X (pc := 74) dX5_blazed_74 ?_
          refine r_goto X (pc := 75) (tgt := 79) dX5_blazed_75 (by decide) ?_
          exact w_X5_blazed_79 X E hz hL sg69 3 hk
      · have hk := hk.2 c67
        refine r_iconst X (pc := 60) dX5_blazed_60 ?_
        refine r_goto X (pc := 61) (tgt := 79) dX5_blazed_61 (by decide) ?_
        exact w_X5_blazed_79 X E hz hL sg65 2 hk
    · have hk := hk.2 c63
      refine r_iconst X (pc := 46) dX5_blazed_46 ?_
      refine r_goto X (pc := 47) (tgt := 79) dX5_blazed_47 (by decide) ?_
      exact w_X5_blazed_79 X E hz hL sg61 1 hk
  · have hk := hk.2 c59
    refine r_iconst X (pc := 32) dX5_blazed_32 ?_
    refine r_goto X (pc := 33) (tgt := 79) dX5_blazed_33 (by decide) ?_
    exact w_X5_blazed_79 X E hz hL sg57 0 hk
set_option maxHeartbeats 4000000 in
theorem w_X5_blazed {K : KT} {Y : YT} {Qx : QxT} {t n z : Nat} {h0 : AH} {κ : TS → Prop} (X : XY K "TrailMarkersModel" "blazed" cX5_blazed (Option.none : Option Jvm.ClassFile.FieldType) [] 5 29 638 Y) (E : YE K Y (tQv t h0 n z κ) Qx) (hz : kz K ≤ t) (hL : LitOK K h0) {sg : TS} (hk : P_X5_blazed κ sg) : G K Y (tw t sg h0) n z 0 (lv_argsA 0 [vR (some t)]) [] := by
  show G K Y (tw t sg h0) n z 0 [(0, vR (some t))] []
  refine r_aload_n X (pc := 0) dX5_blazed_0 rfl (q := 0) rfl ?_
  refine r_callV X (pc := 1) (As := []) (st := []) rfl rfl rfl (tw_t t _ h0) m_X5_304 (fun _ => s_X5_go hz hk) ⟨by decide, by decide⟩ (Nat.le_of_ble_eq_true rfl) dX5_blazed_1 (fun v9 h9 n9 z9 hq => ?_) (fun _ _ _ _ _ hf => hf.elim)
  obtain ⟨rfl, rfl, rfl, sg72, rfl, hk⟩ := hq
  refine ⟨[], rfl, ?_⟩
  refine r_aload_n X (pc := 4) dX5_blazed_4 rfl (q := 0) rfl ?_
  refine r_aload_n X (pc := 5) dX5_blazed_5 rfl (q := 0) rfl ?_
  refine r_tgI X (pc := 6) (v := sg72.1 39) fa_X5_268 (by decide) rfl dX5_blazed_6 ?_
  refine r_iconst X (pc := 9) dX5_blazed_9 ?_
  obtain ⟨b73, hk⟩ := hk
  refine r_icmp_eq X (pc := 10) (tgt := 17) dX5_blazed_10 (by decide) ⟨b73, (by decide)⟩ (fun c74 => ?_) (fun c74 => ?_)
  · have hk := hk.1 c74
    refine r_iconst X (pc := 17) dX5_blazed_17 ?_
    exact w_X5_blazed_18 X E hz hL sg72 0 hk
  · have hk := hk.2 c74
    refine r_iconst X (pc := 13) dX5_blazed_13 ?_
    refine r_goto X (pc := 14) (tgt := 18) dX5_blazed_14 (by decide) ?_
    exact w_X5_blazed_18 X E hz hL sg72 1 hk
theorem s_X5_blazed {K : KT} {l : Launch} {t n z : Nat} {h0 : AH} {κ : TS → Prop} (hz : kz K ≤ t) (hL : LitOK K h0) {sg : TS} (hk : P_X5_blazed κ sg) : Ct K l yX5_blazed (ws_ yX5_blazed cX5_blazed 5 (Option.none : Option Jvm.ClassFile.FieldType)) 29 638 ([vR (some t)].map cV) (tw t sg h0) n z (tQv t h0 n z κ) noX :=
  ct_of (by decide +kernel) (Nat.le_of_ble_eq_true rfl) (fun Y X E => w_X5_blazed X E hz hL hk)
set_option maxHeartbeats 4000000 in
theorem w_X5_command_70 {K : KT} {Y : YT} {Qx : QxT} {t n z : Nat} {h0 : AH} {κ : TS → Prop} (X : XY K "TrailMarkersModel" "command" cX5_command (Option.none : Option Jvm.ClassFile.FieldType) [] 3 30 662 Y) (E : YE K Y (tQv t h0 n z κ) Qx) (hz : kz K ≤ t) (hL : LitOK K h0) : ∀ (sg : TS) (s0 : Int), P_X5_command_70 κ sg s0 → G K Y (tw t sg h0) n z 70 [(0, vR (some t))] [vI s0, vR (some t)] := by
  intro sg s0 hk
  refine r_callV X (pc := 70) (As := [vI s0]) (st := []) rfl rfl rfl (tw_t t _ h0) m_X5_389 (fun _ => s_X5_stated hz hk) ⟨by decide, by decide⟩ (Nat.le_of_ble_eq_true rfl) dX5_command_70 (fun v9 h9 n9 z9 hq => ?_) (fun _ _ _ _ _ hf => hf.elim)
  obtain ⟨rfl, rfl, rfl, sg39, rfl, hk⟩ := hq
  refine ⟨[], rfl, ?_⟩
  refine r_goto X (pc := 73) (tgt := 165) dX5_command_73 (by decide) ?_
  refine r_aload_n X (pc := 165) dX5_command_165 rfl (q := 0) rfl ?_
  refine r_bipush X (pc := 166) dX5_command_166 (by decide) ?_
  refine r_callV X (pc := 168) (As := [vI 59]) (st := []) rfl rfl rfl (tw_t t _ h0) m_X5_396 (fun _ => s_X5_sign hz hk) ⟨by decide, by decide⟩ (Nat.le_of_ble_eq_true rfl) dX5_command_168 (fun v9 h9 n9 z9 hq => ?_) (fun _ _ _ _ _ hf => hf.elim)
  obtain ⟨rfl, rfl, rfl, sg40, rfl, hk⟩ := hq
  refine ⟨[], rfl, ?_⟩
  exact r_vret X E (pc := 171) dX5_command_171 ⟨rfl, rfl, rfl, _, rfl, hk⟩
set_option maxHeartbeats 4000000 in
theorem w_X5_command_54 {K : KT} {Y : YT} {Qx : QxT} {t n z : Nat} {h0 : AH} {κ : TS → Prop} (X : XY K "TrailMarkersModel" "command" cX5_command (Option.none : Option Jvm.ClassFile.FieldType) [] 3 30 662 Y) (E : YE K Y (tQv t h0 n z κ) Qx) (hz : kz K ≤ t) (hL : LitOK K h0) : ∀ (sg : TS), P_X5_command_54 κ sg → G K Y (tw t sg h0) n z 54 [(0, vR (some t))] [] := by
  intro sg hk
  refine r_aload_n X (pc := 54) dX5_command_54 rfl (q := 0) rfl ?_
  refine r_aload_n X (pc := 55) dX5_command_55 rfl (q := 0) rfl ?_
  refine r_ldcSw X (pc := 56) (j := 30) rfl dX5_command_56 ?_
  refine r_callV X (pc := 59) (As := [vR (some (kl K 30))]) (st := [vR (some t)]) rfl rfl rfl (tw_t t _ h0) m_X5_329 (fun _ => s_X5_is hz hL hk) ⟨by decide, by decide⟩ (Nat.le_of_ble_eq_true rfl) dX5_command_59 (fun v9 h9 n9 z9 hq => ?_) (fun _ _ _ _ _ hf => hf.elim)
  obtain ⟨r41, rfl, rfl, rfl, sg42, rfl, hk⟩ := hq
  refine ⟨[vI r41], rfl, ?_⟩
  obtain ⟨b43, hk⟩ := hk
  refine r_if_eq X (pc := 62) (tgt := 69) dX5_command_62 (by decide) b43 (fun c44 => ?_) (fun c44 => ?_)
  · have hk := hk.1 c44
    refine r_iconst X (pc := 69) dX5_command_69 ?_
    exact w_X5_command_70 X E hz hL sg42 0 hk
  · have hk := hk.2 c44
    refine r_iconst X (pc := 65) dX5_command_65 ?_
    refine r_goto X (pc := 66) (tgt := 70) dX5_command_66 (by decide) ?_
    exact w_X5_command_70 X E hz hL sg42 1 hk
set_option maxHeartbeats 4000000 in
theorem w_X5_command_156 {K : KT} {Y : YT} {Qx : QxT} {t n z : Nat} {h0 : AH} {κ : TS → Prop} (X : XY K "TrailMarkersModel" "command" cX5_command (Option.none : Option Jvm.ClassFile.FieldType) [] 3 30 662 Y) (E : YE K Y (tQv t h0 n z κ) Qx) (hz : kz K ≤ t) (hL : LitOK K h0) : ∀ (sg : TS), P_X5_command_156 κ sg → G K Y (tw t sg h0) n z 156 [(0, vR (some t))] [] := by
  intro sg hk
  refine r_goto X (pc := 156) (tgt := 165) dX5_command_156 (by decide) ?_
  refine r_aload_n X (pc := 165) dX5_command_165 rfl (q := 0) rfl ?_
  refine r_bipush X (pc := 166) dX5_command_166 (by decide) ?_
  refine r_callV X (pc := 168) (As := [vI 59]) (st := []) rfl rfl rfl (tw_t t _ h0) m_X5_396 (fun _ => s_X5_sign hz hk) ⟨by decide, by decide⟩ (Nat.le_of_ble_eq_true rfl) dX5_command_168 (fun v9 h9 n9 z9 hq => ?_) (fun _ _ _ _ _ hf => hf.elim)
  obtain ⟨rfl, rfl, rfl, sg45, rfl, hk⟩ := hq
  refine ⟨[], rfl, ?_⟩
  exact r_vret X E (pc := 171) dX5_command_171 ⟨rfl, rfl, rfl, _, rfl, hk⟩
set_option maxHeartbeats 4000000 in
theorem w_X5_command_138 {K : KT} {Y : YT} {Qx : QxT} {t n z : Nat} {h0 : AH} {κ : TS → Prop} (X : XY K "TrailMarkersModel" "command" cX5_command (Option.none : Option Jvm.ClassFile.FieldType) [] 3 30 662 Y) (E : YE K Y (tQv t h0 n z κ) Qx) (hz : kz K ≤ t) (hL : LitOK K h0) : ∀ (sg : TS) (x1 : Int) (s0 : Int) (s1 : Int), P_X5_command_138 κ sg x1 s0 s1 → G K Y (tw t sg h0) n z 138 [(0, vR (some t)), (1, vI x1)] [vI s0, vI s1, vR (some t)] := by
  intro sg x1 s0 s1 hk
  refine r_callV X (pc := 138) (As := [vI s1, vI s0]) (st := []) rfl rfl rfl (tw_t t _ h0) m_X5_338 (fun _ => s_X5_number hz hk) ⟨by decide, by decide⟩ (Nat.le_of_ble_eq_true rfl) dX5_command_138 (fun v9 h9 n9 z9 hq => ?_) (fun _ _ _ _ _ hf => hf.elim)
  obtain ⟨r46, rfl, rfl, rfl, sg47, rfl, hk⟩ := hq
  refine ⟨[vI r46], rfl, ?_⟩
  refine r_istore_n X (pc := 141) (lv1 := [(2, vI r46), (0, vR (some t)), (1, vI x1)]) dX5_command_141 rfl (by decide) rfl ?_
  refine r_aload_n X (pc := 142) dX5_command_142 rfl (q := 1) rfl ?_
  refine r_tgI X (pc := 143) (v := sg47.1 43) fa_X5_288 (by decide) rfl dX5_command_143 ?_
  obtain ⟨b48, hk⟩ := hk
  refine r_if_ne X (pc := 146) (tgt := 156) dX5_command_146 (by decide) b48 (fun c49 => ?_) (fun c49 => ?_)
  · have hk := hk.2 c49
    refine G.sub [1] rfl ?_
    exact w_X5_command_156 X E hz hL sg47 hk
  · have hk := hk.1 c49
    refine r_aload_n X (pc := 149) dX5_command_149 rfl (q := 1) rfl ?_
    refine r_tgR X (pc := 150) (ty := 0) (N := 526) fa_X5_9 rfl (by decide) dX5_command_150 ?_
    refine r_iload_n X (pc := 153) dX5_command_153 rfl (q := 2) rfl ?_
    refine r_iload_n X (pc := 154) dX5_command_154 rfl (q := 0) rfl ?_
    obtain ⟨b50, hk⟩ := hk
    refine r_tiast X (pc := 155) hz (N := 526) rfl dX5_command_155 b50 ?_
    refine G.sub [1] rfl ?_
    exact w_X5_command_156 X E hz hL (setA sg47 0 (uI (sg47.2 0) x1 r46)) hk
set_option maxHeartbeats 4000000 in
theorem w_X5_command_127 {K : KT} {Y : YT} {Qx : QxT} {t n z : Nat} {h0 : AH} {κ : TS → Prop} (X : XY K "TrailMarkersModel" "command" cX5_command (Option.none : Option Jvm.ClassFile.FieldType) [] 3 30 662 Y) (E : YE K Y (tQv t h0 n z κ) Qx) (hz : kz K ≤ t) (hL : LitOK K h0) : ∀ (sg : TS) (x1 : Int) (s0 : Int), P_X5_command_127 κ sg x1 s0 → G K Y (tw t sg h0) n z 127 [(0, vR (some t)), (1, vI x1)] [vI s0, vR (some t)] := by
  intro sg x1 s0 hk
  refine r_iload_n X (pc := 127) dX5_command_127 rfl (q := 1) rfl ?_
  refine r_iconst X (pc := 128) dX5_command_128 ?_
  obtain ⟨b51, hk⟩ := hk
  refine r_icmp_ne X (pc := 129) (tgt := 137) dX5_command_129 (by decide) ⟨b51, (by decide)⟩ (fun c52 => ?_) (fun c52 => ?_)
  · have hk := hk.2 c52
    refine r_iconst X (pc := 137) dX5_command_137 ?_
    exact w_X5_command_138 X E hz hL sg x1 2 s0 hk
  · have hk := hk.1 c52
    refine r_bipush X (pc := 132) dX5_command_132 (by decide) ?_
    refine r_goto X (pc := 134) (tgt := 138) dX5_command_134 (by decide) ?_
    exact w_X5_command_138 X E hz hL sg x1 12 s0 hk
set_option maxHeartbeats 4000000 in
theorem w_X5_command_111 {K : KT} {Y : YT} {Qx : QxT} {t n z : Nat} {h0 : AH} {κ : TS → Prop} (X : XY K "TrailMarkersModel" "command" cX5_command (Option.none : Option Jvm.ClassFile.FieldType) [] 3 30 662 Y) (E : YE K Y (tQv t h0 n z κ) Qx) (hz : kz K ≤ t) (hL : LitOK K h0) : ∀ (sg : TS) (s0 : Int), P_X5_command_111 κ sg s0 → G K Y (tw t sg h0) n z 111 [(0, vR (some t))] [vI s0] := by
  intro sg s0 hk
  refine r_istore_n X (pc := 111) (lv1 := [(1, vI s0), (0, vR (some t))]) dX5_command_111 rfl (by decide) rfl ?_
  refine r_aload_n X (pc := 112) dX5_command_112 rfl (q := 1) rfl ?_
  refine r_callV X (pc := 113) (As := []) (st := []) rfl rfl rfl (tw_t t _ h0) m_X5_304 (fun _ => s_X5_go hz hk) ⟨by decide, by decide⟩ (Nat.le_of_ble_eq_true rfl) dX5_command_113 (fun v9 h9 n9 z9 hq => ?_) (fun _ _ _ _ _ hf => hf.elim)
  obtain ⟨rfl, rfl, rfl, sg53, rfl, hk⟩ := hq
  refine ⟨[], rfl, ?_⟩
  refine r_aload_n X (pc := 116) dX5_command_116 rfl (q := 1) rfl ?_
  refine r_iload_n X (pc := 117) dX5_command_117 rfl (q := 0) rfl ?_
  refine r_iconst X (pc := 118) dX5_command_118 ?_
  obtain ⟨b54, hk⟩ := hk
  refine r_icmp_ne X (pc := 119) (tgt := 126) dX5_command_119 (by decide) ⟨b54, (by decide)⟩ (fun c55 => ?_) (fun c55 => ?_)
  · have hk := hk.2 c55
    refine r_iconst X (pc := 126) dX5_command_126 ?_
    refine G.sub [1, 0] rfl ?_
    exact w_X5_command_127 X E hz hL sg53 s0 0 hk
  · have hk := hk.1 c55
    refine r_iconst X (pc := 122) dX5_command_122 ?_
    refine r_goto X (pc := 123) (tgt := 127) dX5_command_123 (by decide) ?_
    refine G.sub [1, 0] rfl ?_
    exact w_X5_command_127 X E hz hL sg53 s0 1 hk
set_option maxHeartbeats 4000000 in
theorem w_X5_command_96 {K : KT} {Y : YT} {Qx : QxT} {t n z : Nat} {h0 : AH} {κ : TS → Prop} (X : XY K "TrailMarkersModel" "command" cX5_command (Option.none : Option Jvm.ClassFile.FieldType) [] 3 30 662 Y) (E : YE K Y (tQv t h0 n z κ) Qx) (hz : kz K ≤ t) (hL : LitOK K h0) : ∀ (sg : TS), P_X5_command_96 κ sg → G K Y (tw t sg h0) n z 96 [(0, vR (some t))] [] := by
  intro sg hk
  refine r_aload_n X (pc := 96) dX5_command_96 rfl (q := 0) rfl ?_
  refine r_ldcSw X (pc := 97) (j := 32) rfl dX5_command_97 ?_
  refine r_callV X (pc := 100) (As := [vR (some (kl K 32))]) (st := []) rfl rfl rfl (tw_t t _ h0) m_X5_329 (fun _ => s_X5_is hz hL hk) ⟨by decide, by decide⟩ (Nat.le_of_ble_eq_true rfl) dX5_command_100 (fun v9 h9 n9 z9 hq => ?_) (fun _ _ _ _ _ hf => hf.elim)
  obtain ⟨r56, rfl, rfl, rfl, sg57, rfl, hk⟩ := hq
  refine ⟨[vI r56], rfl, ?_⟩
  obtain ⟨b58, hk⟩ := hk
  refine r_if_eq X (pc := 103) (tgt := 110) dX5_command_103 (by decide) b58 (fun c59 => ?_) (fun c59 => ?_)
  · have hk := hk.1 c59
    refine r_iconst X (pc := 110) dX5_command_110 ?_
    exact w_X5_command_111 X E hz hL sg57 3 hk
  · have hk := hk.2 c59
    refine r_iconst X (pc := 106) dX5_command_106 ?_
    refine r_goto X (pc := 107) (tgt := 111) dX5_command_107 (by decide) ?_
    exact w_X5_command_111 X E hz hL sg57 2 hk
set_option maxHeartbeats 4000000 in
theorem w_X5_command {K : KT} {Y : YT} {Qx : QxT} {t n z : Nat} {h0 : AH} {κ : TS → Prop} (X : XY K "TrailMarkersModel" "command" cX5_command (Option.none : Option Jvm.ClassFile.FieldType) [] 3 30 662 Y) (E : YE K Y (tQv t h0 n z κ) Qx) (hz : kz K ≤ t) (hL : LitOK K h0) {sg : TS} (hk : P_X5_command κ sg) : G K Y (tw t sg h0) n z 0 (lv_argsA 0 [vR (some t)]) [] := by
  show G K Y (tw t sg h0) n z 0 [(0, vR (some t))] []
  refine r_aload_n X (pc := 0) dX5_command_0 rfl (q := 0) rfl ?_
  refine r_ldcSw X (pc := 1) (j := 19) rfl dX5_command_1 ?_
  refine r_callV X (pc := 4) (As := [vR (some (kl K 19))]) (st := []) rfl rfl rfl (tw_t t _ h0) m_X5_329 (fun _ => s_X5_is hz hL hk) ⟨by decide, by decide⟩ (Nat.le_of_ble_eq_true rfl) dX5_command_4 (fun v9 h9 n9 z9 hq => ?_) (fun _ _ _ _ _ hf => hf.elim)
  obtain ⟨r60, rfl, rfl, rfl, sg61, rfl, hk⟩ := hq
  refine ⟨[vI r60], rfl, ?_⟩
  obtain ⟨b62, hk⟩ := hk
  refine r_if_eq X (pc := 7) (tgt := 17) dX5_command_7 (by decide) b62 (fun c63 => ?_) (fun c63 => ?_)
  · have hk := hk.1 c63
    refine r_aload_n X (pc := 17) dX5_command_17 rfl (q := 0) rfl ?_
    refine r_ldcSw X (pc := 18) (j := 29) rfl dX5_command_18 ?_
    refine r_callV X (pc := 21) (As := [vR (some (kl K 29))]) (st := []) rfl rfl rfl (tw_t t _ h0) m_X5_329 (fun _ => s_X5_is hz hL hk) ⟨by decide, by decide⟩ (Nat.le_of_ble_eq_true rfl) dX5_command_21 (fun v9 h9 n9 z9 hq => ?_) (fun _ _ _ _ _ hf => hf.elim)
    obtain ⟨r64, rfl, rfl, rfl, sg65, rfl, hk⟩ := hq
    refine ⟨[vI r64], rfl, ?_⟩
    obtain ⟨b66, hk⟩ := hk
    refine r_if_eq X (pc := 24) (tgt := 34) dX5_command_24 (by decide) b66 (fun c67 => ?_) (fun c67 => ?_)
    · have hk := hk.1 c67
      refine r_aload_n X (pc := 34) dX5_command_34 rfl (q := 0) rfl ?_
      refine r_ldcSw X (pc := 35) (j := 30) rfl dX5_command_35 ?_
      refine r_callV X (pc := 38) (As := [vR (some (kl K 30))]) (st := []) rfl rfl rfl (tw_t t _ h0) m_X5_329 (fun _ => s_X5_is hz hL hk) ⟨by decide, by decide⟩ (Nat.le_of_ble_eq_true rfl) dX5_command_38 (fun v9 h9 n9 z9 hq => ?_) (fun _ _ _ _ _ hf => hf.elim)
      obtain ⟨r68, rfl, rfl, rfl, sg69, rfl, hk⟩ := hq
      refine ⟨[vI r68], rfl, ?_⟩
      obtain ⟨b70, hk⟩ := hk
      refine r_if_ne X (pc := 41) (tgt := 54) dX5_command_41 (by decide) b70 (fun c71 => ?_) (fun c71 => ?_)
      · have hk := hk.2 c71
        exact w_X5_command_54 X E hz hL sg69 hk
      · have hk := hk.1 c71
        refine r_aload_n X (pc := 44) dX5_command_44 rfl (q := 0) rfl ?_
        refine r_ldcSw X (pc := 45) (j := 31) rfl dX5_command_45 ?_
        refine r_callV X (pc := 48) (As := [vR (some (kl K 31))]) (st := []) rfl rfl rfl (tw_t t _ h0) m_X5_329 (fun _ => s_X5_is hz hL hk) ⟨by decide, by decide⟩ (Nat.le_of_ble_eq_true rfl) dX5_command_48 (fun v9 h9 n9 z9 hq => ?_) (fun _ _ _ _ _ hf => hf.elim)
        obtain ⟨r72, rfl, rfl, rfl, sg73, rfl, hk⟩ := hq
        refine ⟨[vI r72], rfl, ?_⟩
        obtain ⟨b74, hk⟩ := hk
        refine r_if_eq X (pc := 51) (tgt := 76) dX5_command_51 (by decide) b74 (fun c75 => ?_) (fun c75 => ?_)
        · have hk := hk.1 c75
          refine r_aload_n X (pc := 76) dX5_command_76 rfl (q := 0) rfl ?_
          refine r_ldcSw X (pc := 77) (j := 32) rfl dX5_command_77 ?_
          refine r_callV X (pc := 80) (As := [vR (some (kl K 32))]) (st := []) rfl rfl rfl (tw_t t _ h0) m_X5_329 (fun _ => s_X5_is hz hL hk) ⟨by decide, by decide⟩ (Nat.le_of_ble_eq_true rfl) dX5_command_80 (fun v9 h9 n9 z9 hq => ?_) (fun _ _ _ _ _ hf => hf.elim)
          obtain ⟨r76, rfl, rfl, rfl, sg77, rfl, hk⟩ := hq
          refine ⟨[vI r76], rfl, ?_⟩
          obtain ⟨b78, hk⟩ := hk
          refine r_if_ne X (pc := 83) (tgt := 96) dX5_command_83 (by decide) b78 (fun c79 => ?_) (fun c79 => ?_)
          · have hk := hk.2 c79
            exact w_X5_command_96 X E hz hL sg77 hk
          · have hk := hk.1 c79
            refine r_aload_n X (pc := 86) dX5_command_86 rfl (q := 0) rfl ?_
            refine r_ldcSw X (pc := 87) (j := 33) rfl dX5_command_87 ?_
            refine r_callV X (pc := 90) (As := [vR (some (kl K 33))]) (st := []) rfl rfl rfl (tw_t t _ h0) m_X5_329 (fun _ => s_X5_is hz hL hk) ⟨by decide, by decide⟩ (Nat.le_of_ble_eq_true rfl) dX5_command_90 (fun v9 h9 n9 z9 hq => ?_) (fun _ _ _ _ _ hf => hf.elim)
            obtain ⟨r80, rfl, rfl, rfl, sg81, rfl, hk⟩ := hq
            refine ⟨[vI r80], rfl, ?_⟩
            obtain ⟨b82, hk⟩ := hk
            refine r_if_eq X (pc := 93) (tgt := 159) dX5_command_93 (by decide) b82 (fun c83 => ?_) (fun c83 => ?_)
            · have hk := hk.1 c83
              refine r_aload_n X (pc := 159) dX5_command_159 rfl (q := 0) rfl ?_
              refine r_iconst X (pc := 160) dX5_command_160 ?_
              refine r_iconst X (pc := 161) dX5_command_161 ?_
              refine r_callV X (pc := 162) (As := [vI 1, vI 1]) (st := []) rfl rfl rfl (tw_t t _ h0) m_X5_297 (fun _ => s_X5_wrong hz hk) ⟨by decide, by decide⟩ (Nat.le_of_ble_eq_true rfl) dX5_command_162 (fun v9 h9 n9 z9 hq => ?_) (fun _ _ _ _ _ hf => hf.elim)
              obtain ⟨rfl, rfl, rfl, sg84, rfl, hk⟩ := hq
              refine ⟨[], rfl, ?_⟩
              refine r_aload_n X (pc := 165) dX5_command_165 rfl (q := 0) rfl ?_
              refine r_bipush X (pc := 166) dX5_command_166 (by decide) ?_
              refine r_callV X (pc := 168) (As := [vI 59]) (st := []) rfl rfl rfl (tw_t t _ h0) m_X5_396 (fun _ => s_X5_sign hz hk) ⟨by decide, by decide⟩ (Nat.le_of_ble_eq_true rfl) dX5_command_168 (fun v9 h9 n9 z9 hq => ?_) (fun _ _ _ _ _ hf => hf.elim)
              obtain ⟨rfl, rfl, rfl, sg85, rfl, hk⟩ := hq
              refine ⟨[], rfl, ?_⟩
              exact r_vret X E (pc := 171) dX5_command_171 ⟨rfl, rfl, rfl, _, rfl, hk⟩
            · have hk := hk.2 c83
              exact w_X5_command_96 X E hz hL sg81 hk
        · have hk := hk.2 c75
          exact w_X5_command_54 X E hz hL sg73 hk
    · have hk := hk.2 c67
      refine r_aload_n X (pc := 27) dX5_command_27 rfl (q := 0) rfl ?_
      refine r_callV X (pc := 28) (As := []) (st := []) rfl rfl rfl (tw_t t _ h0) m_X5_382 (fun _ => s_X5_blocked hz hk) ⟨by decide, by decide⟩ (Nat.le_of_ble_eq_true rfl) dX5_command_28 (fun v9 h9 n9 z9 hq => ?_) (fun _ _ _ _ _ hf => hf.elim)
      obtain ⟨rfl, rfl, rfl, sg86, rfl, hk⟩ := hq
      refine ⟨[], rfl, ?_⟩
      refine r_goto X (pc := 31) (tgt := 165) dX5_command_31 (by decide) ?_
      refine r_aload_n X (pc := 165) dX5_command_165 rfl (q := 0) rfl ?_
      refine r_bipush X (pc := 166) dX5_command_166 (by decide) ?_
      refine r_callV X (pc := 168) (As := [vI 59]) (st := []) rfl rfl rfl (tw_t t _ h0) m_X5_396 (fun _ => s_X5_sign hz hk) ⟨by decide, by decide⟩ (Nat.le_of_ble_eq_true rfl) dX5_command_168 (fun v9 h9 n9 z9 hq => ?_) (fun _ _ _ _ _ hf => hf.elim)
      obtain ⟨rfl, rfl, rfl, sg87, rfl, hk⟩ := hq
      refine ⟨[], rfl, ?_⟩
      exact r_vret X E (pc := 171) dX5_command_171 ⟨rfl, rfl, rfl, _, rfl, hk⟩
  · have hk := hk.2 c63
    refine r_aload_n X (pc := 10) dX5_command_10 rfl (q := 0) rfl ?_
    refine r_callV X (pc := 11) (As := []) (st := []) rfl rfl rfl (tw_t t _ h0) m_X5_378 (fun _ => s_X5_blazed hz hL hk) ⟨by decide, by decide⟩ (Nat.le_of_ble_eq_true rfl) dX5_command_11 (fun v9 h9 n9 z9 hq => ?_) (fun _ _ _ _ _ hf => hf.elim)
    obtain ⟨rfl, rfl, rfl, sg88, rfl, hk⟩ := hq
    refine ⟨[], rfl, ?_⟩
    refine r_goto X (pc := 14) (tgt := 165) dX5_command_14 (by decide) ?_
    refine r_aload_n X (pc := 165) dX5_command_165 rfl (q := 0) rfl ?_
    refine r_bipush X (pc := 166) dX5_command_166 (by decide) ?_
    refine r_callV X (pc := 168) (As := [vI 59]) (st := []) rfl rfl rfl (tw_t t _ h0) m_X5_396 (fun _ => s_X5_sign hz hk) ⟨by decide, by decide⟩ (Nat.le_of_ble_eq_true rfl) dX5_command_168 (fun v9 h9 n9 z9 hq => ?_) (fun _ _ _ _ _ hf => hf.elim)
    obtain ⟨rfl, rfl, rfl, sg89, rfl, hk⟩ := hq
    refine ⟨[], rfl, ?_⟩
    exact r_vret X E (pc := 171) dX5_command_171 ⟨rfl, rfl, rfl, _, rfl, hk⟩
theorem s_X5_command {K : KT} {l : Launch} {t n z : Nat} {h0 : AH} {κ : TS → Prop} (hz : kz K ≤ t) (hL : LitOK K h0) {sg : TS} (hk : P_X5_command κ sg) : Ct K l yX5_command (ws_ yX5_command cX5_command 3 (Option.none : Option Jvm.ClassFile.FieldType)) 30 662 ([vR (some t)].map cV) (tw t sg h0) n z (tQv t h0 n z κ) noX :=
  ct_of (by decide +kernel) (Nat.le_of_ble_eq_true rfl) (fun Y X E => w_X5_command X E hz hL hk)
set_option maxHeartbeats 4000000 in
theorem w_X5_commands_2 {K : KT} {Y : YT} {Qx : QxT} {t n z : Nat} {h0 : AH} {κ : Int → TS → Prop} (X : XY K "TrailMarkersModel" "commands" cX5_commands (Option.some Jvm.ClassFile.FieldType.int) [] 2 31 684 Y) (E : YE K Y (tQ t h0 n z κ) Qx) (hz : kz K ≤ t) (hL : LitOK K h0) {k_26 : TS → Int → Prop} (H_26 : ∀ (sg : TS) (x1 : Int), k_26 sg x1 → G K Y (tw t sg h0) n z 26 [(0, vR (some t)), (1, vI x1)] []) : ∀ (f : Nat) (sg : TS) (x1 : Int), L_X5_commands_2 k_26 κ f sg x1 → G K Y (tw t sg h0) n z 2 [(0, vR (some t)), (1, vI x1)] [] := by
  intro f
  induction f with
  | zero => intro sg x1 hk; exact hk.elim
  | succ f ih =>
    intro sg x1 hk
    refine r_aload_n X (pc := 2) dX5_commands_2 rfl (q := 0) rfl ?_
    refine r_tgI X (pc := 3) (v := sg.1 43) fa_X5_288 (by decide) rfl dX5_commands_3 ?_
    obtain ⟨b12, hk⟩ := hk
    refine r_if_ne X (pc := 6) (tgt := 26) dX5_commands_6 (by decide) b12 (fun c13 => ?_) (fun c13 => ?_)
    · have hk := hk.2 c13
      exact H_26 sg x1 hk
    · have hk := hk.1 c13
      refine r_aload_n X (pc := 9) dX5_commands_9 rfl (q := 0) rfl ?_
      refine r_tgI X (pc := 10) (v := sg.1 39) fa_X5_268 (by decide) rfl dX5_commands_10 ?_
      obtain ⟨b14, hk⟩ := hk
      refine r_if_eq X (pc := 13) (tgt := 26) dX5_commands_13 (by decide) b14 (fun c15 => ?_) (fun c15 => ?_)
      · have hk := hk.1 c15
        exact H_26 sg x1 hk
      · have hk := hk.2 c15
        refine r_aload_n X (pc := 16) dX5_commands_16 rfl (q := 0) rfl ?_
        refine r_callV X (pc := 17) (As := []) (st := []) rfl rfl rfl (tw_t t _ h0) m_X5_399 (fun _ => s_X5_command hz hL hk) ⟨by decide, by decide⟩ (Nat.le_of_ble_eq_true rfl) dX5_commands_17 (fun v9 h9 n9 z9 hq => ?_) (fun _ _ _ _ _ hf => hf.elim)
        obtain ⟨rfl, rfl, rfl, sg16, rfl, hk⟩ := hq
        refine ⟨[], rfl, ?_⟩
        refine r_iinc X (pc := 20) (q := 1) (lv1 := [(1, vI (x1 + 1)), (0, vR (some t))]) dX5_commands_20 rfl (by decide) rfl ?_
        refine r_goto X (pc := 23) (tgt := 2) dX5_commands_23 (by decide) ?_
        refine G.sub [1, 0] rfl ?_
        exact ih sg16 (x1 + 1) hk
set_option maxHeartbeats 4000000 in
theorem w_X5_commands_62 {K : KT} {Y : YT} {Qx : QxT} {t n z : Nat} {h0 : AH} {κ : Int → TS → Prop} (X : XY K "TrailMarkersModel" "commands" cX5_commands (Option.some Jvm.ClassFile.FieldType.int) [] 2 31 684 Y) (E : YE K Y (tQ t h0 n z κ) Qx) (hz : kz K ≤ t) (hL : LitOK K h0) : ∀ (sg : TS) (x1 : Int), P_X5_commands_62 κ sg x1 → G K Y (tw t sg h0) n z 62 [(0, vR (some t)), (1, vI x1)] [] := by
  intro sg x1 hk
  refine r_aload_n X (pc := 62) dX5_commands_62 rfl (q := 0) rfl ?_
  refine r_tgI X (pc := 63) (v := sg.1 43) fa_X5_288 (by decide) rfl dX5_commands_63 ?_
  obtain ⟨b17, hk⟩ := hk
  refine r_if_eq X (pc := 66) (tgt := 73) dX5_commands_66 (by decide) b17 (fun c18 => ?_) (fun c18 => ?_)
  · have hk := hk.1 c18
    refine r_iload_n X (pc := 73) dX5_commands_73 rfl (q := 1) rfl ?_
    exact r_iret X E (pc := 74) dX5_commands_74 rfl ⟨_, rfl, rfl, rfl, _, rfl, hk⟩
  · have hk := hk.2 c18
    refine r_iconst X (pc := 69) dX5_commands_69 ?_
    refine r_goto X (pc := 70) (tgt := 74) dX5_commands_70 (by decide) ?_
    exact r_iret X E (pc := 74) dX5_commands_74 rfl ⟨_, rfl, rfl, rfl, _, rfl, hk⟩
set_option maxHeartbeats 4000000 in
theorem w_X5_commands_26 {K : KT} {Y : YT} {Qx : QxT} {t n z : Nat} {h0 : AH} {κ : Int → TS → Prop} (X : XY K "TrailMarkersModel" "commands" cX5_commands (Option.some Jvm.ClassFile.FieldType.int) [] 2 31 684 Y) (E : YE K Y (tQ t h0 n z κ) Qx) (hz : kz K ≤ t) (hL : LitOK K h0) : ∀ (sg : TS) (x1 : Int), P_X5_commands_26 κ sg x1 → G K Y (tw t sg h0) n z 26 [(0, vR (some t)), (1, vI x1)] [] := by
  intro sg x1 hk
  refine r_aload_n X (pc := 26) dX5_commands_26 rfl (q := 0) rfl ?_
  refine r_iconst X (pc := 27) dX5_commands_27 ?_
  refine r_tpI X (pc := 28) fp_X5_93 hz (by decide) dX5_commands_28 ?_
  refine r_aload_n X (pc := 31) dX5_commands_31 rfl (q := 0) rfl ?_
  refine r_tgI X (pc := 32) (v := sg.1 43) fa_X5_288 (by decide) rfl dX5_commands_32 ?_
  obtain ⟨b19, hk⟩ := hk
  refine r_if_eq X (pc := 35) (tgt := 54) dX5_commands_35 (by decide) b19 (fun c20 => ?_) (fun c20 => ?_)
  · have hk := hk.1 c20
    refine r_aload_n X (pc := 54) dX5_commands_54 rfl (q := 0) rfl ?_
    refine r_aload_n X (pc := 55) dX5_commands_55 rfl (q := 0) rfl ?_
    refine r_tgR X (pc := 56) (ty := 0) (N := 526) fa_X5_22 rfl (by decide) dX5_commands_56 ?_
    refine r_callV X (pc := 59) (As := [vR (some (twAd t 4))]) (st := []) rfl rfl rfl (tw_t t _ h0) m_X5_402 (fun _ => s_X5_remember hz hk) ⟨by decide, by decide⟩ (Nat.le_of_ble_eq_true rfl) dX5_commands_59 (fun v9 h9 n9 z9 hq => ?_) (fun _ _ _ _ _ hf => hf.elim)
    obtain ⟨rfl, rfl, rfl, sg21, rfl, hk⟩ := hq
    refine ⟨[], rfl, ?_⟩
    exact w_X5_commands_62 X E hz hL sg21 x1 hk
  · have hk := hk.2 c20
    refine r_aload_n X (pc := 38) dX5_commands_38 rfl (q := 0) rfl ?_
    refine r_tgR X (pc := 39) (ty := 0) (N := 526) fa_X5_22 rfl (by decide) dX5_commands_39 ?_
    refine r_iconst X (pc := 42) dX5_commands_42 ?_
    refine r_aload_n X (pc := 43) dX5_commands_43 rfl (q := 0) rfl ?_
    refine r_tgR X (pc := 44) (ty := 0) (N := 526) fa_X5_9 rfl (by decide) dX5_commands_44 ?_
    refine r_iconst X (pc := 47) dX5_commands_47 ?_
    refine r_callS X (pc := 48) (As := [vR (some (twAd t 4)), vI 0, vR (some (twAd t 0)), vI 0]) (st := []) m_X5_115 (fun _ => s_X5_copy hz hk) ⟨by decide, by decide⟩ (Nat.le_of_ble_eq_true rfl) dX5_commands_48 (fun v9 h9 n9 z9 hq => ?_) (fun _ _ _ _ _ hf => hf.elim)
    obtain ⟨rfl, rfl, rfl, sg22, rfl, hk⟩ := hq
    refine ⟨[], rfl, ?_⟩
    refine r_goto X (pc := 51) (tgt := 62) dX5_commands_51 (by decide) ?_
    exact w_X5_commands_62 X E hz hL sg22 x1 hk
set_option maxHeartbeats 4000000 in
theorem w_X5_commands {K : KT} {Y : YT} {Qx : QxT} {t n z : Nat} {h0 : AH} {κ : Int → TS → Prop} (X : XY K "TrailMarkersModel" "commands" cX5_commands (Option.some Jvm.ClassFile.FieldType.int) [] 2 31 684 Y) (E : YE K Y (tQ t h0 n z κ) Qx) (hz : kz K ≤ t) (hL : LitOK K h0) {sg : TS} (hk : P_X5_commands κ sg) : G K Y (tw t sg h0) n z 0 (lv_argsA 0 [vR (some t)]) [] := by
  show G K Y (tw t sg h0) n z 0 [(0, vR (some t))] []
  refine r_iconst X (pc := 0) dX5_commands_0 ?_
  refine r_istore_n X (pc := 1) (lv1 := [(1, vI 0), (0, vR (some t))]) dX5_commands_1 rfl (by decide) rfl ?_
  refine G.sub [1, 0] rfl ?_
  have HH23 : ∀ (sg : TS) (x1 : Int), (P_X5_commands_26 κ sg x1) → G K Y (tw t sg h0) n z 26 [(0, vR (some t)), (1, vI x1)] [] := by
      intro sg x1 hk
      exact w_X5_commands_26 X E hz hL sg x1 hk
  obtain ⟨f9, hk⟩ := hk
  exact w_X5_commands_2 X E hz hL HH23 f9 sg 0 hk
theorem s_X5_commands {K : KT} {l : Launch} {t n z : Nat} {h0 : AH} {κ : Int → TS → Prop} (hz : kz K ≤ t) (hL : LitOK K h0) {sg : TS} (hk : P_X5_commands κ sg) : Ct K l yX5_commands (ws_ yX5_commands cX5_commands 2 (Option.some Jvm.ClassFile.FieldType.int)) 31 684 ([vR (some t)].map cV) (tw t sg h0) n z (tQ t h0 n z κ) noX :=
  ct_of (by decide +kernel) (Nat.le_of_ble_eq_true rfl) (fun Y X E => w_X5_commands X E hz hL hk)
set_option maxHeartbeats 4000000 in
theorem w_X5_load_6 {K : KT} {Y : YT} {Qx : QxT} {t n z : Nat} {h0 : AH} {κ : Int → TS → Prop} (X : XY K "TrailMarkersModel" "load" cX5_load (Option.some Jvm.ClassFile.FieldType.int) [] 2 32 705 Y) (E : YE K Y (tQ t h0 n z κ) Qx) (hz : kz K ≤ t) (hL : LitOK K h0) {k_26 : TS → Prop} (H_26 : ∀ (sg : TS), k_26 sg → G K Y (tw t sg h0) n z 26 [(0, vR (some t))] []) : ∀ (f : Nat) (sg : TS) (x1 : Int), L_X5_load_6 k_26 κ f sg x1 → G K Y (tw t sg h0) n z 6 [(0, vR (some t)), (1, vI x1)] [] := by
  intro f
  induction f with
  | zero => intro sg x1 hk; exact hk.elim
  | succ f ih =>
    intro sg x1 hk
    refine r_iload_n X (pc := 6) dX5_load_6 rfl (q := 1) rfl ?_
    refine r_sipush X (pc := 7) dX5_load_7 (by decide) ?_
    obtain ⟨b18, hk⟩ := hk
    refine r_icmp_ge X (pc := 10) (tgt := 26) dX5_load_10 (by decide) ⟨b18, (by decide)⟩ (fun c19 => ?_) (fun c19 => ?_)
    · have hk := hk.2 c19
      refine G.sub [0] rfl ?_
      exact H_26 sg hk
    · have hk := hk.1 c19
      refine r_aload_n X (pc := 13) dX5_load_13 rfl (q := 0) rfl ?_
      refine r_tgR X (pc := 14) (ty := 0) (N := 526) fa_X5_9 rfl (by decide) dX5_load_14 ?_
      refine r_iload_n X (pc := 17) dX5_load_17 rfl (q := 1) rfl ?_
      refine r_iconst X (pc := 18) dX5_load_18 ?_
      obtain ⟨b20, hk⟩ := hk
      refine r_tiast X (pc := 19) hz (N := 526) rfl dX5_load_19 b20 ?_
      refine r_iinc X (pc := 20) (q := 1) (lv1 := [(1, vI (x1 + 1)), (0, vR (some t))]) dX5_load_20 rfl (by decide) rfl ?_
      refine r_goto X (pc := 23) (tgt := 6) dX5_load_23 (by decide) ?_
      refine G.sub [1, 0] rfl ?_
      exact ih (setA sg 0 (uI (sg.2 0) x1 0)) (x1 + 1) hk
set_option maxHeartbeats 4000000 in
theorem w_X5_load_42 {K : KT} {Y : YT} {Qx : QxT} {t n z : Nat} {h0 : AH} {κ : Int → TS → Prop} (X : XY K "TrailMarkersModel" "load" cX5_load (Option.some Jvm.ClassFile.FieldType.int) [] 2 32 705 Y) (E : YE K Y (tQ t h0 n z κ) Qx) (hz : kz K ≤ t) (hL : LitOK K h0) : ∀ (sg : TS) (s0 : Int), P_X5_load_42 κ sg s0 → G K Y (tw t sg h0) n z 42 [(0, vR (some t))] [vI s0, vR (some t)] := by
  intro sg s0 hk
  refine r_iconst X (pc := 42) dX5_load_42 ?_
  refine r_callV X (pc := 43) (As := [vI s0, vI 1]) (st := []) rfl rfl rfl (tw_t t _ h0) m_X5_297 (fun _ => s_X5_wrong hz hk) ⟨by decide, by decide⟩ (Nat.le_of_ble_eq_true rfl) dX5_load_43 (fun v9 h9 n9 z9 hq => ?_) (fun _ _ _ _ _ hf => hf.elim)
  obtain ⟨rfl, rfl, rfl, sg21, rfl, hk⟩ := hq
  refine ⟨[], rfl, ?_⟩
  refine r_aload_n X (pc := 46) dX5_load_46 rfl (q := 0) rfl ?_
  refine r_callV X (pc := 47) (As := []) (st := []) rfl rfl rfl (tw_t t _ h0) m_X5_304 (fun _ => s_X5_go hz hk) ⟨by decide, by decide⟩ (Nat.le_of_ble_eq_true rfl) dX5_load_47 (fun v9 h9 n9 z9 hq => ?_) (fun _ _ _ _ _ hf => hf.elim)
  obtain ⟨rfl, rfl, rfl, sg22, rfl, hk⟩ := hq
  refine ⟨[], rfl, ?_⟩
  refine r_aload_n X (pc := 50) dX5_load_50 rfl (q := 0) rfl ?_
  refine r_tgR X (pc := 51) (ty := 0) (N := 526) fa_X5_9 rfl (by decide) dX5_load_51 ?_
  refine r_iconst X (pc := 54) dX5_load_54 ?_
  refine r_aload_n X (pc := 55) dX5_load_55 rfl (q := 0) rfl ?_
  refine r_iconst X (pc := 56) dX5_load_56 ?_
  refine r_bipush X (pc := 57) dX5_load_57 (by decide) ?_
  refine r_callV X (pc := 59) (As := [vI 4, vI 20]) (st := [vI 0, vR (some (twAd t 0))]) rfl rfl rfl (tw_t t _ h0) m_X5_338 (fun _ => s_X5_number hz hk) ⟨by decide, by decide⟩ (Nat.le_of_ble_eq_true rfl) dX5_load_59 (fun v9 h9 n9 z9 hq => ?_) (fun _ _ _ _ _ hf => hf.elim)
  obtain ⟨r23, rfl, rfl, rfl, sg24, rfl, hk⟩ := hq
  refine ⟨[vI r23], rfl, ?_⟩
  refine r_tiast X (pc := 62) hz (N := 526) rfl dX5_load_62 (by decide) ?_
  refine r_aload_n X (pc := 63) dX5_load_63 rfl (q := 0) rfl ?_
  refine r_tgR X (pc := 64) (ty := 0) (N := 526) fa_X5_9 rfl (by decide) dX5_load_64 ?_
  refine r_iconst X (pc := 67) dX5_load_67 ?_
  refine r_aload_n X (pc := 68) dX5_load_68 rfl (q := 0) rfl ?_
  refine r_iconst X (pc := 69) dX5_load_69 ?_
  refine r_bipush X (pc := 70) dX5_load_70 (by decide) ?_
  refine r_callV X (pc := 72) (As := [vI 4, vI 20]) (st := [vI 1, vR (some (twAd t 0))]) rfl rfl rfl (tw_t t _ h0) m_X5_338 (fun _ => s_X5_number hz hk) ⟨by decide, by decide⟩ (Nat.le_of_ble_eq_true rfl) dX5_load_72 (fun v9 h9 n9 z9 hq => ?_) (fun _ _ _ _ _ hf => hf.elim)
  obtain ⟨r25, rfl, rfl, rfl, sg26, rfl, hk⟩ := hq
  refine ⟨[vI r25], rfl, ?_⟩
  refine r_tiast X (pc := 75) hz (N := 526) rfl dX5_load_75 (by decide) ?_
  refine r_aload_n X (pc := 76) dX5_load_76 rfl (q := 0) rfl ?_
  refine r_tgR X (pc := 77) (ty := 0) (N := 526) fa_X5_9 rfl (by decide) dX5_load_77 ?_
  refine r_iconst X (pc := 80) dX5_load_80 ?_
  refine r_aload_n X (pc := 81) dX5_load_81 rfl (q := 0) rfl ?_
  refine r_iconst X (pc := 82) dX5_load_82 ?_
  refine r_bipush X (pc := 83) dX5_load_83 (by decide) ?_
  refine r_callV X (pc := 85) (As := [vI 1, vI 12]) (st := [vI 2, vR (some (twAd t 0))]) rfl rfl rfl (tw_t t _ h0) m_X5_338 (fun _ => s_X5_number hz hk) ⟨by decide, by decide⟩ (Nat.le_of_ble_eq_true rfl) dX5_load_85 (fun v9 h9 n9 z9 hq => ?_) (fun _ _ _ _ _ hf => hf.elim)
  obtain ⟨r27, rfl, rfl, rfl, sg28, rfl, hk⟩ := hq
  refine ⟨[vI r27], rfl, ?_⟩
  refine r_tiast X (pc := 88) hz (N := 526) rfl dX5_load_88 (by decide) ?_
  refine r_aload_n X (pc := 89) dX5_load_89 rfl (q := 0) rfl ?_
  refine r_tgR X (pc := 90) (ty := 0) (N := 526) fa_X5_9 rfl (by decide) dX5_load_90 ?_
  refine r_iconst X (pc := 93) dX5_load_93 ?_
  refine r_aload_n X (pc := 94) dX5_load_94 rfl (q := 0) rfl ?_
  refine r_iconst X (pc := 95) dX5_load_95 ?_
  refine r_iconst X (pc := 96) dX5_load_96 ?_
  refine r_callV X (pc := 97) (As := [vI 0, vI 2]) (st := [vI 3, vR (some (twAd t 0))]) rfl rfl rfl (tw_t t _ h0) m_X5_338 (fun _ => s_X5_number hz hk) ⟨by decide, by decide⟩ (Nat.le_of_ble_eq_true rfl) dX5_load_97 (fun v9 h9 n9 z9 hq => ?_) (fun _ _ _ _ _ hf => hf.elim)
  obtain ⟨r29, rfl, rfl, rfl, sg30, rfl, hk⟩ := hq
  refine ⟨[vI r29], rfl, ?_⟩
  refine r_tiast X (pc := 100) hz (N := 526) rfl dX5_load_100 (by decide) ?_
  refine r_aload_n X (pc := 101) dX5_load_101 rfl (q := 0) rfl ?_
  refine r_bipush X (pc := 102) dX5_load_102 (by decide) ?_
  refine r_callV X (pc := 104) (As := [vI 59]) (st := []) rfl rfl rfl (tw_t t _ h0) m_X5_396 (fun _ => s_X5_sign hz hk) ⟨by decide, by decide⟩ (Nat.le_of_ble_eq_true rfl) dX5_load_104 (fun v9 h9 n9 z9 hq => ?_) (fun _ _ _ _ _ hf => hf.elim)
  obtain ⟨rfl, rfl, rfl, sg31, rfl, hk⟩ := hq
  refine ⟨[], rfl, ?_⟩
  refine r_aload_n X (pc := 107) dX5_load_107 rfl (q := 0) rfl ?_
  refine r_callV X (pc := 108) (As := []) (st := []) rfl rfl rfl (tw_t t _ h0) m_X5_411 (fun _ => s_X5_commands hz hL hk) ⟨by decide, by decide⟩ (Nat.le_of_ble_eq_true rfl) dX5_load_108 (fun v9 h9 n9 z9 hq => ?_) (fun _ _ _ _ _ hf => hf.elim)
  obtain ⟨r32, rfl, rfl, rfl, sg33, rfl, hk⟩ := hq
  refine ⟨[vI r32], rfl, ?_⟩
  refine r_iconst X (pc := 111) dX5_load_111 ?_
  obtain ⟨b34, hk⟩ := hk
  refine r_icmp_ne X (pc := 112) (tgt := 119) dX5_load_112 (by decide) ⟨b34, (by decide)⟩ (fun c35 => ?_) (fun c35 => ?_)
  · have hk := hk.2 c35
    refine r_aload_n X (pc := 119) dX5_load_119 rfl (q := 0) rfl ?_
    refine r_tgR X (pc := 120) (ty := 0) (N := 526) fa_X5_9 rfl (by decide) dX5_load_120 ?_
    refine r_iconst X (pc := 123) dX5_load_123 ?_
    refine r_tiald X (pc := 124) (v := sg33.2 0 4) (N := 526) rfl rfl dX5_load_124 (by decide) ?_
    exact r_iret X E (pc := 125) dX5_load_125 rfl ⟨_, rfl, rfl, rfl, _, rfl, hk⟩
  · have hk := hk.1 c35
    refine r_iconst X (pc := 115) dX5_load_115 ?_
    refine r_goto X (pc := 116) (tgt := 125) dX5_load_116 (by decide) ?_
    exact r_iret X E (pc := 125) dX5_load_125 rfl ⟨_, rfl, rfl, rfl, _, rfl, hk⟩
set_option maxHeartbeats 4000000 in
theorem w_X5_load_26 {K : KT} {Y : YT} {Qx : QxT} {t n z : Nat} {h0 : AH} {κ : Int → TS → Prop} (X : XY K "TrailMarkersModel" "load" cX5_load (Option.some Jvm.ClassFile.FieldType.int) [] 2 32 705 Y) (E : YE K Y (tQ t h0 n z κ) Qx) (hz : kz K ≤ t) (hL : LitOK K h0) : ∀ (sg : TS), P_X5_load_26 κ sg → G K Y (tw t sg h0) n z 26 [(0, vR (some t))] [] := by
  intro sg hk
  refine r_aload_n X (pc := 26) dX5_load_26 rfl (q := 0) rfl ?_
  refine r_aload_n X (pc := 27) dX5_load_27 rfl (q := 0) rfl ?_
  refine r_ldcSw X (pc := 28) (j := 18) rfl dX5_load_28 ?_
  refine r_callV X (pc := 31) (As := [vR (some (kl K 18))]) (st := [vR (some t)]) rfl rfl rfl (tw_t t _ h0) m_X5_329 (fun _ => s_X5_is hz hL hk) ⟨by decide, by decide⟩ (Nat.le_of_ble_eq_true rfl) dX5_load_31 (fun v9 h9 n9 z9 hq => ?_) (fun _ _ _ _ _ hf => hf.elim)
  obtain ⟨r36, rfl, rfl, rfl, sg37, rfl, hk⟩ := hq
  refine ⟨[vI r36], rfl, ?_⟩
  obtain ⟨b38, hk⟩ := hk
  refine r_if_ne X (pc := 34) (tgt := 41) dX5_load_34 (by decide) b38 (fun c39 => ?_) (fun c39 => ?_)
  · have hk := hk.2 c39
    refine r_iconst X (pc := 41) dX5_load_41 ?_
    exact w_X5_load_42 X E hz hL sg37 0 hk
  · have hk := hk.1 c39
    refine r_iconst X (pc := 37) dX5_load_37 ?_
    refine r_goto X (pc := 38) (tgt := 42) dX5_load_38 (by decide) ?_
    exact w_X5_load_42 X E hz hL sg37 1 hk
set_option maxHeartbeats 4000000 in
theorem w_X5_load {K : KT} {Y : YT} {Qx : QxT} {t n z : Nat} {h0 : AH} {κ : Int → TS → Prop} (X : XY K "TrailMarkersModel" "load" cX5_load (Option.some Jvm.ClassFile.FieldType.int) [] 2 32 705 Y) (E : YE K Y (tQ t h0 n z κ) Qx) (hz : kz K ≤ t) (hL : LitOK K h0) {sg : TS} (hk : P_X5_load κ sg) : G K Y (tw t sg h0) n z 0 (lv_argsA 0 [vR (some t)]) [] := by
  show G K Y (tw t sg h0) n z 0 [(0, vR (some t))] []
  refine r_aload_n X (pc := 0) dX5_load_0 rfl (q := 0) rfl ?_
  refine r_callV X (pc := 1) (As := []) (st := []) rfl rfl rfl (tw_t t _ h0) m_X5_406 (fun _ => s_X5_starts hz hk) ⟨by decide, by decide⟩ (Nat.le_of_ble_eq_true rfl) dX5_load_1 (fun v9 h9 n9 z9 hq => ?_) (fun _ _ _ _ _ hf => hf.elim)
  obtain ⟨rfl, rfl, rfl, sg40, rfl, hk⟩ := hq
  refine ⟨[], rfl, ?_⟩
  refine r_iconst X (pc := 4) dX5_load_4 ?_
  refine r_istore_n X (pc := 5) (lv1 := [(1, vI 0), (0, vR (some t))]) dX5_load_5 rfl (by decide) rfl ?_
  refine G.sub [1, 0] rfl ?_
  have HH41 : ∀ (sg : TS), (P_X5_load_26 κ sg) → G K Y (tw t sg h0) n z 26 [(0, vR (some t))] [] := by
      intro sg hk
      exact w_X5_load_26 X E hz hL sg hk
  obtain ⟨f9, hk⟩ := hk
  exact w_X5_load_6 X E hz hL HH41 f9 sg40 0 hk
theorem s_X5_load {K : KT} {l : Launch} {t n z : Nat} {h0 : AH} {κ : Int → TS → Prop} (hz : kz K ≤ t) (hL : LitOK K h0) {sg : TS} (hk : P_X5_load κ sg) : Ct K l yX5_load (ws_ yX5_load cX5_load 2 (Option.some Jvm.ClassFile.FieldType.int)) 32 705 ([vR (some t)].map cV) (tw t sg h0) n z (tQ t h0 n z κ) noX :=
  ct_of (by decide +kernel) (Nat.le_of_ble_eq_true rfl) (fun Y X E => w_X5_load X E hz hL hk)
set_option maxHeartbeats 4000000 in
theorem w_X5_play {K : KT} {Y : YT} {Qx : QxT} {t n z : Nat} {h0 : AH} {κ : Int → TS → Prop} (X : XY K "TrailMarkersModel" "play" cX5_play (Option.some Jvm.ClassFile.FieldType.int) [] 1 32 705 Y) (E : YE K Y (tQ t h0 n z κ) Qx) (hz : kz K ≤ t) (hL : LitOK K h0) {sg : TS} (hk : P_X5_play κ sg) : G K Y (tw t sg h0) n z 0 (lv_argsA 0 [vR (some t)]) [] := by
  show G K Y (tw t sg h0) n z 0 [(0, vR (some t))] []
  refine r_aload_n X (pc := 0) dX5_play_0 rfl (q := 0) rfl ?_
  refine r_callV X (pc := 1) (As := []) (st := []) rfl rfl rfl (tw_t t _ h0) m_X5_406 (fun _ => s_X5_starts hz hk) ⟨by decide, by decide⟩ (Nat.le_of_ble_eq_true rfl) dX5_play_1 (fun v9 h9 n9 z9 hq => ?_) (fun _ _ _ _ _ hf => hf.elim)
  obtain ⟨rfl, rfl, rfl, sg3, rfl, hk⟩ := hq
  refine ⟨[], rfl, ?_⟩
  refine r_aload_n X (pc := 4) dX5_play_4 rfl (q := 0) rfl ?_
  refine r_callV X (pc := 5) (As := []) (st := []) rfl rfl rfl (tw_t t _ h0) m_X5_411 (fun _ => s_X5_commands hz hL hk) ⟨by decide, by decide⟩ (Nat.le_of_ble_eq_true rfl) dX5_play_5 (fun v9 h9 n9 z9 hq => ?_) (fun _ _ _ _ _ hf => hf.elim)
  obtain ⟨r4, rfl, rfl, rfl, sg5, rfl, hk⟩ := hq
  refine ⟨[vI r4], rfl, ?_⟩
  exact r_iret X E (pc := 8) dX5_play_8 rfl ⟨_, rfl, rfl, rfl, _, rfl, hk⟩
theorem s_X5_play {K : KT} {l : Launch} {t n z : Nat} {h0 : AH} {κ : Int → TS → Prop} (hz : kz K ≤ t) (hL : LitOK K h0) {sg : TS} (hk : P_X5_play κ sg) : Ct K l yX5_play (ws_ yX5_play cX5_play 1 (Option.some Jvm.ClassFile.FieldType.int)) 32 705 ([vR (some t)].map cV) (tw t sg h0) n z (tQ t h0 n z κ) noX :=
  ct_of (by decide +kernel) (Nat.le_of_ble_eq_true rfl) (fun Y X E => w_X5_play X E hz hL hk)
set_option maxHeartbeats 4000000 in
theorem w_X5_outLeg_27 {K : KT} {Y : YT} {Qx : QxT} {t n z : Nat} {h0 : AH} {κ : TS → Prop} (X : XY K "TrailMarkersModel" "outLeg" cX5_outLeg (Option.none : Option Jvm.ClassFile.FieldType) [] 2 4 85 Y) (E : YE K Y (tQv t h0 n z κ) Qx) (hz : kz K ≤ t) (hL : LitOK K h0) : ∀ (sg : TS) (x1 : Int), P_X5_outLeg_27 κ sg x1 → G K Y (tw t sg h0) n z 27 [(0, vR (some t)), (1, vI x1)] [] := by
  intro sg x1 hk
  refine r_aload_n X (pc := 27) dX5_outLeg_27 rfl (q := 0) rfl ?_
  refine r_bipush X (pc := 28) dX5_outLeg_28 (by decide) ?_
  refine r_aload_n X (pc := 30) dX5_outLeg_30 rfl (q := 0) rfl ?_
  refine r_tgR X (pc := 31) (ty := 0) (N := 100) fa_X5_48 rfl (by decide) dX5_outLeg_31 ?_
  refine r_iload_n X (pc := 34) dX5_outLeg_34 rfl (q := 1) rfl ?_
  obtain ⟨b15, hk⟩ := hk
  refine r_tiald X (pc := 35) (v := sg.2 27 x1) (N := 100) rfl rfl dX5_outLeg_35 b15 ?_
  refine r_bipush X (pc := 36) dX5_outLeg_36 (by decide) ?_
  obtain ⟨b16, hk⟩ := hk
  refine r_irem X (pc := 38) dX5_outLeg_38 ⟨⟨b16, (by decide)⟩, (by decide)⟩ ?_
  refine r_iadd X (pc := 39) dX5_outLeg_39 ?_
  refine r_callV X (pc := 40) (As := [vI (48 + ((sg.2 27 x1).tmod 10))]) (st := []) rfl rfl rfl (tw_t t _ h0) m_X5_483 (fun _ => s_X5_out hz hk) ⟨by decide, by decide⟩ (Nat.le_of_ble_eq_true rfl) dX5_outLeg_40 (fun v9 h9 n9 z9 hq => ?_) (fun _ _ _ _ _ hf => hf.elim)
  obtain ⟨rfl, rfl, rfl, sg17, rfl, hk⟩ := hq
  refine ⟨[], rfl, ?_⟩
  refine r_aload_n X (pc := 43) dX5_outLeg_43 rfl (q := 0) rfl ?_
  refine r_ldcSw X (pc := 44) (j := 34) rfl dX5_outLeg_44 ?_
  refine r_aload_n X (pc := 47) dX5_outLeg_47 rfl (q := 0) rfl ?_
  refine r_tgR X (pc := 48) (ty := 0) (N := 100) fa_X5_51 rfl (by decide) dX5_outLeg_48 ?_
  refine r_iload_n X (pc := 51) dX5_outLeg_51 rfl (q := 1) rfl ?_
  refine r_tiald X (pc := 52) (v := sg17.2 28 x1) (N := 100) rfl rfl dX5_outLeg_52 b15 ?_
  obtain ⟨b18, hk⟩ := hk
  refine r_tschar X (pc := 53) (i := 34) hz hL (by decide) b18 m_X5_96 ⟨by decide, by decide⟩ (Nat.le_of_ble_eq_true rfl) dX5_outLeg_53 ?_
  refine r_callV X (pc := 56) (As := [vI (litCh 34 (sg17.2 28 x1))]) (st := []) rfl rfl rfl (tw_t t _ h0) m_X5_483 (fun _ => s_X5_out hz hk) ⟨by decide, by decide⟩ (Nat.le_of_ble_eq_true rfl) dX5_outLeg_56 (fun v9 h9 n9 z9 hq => ?_) (fun _ _ _ _ _ hf => hf.elim)
  obtain ⟨rfl, rfl, rfl, sg19, rfl, hk⟩ := hq
  refine ⟨[], rfl, ?_⟩
  refine r_aload_n X (pc := 59) dX5_outLeg_59 rfl (q := 0) rfl ?_
  refine r_tgR X (pc := 60) (ty := 2) (N := 100) fa_X5_57 rfl (by decide) dX5_outLeg_60 ?_
  refine r_iload_n X (pc := 63) dX5_outLeg_63 rfl (q := 1) rfl ?_
  refine r_tzald X (pc := 64) (v := sg19.2 30 x1) (N := 100) rfl rfl dX5_outLeg_64 b15 ?_
  obtain ⟨b20, hk⟩ := hk
  refine r_if_eq X (pc := 65) (tgt := 74) dX5_outLeg_65 (by decide) b20 (fun c21 => ?_) (fun c21 => ?_)
  · have hk := hk.1 c21
    exact r_vret X E (pc := 74) dX5_outLeg_74 ⟨rfl, rfl, rfl, _, rfl, hk⟩
  · have hk := hk.2 c21
    refine r_aload_n X (pc := 68) dX5_outLeg_68 rfl (q := 0) rfl ?_
    refine r_bipush X (pc := 69) dX5_outLeg_69 (by decide) ?_
    refine r_callV X (pc := 71) (As := [vI 120]) (st := []) rfl rfl rfl (tw_t t _ h0) m_X5_483 (fun _ => s_X5_out hz hk) ⟨by decide, by decide⟩ (Nat.le_of_ble_eq_true rfl) dX5_outLeg_71 (fun v9 h9 n9 z9 hq => ?_) (fun _ _ _ _ _ hf => hf.elim)
    obtain ⟨rfl, rfl, rfl, sg22, rfl, hk⟩ := hq
    refine ⟨[], rfl, ?_⟩
    exact r_vret X E (pc := 74) dX5_outLeg_74 ⟨rfl, rfl, rfl, _, rfl, hk⟩
set_option maxHeartbeats 4000000 in
theorem w_X5_outLeg {K : KT} {Y : YT} {Qx : QxT} {t n z : Nat} {h0 : AH} {κ : TS → Prop} (X : XY K "TrailMarkersModel" "outLeg" cX5_outLeg (Option.none : Option Jvm.ClassFile.FieldType) [] 2 4 85 Y) (E : YE K Y (tQv t h0 n z κ) Qx) (hz : kz K ≤ t) (hL : LitOK K h0) {sg : TS} {x1 : Int} (hk : P_X5_outLeg κ sg x1) : G K Y (tw t sg h0) n z 0 (lv_argsA 0 [vR (some t), vI x1]) [] := by
  show G K Y (tw t sg h0) n z 0 [(0, vR (some t)), (1, vI x1)] []
  refine r_aload_n X (pc := 0) dX5_outLeg_0 rfl (q := 0) rfl ?_
  refine r_tgR X (pc := 1) (ty := 0) (N := 100) fa_X5_48 rfl (by decide) dX5_outLeg_1 ?_
  refine r_iload_n X (pc := 4) dX5_outLeg_4 rfl (q := 1) rfl ?_
  obtain ⟨b23, hk⟩ := hk
  refine r_tiald X (pc := 5) (v := sg.2 27 x1) (N := 100) rfl rfl dX5_outLeg_5 b23 ?_
  refine r_bipush X (pc := 6) dX5_outLeg_6 (by decide) ?_
  obtain ⟨b24, hk⟩ := hk
  refine r_icmp_le X (pc := 8) (tgt := 27) dX5_outLeg_8 (by decide) ⟨b24, (by decide)⟩ (fun c25 => ?_) (fun c25 => ?_)
  · have hk := hk.2 c25
    exact w_X5_outLeg_27 X E hz hL sg x1 hk
  · have hk := hk.1 c25
    refine r_aload_n X (pc := 11) dX5_outLeg_11 rfl (q := 0) rfl ?_
    refine r_bipush X (pc := 12) dX5_outLeg_12 (by decide) ?_
    refine r_aload_n X (pc := 14) dX5_outLeg_14 rfl (q := 0) rfl ?_
    refine r_tgR X (pc := 15) (ty := 0) (N := 100) fa_X5_48 rfl (by decide) dX5_outLeg_15 ?_
    refine r_iload_n X (pc := 18) dX5_outLeg_18 rfl (q := 1) rfl ?_
    refine r_tiald X (pc := 19) (v := sg.2 27 x1) (N := 100) rfl rfl dX5_outLeg_19 b23 ?_
    refine r_bipush X (pc := 20) dX5_outLeg_20 (by decide) ?_
    refine r_idiv X (pc := 22) dX5_outLeg_22 ⟨⟨b24, (by decide)⟩, (by decide)⟩ ?_
    refine r_iadd X (pc := 23) dX5_outLeg_23 ?_
    refine r_callV X (pc := 24) (As := [vI (48 + ((sg.2 27 x1).tdiv 10))]) (st := []) rfl rfl rfl (tw_t t _ h0) m_X5_483 (fun _ => s_X5_out hz hk) ⟨by decide, by decide⟩ (Nat.le_of_ble_eq_true rfl) dX5_outLeg_24 (fun v9 h9 n9 z9 hq => ?_) (fun _ _ _ _ _ hf => hf.elim)
    obtain ⟨rfl, rfl, rfl, sg26, rfl, hk⟩ := hq
    refine ⟨[], rfl, ?_⟩
    exact w_X5_outLeg_27 X E hz hL sg26 x1 hk
theorem s_X5_outLeg {K : KT} {l : Launch} {t n z : Nat} {h0 : AH} {κ : TS → Prop} (hz : kz K ≤ t) (hL : LitOK K h0) {sg : TS} {x1 : Int} (hk : P_X5_outLeg κ sg x1) : Ct K l yX5_outLeg (ws_ yX5_outLeg cX5_outLeg 2 (Option.none : Option Jvm.ClassFile.FieldType)) 4 85 ([vR (some t), vI x1].map cV) (tw t sg h0) n z (tQv t h0 n z κ) noX :=
  ct_of (by decide +kernel) (Nat.le_of_ble_eq_true rfl) (fun Y X E => w_X5_outLeg X E hz hL hk)
set_option maxHeartbeats 4000000 in
theorem w_X5_outLegs_7 {K : KT} {Y : YT} {Qx : QxT} {t n z : Nat} {h0 : AH} {κ : Int → TS → Prop} (X : XY K "TrailMarkersModel" "outLegs" cX5_outLegs (Option.some Jvm.ClassFile.FieldType.int) [] 6 5 106 Y) (E : YE K Y (tQ t h0 n z κ) Qx) (hz : kz K ≤ t) (hL : LitOK K h0) {k_62 : TS → Int → Int → Int → Prop} (H_62 : ∀ (sg : TS) (x1 : Int) (x2 : Int) (x3 : Int), k_62 sg x1 x2 x3 → G K Y (tw t sg h0) n z 62 [(0, vR (some t)), (1, vI x1), (2, vI x2), (3, vI x3)] []) : ∀ (f : Nat) (sg : TS) (x1 : Int) (x2 : Int) (x3 : Int) (x4 : Int), L_X5_outLegs_7 k_62 κ f sg x1 x2 x3 x4 → G K Y (tw t sg h0) n z 7 [(0, vR (some t)), (1, vI x1), (2, vI x2), (3, vI x3), (4, vI x4)] [] := by
  intro f
  induction f with
  | zero => intro sg x1 x2 x3 x4 hk; exact hk.elim
  | succ f ih =>
    intro sg x1 x2 x3 x4 hk
    refine r_iload_n X (pc := 7) dX5_outLegs_7 rfl (q := 1) rfl ?_
    refine r_iconst X (pc := 8) dX5_outLegs_8 ?_
    refine r_iload X (pc := 9) dX5_outLegs_9 (q := 4) rfl ?_
    refine r_imul X (pc := 11) dX5_outLegs_11 ?_
    refine r_iadd X (pc := 12) dX5_outLegs_12 ?_
    refine r_aload_n X (pc := 13) dX5_outLegs_13 rfl (q := 0) rfl ?_
    refine r_tgI X (pc := 14) (v := sg.1 34) fa_X5_202 (by decide) rfl dX5_outLegs_14 ?_
    obtain ⟨b23, b24, hk⟩ := hk
    refine r_icmp_gt X (pc := 17) (tgt := 62) dX5_outLegs_17 (by decide) ⟨b23, b24⟩ (fun c25 => ?_) (fun c25 => ?_)
    · have hk := hk.1 c25
      refine G.sub [0, 1, 2, 3] rfl ?_
      exact H_62 sg x1 x2 x3 hk
    · have hk := hk.2 c25
      refine r_aload_n X (pc := 20) dX5_outLegs_20 rfl (q := 0) rfl ?_
      refine r_iload_n X (pc := 21) dX5_outLegs_21 rfl (q := 1) rfl ?_
      refine r_iload X (pc := 22) dX5_outLegs_22 (q := 4) rfl ?_
      refine r_callV X (pc := 24) (As := [vI x1, vI x4]) (st := []) rfl rfl rfl (tw_t t _ h0) m_X5_491 (fun _ => s_X5_repeats hz hk) ⟨by decide, by decide⟩ (Nat.le_of_ble_eq_true rfl) dX5_outLegs_24 (fun v9 h9 n9 z9 hq => ?_) (fun _ _ _ _ _ hf => hf.elim)
      obtain ⟨r26, rfl, rfl, rfl, sg27, rfl, hk⟩ := hq
      refine ⟨[vI r26], rfl, ?_⟩
      refine r_istore X (pc := 27) (lv1 := [(5, vI r26), (0, vR (some t)), (1, vI x1), (2, vI x2), (3, vI x3), (4, vI x4)]) dX5_outLegs_27 (by decide) rfl ?_
      refine r_iload X (pc := 29) dX5_outLegs_29 (q := 0) rfl ?_
      refine r_iconst X (pc := 31) dX5_outLegs_31 ?_
      obtain ⟨b28, hk⟩ := hk
      refine r_icmp_lt X (pc := 32) (tgt := 56) dX5_outLegs_32 (by decide) ⟨b28, (by decide)⟩ (fun c29 => ?_) (fun c29 => ?_)
      · have hk := hk.1 c29
        refine r_iinc X (pc := 56) (q := 5) (lv1 := [(4, vI (x4 + 1)), (5, vI r26), (0, vR (some t)), (1, vI x1), (2, vI x2), (3, vI x3)]) dX5_outLegs_56 rfl (by decide) rfl ?_
        refine r_goto X (pc := 59) (tgt := 7) dX5_outLegs_59 (by decide) ?_
        refine G.sub [2, 3, 4, 5, 0] rfl ?_
        exact ih sg27 x1 x2 x3 (x4 + 1) hk
      · have hk := hk.2 c29
        refine r_iload X (pc := 35) dX5_outLegs_35 (q := 0) rfl ?_
        refine r_iload X (pc := 37) dX5_outLegs_37 (q := 5) rfl ?_
        refine r_imul X (pc := 39) dX5_outLegs_39 ?_
        refine r_iload_n X (pc := 40) dX5_outLegs_40 rfl (q := 4) rfl ?_
        obtain ⟨b30, b31, hk⟩ := hk
        refine r_icmp_gt X (pc := 41) (tgt := 47) dX5_outLegs_41 (by decide) ⟨b30, b31⟩ (fun c32 => ?_) (fun c32 => ?_)
        · have hk := hk.1 c32
          refine r_iload X (pc := 47) dX5_outLegs_47 (q := 5) rfl ?_
          refine r_istore_n X (pc := 49) (lv1 := [(2, vI x4), (5, vI r26), (0, vR (some t)), (1, vI x1), (3, vI x3), (4, vI x4)]) dX5_outLegs_49 rfl (by decide) rfl ?_
          refine r_iload X (pc := 50) dX5_outLegs_50 (q := 1) rfl ?_
          refine r_iload X (pc := 52) dX5_outLegs_52 (q := 5) rfl ?_
          refine r_imul X (pc := 54) dX5_outLegs_54 ?_
          refine r_istore_n X (pc := 55) (lv1 := [(3, vI (r26 * x4)), (2, vI x4), (5, vI r26), (0, vR (some t)), (1, vI x1), (4, vI x4)]) dX5_outLegs_55 rfl (by decide) rfl ?_
          refine r_iinc X (pc := 56) (q := 5) (lv1 := [(4, vI (x4 + 1)), (3, vI (r26 * x4)), (2, vI x4), (5, vI r26), (0, vR (some t)), (1, vI x1)]) dX5_outLegs_56 rfl (by decide) rfl ?_
          refine r_goto X (pc := 59) (tgt := 7) dX5_outLegs_59 (by decide) ?_
          refine G.sub [4, 5, 2, 1, 0] rfl ?_
          exact ih sg27 x1 x4 (r26 * x4) (x4 + 1) hk
        · have hk := hk.2 c32
          refine r_goto X (pc := 44) (tgt := 56) dX5_outLegs_44 (by decide) ?_
          refine r_iinc X (pc := 56) (q := 5) (lv1 := [(4, vI (x4 + 1)), (5, vI r26), (0, vR (some t)), (1, vI x1), (2, vI x2), (3, vI x3)]) dX5_outLegs_56 rfl (by decide) rfl ?_
          refine r_goto X (pc := 59) (tgt := 7) dX5_outLegs_59 (by decide) ?_
          refine G.sub [2, 3, 4, 5, 0] rfl ?_
          exact ih sg27 x1 x2 x3 (x4 + 1) hk
set_option maxHeartbeats 4000000 in
theorem w_X5_outLegs_94 {K : KT} {Y : YT} {Qx : QxT} {t n z : Nat} {h0 : AH} {κ : Int → TS → Prop} (X : XY K "TrailMarkersModel" "outLegs" cX5_outLegs (Option.some Jvm.ClassFile.FieldType.int) [] 6 5 106 Y) (E : YE K Y (tQ t h0 n z κ) Qx) (hz : kz K ≤ t) (hL : LitOK K h0) {k_114 : TS → Int → Int → Prop} (H_114 : ∀ (sg : TS) (x1 : Int) (x3 : Int), k_114 sg x1 x3 → G K Y (tw t sg h0) n z 114 [(0, vR (some t)), (1, vI x1), (3, vI x3)] []) : ∀ (f : Nat) (sg : TS) (x1 : Int) (x2 : Int) (x3 : Int) (x4 : Int), L_X5_outLegs_94 k_114 κ f sg x1 x2 x3 x4 → G K Y (tw t sg h0) n z 94 [(0, vR (some t)), (1, vI x1), (2, vI x2), (3, vI x3), (4, vI x4)] [] := by
  intro f
  induction f with
  | zero => intro sg x1 x2 x3 x4 hk; exact hk.elim
  | succ f ih =>
    intro sg x1 x2 x3 x4 hk
    refine r_iload X (pc := 94) dX5_outLegs_94 (q := 4) rfl ?_
    refine r_iload_n X (pc := 96) dX5_outLegs_96 rfl (q := 2) rfl ?_
    obtain ⟨b33, b34, hk⟩ := hk
    refine r_icmp_ge X (pc := 97) (tgt := 114) dX5_outLegs_97 (by decide) ⟨b33, b34⟩ (fun c35 => ?_) (fun c35 => ?_)
    · have hk := hk.2 c35
      refine G.sub [0, 1, 3] rfl ?_
      exact H_114 sg x1 x3 hk
    · have hk := hk.1 c35
      refine r_aload_n X (pc := 100) dX5_outLegs_100 rfl (q := 0) rfl ?_
      refine r_iload_n X (pc := 101) dX5_outLegs_101 rfl (q := 1) rfl ?_
      refine r_iload X (pc := 102) dX5_outLegs_102 (q := 4) rfl ?_
      refine r_iadd X (pc := 104) dX5_outLegs_104 ?_
      refine r_callV X (pc := 105) (As := [vI (x1 + x4)]) (st := []) rfl rfl rfl (tw_t t _ h0) m_X5_494 (fun _ => s_X5_outLeg hz hL hk) ⟨by decide, by decide⟩ (Nat.le_of_ble_eq_true rfl) dX5_outLegs_105 (fun v9 h9 n9 z9 hq => ?_) (fun _ _ _ _ _ hf => hf.elim)
      obtain ⟨rfl, rfl, rfl, sg36, rfl, hk⟩ := hq
      refine ⟨[], rfl, ?_⟩
      refine r_iinc X (pc := 108) (q := 4) (lv1 := [(4, vI (x4 + 1)), (0, vR (some t)), (1, vI x1), (2, vI x2), (3, vI x3)]) dX5_outLegs_108 rfl (by decide) rfl ?_
      refine r_goto X (pc := 111) (tgt := 94) dX5_outLegs_111 (by decide) ?_
      refine G.sub [1, 2, 3, 4, 0] rfl ?_
      exact ih sg36 x1 x2 x3 (x4 + 1) hk
set_option maxHeartbeats 4000000 in
theorem w_X5_outLegs_114 {K : KT} {Y : YT} {Qx : QxT} {t n z : Nat} {h0 : AH} {κ : Int → TS → Prop} (X : XY K "TrailMarkersModel" "outLegs" cX5_outLegs (Option.some Jvm.ClassFile.FieldType.int) [] 6 5 106 Y) (E : YE K Y (tQ t h0 n z κ) Qx) (hz : kz K ≤ t) (hL : LitOK K h0) : ∀ (sg : TS) (x1 : Int) (x3 : Int), P_X5_outLegs_114 κ sg x1 x3 → G K Y (tw t sg h0) n z 114 [(0, vR (some t)), (1, vI x1), (3, vI x3)] [] := by
  intro sg x1 x3 hk
  refine r_aload_n X (pc := 114) dX5_outLegs_114 rfl (q := 0) rfl ?_
  refine r_bipush X (pc := 115) dX5_outLegs_115 (by decide) ?_
  refine r_callV X (pc := 117) (As := [vI 41]) (st := []) rfl rfl rfl (tw_t t _ h0) m_X5_483 (fun _ => s_X5_out hz hk) ⟨by decide, by decide⟩ (Nat.le_of_ble_eq_true rfl) dX5_outLegs_117 (fun v9 h9 n9 z9 hq => ?_) (fun _ _ _ _ _ hf => hf.elim)
  obtain ⟨rfl, rfl, rfl, sg37, rfl, hk⟩ := hq
  refine ⟨[], rfl, ?_⟩
  refine r_iload_n X (pc := 120) dX5_outLegs_120 rfl (q := 1) rfl ?_
  refine r_iload_n X (pc := 121) dX5_outLegs_121 rfl (q := 2) rfl ?_
  refine r_iadd X (pc := 122) dX5_outLegs_122 ?_
  exact r_iret X E (pc := 123) dX5_outLegs_123 rfl ⟨_, rfl, rfl, rfl, _, rfl, hk⟩
set_option maxHeartbeats 4000000 in
theorem w_X5_outLegs_62 {K : KT} {Y : YT} {Qx : QxT} {t n z : Nat} {h0 : AH} {κ : Int → TS → Prop} (X : XY K "TrailMarkersModel" "outLegs" cX5_outLegs (Option.some Jvm.ClassFile.FieldType.int) [] 6 5 106 Y) (E : YE K Y (tQ t h0 n z κ) Qx) (hz : kz K ≤ t) (hL : LitOK K h0) : ∀ (sg : TS) (x1 : Int) (x2 : Int) (x3 : Int), P_X5_outLegs_62 κ sg x1 x2 x3 → G K Y (tw t sg h0) n z 62 [(0, vR (some t)), (1, vI x1), (2, vI x2), (3, vI x3)] [] := by
  intro sg x1 x2 x3 hk
  refine r_iload_n X (pc := 62) dX5_outLegs_62 rfl (q := 2) rfl ?_
  obtain ⟨b38, hk⟩ := hk
  refine r_if_ne X (pc := 63) (tgt := 75) dX5_outLegs_63 (by decide) b38 (fun c39 => ?_) (fun c39 => ?_)
  · have hk := hk.2 c39
    refine r_aload_n X (pc := 75) dX5_outLegs_75 rfl (q := 0) rfl ?_
    refine r_bipush X (pc := 76) dX5_outLegs_76 (by decide) ?_
    refine r_iload_n X (pc := 78) dX5_outLegs_78 rfl (q := 3) rfl ?_
    refine r_iload_n X (pc := 79) dX5_outLegs_79 rfl (q := 2) rfl ?_
    obtain ⟨b40, b41, hk⟩ := hk
    refine r_idiv X (pc := 80) dX5_outLegs_80 ⟨⟨b40, b38⟩, b41⟩ ?_
    refine r_iadd X (pc := 81) dX5_outLegs_81 ?_
    refine r_callV X (pc := 82) (As := [vI (48 + (x3.tdiv x2))]) (st := []) rfl rfl rfl (tw_t t _ h0) m_X5_483 (fun _ => s_X5_out hz hk) ⟨by decide, by decide⟩ (Nat.le_of_ble_eq_true rfl) dX5_outLegs_82 (fun v9 h9 n9 z9 hq => ?_) (fun _ _ _ _ _ hf => hf.elim)
    obtain ⟨rfl, rfl, rfl, sg42, rfl, hk⟩ := hq
    refine ⟨[], rfl, ?_⟩
    refine r_aload_n X (pc := 85) dX5_outLegs_85 rfl (q := 0) rfl ?_
    refine r_bipush X (pc := 86) dX5_outLegs_86 (by decide) ?_
    refine r_callV X (pc := 88) (As := [vI 40]) (st := []) rfl rfl rfl (tw_t t _ h0) m_X5_483 (fun _ => s_X5_out hz hk) ⟨by decide, by decide⟩ (Nat.le_of_ble_eq_true rfl) dX5_outLegs_88 (fun v9 h9 n9 z9 hq => ?_) (fun _ _ _ _ _ hf => hf.elim)
    obtain ⟨rfl, rfl, rfl, sg43, rfl, hk⟩ := hq
    refine ⟨[], rfl, ?_⟩
    refine r_iconst X (pc := 91) dX5_outLegs_91 ?_
    refine r_istore X (pc := 92) (lv1 := [(4, vI 0), (0, vR (some t)), (1, vI x1), (2, vI x2), (3, vI x3)]) dX5_outLegs_92 (by decide) rfl ?_
    refine G.sub [1, 2, 3, 4, 0] rfl ?_
    have HH44 : ∀ (sg : TS) (x1 : Int) (x3 : Int), (P_X5_outLegs_114 κ sg x1 x3) → G K Y (tw t sg h0) n z 114 [(0, vR (some t)), (1, vI x1), (3, vI x3)] [] := by
        intro sg x1 x3 hk
        exact w_X5_outLegs_114 X E hz hL sg x1 x3 hk
    obtain ⟨f9, hk⟩ := hk
    exact w_X5_outLegs_94 X E hz hL HH44 f9 sg43 x1 x2 x3 0 hk
  · have hk := hk.1 c39
    refine r_aload_n X (pc := 66) dX5_outLegs_66 rfl (q := 0) rfl ?_
    refine r_iload_n X (pc := 67) dX5_outLegs_67 rfl (q := 1) rfl ?_
    refine r_callV X (pc := 68) (As := [vI x1]) (st := []) rfl rfl rfl (tw_t t _ h0) m_X5_494 (fun _ => s_X5_outLeg hz hL hk) ⟨by decide, by decide⟩ (Nat.le_of_ble_eq_true rfl) dX5_outLegs_68 (fun v9 h9 n9 z9 hq => ?_) (fun _ _ _ _ _ hf => hf.elim)
    obtain ⟨rfl, rfl, rfl, sg45, rfl, hk⟩ := hq
    refine ⟨[], rfl, ?_⟩
    refine r_iload_n X (pc := 71) dX5_outLegs_71 rfl (q := 1) rfl ?_
    refine r_iconst X (pc := 72) dX5_outLegs_72 ?_
    refine r_iadd X (pc := 73) dX5_outLegs_73 ?_
    exact r_iret X E (pc := 74) dX5_outLegs_74 rfl ⟨_, rfl, rfl, rfl, _, rfl, hk⟩
set_option maxHeartbeats 4000000 in
theorem w_X5_outLegs {K : KT} {Y : YT} {Qx : QxT} {t n z : Nat} {h0 : AH} {κ : Int → TS → Prop} (X : XY K "TrailMarkersModel" "outLegs" cX5_outLegs (Option.some Jvm.ClassFile.FieldType.int) [] 6 5 106 Y) (E : YE K Y (tQ t h0 n z κ) Qx) (hz : kz K ≤ t) (hL : LitOK K h0) {sg : TS} {x1 : Int} (hk : P_X5_outLegs κ sg x1) : G K Y (tw t sg h0) n z 0 (lv_argsA 0 [vR (some t), vI x1]) [] := by
  show G K Y (tw t sg h0) n z 0 [(0, vR (some t)), (1, vI x1)] []
  refine r_iconst X (pc := 0) dX5_outLegs_0 ?_
  refine r_istore_n X (pc := 1) (lv1 := [(2, vI 0), (0, vR (some t)), (1, vI x1)]) dX5_outLegs_1 rfl (by decide) rfl ?_
  refine r_iconst X (pc := 2) dX5_outLegs_2 ?_
  refine r_istore_n X (pc := 3) (lv1 := [(3, vI 0), (2, vI 0), (0, vR (some t)), (1, vI x1)]) dX5_outLegs_3 rfl (by decide) rfl ?_
  refine r_iconst X (pc := 4) dX5_outLegs_4 ?_
  refine r_istore X (pc := 5) (lv1 := [(4, vI 1), (3, vI 0), (2, vI 0), (0, vR (some t)), (1, vI x1)]) dX5_outLegs_5 (by decide) rfl ?_
  refine G.sub [3, 4, 2, 1, 0] rfl ?_
  have HH46 : ∀ (sg : TS) (x1 : Int) (x2 : Int) (x3 : Int), (P_X5_outLegs_62 κ sg x1 x2 x3) → G K Y (tw t sg h0) n z 62 [(0, vR (some t)), (1, vI x1), (2, vI x2), (3, vI x3)] [] := by
      intro sg x1 x2 x3 hk
      exact w_X5_outLegs_62 X E hz hL sg x1 x2 x3 hk
  obtain ⟨f9, hk⟩ := hk
  exact w_X5_outLegs_7 X E hz hL HH46 f9 sg x1 0 0 1 hk
theorem s_X5_outLegs {K : KT} {l : Launch} {t n z : Nat} {h0 : AH} {κ : Int → TS → Prop} (hz : kz K ≤ t) (hL : LitOK K h0) {sg : TS} {x1 : Int} (hk : P_X5_outLegs κ sg x1) : Ct K l yX5_outLegs (ws_ yX5_outLegs cX5_outLegs 6 (Option.some Jvm.ClassFile.FieldType.int)) 5 106 ([vR (some t), vI x1].map cV) (tw t sg h0) n z (tQ t h0 n z κ) noX :=
  ct_of (by decide +kernel) (Nat.le_of_ble_eq_true rfl) (fun Y X E => w_X5_outLegs X E hz hL hk)
set_option maxHeartbeats 4000000 in
theorem w_X5_writeRoute_28 {K : KT} {Y : YT} {Qx : QxT} {t n z : Nat} {h0 : AH} {κ : Int → TS → Prop} (X : XY K "TrailMarkersModel" "writeRoute" cX5_writeRoute (Option.some Jvm.ClassFile.FieldType.int) [] 3 8 199 Y) (E : YE K Y (tQ t h0 n z κ) Qx) (hz : kz K ≤ t) (hL : LitOK K h0) {k_45 : TS → Prop} (H_45 : ∀ (sg : TS), k_45 sg → G K Y (tw t sg h0) n z 45 [(0, vR (some t))] []) : ∀ (f : Nat) (sg : TS) (x2 : Int), L_X5_writeRoute_28 k_45 κ f sg x2 → G K Y (tw t sg h0) n z 28 [(0, vR (some t)), (2, vI x2)] [] := by
  intro f
  induction f with
  | zero => intro sg x2 hk; exact hk.elim
  | succ f ih =>
    intro sg x2 hk
    refine r_iload_n X (pc := 28) dX5_writeRoute_28 rfl (q := 1) rfl ?_
    refine r_aload_n X (pc := 29) dX5_writeRoute_29 rfl (q := 0) rfl ?_
    refine r_tgI X (pc := 30) (v := sg.1 34) fa_X5_202 (by decide) rfl dX5_writeRoute_30 ?_
    obtain ⟨b10, b11, hk⟩ := hk
    refine r_icmp_ge X (pc := 33) (tgt := 45) dX5_writeRoute_33 (by decide) ⟨b10, b11⟩ (fun c12 => ?_) (fun c12 => ?_)
    · have hk := hk.2 c12
      refine G.sub [0] rfl ?_
      exact H_45 sg hk
    · have hk := hk.1 c12
      refine r_aload_n X (pc := 36) dX5_writeRoute_36 rfl (q := 0) rfl ?_
      refine r_iload_n X (pc := 37) dX5_writeRoute_37 rfl (q := 1) rfl ?_
      refine r_callV X (pc := 38) (As := [vI x2]) (st := []) rfl rfl rfl (tw_t t _ h0) m_X5_497 (fun _ => s_X5_outLegs hz hL hk) ⟨by decide, by decide⟩ (Nat.le_of_ble_eq_true rfl) dX5_writeRoute_38 (fun v9 h9 n9 z9 hq => ?_) (fun _ _ _ _ _ hf => hf.elim)
      obtain ⟨r13, rfl, rfl, rfl, sg14, rfl, hk⟩ := hq
      refine ⟨[vI r13], rfl, ?_⟩
      refine r_istore_n X (pc := 41) (lv1 := [(2, vI r13), (0, vR (some t))]) dX5_writeRoute_41 rfl (by decide) rfl ?_
      refine r_goto X (pc := 42) (tgt := 28) dX5_writeRoute_42 (by decide) ?_
      refine G.sub [1, 0] rfl ?_
      exact ih sg14 r13 hk
set_option maxHeartbeats 4000000 in
theorem w_X5_writeRoute_45 {K : KT} {Y : YT} {Qx : QxT} {t n z : Nat} {h0 : AH} {κ : Int → TS → Prop} (X : XY K "TrailMarkersModel" "writeRoute" cX5_writeRoute (Option.some Jvm.ClassFile.FieldType.int) [] 3 8 199 Y) (E : YE K Y (tQ t h0 n z κ) Qx) (hz : kz K ≤ t) (hL : LitOK K h0) : ∀ (sg : TS), P_X5_writeRoute_45 κ sg → G K Y (tw t sg h0) n z 45 [(0, vR (some t))] [] := by
  intro sg hk
  refine r_aload_n X (pc := 45) dX5_writeRoute_45 rfl (q := 0) rfl ?_
  refine r_tgI X (pc := 46) (v := sg.1 11) fa_X5_480 (by decide) rfl dX5_writeRoute_46 ?_
  exact r_iret X E (pc := 49) dX5_writeRoute_49 rfl ⟨_, rfl, rfl, rfl, _, rfl, hk⟩
set_option maxHeartbeats 4000000 in
theorem w_X5_writeRoute {K : KT} {Y : YT} {Qx : QxT} {t n z : Nat} {h0 : AH} {κ : Int → TS → Prop} (X : XY K "TrailMarkersModel" "writeRoute" cX5_writeRoute (Option.some Jvm.ClassFile.FieldType.int) [] 3 8 199 Y) (E : YE K Y (tQ t h0 n z κ) Qx) (hz : kz K ≤ t) (hL : LitOK K h0) {sg : TS} {x1 : Int} (hk : P_X5_writeRoute κ sg x1) : G K Y (tw t sg h0) n z 0 (lv_argsA 0 [vR (some t), vI x1]) [] := by
  show G K Y (tw t sg h0) n z 0 [(0, vR (some t)), (1, vI x1)] []
  refine r_aload_n X (pc := 0) dX5_writeRoute_0 rfl (q := 0) rfl ?_
  refine r_aload_n X (pc := 1) dX5_writeRoute_1 rfl (q := 0) rfl ?_
  refine r_iload_n X (pc := 2) dX5_writeRoute_2 rfl (q := 1) rfl ?_
  refine r_callV X (pc := 3) (As := [vI x1]) (st := [vR (some t)]) rfl rfl rfl (tw_t t _ h0) m_X5_417 (fun _ => s_X5_noPost hz hk) ⟨by decide, by decide⟩ (Nat.le_of_ble_eq_true rfl) dX5_writeRoute_3 (fun v9 h9 n9 z9 hq => ?_) (fun _ _ _ _ _ hf => hf.elim)
  obtain ⟨r15, rfl, rfl, rfl, sg16, rfl, hk⟩ := hq
  refine ⟨[vI r15], rfl, ?_⟩
  refine r_iconst X (pc := 6) dX5_writeRoute_6 ?_
  refine r_iconst X (pc := 7) dX5_writeRoute_7 ?_
  refine r_callV X (pc := 8) (As := [vI r15, vI 0, vI 0]) (st := []) rfl rfl rfl (tw_t t _ h0) m_X5_258 (fun _ => s_X5_fails hz hk) ⟨by decide, by decide⟩ (Nat.le_of_ble_eq_true rfl) dX5_writeRoute_8 (fun v9 h9 n9 z9 hq => ?_) (fun _ _ _ _ _ hf => hf.elim)
  obtain ⟨r17, rfl, rfl, rfl, sg18, rfl, hk⟩ := hq
  refine ⟨[vI r17], rfl, ?_⟩
  obtain ⟨b19, hk⟩ := hk
  refine r_if_eq X (pc := 11) (tgt := 16) dX5_writeRoute_11 (by decide) b19 (fun c20 => ?_) (fun c20 => ?_)
  · have hk := hk.1 c20
    refine r_aload_n X (pc := 16) dX5_writeRoute_16 rfl (q := 0) rfl ?_
    refine r_iload_n X (pc := 17) dX5_writeRoute_17 rfl (q := 1) rfl ?_
    refine r_callV X (pc := 18) (As := [vI x1]) (st := []) rfl rfl rfl (tw_t t _ h0) m_X5_243 (fun _ => s_X5_walk hz hk) ⟨by decide, by decide⟩ (Nat.le_of_ble_eq_true rfl) dX5_writeRoute_18 (fun v9 h9 n9 z9 hq => ?_) (fun _ _ _ _ _ hf => hf.elim)
    obtain ⟨rfl, rfl, rfl, sg21, rfl, hk⟩ := hq
    refine ⟨[], rfl, ?_⟩
    refine r_aload_n X (pc := 21) dX5_writeRoute_21 rfl (q := 0) rfl ?_
    refine r_iconst X (pc := 22) dX5_writeRoute_22 ?_
    refine r_tpI X (pc := 23) fp_X5_480 hz (by decide) dX5_writeRoute_23 ?_
    refine r_iconst X (pc := 26) dX5_writeRoute_26 ?_
    refine r_istore_n X (pc := 27) (lv1 := [(2, vI 0), (0, vR (some t)), (1, vI x1)]) dX5_writeRoute_27 rfl (by decide) rfl ?_
    refine G.sub [1, 0] rfl ?_
    have HH22 : ∀ (sg : TS), (P_X5_writeRoute_45 κ sg) → G K Y (tw t sg h0) n z 45 [(0, vR (some t))] [] := by
        intro sg hk
        exact w_X5_writeRoute_45 X E hz hL sg hk
    obtain ⟨f9, hk⟩ := hk
    exact w_X5_writeRoute_28 X E hz hL HH22 f9 (setS sg21 11 0) 0 hk
  · have hk := hk.2 c20
    refine r_iconst X (pc := 14) dX5_writeRoute_14 ?_
    exact r_iret X E (pc := 15) dX5_writeRoute_15 rfl ⟨_, rfl, rfl, rfl, _, rfl, hk⟩
theorem s_X5_writeRoute {K : KT} {l : Launch} {t n z : Nat} {h0 : AH} {κ : Int → TS → Prop} (hz : kz K ≤ t) (hL : LitOK K h0) {sg : TS} {x1 : Int} (hk : P_X5_writeRoute κ sg x1) : Ct K l yX5_writeRoute (ws_ yX5_writeRoute cX5_writeRoute 3 (Option.some Jvm.ClassFile.FieldType.int)) 8 199 ([vR (some t), vI x1].map cV) (tw t sg h0) n z (tQ t h0 n z κ) noX :=
  ct_of (by decide +kernel) (Nat.le_of_ble_eq_true rfl) (fun Y X E => w_X5_writeRoute X E hz hL hk)
set_option maxHeartbeats 4000000 in
theorem w_X5_writeRow_39 {K : KT} {Y : YT} {Qx : QxT} {t n z : Nat} {h0 : AH} {κ : Int → TS → Prop} (X : XY K "TrailMarkersModel" "writeRow" cX5_writeRow (Option.some Jvm.ClassFile.FieldType.int) [] 4 4 85 Y) (E : YE K Y (tQ t h0 n z κ) Qx) (hz : kz K ≤ t) (hL : LitOK K h0) {k_123 : TS → Prop} (H_123 : ∀ (sg : TS), k_123 sg → G K Y (tw t sg h0) n z 123 [(0, vR (some t))] []) : ∀ (f : Nat) (sg : TS) (x1 : Int) (x2 : Int), L_X5_writeRow_39 k_123 κ f sg x1 x2 → G K Y (tw t sg h0) n z 39 [(0, vR (some t)), (1, vI x1), (2, vI x2)] [] := by
  intro f
  induction f with
  | zero => intro sg x1 x2 hk; exact hk.elim
  | succ f ih =>
    intro sg x1 x2 hk
    refine r_iload_n X (pc := 39) dX5_writeRow_39 rfl (q := 2) rfl ?_
    refine r_aload_n X (pc := 40) dX5_writeRow_40 rfl (q := 0) rfl ?_
    refine r_tgR X (pc := 41) (ty := 0) (N := 526) fa_X5_9 rfl (by decide) dX5_writeRow_41 ?_
    refine r_iconst X (pc := 44) dX5_writeRow_44 ?_
    refine r_tiald X (pc := 45) (v := sg.2 0 0) (N := 526) rfl rfl dX5_writeRow_45 (by decide) ?_
    obtain ⟨b23, b24, hk⟩ := hk
    refine r_icmp_ge X (pc := 46) (tgt := 123) dX5_writeRow_46 (by decide) ⟨b23, b24⟩ (fun c25 => ?_) (fun c25 => ?_)
    · have hk := hk.2 c25
      refine G.sub [0] rfl ?_
      exact H_123 sg hk
    · have hk := hk.1 c25
      refine r_aload_n X (pc := 49) dX5_writeRow_49 rfl (q := 0) rfl ?_
      refine r_iload_n X (pc := 50) dX5_writeRow_50 rfl (q := 2) rfl ?_
      refine r_iload_n X (pc := 51) dX5_writeRow_51 rfl (q := 1) rfl ?_
      refine r_callV X (pc := 52) (As := [vI x2, vI x1]) (st := []) rfl rfl rfl (tw_t t _ h0) m_X5_157 (fun _ => s_X5_postAt hz hk) ⟨by decide, by decide⟩ (Nat.le_of_ble_eq_true rfl) dX5_writeRow_52 (fun v9 h9 n9 z9 hq => ?_) (fun _ _ _ _ _ hf => hf.elim)
      obtain ⟨r26, rfl, rfl, rfl, sg27, rfl, hk⟩ := hq
      refine ⟨[vI r26], rfl, ?_⟩
      refine r_istore_n X (pc := 55) (lv1 := [(3, vI r26), (0, vR (some t)), (1, vI x1), (2, vI x2)]) dX5_writeRow_55 rfl (by decide) rfl ?_
      refine r_aload_n X (pc := 56) dX5_writeRow_56 rfl (q := 1) rfl ?_
      refine r_iload_n X (pc := 57) dX5_writeRow_57 rfl (q := 3) rfl ?_
      refine r_iload_n X (pc := 58) dX5_writeRow_58 rfl (q := 2) rfl ?_
      refine r_callV X (pc := 59) (As := [vI x2, vI x1]) (st := []) rfl rfl rfl (tw_t t _ h0) m_X5_127 (fun _ => s_X5_isBlock hz hk) ⟨by decide, by decide⟩ (Nat.le_of_ble_eq_true rfl) dX5_writeRow_59 (fun v9 h9 n9 z9 hq => ?_) (fun _ _ _ _ _ hf => hf.elim)
      obtain ⟨r28, rfl, rfl, rfl, sg29, rfl, hk⟩ := hq
      refine ⟨[vI r28], rfl, ?_⟩
      obtain ⟨b30, hk⟩ := hk
      refine r_if_eq X (pc := 62) (tgt := 74) dX5_writeRow_62 (by decide) b30 (fun c31 => ?_) (fun c31 => ?_)
      · have hk := hk.1 c31
        refine r_iload_n X (pc := 74) dX5_writeRow_74 rfl (q := 0) rfl ?_
        refine r_iconst X (pc := 75) dX5_writeRow_75 ?_
        obtain ⟨b32, hk⟩ := hk
        refine r_icmp_ne X (pc := 76) (tgt := 88) dX5_writeRow_76 (by decide) ⟨b32, (by decide)⟩ (fun c33 => ?_) (fun c33 => ?_)
        · have hk := hk.2 c33
          refine r_aload_n X (pc := 88) dX5_writeRow_88 rfl (q := 1) rfl ?_
          refine r_aload_n X (pc := 89) dX5_writeRow_89 rfl (q := 1) rfl ?_
          refine r_iload_n X (pc := 90) dX5_writeRow_90 rfl (q := 0) rfl ?_
          refine r_callV X (pc := 91) (As := [vI r26]) (st := [vR (some t)]) rfl rfl rfl (tw_t t _ h0) m_X5_134 (fun _ => s_X5_stands hz hk) ⟨by decide, by decide⟩ (Nat.le_of_ble_eq_true rfl) dX5_writeRow_91 (fun v9 h9 n9 z9 hq => ?_) (fun _ _ _ _ _ hf => hf.elim)
          obtain ⟨r34, rfl, rfl, rfl, sg35, rfl, hk⟩ := hq
          refine ⟨[vI r34], rfl, ?_⟩
          obtain ⟨b36, hk⟩ := hk
          refine r_if_eq X (pc := 94) (tgt := 112) dX5_writeRow_94 (by decide) b36 (fun c37 => ?_) (fun c37 => ?_)
          · have hk := hk.1 c37
            refine r_bipush X (pc := 112) dX5_writeRow_112 (by decide) ?_
            refine r_callV X (pc := 114) (As := [vI 120]) (st := []) rfl rfl rfl (tw_t t _ h0) m_X5_483 (fun _ => s_X5_out hz hk) ⟨by decide, by decide⟩ (Nat.le_of_ble_eq_true rfl) dX5_writeRow_114 (fun v9 h9 n9 z9 hq => ?_) (fun _ _ _ _ _ hf => hf.elim)
            obtain ⟨rfl, rfl, rfl, sg38, rfl, hk⟩ := hq
            refine ⟨[], rfl, ?_⟩
            refine r_iinc X (pc := 117) (q := 3) (lv1 := [(2, vI (x2 + 1)), (3, vI r26), (0, vR (some t)), (1, vI x1)]) dX5_writeRow_117 rfl (by decide) rfl ?_
            refine r_goto X (pc := 120) (tgt := 39) dX5_writeRow_120 (by decide) ?_
            refine G.sub [2, 3, 0] rfl ?_
            exact ih sg38 x1 (x2 + 1) hk
          · have hk := hk.2 c37
            refine r_ldcSw X (pc := 97) (j := 35) rfl dX5_writeRow_97 ?_
            refine r_aload_n X (pc := 100) dX5_writeRow_100 rfl (q := 1) rfl ?_
            refine r_iload_n X (pc := 101) dX5_writeRow_101 rfl (q := 0) rfl ?_
            refine r_iconst X (pc := 102) dX5_writeRow_102 ?_
            refine r_callV X (pc := 103) (As := [vI r26, vI 3]) (st := [vR (some (kl K 35)), vR (some t)]) rfl rfl rfl (tw_t t _ h0) m_X5_130 (fun _ => s_X5_of hz hk) ⟨by decide, by decide⟩ (Nat.le_of_ble_eq_true rfl) dX5_writeRow_103 (fun v9 h9 n9 z9 hq => ?_) (fun _ _ _ _ _ hf => hf.elim)
            obtain ⟨r39, rfl, rfl, rfl, sg40, rfl, hk⟩ := hq
            refine ⟨[vI r39], rfl, ?_⟩
            obtain ⟨b41, hk⟩ := hk
            refine r_tschar X (pc := 106) (i := 35) hz hL (by decide) b41 m_X5_96 ⟨by decide, by decide⟩ (Nat.le_of_ble_eq_true rfl) dX5_writeRow_106 ?_
            refine r_goto X (pc := 109) (tgt := 114) dX5_writeRow_109 (by decide) ?_
            refine r_callV X (pc := 114) (As := [vI (litCh 35 r39)]) (st := []) rfl rfl rfl (tw_t t _ h0) m_X5_483 (fun _ => s_X5_out hz hk) ⟨by decide, by decide⟩ (Nat.le_of_ble_eq_true rfl) dX5_writeRow_114 (fun v9 h9 n9 z9 hq => ?_) (fun _ _ _ _ _ hf => hf.elim)
            obtain ⟨rfl, rfl, rfl, sg42, rfl, hk⟩ := hq
            refine ⟨[], rfl, ?_⟩
            refine r_iinc X (pc := 117) (q := 3) (lv1 := [(2, vI (x2 + 1)), (3, vI r26), (0, vR (some t)), (1, vI x1)]) dX5_writeRow_117 rfl (by decide) rfl ?_
            refine r_goto X (pc := 120) (tgt := 39) dX5_writeRow_120 (by decide) ?_
            refine G.sub [2, 3, 0] rfl ?_
            exact ih sg42 x1 (x2 + 1) hk
        · have hk := hk.1 c33
          refine r_aload_n X (pc := 79) dX5_writeRow_79 rfl (q := 1) rfl ?_
          refine r_bipush X (pc := 80) dX5_writeRow_80 (by decide) ?_
          refine r_callV X (pc := 82) (As := [vI 46]) (st := []) rfl rfl rfl (tw_t t _ h0) m_X5_483 (fun _ => s_X5_out hz hk) ⟨by decide, by decide⟩ (Nat.le_of_ble_eq_true rfl) dX5_writeRow_82 (fun v9 h9 n9 z9 hq => ?_) (fun _ _ _ _ _ hf => hf.elim)
          obtain ⟨rfl, rfl, rfl, sg43, rfl, hk⟩ := hq
          refine ⟨[], rfl, ?_⟩
          refine r_goto X (pc := 85) (tgt := 117) dX5_writeRow_85 (by decide) ?_
          refine r_iinc X (pc := 117) (q := 3) (lv1 := [(2, vI (x2 + 1)), (3, vI r26), (0, vR (some t)), (1, vI x1)]) dX5_writeRow_117 rfl (by decide) rfl ?_
          refine r_goto X (pc := 120) (tgt := 39) dX5_writeRow_120 (by decide) ?_
          refine G.sub [2, 3, 0] rfl ?_
          exact ih sg43 x1 (x2 + 1) hk
      · have hk := hk.2 c31
        refine r_aload_n X (pc := 65) dX5_writeRow_65 rfl (q := 1) rfl ?_
        refine r_bipush X (pc := 66) dX5_writeRow_66 (by decide) ?_
        refine r_callV X (pc := 68) (As := [vI 35]) (st := []) rfl rfl rfl (tw_t t _ h0) m_X5_483 (fun _ => s_X5_out hz hk) ⟨by decide, by decide⟩ (Nat.le_of_ble_eq_true rfl) dX5_writeRow_68 (fun v9 h9 n9 z9 hq => ?_) (fun _ _ _ _ _ hf => hf.elim)
        obtain ⟨rfl, rfl, rfl, sg44, rfl, hk⟩ := hq
        refine ⟨[], rfl, ?_⟩
        refine r_goto X (pc := 71) (tgt := 117) dX5_writeRow_71 (by decide) ?_
        refine r_iinc X (pc := 117) (q := 3) (lv1 := [(2, vI (x2 + 1)), (3, vI r26), (0, vR (some t)), (1, vI x1)]) dX5_writeRow_117 rfl (by decide) rfl ?_
        refine r_goto X (pc := 120) (tgt := 39) dX5_writeRow_120 (by decide) ?_
        refine G.sub [2, 3, 0] rfl ?_
        exact ih sg44 x1 (x2 + 1) hk
set_option maxHeartbeats 4000000 in
theorem w_X5_writeRow_123 {K : KT} {Y : YT} {Qx : QxT} {t n z : Nat} {h0 : AH} {κ : Int → TS → Prop} (X : XY K "TrailMarkersModel" "writeRow" cX5_writeRow (Option.some Jvm.ClassFile.FieldType.int) [] 4 4 85 Y) (E : YE K Y (tQ t h0 n z κ) Qx) (hz : kz K ≤ t) (hL : LitOK K h0) : ∀ (sg : TS), P_X5_writeRow_123 κ sg → G K Y (tw t sg h0) n z 123 [(0, vR (some t))] [] := by
  intro sg hk
  refine r_aload_n X (pc := 123) dX5_writeRow_123 rfl (q := 0) rfl ?_
  refine r_tgI X (pc := 124) (v := sg.1 11) fa_X5_480 (by decide) rfl dX5_writeRow_124 ?_
  exact r_iret X E (pc := 127) dX5_writeRow_127 rfl ⟨_, rfl, rfl, rfl, _, rfl, hk⟩
set_option maxHeartbeats 4000000 in
theorem w_X5_writeRow_22 {K : KT} {Y : YT} {Qx : QxT} {t n z : Nat} {h0 : AH} {κ : Int → TS → Prop} (X : XY K "TrailMarkersModel" "writeRow" cX5_writeRow (Option.some Jvm.ClassFile.FieldType.int) [] 4 4 85 Y) (E : YE K Y (tQ t h0 n z κ) Qx) (hz : kz K ≤ t) (hL : LitOK K h0) : ∀ (sg : TS) (x1 : Int) (s0 : Int), P_X5_writeRow_22 κ sg x1 s0 → G K Y (tw t sg h0) n z 22 [(0, vR (some t)), (1, vI x1)] [vI s0, vR (some t)] := by
  intro sg x1 s0 hk
  refine r_iconst X (pc := 22) dX5_writeRow_22 ?_
  refine r_iconst X (pc := 23) dX5_writeRow_23 ?_
  refine r_callV X (pc := 24) (As := [vI s0, vI 0, vI 0]) (st := []) rfl rfl rfl (tw_t t _ h0) m_X5_258 (fun _ => s_X5_fails hz hk) ⟨by decide, by decide⟩ (Nat.le_of_ble_eq_true rfl) dX5_writeRow_24 (fun v9 h9 n9 z9 hq => ?_) (fun _ _ _ _ _ hf => hf.elim)
  obtain ⟨r45, rfl, rfl, rfl, sg46, rfl, hk⟩ := hq
  refine ⟨[vI r45], rfl, ?_⟩
  obtain ⟨b47, hk⟩ := hk
  refine r_if_eq X (pc := 27) (tgt := 32) dX5_writeRow_27 (by decide) b47 (fun c48 => ?_) (fun c48 => ?_)
  · have hk := hk.1 c48
    refine r_aload_n X (pc := 32) dX5_writeRow_32 rfl (q := 0) rfl ?_
    refine r_iconst X (pc := 33) dX5_writeRow_33 ?_
    refine r_tpI X (pc := 34) fp_X5_480 hz (by decide) dX5_writeRow_34 ?_
    refine r_iconst X (pc := 37) dX5_writeRow_37 ?_
    refine r_istore_n X (pc := 38) (lv1 := [(2, vI 0), (0, vR (some t)), (1, vI x1)]) dX5_writeRow_38 rfl (by decide) rfl ?_
    refine G.sub [1, 2, 0] rfl ?_
    have HH49 : ∀ (sg : TS), (P_X5_writeRow_123 κ sg) → G K Y (tw t sg h0) n z 123 [(0, vR (some t))] [] := by
        intro sg hk
        exact w_X5_writeRow_123 X E hz hL sg hk
    obtain ⟨f9, hk⟩ := hk
    exact w_X5_writeRow_39 X E hz hL HH49 f9 (setS sg46 11 0) x1 0 hk
  · have hk := hk.2 c48
    refine r_iconst X (pc := 30) dX5_writeRow_30 ?_
    exact r_iret X E (pc := 31) dX5_writeRow_31 rfl ⟨_, rfl, rfl, rfl, _, rfl, hk⟩
set_option maxHeartbeats 4000000 in
theorem w_X5_writeRow {K : KT} {Y : YT} {Qx : QxT} {t n z : Nat} {h0 : AH} {κ : Int → TS → Prop} (X : XY K "TrailMarkersModel" "writeRow" cX5_writeRow (Option.some Jvm.ClassFile.FieldType.int) [] 4 4 85 Y) (E : YE K Y (tQ t h0 n z κ) Qx) (hz : kz K ≤ t) (hL : LitOK K h0) {sg : TS} {x1 : Int} (hk : P_X5_writeRow κ sg x1) : G K Y (tw t sg h0) n z 0 (lv_argsA 0 [vR (some t), vI x1]) [] := by
  show G K Y (tw t sg h0) n z 0 [(0, vR (some t)), (1, vI x1)] []
  refine r_aload_n X (pc := 0) dX5_writeRow_0 rfl (q := 0) rfl ?_
  refine r_iload_n X (pc := 1) dX5_writeRow_1 rfl (q := 1) rfl ?_
  refine r_iconst X (pc := 2) dX5_writeRow_2 ?_
  refine r_aload_n X (pc := 3) dX5_writeRow_3 rfl (q := 0) rfl ?_
  refine r_tgR X (pc := 4) (ty := 0) (N := 526) fa_X5_9 rfl (by decide) dX5_writeRow_4 ?_
  refine r_iconst X (pc := 7) dX5_writeRow_7 ?_
  refine r_tiald X (pc := 8) (v := sg.2 0 1) (N := 526) rfl rfl dX5_writeRow_8 (by decide) ?_
  refine r_iconst X (pc := 9) dX5_writeRow_9 ?_
  refine r_isub X (pc := 10) dX5_writeRow_10 ?_
  refine r_callS X (pc := 11) (As := [vI x1, vI 0, vI ((sg.2 0 1) - 1)]) (st := [vR (some t)]) m_X5_119 (fun _ => s_X5_isIn hk) ⟨by decide, by decide⟩ (Nat.le_of_ble_eq_true rfl) dX5_writeRow_11 (fun v9 h9 n9 z9 hq => ?_) (fun _ _ _ _ _ hf => hf.elim)
  obtain ⟨r50, rfl, rfl, rfl, rfl, hk⟩ := hq
  refine ⟨[vI r50], rfl, ?_⟩
  obtain ⟨b51, hk⟩ := hk
  refine r_if_ne X (pc := 14) (tgt := 21) dX5_writeRow_14 (by decide) b51 (fun c52 => ?_) (fun c52 => ?_)
  · have hk := hk.2 c52
    refine r_iconst X (pc := 21) dX5_writeRow_21 ?_
    exact w_X5_writeRow_22 X E hz hL sg x1 0 hk
  · have hk := hk.1 c52
    refine r_iconst X (pc := 17) dX5_writeRow_17 ?_
    refine r_goto X (pc := 18) (tgt := 22) dX5_writeRow_18 (by decide) ?_
    exact w_X5_writeRow_22 X E hz hL sg x1 1 hk
theorem s_X5_writeRow {K : KT} {l : Launch} {t n z : Nat} {h0 : AH} {κ : Int → TS → Prop} (hz : kz K ≤ t) (hL : LitOK K h0) {sg : TS} {x1 : Int} (hk : P_X5_writeRow κ sg x1) : Ct K l yX5_writeRow (ws_ yX5_writeRow cX5_writeRow 4 (Option.some Jvm.ClassFile.FieldType.int)) 4 85 ([vR (some t), vI x1].map cV) (tw t sg h0) n z (tQ t h0 n z κ) noX :=
  ct_of (by decide +kernel) (Nat.le_of_ble_eq_true rfl) (fun Y X E => w_X5_writeRow X E hz hL hk)
set_option maxHeartbeats 4000000 in
theorem w_X5_lays_10 {K : KT} {Y : YT} {Qx : QxT} {t n z : Nat} {h0 : AH} {κ : TS → Prop} (X : XY K "TrailMarkersModel" "lays" cX5_lays (Option.none : Option Jvm.ClassFile.FieldType) [] 3 33 726 Y) (E : YE K Y (tQv t h0 n z κ) Qx) (hz : kz K ≤ t) (hL : LitOK K h0) {k_35 : TS → Prop} (H_35 : ∀ (sg : TS), k_35 sg → G K Y (tw t sg h0) n z 35 [(0, vR (some t))] []) : ∀ (f : Nat) (sg : TS) (x1 : Nat) (x2 : Int), L_X5_lays_10 k_35 κ f sg x1 x2 → G K Y (tw t sg h0) n z 10 [(0, vR (some t)), (1, vR (some (kl K x1))), (2, vI x2)] [] := by
  intro f
  induction f with
  | zero => intro sg x1 x2 hk; exact hk.elim
  | succ f ih =>
    intro sg x1 x2 hk
    refine r_iload_n X (pc := 10) dX5_lays_10 rfl (q := 2) rfl ?_
    refine r_aload_n X (pc := 11) dX5_lays_11 rfl (q := 0) rfl ?_
    refine r_tgI X (pc := 12) (v := sg.1 10) fa_X5_93 (by decide) rfl dX5_lays_12 ?_
    obtain ⟨b9, b10, hk⟩ := hk
    refine r_icmp_ge X (pc := 15) (tgt := 35) dX5_lays_15 (by decide) ⟨b9, b10⟩ (fun c11 => ?_) (fun c11 => ?_)
    · have hk := hk.2 c11
      refine G.sub [0] rfl ?_
      exact H_35 sg hk
    · have hk := hk.1 c11
      refine r_aload_n X (pc := 18) dX5_lays_18 rfl (q := 0) rfl ?_
      refine r_tgR X (pc := 19) (ty := 0) (N := 700) fa_X5_29 rfl (by decide) dX5_lays_19 ?_
      refine r_iload_n X (pc := 22) dX5_lays_22 rfl (q := 2) rfl ?_
      refine r_aload_n X (pc := 23) dX5_lays_23 rfl (q := 1) rfl ?_
      refine r_iload_n X (pc := 24) dX5_lays_24 rfl (q := 2) rfl ?_
      obtain ⟨b12, b13, hk⟩ := hk
      refine r_tschar X (pc := 25) (i := x1) hz hL b12 b13 m_X5_96 ⟨by decide, by decide⟩ (Nat.le_of_ble_eq_true rfl) dX5_lays_25 ?_
      obtain ⟨b14, hk⟩ := hk
      refine r_tiast X (pc := 28) hz (N := 700) rfl dX5_lays_28 b14 ?_
      refine r_iinc X (pc := 29) (q := 2) (lv1 := [(2, vI (x2 + 1)), (0, vR (some t)), (1, vR (some (kl K x1)))]) dX5_lays_29 rfl (by decide) rfl ?_
      refine r_goto X (pc := 32) (tgt := 10) dX5_lays_32 (by decide) ?_
      refine G.sub [1, 2, 0] rfl ?_
      exact ih (setA sg 8 (uI (sg.2 8) x2 (litCh x1 x2))) x1 (x2 + 1) hk
set_option maxHeartbeats 4000000 in
theorem w_X5_lays_35 {K : KT} {Y : YT} {Qx : QxT} {t n z : Nat} {h0 : AH} {κ : TS → Prop} (X : XY K "TrailMarkersModel" "lays" cX5_lays (Option.none : Option Jvm.ClassFile.FieldType) [] 3 33 726 Y) (E : YE K Y (tQv t h0 n z κ) Qx) (hz : kz K ≤ t) (hL : LitOK K h0) : ∀ (sg : TS), P_X5_lays_35 κ sg → G K Y (tw t sg h0) n z 35 [(0, vR (some t))] [] := by
  intro sg hk
  refine r_aload_n X (pc := 35) dX5_lays_35 rfl (q := 0) rfl ?_
  refine r_callV X (pc := 36) (As := []) (st := []) rfl rfl rfl (tw_t t _ h0) m_X5_100 (fun _ => s_X5_load hz hL hk) ⟨by decide, by decide⟩ (Nat.le_of_ble_eq_true rfl) dX5_lays_36 (fun v9 h9 n9 z9 hq => ?_) (fun _ _ _ _ _ hf => hf.elim)
  obtain ⟨r15, rfl, rfl, rfl, sg16, rfl, hk⟩ := hq
  refine ⟨[vI r15], rfl, ?_⟩
  refine r_istore_n X (pc := 39) (lv1 := [(2, vI r15), (0, vR (some t))]) dX5_lays_39 rfl (by decide) rfl ?_
  refine r_aload_n X (pc := 40) dX5_lays_40 rfl (q := 1) rfl ?_
  refine r_iconst X (pc := 41) dX5_lays_41 ?_
  refine r_tpI X (pc := 42) fp_X5_103 hz (by decide) dX5_lays_42 ?_
  exact r_vret X E (pc := 45) dX5_lays_45 ⟨rfl, rfl, rfl, _, rfl, hk⟩
set_option maxHeartbeats 4000000 in
theorem w_X5_lays {K : KT} {Y : YT} {Qx : QxT} {t n z : Nat} {h0 : AH} {κ : TS → Prop} (X : XY K "TrailMarkersModel" "lays" cX5_lays (Option.none : Option Jvm.ClassFile.FieldType) [] 3 33 726 Y) (E : YE K Y (tQv t h0 n z κ) Qx) (hz : kz K ≤ t) (hL : LitOK K h0) {sg : TS} {x1 : Nat} (hk : P_X5_lays κ sg x1) : G K Y (tw t sg h0) n z 0 (lv_argsA 0 [vR (some t), vR (some (kl K x1))]) [] := by
  show G K Y (tw t sg h0) n z 0 [(0, vR (some t)), (1, vR (some (kl K x1)))] []
  refine r_aload_n X (pc := 0) dX5_lays_0 rfl (q := 0) rfl ?_
  refine r_aload_n X (pc := 1) dX5_lays_1 rfl (q := 1) rfl ?_
  obtain ⟨b17, hk⟩ := hk
  refine r_tslen X (pc := 2) (i := x1) hz hL b17 m_X5_87 ⟨by decide, by decide⟩ (Nat.le_of_ble_eq_true rfl) dX5_lays_2 ?_
  refine r_tpI X (pc := 5) fp_X5_93 hz (by decide) dX5_lays_5 ?_
  refine r_iconst X (pc := 8) dX5_lays_8 ?_
  refine r_istore_n X (pc := 9) (lv1 := [(2, vI 0), (0, vR (some t)), (1, vR (some (kl K x1)))]) dX5_lays_9 rfl (by decide) rfl ?_
  refine G.sub [1, 2, 0] rfl ?_
  have HH18 : ∀ (sg : TS), (P_X5_lays_35 κ sg) → G K Y (tw t sg h0) n z 35 [(0, vR (some t))] [] := by
      intro sg hk
      exact w_X5_lays_35 X E hz hL sg hk
  obtain ⟨f9, hk⟩ := hk
  exact w_X5_lays_10 X E hz hL HH18 f9 (setS sg 10 (litLen x1)) x1 0 hk
theorem s_X5_lays {K : KT} {l : Launch} {t n z : Nat} {h0 : AH} {κ : TS → Prop} (hz : kz K ≤ t) (hL : LitOK K h0) {sg : TS} {x1 : Nat} (hk : P_X5_lays κ sg x1) : Ct K l yX5_lays (ws_ yX5_lays cX5_lays 3 (Option.none : Option Jvm.ClassFile.FieldType)) 33 726 ([vR (some t), vR (some (kl K x1))].map cV) (tw t sg h0) n z (tQv t h0 n z κ) noX :=
  ct_of (by decide +kernel) (Nat.le_of_ble_eq_true rfl) (fun Y X E => w_X5_lays X E hz hL hk)
