set_option maxRecDepth 100000
def L_X5_items_4 (I : (TS → Prop) → TS → Prop) (k_26 : TS → Prop) (κ : TS → Prop) : Nat → TS → Prop
  | 0, _ => False
  | f + 1, sg => InR (sg.1 43) ∧ (pIf ((sg.1 43) = 0) (InR (sg.1 39) ∧ (pIf ((sg.1 39) = 2) (I (fun sg11 => L_X5_items_4 I k_26 κ f sg11) sg) (k_26 sg))) (k_26 sg))
def P_X5_items_26 (I : (TS → Prop) → TS → Prop) (κ : TS → Prop) (sg : TS) : Prop :=
  κ sg
def P_X5_items (I : (TS → Prop) → TS → Prop) (κ : TS → Prop) (sg : TS) : Prop :=
  I (fun sg12 => ∃ f9 : Nat, L_X5_items_4 I (fun sg => P_X5_items_26 I κ sg) κ f9 sg12) sg
def L_X5_group_98 (I : (TS → Prop) → TS → Prop) (k_149 : TS → Int → Int → Int → Int → Prop) (κ : TS → Prop) : Nat → TS → Int → Int → Int → Int → Int → Prop
  | 0, _, _, _, _, _, _ => False
  | f + 1, sg, x1, x2, x3, x4, x5 => InR x5 ∧ InR x3 ∧ (pIf (x5 < x3) (InR (sg.1 43) ∧ (pIf ((sg.1 43) = 0) ((0 ≤ x5 ∧ x5 < 25) ∧ (P_X5_layLeg (fun sg33 => L_X5_group_98 I k_149 κ f sg33 x1 x2 x3 x4 (x5 + 1)) sg (sg.2 44 x5) (sg.2 45 x5) (sg.2 47 x5) (sg.2 46 x5))) (k_149 sg x1 x2 x3 x4))) (k_149 sg x1 x2 x3 x4))
def P_X5_group_149 (I : (TS → Prop) → TS → Prop) (k_82 : TS → Int → Int → Int → Int → Prop) (k_155 : TS → Prop) (κ : TS → Prop) (sg : TS) (x1 : Int) (x2 : Int) (x3 : Int) (x4 : Int) : Prop :=
  k_82 sg x1 x2 x3 (x4 + 1)
def L_X5_group_82 (I : (TS → Prop) → TS → Prop) (k_155 : TS → Prop) (κ : TS → Prop) : Nat → TS → Int → Int → Int → Int → Prop
  | 0, _, _, _, _, _ => False
  | f + 1, sg, x1, x2, x3, x4 => InR x4 ∧ InR x1 ∧ (pIf (x4 < x1) (InR (sg.1 43) ∧ (pIf ((sg.1 43) = 0) (∃ f9 : Nat, L_X5_group_98 I (fun sg x1 x2 x3 x4 => P_X5_group_149 I (fun sg x1 x2 x3 x4 => L_X5_group_82 I k_155 κ f sg x1 x2 x3 x4) k_155 κ sg x1 x2 x3 x4) κ f9 sg x1 x2 x3 x4 x2) (k_155 sg))) (k_155 sg))
def P_X5_group_155 (I : (TS → Prop) → TS → Prop) (κ : TS → Prop) (sg : TS) : Prop :=
  P_X5_go (fun sg42 => κ sg42) (setS sg 49 ((sg.1 49) - 1))
def P_X5_group_70 (I : (TS → Prop) → TS → Prop) (κ : TS → Prop) (sg : TS) (x1 : Int) (x2 : Int) (s0 : Int) : Prop :=
  P_X5_wrong (fun sg43 => ∃ f9 : Nat, L_X5_group_82 I (fun sg => P_X5_group_155 I κ sg) κ f9 sg43 x1 x2 (sg43.1 48) 1) sg s0 1
def P_X5_group_48 (I : (TS → Prop) → TS → Prop) (κ : TS → Prop) (sg : TS) (x1 : Int) (x2 : Int) : Prop :=
  InR (sg.1 43) ∧ (pIf ((sg.1 43) = 0) (P_X5_isSign (fun r47 sg48 => InR r47 ∧ (pIf (r47 = 0) (P_X5_group_70 I κ sg48 x1 x2 1) (P_X5_group_70 I κ sg48 x1 x2 0))) sg 41) (P_X5_group_70 I κ sg x1 x2 0))
def P_X5_group_14 (I : (TS → Prop) → TS → Prop) (κ : TS → Prop) (sg : TS) (x1 : Int) (s0 : Int) : Prop :=
  P_X5_wrong (fun sg51 => P_X5_go (fun sg52 => InR (sg52.1 43) ∧ (pIf ((sg52.1 43) = 0) (P_X5_items I (fun sg55 => P_X5_group_48 I κ sg55 x1 (sg52.1 48)) (setS sg52 49 ((sg52.1 49) + 1))) (P_X5_group_48 I κ (setS sg52 49 ((sg52.1 49) + 1)) x1 (sg52.1 48)))) sg51) sg s0 4
def P_X5_group (I : (TS → Prop) → TS → Prop) (κ : TS → Prop) (sg : TS) (x1 : Int) : Prop :=
  InR (sg.1 49) ∧ (pIf ((sg.1 49) = 4) (P_X5_group_14 I κ sg x1 1) (P_X5_group_14 I κ sg x1 0))
def L_X5_is_28 (k_55 : TS → Prop) (k_63 : TS → Prop) (κ : Int → TS → Prop) : Nat → TS → Nat → Int → Prop
  | 0, _, _, _ => False
  | f + 1, sg, x1, x2 => x1 < 36 ∧ (InR x2 ∧ InR (litLen x1) ∧ (pIf (x2 < (litLen x1)) ((0 ≤ ((sg.1 40) + x2) ∧ ((sg.1 40) + x2) < 700) ∧ ((0 ≤ x2 ∧ x2 < litLen x1) ∧ (InR (sg.2 8 ((sg.1 40) + x2)) ∧ InR (litCh x1 x2) ∧ (pIf ((sg.2 8 ((sg.1 40) + x2)) = (litCh x1 x2)) (L_X5_is_28 k_55 k_63 κ f sg x1 (x2 + 1)) (k_55 sg))))) (k_63 sg)))
def P_X5_is_55 (κ : Int → TS → Prop) (sg : TS) : Prop :=
  κ 0 sg
def P_X5_is_63 (κ : Int → TS → Prop) (sg : TS) : Prop :=
  κ 1 sg
def P_X5_is (κ : Int → TS → Prop) (sg : TS) (x1 : Nat) : Prop :=
  InR (sg.1 39) ∧ (pIf ((sg.1 39) = 1) (x1 < 36 ∧ (InR ((sg.1 41) - (sg.1 40)) ∧ InR (litLen x1) ∧ (pIf (((sg.1 41) - (sg.1 40)) = (litLen x1)) (∃ f9 : Nat, L_X5_is_28 (fun sg => P_X5_is_55 κ sg) (fun sg => P_X5_is_63 κ sg) κ f9 sg x1 0) (κ 0 sg)))) (κ 0 sg))
def P_X5_side (κ : Int → TS → Prop) (sg : TS) : Prop :=
  P_X5_is (fun r13 sg14 => InR r13 ∧ (pIf (r13 = 0) (P_X5_is (fun r17 sg18 => InR r17 ∧ (pIf (r17 = 0) (P_X5_is (fun r21 sg22 => InR r21 ∧ (pIf (r21 = 0) (P_X5_is (fun r25 sg26 => InR r25 ∧ (pIf (r25 = 0) (κ (-1) sg26) (κ 3 sg26))) sg22 27) (κ 2 sg22))) sg18 26) (κ 1 sg18))) sg14 25) (κ 0 sg14))) sg 24
def P_X5_item_47 (I : (TS → Prop) → TS → Prop) (κ : TS → Prop) (sg : TS) (x1 : Int) (x2 : Int) (s0 : Int) : Prop :=
  P_X5_wrong (fun sg22 => P_X5_layLeg (fun sg23 => P_X5_go (fun sg24 => InR (sg24.1 43) ∧ (pIf ((sg24.1 43) = 0) (P_X5_is (fun r27 sg28 => InR r27 ∧ (pIf (r27 = 0) (κ sg28) (P_X5_put (fun sg31 => (0 ≤ ((sg31.1 48) - 1) ∧ ((sg31.1 48) - 1) < 25) ∧ (P_X5_go (fun sg33 => κ sg33) (setA sg31 47 (uI (sg31.2 47) ((sg31.1 48) - 1) 1)))) sg28 (sg28.1 50) 4 1))) sg24 28) (κ sg24))) sg23) sg22 x1 x2 0 (sg22.1 40)) sg s0 1
def P_X5_item (I : (TS → Prop) → TS → Prop) (κ : TS → Prop) (sg : TS) : Prop :=
  P_X5_number (fun r34 sg35 => InR (sg35.1 43) ∧ (pIf ((sg35.1 43) = 0) (P_X5_isSign (fun r38 sg39 => InR r38 ∧ (pIf (r38 = 0) (P_X5_side (fun r42 sg43 => InR r42 ∧ (pIf (r42 = (-1)) (P_X5_item_47 I κ sg43 r34 r42 1) (P_X5_item_47 I κ sg43 r34 r42 0))) sg39) (P_X5_group I (fun sg46 => κ sg46) sg39 r34))) sg35 40) (κ sg35))) sg 1 19
def P_X5_itemD : Nat → (TS → Prop) → TS → Prop
  | 0, _, _ => False
  | d + 1, κ, sg => P_X5_item (P_X5_itemD d) κ sg
def P_X5_itemsC (κ : TS → Prop) (sg : TS) : Prop := P_X5_items (P_X5_itemD 6) κ sg
def P_X5_blazed_157 (κ : TS → Prop) (sg : TS) (x1 : Int) (x2 : Int) (x3 : Int) (x4 : Int) (s0 : Int) : Prop :=
  P_X5_refused (fun sg34 => InR (sg34.1 43) ∧ (pIf ((sg34.1 43) = 0) (P_X5_lay (fun r37 sg38 => P_X5_go (fun sg39 => P_X5_itemsC (fun sg40 => κ sg40) sg39) (setS sg38 50 r37)) (setS (setS sg34 48 0) 49 0) x2 x3 x1 4) (κ sg34))) sg s0 5 x4 (sg.1 40)
def P_X5_blazed_144 (κ : TS → Prop) (sg : TS) (x1 : Int) (x2 : Int) (x3 : Int) (s0 : Int) : Prop :=
  InR s0 ∧ (pIf (0 < s0) (P_X5_blazed_157 κ sg x1 x2 x3 s0 1) (P_X5_blazed_157 κ sg x1 x2 x3 s0 0))
def P_X5_blazed_91 (κ : TS → Prop) (sg : TS) (x1 : Int) (s0 : Int) : Prop :=
  P_X5_wrong (fun sg43 => P_X5_go (fun sg44 => P_X5_number (fun r45 sg46 => P_X5_here (fun r47 sg48 => InR (sg48.1 43) ∧ (pIf ((sg48.1 43) = 0) (P_X5_whyNoPost (fun r51 sg52 => P_X5_blazed_144 κ sg52 x1 r45 r47 r51) sg48 r45 r47) (P_X5_blazed_144 κ sg48 x1 r45 r47 0))) sg46 0 ((sg46.2 0 1) - 1)) sg44 0 ((sg44.2 0 0) - 1)) sg43) sg s0 3
def P_X5_blazed_79 (κ : TS → Prop) (sg : TS) (s0 : Int) : Prop :=
  InR s0 ∧ (pIf (s0 = (-1)) (P_X5_blazed_91 κ sg s0 1) (P_X5_blazed_91 κ sg s0 0))
def P_X5_blazed_18 (κ : TS → Prop) (sg : TS) (s0 : Int) : Prop :=
  P_X5_wrong (fun sg55 => P_X5_is (fun r56 sg57 => InR r56 ∧ (pIf (r56 = 0) (P_X5_is (fun r60 sg61 => InR r60 ∧ (pIf (r60 = 0) (P_X5_is (fun r64 sg65 => InR r64 ∧ (pIf (r64 = 0) (P_X5_is (fun r68 sg69 => InR r68 ∧ (pIf (r68 = 0) (P_X5_blazed_79 κ sg69 (-1)) (P_X5_blazed_79 κ sg69 3))) sg65 23) (P_X5_blazed_79 κ sg65 2))) sg61 22) (P_X5_blazed_79 κ sg61 1))) sg57 21) (P_X5_blazed_79 κ sg57 0))) sg55 20) sg s0 1
def P_X5_blazed (κ : TS → Prop) (sg : TS) : Prop :=
  P_X5_go (fun sg72 => InR (sg72.1 39) ∧ (pIf ((sg72.1 39) = 1) (P_X5_blazed_18 κ sg72 0) (P_X5_blazed_18 κ sg72 1))) sg
def P_X5_command_70 (κ : TS → Prop) (sg : TS) (s0 : Int) : Prop :=
  P_X5_stated (fun sg39 => P_X5_sign (fun sg40 => κ sg40) sg39 59) sg s0
def P_X5_command_54 (κ : TS → Prop) (sg : TS) : Prop :=
  P_X5_is (fun r41 sg42 => InR r41 ∧ (pIf (r41 = 0) (P_X5_command_70 κ sg42 0) (P_X5_command_70 κ sg42 1))) sg 30
def P_X5_command_156 (κ : TS → Prop) (sg : TS) : Prop :=
  P_X5_sign (fun sg45 => κ sg45) sg 59
def P_X5_command_138 (κ : TS → Prop) (sg : TS) (x1 : Int) (s0 : Int) (s1 : Int) : Prop :=
  P_X5_number (fun r46 sg47 => InR (sg47.1 43) ∧ (pIf ((sg47.1 43) = 0) ((0 ≤ x1 ∧ x1 < 526) ∧ (P_X5_command_156 κ (setA sg47 0 (uI (sg47.2 0) x1 r46)))) (P_X5_command_156 κ sg47))) sg s1 s0
def P_X5_command_127 (κ : TS → Prop) (sg : TS) (x1 : Int) (s0 : Int) : Prop :=
  InR x1 ∧ (pIf (x1 = 2) (P_X5_command_138 κ sg x1 12 s0) (P_X5_command_138 κ sg x1 2 s0))
def P_X5_command_111 (κ : TS → Prop) (sg : TS) (s0 : Int) : Prop :=
  P_X5_go (fun sg53 => InR s0 ∧ (pIf (s0 = 2) (P_X5_command_127 κ sg53 s0 1) (P_X5_command_127 κ sg53 s0 0))) sg
def P_X5_command_96 (κ : TS → Prop) (sg : TS) : Prop :=
  P_X5_is (fun r56 sg57 => InR r56 ∧ (pIf (r56 = 0) (P_X5_command_111 κ sg57 3) (P_X5_command_111 κ sg57 2))) sg 32
def P_X5_command (κ : TS → Prop) (sg : TS) : Prop :=
  P_X5_is (fun r60 sg61 => InR r60 ∧ (pIf (r60 = 0) (P_X5_is (fun r64 sg65 => InR r64 ∧ (pIf (r64 = 0) (P_X5_is (fun r68 sg69 => InR r68 ∧ (pIf (r68 = 0) (P_X5_is (fun r72 sg73 => InR r72 ∧ (pIf (r72 = 0) (P_X5_is (fun r76 sg77 => InR r76 ∧ (pIf (r76 = 0) (P_X5_is (fun r80 sg81 => InR r80 ∧ (pIf (r80 = 0) (P_X5_wrong (fun sg84 => P_X5_sign (fun sg85 => κ sg85) sg84 59) sg81 1 1) (P_X5_command_96 κ sg81))) sg77 33) (P_X5_command_96 κ sg77))) sg73 32) (P_X5_command_54 κ sg73))) sg69 31) (P_X5_command_54 κ sg69))) sg65 30) (P_X5_blocked (fun sg86 => P_X5_sign (fun sg87 => κ sg87) sg86 59) sg65))) sg61 29) (P_X5_blazed (fun sg88 => P_X5_sign (fun sg89 => κ sg89) sg88 59) sg61))) sg 19
def L_X5_commands_2 (k_26 : TS → Int → Prop) (κ : Int → TS → Prop) : Nat → TS → Int → Prop
  | 0, _, _ => False
  | f + 1, sg, x1 => InR (sg.1 43) ∧ (pIf ((sg.1 43) = 0) (InR (sg.1 39) ∧ (pIf ((sg.1 39) = 0) (k_26 sg x1) (P_X5_command (fun sg16 => L_X5_commands_2 k_26 κ f sg16 (x1 + 1)) sg))) (k_26 sg x1))
def P_X5_commands_62 (κ : Int → TS → Prop) (sg : TS) (x1 : Int) : Prop :=
  InR (sg.1 43) ∧ (pIf ((sg.1 43) = 0) (κ x1 sg) (κ (-1) sg))
def P_X5_commands_26 (κ : Int → TS → Prop) (sg : TS) (x1 : Int) : Prop :=
  InR (sg.1 43) ∧ (pIf ((sg.1 43) = 0) (P_X5_remember (fun sg21 => P_X5_commands_62 κ sg21 x1) (setS sg 10 0) 4) (P_X5_copy (fun sg22 => P_X5_commands_62 κ sg22 x1) (setS sg 10 0) 4 0 0 0))
def P_X5_commands (κ : Int → TS → Prop) (sg : TS) : Prop :=
  ∃ f9 : Nat, L_X5_commands_2 (fun sg x1 => P_X5_commands_26 κ sg x1) κ f9 sg 0
def L_X5_load_6 (k_26 : TS → Prop) (κ : Int → TS → Prop) : Nat → TS → Int → Prop
  | 0, _, _ => False
  | f + 1, sg, x1 => InR x1 ∧ (pIf (x1 < 526) ((0 ≤ x1 ∧ x1 < 526) ∧ (L_X5_load_6 k_26 κ f (setA sg 0 (uI (sg.2 0) x1 0)) (x1 + 1))) (k_26 sg))
def P_X5_load_42 (κ : Int → TS → Prop) (sg : TS) (s0 : Int) : Prop :=
  P_X5_wrong (fun sg21 => P_X5_go (fun sg22 => P_X5_number (fun r23 sg24 => P_X5_number (fun r25 sg26 => P_X5_number (fun r27 sg28 => P_X5_number (fun r29 sg30 => P_X5_sign (fun sg31 => P_X5_commands (fun r32 sg33 => InR r32 ∧ (pIf (r32 = (-1)) (κ (-1) sg33) (κ (sg33.2 0 4) sg33))) sg31) (setA sg30 0 (uI (sg30.2 0) 3 r29)) 59) (setA sg28 0 (uI (sg28.2 0) 2 r27)) 0 2) (setA sg26 0 (uI (sg26.2 0) 1 r25)) 1 12) (setA sg24 0 (uI (sg24.2 0) 0 r23)) 4 20) sg22 4 20) sg21) sg s0 1
def P_X5_load_26 (κ : Int → TS → Prop) (sg : TS) : Prop :=
  P_X5_is (fun r36 sg37 => InR r36 ∧ (pIf (r36 = 0) (P_X5_load_42 κ sg37 1) (P_X5_load_42 κ sg37 0))) sg 18
def P_X5_load (κ : Int → TS → Prop) (sg : TS) : Prop :=
  P_X5_starts (fun sg40 => ∃ f9 : Nat, L_X5_load_6 (fun sg => P_X5_load_26 κ sg) κ f9 sg40 0) sg
def P_X5_play (κ : Int → TS → Prop) (sg : TS) : Prop :=
  P_X5_starts (fun sg3 => P_X5_commands (fun r4 sg5 => κ r4 sg5) sg3) sg
def P_X5_outLeg_27 (κ : TS → Prop) (sg : TS) (x1 : Int) : Prop :=
  (0 ≤ x1 ∧ x1 < 100) ∧ (InR (sg.2 27 x1) ∧ (P_X5_out (fun sg17 => (0 ≤ (sg17.2 28 x1) ∧ (sg17.2 28 x1) < litLen 34) ∧ (P_X5_out (fun sg19 => InR (sg19.2 30 x1) ∧ (pIf ((sg19.2 30 x1) = 0) (κ sg19) (P_X5_out (fun sg22 => κ sg22) sg19 120))) sg17 (litCh 34 (sg17.2 28 x1)))) sg (48 + ((sg.2 27 x1).tmod 10))))
def P_X5_outLeg (κ : TS → Prop) (sg : TS) (x1 : Int) : Prop :=
  (0 ≤ x1 ∧ x1 < 100) ∧ (InR (sg.2 27 x1) ∧ (pIf (9 < (sg.2 27 x1)) (P_X5_out (fun sg26 => P_X5_outLeg_27 κ sg26 x1) sg (48 + ((sg.2 27 x1).tdiv 10))) (P_X5_outLeg_27 κ sg x1)))
def L_X5_outLegs_7 (k_62 : TS → Int → Int → Int → Prop) (κ : Int → TS → Prop) : Nat → TS → Int → Int → Int → Int → Prop
  | 0, _, _, _, _, _ => False
  | f + 1, sg, x1, x2, x3, x4 => InR (x1 + (2 * x4)) ∧ InR (sg.1 34) ∧ (pIf ((sg.1 34) < (x1 + (2 * x4))) (k_62 sg x1 x2 x3) (P_X5_repeats (fun r26 sg27 => InR r26 ∧ (pIf (r26 < 2) (L_X5_outLegs_7 k_62 κ f sg27 x1 x2 x3 (x4 + 1)) (InR (r26 * x4) ∧ InR x3 ∧ (pIf (x3 < (r26 * x4)) (L_X5_outLegs_7 k_62 κ f sg27 x1 x4 (r26 * x4) (x4 + 1)) (L_X5_outLegs_7 k_62 κ f sg27 x1 x2 x3 (x4 + 1)))))) sg x1 x4))
def L_X5_outLegs_94 (k_114 : TS → Int → Int → Prop) (κ : Int → TS → Prop) : Nat → TS → Int → Int → Int → Int → Prop
  | 0, _, _, _, _, _ => False
  | f + 1, sg, x1, x2, x3, x4 => InR x4 ∧ InR x2 ∧ (pIf (x4 < x2) (P_X5_outLeg (fun sg36 => L_X5_outLegs_94 k_114 κ f sg36 x1 x2 x3 (x4 + 1)) sg (x1 + x4)) (k_114 sg x1 x3))
def P_X5_outLegs_114 (κ : Int → TS → Prop) (sg : TS) (x1 : Int) (x3 : Int) : Prop :=
  P_X5_out (fun sg37 => κ (x1 + x3) sg37) sg 41
def P_X5_outLegs_62 (κ : Int → TS → Prop) (sg : TS) (x1 : Int) (x2 : Int) (x3 : Int) : Prop :=
  InR x2 ∧ (pIf (x2 = 0) (P_X5_outLeg (fun sg45 => κ (x1 + 1) sg45) sg x1) (InR x3 ∧ 0 < x2 ∧ (P_X5_out (fun sg42 => P_X5_out (fun sg43 => ∃ f9 : Nat, L_X5_outLegs_94 (fun sg x1 x3 => P_X5_outLegs_114 κ sg x1 x3) κ f9 sg43 x1 x2 x3 0) sg42 40) sg (48 + (x3.tdiv x2)))))
def P_X5_outLegs (κ : Int → TS → Prop) (sg : TS) (x1 : Int) : Prop :=
  ∃ f9 : Nat, L_X5_outLegs_7 (fun sg x1 x2 x3 => P_X5_outLegs_62 κ sg x1 x2 x3) κ f9 sg x1 0 0 1
def L_X5_writeRoute_28 (k_45 : TS → Prop) (κ : Int → TS → Prop) : Nat → TS → Int → Prop
  | 0, _, _ => False
  | f + 1, sg, x2 => InR x2 ∧ InR (sg.1 34) ∧ (pIf (x2 < (sg.1 34)) (P_X5_outLegs (fun r13 sg14 => L_X5_writeRoute_28 k_45 κ f sg14 r13) sg x2) (k_45 sg))
def P_X5_writeRoute_45 (κ : Int → TS → Prop) (sg : TS) : Prop :=
  κ (sg.1 11) sg
def P_X5_writeRoute (κ : Int → TS → Prop) (sg : TS) (x1 : Int) : Prop :=
  P_X5_noPost (fun r15 sg16 => P_X5_fails (fun r17 sg18 => InR r17 ∧ (pIf (r17 = 0) (P_X5_walk (fun sg21 => ∃ f9 : Nat, L_X5_writeRoute_28 (fun sg => P_X5_writeRoute_45 κ sg) κ f9 (setS sg21 11 0) 0) sg18 x1) (κ 0 sg18))) sg16 r15 0 0) sg x1
def L_X5_writeRow_39 (k_123 : TS → Prop) (κ : Int → TS → Prop) : Nat → TS → Int → Int → Prop
  | 0, _, _, _ => False
  | f + 1, sg, x1, x2 => InR x2 ∧ InR (sg.2 0 0) ∧ (pIf (x2 < (sg.2 0 0)) (P_X5_postAt (fun r26 sg27 => P_X5_isBlock (fun r28 sg29 => InR r28 ∧ (pIf (r28 = 0) (InR r26 ∧ (pIf (r26 = (-1)) (P_X5_out (fun sg43 => L_X5_writeRow_39 k_123 κ f sg43 x1 (x2 + 1)) sg29 46) (P_X5_stands (fun r34 sg35 => InR r34 ∧ (pIf (r34 = 0) (P_X5_out (fun sg38 => L_X5_writeRow_39 k_123 κ f sg38 x1 (x2 + 1)) sg35 120) (P_X5_of (fun r39 sg40 => (0 ≤ r39 ∧ r39 < litLen 35) ∧ (P_X5_out (fun sg42 => L_X5_writeRow_39 k_123 κ f sg42 x1 (x2 + 1)) sg40 (litCh 35 r39))) sg35 r26 3))) sg29 r26))) (P_X5_out (fun sg44 => L_X5_writeRow_39 k_123 κ f sg44 x1 (x2 + 1)) sg29 35))) sg27 x2 x1) sg x2 x1) (k_123 sg))
def P_X5_writeRow_123 (κ : Int → TS → Prop) (sg : TS) : Prop :=
  κ (sg.1 11) sg
def P_X5_writeRow_22 (κ : Int → TS → Prop) (sg : TS) (x1 : Int) (s0 : Int) : Prop :=
  P_X5_fails (fun r45 sg46 => InR r45 ∧ (pIf (r45 = 0) (∃ f9 : Nat, L_X5_writeRow_39 (fun sg => P_X5_writeRow_123 κ sg) κ f9 (setS sg46 11 0) x1 0) (κ 0 sg46))) sg s0 0 0
def P_X5_writeRow (κ : Int → TS → Prop) (sg : TS) (x1 : Int) : Prop :=
  P_X5_isIn (fun r50 => InR r50 ∧ (pIf (r50 = 0) (P_X5_writeRow_22 κ sg x1 1) (P_X5_writeRow_22 κ sg x1 0))) x1 0 ((sg.2 0 1) - 1)
def L_X5_lays_10 (k_35 : TS → Prop) (κ : TS → Prop) : Nat → TS → Nat → Int → Prop
  | 0, _, _, _ => False
  | f + 1, sg, x1, x2 => InR x2 ∧ InR (sg.1 10) ∧ (pIf (x2 < (sg.1 10)) (x1 < 36 ∧ (0 ≤ x2 ∧ x2 < litLen x1) ∧ ((0 ≤ x2 ∧ x2 < 700) ∧ (L_X5_lays_10 k_35 κ f (setA sg 8 (uI (sg.2 8) x2 (litCh x1 x2))) x1 (x2 + 1)))) (k_35 sg))
def P_X5_lays_35 (κ : TS → Prop) (sg : TS) : Prop :=
  P_X5_load (fun r15 sg16 => κ (setS sg16 6 0)) sg
def P_X5_lays (κ : TS → Prop) (sg : TS) (x1 : Nat) : Prop :=
  x1 < 36 ∧ (∃ f9 : Nat, L_X5_lays_10 (fun sg => P_X5_lays_35 κ sg) κ f9 (setS sg 10 (litLen x1)) x1 0)
