set_option maxRecDepth 100000
def P_X5_copy (κ : TS → Prop) (sg : TS) (x0 : Nat) (x1 : Int) (x2 : Nat) (x3 : Int) : Prop :=
  ∃ (N4 N5 : Nat), (twOK x0 0 N4 ∧ twOK x2 0 N5 ∧ ((0 : Int) ≤ x1 ∧ (0 : Int) ≤ x3 ∧ (0 : Int) ≤ 526) ∧ ((x1 : Int) + 526 ≤ N4) ∧ ((x3 : Int) + 526 ≤ N5)) ∧ (κ (setA sg x2 (cpI (sg.2 x0) (sg.2 x2) x1 x3 526)))
def P_X5_isIn (κ : Int → Prop) (x0 : Int) (x1 : Int) (x2 : Int) : Prop :=
  InR x0 ∧ InR x1 ∧ (pIf (x0 < x1) (κ 0) (InR x2 ∧ (pIf (x2 < x0) (κ 0) (κ 1))))
def P_X5_isDigit (κ : Int → TS → Prop) (sg : TS) (x1 : Int) : Prop :=
  InR x1 ∧ InR (sg.1 10) ∧ (pIf (x1 < (sg.1 10)) ((0 ≤ x1 ∧ x1 < 700) ∧ (P_X5_isIn (fun r11 => InR r11 ∧ (pIf (r11 = 0) (κ 0 sg) (κ 1 sg))) (sg.2 8 x1) 48 57)) (κ 0 sg))
def P_X5_isLetter (κ : Int → TS → Prop) (sg : TS) (x1 : Int) : Prop :=
  InR x1 ∧ InR (sg.1 10) ∧ (pIf (x1 < (sg.1 10)) ((0 ≤ x1 ∧ x1 < 700) ∧ (P_X5_isIn (fun r11 => InR r11 ∧ (pIf (r11 = 0) (κ 0 sg) (κ 1 sg))) (sg.2 8 x1) 97 122)) (κ 0 sg))
def L_X5_next_0 (k_38 : TS → Prop) (κ : TS → Prop) : Nat → TS → Prop
  | 0, _ => False
  | f + 1, sg => InR (sg.1 41) ∧ InR (sg.1 10) ∧ (pIf ((sg.1 41) < (sg.1 10)) ((0 ≤ (sg.1 41) ∧ (sg.1 41) < 700) ∧ (InR (sg.2 8 (sg.1 41)) ∧ (pIf ((sg.2 8 (sg.1 41)) = 32) (L_X5_next_0 k_38 κ f (setS sg 41 ((sg.1 41) + 1))) (k_38 sg)))) (k_38 sg))
def P_X5_next_241 (κ : TS → Prop) (sg : TS) : Prop :=
  κ sg
def L_X5_next_81 (k_241 : TS → Prop) (κ : TS → Prop) : Nat → TS → Prop
  | 0, _ => False
  | f + 1, sg => P_X5_isLetter (fun r39 sg40 => InR r39 ∧ (pIf (r39 = 0) (k_241 sg40) (L_X5_next_81 k_241 κ f (setS sg40 41 ((sg40.1 41) + 1))))) sg (sg.1 41)
def L_X5_next_126 (k_241 : TS → Prop) (κ : TS → Prop) : Nat → TS → Prop
  | 0, _ => False
  | f + 1, sg => P_X5_isDigit (fun r43 sg44 => InR r43 ∧ (pIf (r43 = 0) (k_241 sg44) ((0 ≤ (sg44.1 41) ∧ (sg44.1 41) < 700) ∧ (InR ((((sg44.1 42) * 10) + (sg44.2 8 (sg44.1 41))) - 48) ∧ (L_X5_next_126 k_241 κ f (setS (setS sg44 42 (jmin 100000 ((((sg44.1 42) * 10) + (sg44.2 8 (sg44.1 41))) - 48))) 41 ((sg44.1 41) + 1))))))) sg (sg.1 41)
def P_X5_next_228 (κ : TS → Prop) (sg : TS) (s0 : Int) : Prop :=
  P_X5_next_241 κ (setS (setS sg 39 s0) 41 ((sg.1 41) + 1))
def P_X5_next_38 (κ : TS → Prop) (sg : TS) : Prop :=
  InR (sg.1 41) ∧ InR (sg.1 10) ∧ (pIf ((sg.1 41) = (sg.1 10)) (P_X5_next_241 κ (setS (setS sg 40 (sg.1 41)) 39 0)) (P_X5_isLetter (fun r52 sg53 => InR r52 ∧ (pIf (r52 = 0) (P_X5_isDigit (fun r56 sg57 => InR r56 ∧ (pIf (r56 = 0) ((0 ≤ (sg57.1 41) ∧ (sg57.1 41) < 700) ∧ (InR (sg57.2 8 (sg57.1 41)) ∧ (pIf ((sg57.2 8 (sg57.1 41)) = 59) (P_X5_next_228 κ sg57 3) (pIf ((sg57.2 8 (sg57.1 41)) = 40) (P_X5_next_228 κ sg57 3) (pIf ((sg57.2 8 (sg57.1 41)) = 41) (P_X5_next_228 κ sg57 3) (P_X5_next_228 κ sg57 4)))))) (∃ f9 : Nat, L_X5_next_126 (fun sg => P_X5_next_241 κ sg) κ f9 (setS (setS sg57 39 2) 42 0)))) sg53 (sg53.1 41)) (∃ f9 : Nat, L_X5_next_81 (fun sg => P_X5_next_241 κ sg) κ f9 (setS sg53 39 1)))) (setS sg 40 (sg.1 41)) (sg.1 41)))
def P_X5_next (κ : TS → Prop) (sg : TS) : Prop :=
  ∃ f9 : Nat, L_X5_next_0 (fun sg => P_X5_next_38 κ sg) κ f9 sg
def P_X5_starts (κ : TS → Prop) (sg : TS) : Prop :=
  P_X5_copy (fun sg3 => P_X5_next (fun sg4 => κ sg4) sg3) (setS (setS (setS (setS (setS (setS sg 7 0) 41 0) 43 0) 12 0) 13 (-1)) 14 (-1)) 0 0 4 0
def P_X5_refused (κ : TS → Prop) (sg : TS) (x1 : Int) (x2 : Int) (x3 : Int) (x4 : Int) : Prop :=
  InR (sg.1 43) ∧ (pIf ((sg.1 43) = 0) (InR x1 ∧ (pIf (x1 = 0) (κ sg) (κ (setS (setS (setS (setS sg 43 1) 12 x2) 13 x4) 14 x3)))) (κ sg))
def P_X5_wrong (κ : TS → Prop) (sg : TS) (x1 : Int) (x2 : Int) : Prop :=
  P_X5_refused (fun sg2 => κ sg2) sg x1 x2 0 (sg.1 40)
def P_X5_go (κ : TS → Prop) (sg : TS) : Prop :=
  InR (sg.1 43) ∧ (pIf ((sg.1 43) = 0) (P_X5_next (fun sg6 => κ sg6) sg) (κ sg))
def P_X5_here_43 (κ : Int → TS → Prop) (sg : TS) (x1 : Int) (s0 : Int) : Prop :=
  P_X5_wrong (fun sg11 => InR (sg11.1 43) ∧ (pIf ((sg11.1 43) = 0) (κ (sg11.1 42) sg11) (κ x1 sg11))) sg s0 2
def P_X5_here_14 (κ : Int → TS → Prop) (sg : TS) (x1 : Int) (x2 : Int) (s0 : Int) : Prop :=
  P_X5_wrong (fun sg14 => InR (sg14.1 43) ∧ (pIf ((sg14.1 43) = 0) (P_X5_isIn (fun r17 => InR r17 ∧ (pIf (r17 = 0) (P_X5_here_43 κ sg14 x1 1) (P_X5_here_43 κ sg14 x1 0))) (sg14.1 42) x1 x2) (P_X5_here_43 κ sg14 x1 0))) sg s0 1
def P_X5_here (κ : Int → TS → Prop) (sg : TS) (x1 : Int) (x2 : Int) : Prop :=
  InR (sg.1 39) ∧ (pIf ((sg.1 39) = 2) (P_X5_here_14 κ sg x1 x2 0) (P_X5_here_14 κ sg x1 x2 1))
def P_X5_number (κ : Int → TS → Prop) (sg : TS) (x1 : Int) (x2 : Int) : Prop :=
  P_X5_here (fun r3 sg4 => P_X5_go (fun sg5 => κ r3 sg5) sg4) sg x1 x2
def P_X5_isSign (κ : Int → TS → Prop) (sg : TS) (x1 : Int) : Prop :=
  InR (sg.1 39) ∧ (pIf ((sg.1 39) = 3) ((0 ≤ (sg.1 40) ∧ (sg.1 40) < 700) ∧ (InR (sg.2 8 (sg.1 40)) ∧ InR x1 ∧ (pIf ((sg.2 8 (sg.1 40)) = x1) (κ 1 sg) (κ 0 sg)))) (κ 0 sg))
def P_X5_sign_14 (κ : TS → Prop) (sg : TS) (s0 : Int) : Prop :=
  P_X5_wrong (fun sg6 => P_X5_go (fun sg7 => κ sg7) sg6) sg s0 1
def P_X5_sign (κ : TS → Prop) (sg : TS) (x1 : Int) : Prop :=
  P_X5_isSign (fun r8 sg9 => InR r8 ∧ (pIf (r8 = 0) (P_X5_sign_14 κ sg9 1) (P_X5_sign_14 κ sg9 0))) sg x1
def P_X5_isBlock (κ : Int → TS → Prop) (sg : TS) (x1 : Int) (x2 : Int) : Prop :=
  (0 ≤ ((6 + (20 * x2)) + x1) ∧ ((6 + (20 * x2)) + x1) < 526) ∧ (InR (sg.2 0 ((6 + (20 * x2)) + x1)) ∧ (pIf ((sg.2 0 ((6 + (20 * x2)) + x1)) = 1) (κ 1 sg) (κ 0 sg)))
def P_X5_isOn (κ : Int → TS → Prop) (sg : TS) (x1 : Int) (x2 : Int) : Prop :=
  P_X5_isIn (fun r5 => InR r5 ∧ (pIf (r5 = 0) (κ 0 sg) (P_X5_isIn (fun r8 => InR r8 ∧ (pIf (r8 = 0) (κ 0 sg) (κ 1 sg))) x2 0 ((sg.2 0 1) - 1)))) x1 0 ((sg.2 0 0) - 1)
def P_X5_of (κ : Int → TS → Prop) (sg : TS) (x1 : Int) (x2 : Int) : Prop :=
  (0 ≤ ((406 + (x1 * 5)) + x2) ∧ ((406 + (x1 * 5)) + x2) < 526) ∧ (κ (sg.2 0 ((406 + (x1 * 5)) + x2)) sg)
def L_X5_postAt_2 (k_32 : TS → Int → Prop) (k_40 : TS → Prop) (κ : Int → TS → Prop) : Nat → TS → Int → Int → Int → Prop
  | 0, _, _, _, _ => False
  | f + 1, sg, x1, x2, x3 => InR x3 ∧ InR (sg.2 0 4) ∧ (pIf (x3 < (sg.2 0 4)) (P_X5_of (fun r15 sg16 => InR r15 ∧ InR x1 ∧ (pIf (r15 = x1) (P_X5_of (fun r20 sg21 => InR r20 ∧ InR x2 ∧ (pIf (r20 = x2) (k_32 sg21 x3) (L_X5_postAt_2 k_32 k_40 κ f sg21 x1 x2 (x3 + 1)))) sg16 x3 1) (L_X5_postAt_2 k_32 k_40 κ f sg16 x1 x2 (x3 + 1)))) sg x3 0) (k_40 sg))
def P_X5_postAt_32 (κ : Int → TS → Prop) (sg : TS) (x3 : Int) : Prop :=
  κ x3 sg
def P_X5_postAt_40 (κ : Int → TS → Prop) (sg : TS) : Prop :=
  κ (-1) sg
def P_X5_postAt (κ : Int → TS → Prop) (sg : TS) (x1 : Int) (x2 : Int) : Prop :=
  ∃ f9 : Nat, L_X5_postAt_2 (fun sg x3 => P_X5_postAt_32 κ sg x3) (fun sg => P_X5_postAt_40 κ sg) κ f9 sg x1 x2 0
def P_X5_whyNoPost (κ : Int → TS → Prop) (sg : TS) (x1 : Int) (x2 : Int) : Prop :=
  P_X5_isOn (fun r12 sg13 => InR r12 ∧ (pIf (r12 = 0) (κ 1 sg13) (P_X5_isBlock (fun r16 sg17 => InR r16 ∧ (pIf (r16 = 0) (P_X5_postAt (fun r20 sg21 => InR r20 ∧ (pIf (r20 = (-1)) (InR (sg21.2 0 4) ∧ (pIf ((sg21.2 0 4) = 24) (κ 4 sg21) (κ 0 sg21))) (κ 3 sg21))) sg17 x1 x2) (κ 2 sg17))) sg13 x1 x2))) sg x1 x2
def P_X5_put (κ : TS → Prop) (sg : TS) (x1 : Int) (x2 : Int) (x3 : Int) : Prop :=
  (0 ≤ ((406 + (x1 * 5)) + x2) ∧ ((406 + (x1 * 5)) + x2) < 526) ∧ (κ (setA sg 0 (uI (sg.2 0) ((406 + (x1 * 5)) + x2) x3)))
def P_X5_lay (κ : Int → TS → Prop) (sg : TS) (x1 : Int) (x2 : Int) (x3 : Int) (x4 : Int) : Prop :=
  P_X5_put (fun sg6 => P_X5_put (fun sg7 => P_X5_put (fun sg8 => P_X5_put (fun sg9 => P_X5_put (fun sg10 => κ (sg.2 0 4) (setA sg10 0 (uI (sg10.2 0) 4 ((sg10.2 0 4) + 1)))) sg9 (sg.2 0 4) 4 0) sg8 (sg.2 0 4) 3 x4) sg7 (sg.2 0 4) 2 x3) sg6 (sg.2 0 4) 1 x2) sg (sg.2 0 4) 0 x1
def P_X5_dx (κ : Int → Prop) (x0 : Int) : Prop :=
  InR x0 ∧ (pIf (x0 = 1) (κ 1) (pIf (x0 = 3) (κ (-1)) (κ 0)))
def P_X5_dy (κ : Int → Prop) (x0 : Int) : Prop :=
  InR x0 ∧ (pIf (x0 = 0) (κ (-1)) (pIf (x0 = 2) (κ 1) (κ 0)))
def P_X5_layLeg_120 (κ : TS → Prop) (sg : TS) (x1 : Int) (x2 : Int) (x3 : Int) (x4 : Int) (s0 : Int) (s1 : Int) (s2 : Int) : Prop :=
  P_X5_put (fun sg17 => (0 ≤ (sg17.1 48) ∧ (sg17.1 48) < 25) ∧ ((x3 = 0 ∨ x3 = 1) ∧ (κ (setS (setA (setA (setA (setA sg17 44 (uI (sg17.2 44) (sg17.1 48) x1)) 45 (uI ((setA sg17 44 (uI (sg17.2 44) (sg17.1 48) x1)).2 45) (sg17.1 48) x2)) 46 (uI ((setA (setA sg17 44 (uI (sg17.2 44) (sg17.1 48) x1)) 45 (uI ((setA sg17 44 (uI (sg17.2 44) (sg17.1 48) x1)).2 45) (sg17.1 48) x2)).2 46) (sg17.1 48) x4)) 47 (uI ((setA (setA (setA sg17 44 (uI (sg17.2 44) (sg17.1 48) x1)) 45 (uI ((setA sg17 44 (uI (sg17.2 44) (sg17.1 48) x1)).2 45) (sg17.1 48) x2)) 46 (uI ((setA (setA sg17 44 (uI (sg17.2 44) (sg17.1 48) x1)) 45 (uI ((setA sg17 44 (uI (sg17.2 44) (sg17.1 48) x1)).2 45) (sg17.1 48) x2)).2 46) (sg17.1 48) x4)).2 47) (sg17.1 48) x3)) 48 ((sg17.1 48) + 1))))) sg s2 s1 s0
def P_X5_layLeg_57 (κ : TS → Prop) (sg : TS) (x1 : Int) (x2 : Int) (x3 : Int) (x4 : Int) (x5 : Int) (x6 : Int) (x7 : Int) (s0 : Int) : Prop :=
  P_X5_refused (fun sg20 => InR (sg20.1 43) ∧ (pIf ((sg20.1 43) = 0) (P_X5_put (fun sg23 => P_X5_of (fun r24 sg25 => P_X5_lay (fun r26 sg27 => InR x3 ∧ (pIf (x3 = 0) (P_X5_layLeg_120 κ (setS sg27 50 r26) x1 x2 x3 x4 0 4 r26) (P_X5_layLeg_120 κ (setS sg27 50 r26) x1 x2 x3 x4 1 4 r26))) sg25 x5 x6 r24 4) sg23 (sg23.1 50) 2) sg20 (sg20.1 50) 3 x2) (κ sg20))) sg s0 5 x7 x4
def P_X5_layLeg (κ : TS → Prop) (sg : TS) (x1 : Int) (x2 : Int) (x3 : Int) (x4 : Int) : Prop :=
  P_X5_of (fun r30 sg31 => P_X5_dx (fun r32 => P_X5_of (fun r33 sg34 => P_X5_dy (fun r35 => P_X5_whyNoPost (fun r36 sg37 => InR r36 ∧ (pIf (0 < r36) (P_X5_layLeg_57 κ sg37 x1 x2 x3 x4 (r30 + (x1 * r32)) (r33 + (x1 * r35)) r36 1) (P_X5_layLeg_57 κ sg37 x1 x2 x3 x4 (r30 + (x1 * r32)) (r33 + (x1 * r35)) r36 0))) sg34 (r30 + (x1 * r32)) (r33 + (x1 * r35))) x2) sg31 (sg31.1 50) 1) x2) sg (sg.1 50) 0
def P_X5_block (κ : TS → Prop) (sg : TS) (x1 : Int) (x2 : Int) (x3 : Int) : Prop :=
  (0 ≤ ((6 + (20 * x2)) + x1) ∧ ((6 + (20 * x2)) + x1) < 526) ∧ (κ (setA (setA sg 0 (uI (sg.2 0) 5 ((sg.2 0 5) + (x3 - (sg.2 0 ((6 + (20 * x2)) + x1)))))) 0 (uI ((setA sg 0 (uI (sg.2 0) 5 ((sg.2 0 5) + (x3 - (sg.2 0 ((6 + (20 * x2)) + x1)))))).2 0) ((6 + (20 * x2)) + x1) x3)))
def P_X5_whyNoBlock (κ : Int → TS → Prop) (sg : TS) (x1 : Int) (x2 : Int) : Prop :=
  P_X5_isBlock (fun r9 sg10 => InR r9 ∧ (pIf (r9 = 0) (P_X5_postAt (fun r13 sg14 => InR r13 ∧ (pIf (r13 = (-1)) (InR (sg14.2 0 5) ∧ (pIf ((sg14.2 0 5) = 20) (κ 4 sg14) (κ 0 sg14))) (κ 3 sg14))) sg10 x1 x2) (κ 2 sg10))) sg x1 x2
def P_X5_blocked_83 (k_6 : TS → Int → Prop) (k_100 : TS → Prop) (k_117 : TS → Prop) (κ : TS → Prop) (sg : TS) (x2 : Int) (x3 : Int) (x4 : Int) (s0 : Int) : Prop :=
  P_X5_refused (fun sg20 => InR (sg20.1 43) ∧ (pIf ((sg20.1 43) = 0) (P_X5_block (fun sg23 => P_X5_go (fun sg24 => k_6 sg24 0) sg23) sg20 x2 x3 1) (k_100 sg20))) sg s0 5 x4 (sg.1 40)
def P_X5_blocked_70 (k_6 : TS → Int → Prop) (k_100 : TS → Prop) (k_117 : TS → Prop) (κ : TS → Prop) (sg : TS) (x2 : Int) (x3 : Int) (s0 : Int) : Prop :=
  InR s0 ∧ (pIf (0 < s0) (P_X5_blocked_83 k_6 k_100 k_117 κ sg x2 x3 s0 1) (P_X5_blocked_83 k_6 k_100 k_117 κ sg x2 x3 s0 0))
def P_X5_blocked_25 (k_6 : TS → Int → Prop) (k_100 : TS → Prop) (k_117 : TS → Prop) (κ : TS → Prop) (sg : TS) : Prop :=
  P_X5_number (fun r27 sg28 => P_X5_here (fun r29 sg30 => InR (sg30.1 43) ∧ (pIf ((sg30.1 43) = 0) (P_X5_whyNoBlock (fun r33 sg34 => P_X5_blocked_70 k_6 k_100 k_117 κ sg34 r27 r29 r33) sg30 r27 r29) (P_X5_blocked_70 k_6 k_100 k_117 κ sg30 r27 r29 0))) sg28 0 ((sg28.2 0 1) - 1)) sg 0 ((sg.2 0 0) - 1)
def L_X5_blocked_6 (k_100 : TS → Prop) (k_117 : TS → Prop) (κ : TS → Prop) : Nat → TS → Int → Prop
  | 0, _, _ => False
  | f + 1, sg, x1 => InR (sg.1 43) ∧ (pIf ((sg.1 43) = 0) (InR x1 ∧ (pIf (x1 = 0) (InR (sg.1 39) ∧ (pIf ((sg.1 39) = 2) (P_X5_blocked_25 (fun sg x1 => L_X5_blocked_6 k_100 k_117 κ f sg x1) k_100 k_117 κ sg) (k_117 sg))) (P_X5_blocked_25 (fun sg x1 => L_X5_blocked_6 k_100 k_117 κ f sg x1) k_100 k_117 κ sg))) (k_117 sg))
def P_X5_blocked_100 (κ : TS → Prop) (sg : TS) : Prop :=
  κ sg
def P_X5_blocked_117 (κ : TS → Prop) (sg : TS) : Prop :=
  κ sg
def P_X5_blocked (κ : TS → Prop) (sg : TS) : Prop :=
  P_X5_go (fun sg43 => ∃ f9 : Nat, L_X5_blocked_6 (fun sg => P_X5_blocked_100 κ sg) (fun sg => P_X5_blocked_117 κ sg) κ f9 sg43 1) sg
def P_X5_stated_62 (k_6 : TS → Int → Int → Prop) (k_78 : TS → Prop) (k_95 : TS → Prop) (κ : TS → Prop) (sg : TS) (x1 : Int) (x3 : Int) (s0 : Int) : Prop :=
  P_X5_refused (fun sg20 => InR (sg20.1 43) ∧ (pIf ((sg20.1 43) = 0) (P_X5_put (fun sg23 => P_X5_go (fun sg24 => k_6 sg24 x1 0) sg23) sg20 x3 4 x1) (k_78 sg20))) sg s0 5 5 (sg.1 40)
def P_X5_stated_25 (k_6 : TS → Int → Int → Prop) (k_78 : TS → Prop) (k_95 : TS → Prop) (κ : TS → Prop) (sg : TS) (x1 : Int) : Prop :=
  P_X5_here (fun r25 sg26 => InR (sg26.1 43) ∧ (pIf ((sg26.1 43) = 0) (P_X5_of (fun r29 sg30 => InR r29 ∧ InR x1 ∧ (pIf (r29 = x1) (P_X5_stated_62 k_6 k_78 k_95 κ sg30 x1 r25 1) (P_X5_stated_62 k_6 k_78 k_95 κ sg30 x1 r25 0))) sg26 r25 4) (P_X5_stated_62 k_6 k_78 k_95 κ sg26 x1 r25 0))) sg 0 ((sg.2 0 4) - 1)
def L_X5_stated_6 (k_78 : TS → Prop) (k_95 : TS → Prop) (κ : TS → Prop) : Nat → TS → Int → Int → Prop
  | 0, _, _, _ => False
  | f + 1, sg, x1, x2 => InR (sg.1 43) ∧ (pIf ((sg.1 43) = 0) (InR x2 ∧ (pIf (x2 = 0) (InR (sg.1 39) ∧ (pIf ((sg.1 39) = 2) (P_X5_stated_25 (fun sg x1 x2 => L_X5_stated_6 k_78 k_95 κ f sg x1 x2) k_78 k_95 κ sg x1) (k_95 sg))) (P_X5_stated_25 (fun sg x1 x2 => L_X5_stated_6 k_78 k_95 κ f sg x1 x2) k_78 k_95 κ sg x1))) (k_95 sg))
def P_X5_stated_78 (κ : TS → Prop) (sg : TS) : Prop :=
  κ sg
def P_X5_stated_95 (κ : TS → Prop) (sg : TS) : Prop :=
  κ sg
def P_X5_stated (κ : TS → Prop) (sg : TS) (x1 : Int) : Prop :=
  P_X5_go (fun sg42 => ∃ f9 : Nat, L_X5_stated_6 (fun sg => P_X5_stated_78 κ sg) (fun sg => P_X5_stated_95 κ sg) κ f9 sg42 x1 1) sg
def P_X5_remember_37 (κ : TS → Prop) (sg : TS) (x1 : Nat) : Prop :=
  P_X5_copy (fun sg7 => κ (setS sg7 6 ((sg7.1 6) + 1))) sg x1 0 2 ((sg.1 6) * 526)
def P_X5_remember (κ : TS → Prop) (sg : TS) (x1 : Nat) : Prop :=
  InR (sg.1 6) ∧ (pIf ((sg.1 6) = 8) (∃ (N10 N11 : Nat), (twOK 2 0 N10 ∧ twOK 2 0 N11 ∧ ((0 : Int) ≤ 526 ∧ (0 : Int) ≤ 0 ∧ (0 : Int) ≤ 3682) ∧ ((526 : Int) + 3682 ≤ N10) ∧ ((0 : Int) + 3682 ≤ N11)) ∧ (P_X5_remember_37 κ (setS (setA sg 2 (cpI (sg.2 2) (sg.2 2) 526 0 3682)) 6 (((setA sg 2 (cpI (sg.2 2) (sg.2 2) 526 0 3682)).1 6) - 1)) x1)) (P_X5_remember_37 κ sg x1))
def P_X5_thrown (κ : Int → TS → Prop) (sg : TS) : Prop :=
  κ (sg.1 7) sg
def L_X5_four_3 (k_39 : TS → Prop) (κ : TS → Prop) : Nat → TS → Int → Int → Prop
  | 0, _, _, _ => False
  | f + 1, sg, x1, x2 => InR x2 ∧ (pIf (x2 < 0) (k_39 sg) ((0 ≤ (sg.1 10) ∧ (sg.1 10) < 700) ∧ (L_X5_four_3 k_39 κ f (setS (setA sg 8 (uI (sg.2 8) (sg.1 10) (iand (ishr x1 x2) 255))) 10 ((sg.1 10) + 1)) x1 (x2 + (-8)))))
def P_X5_four_39 (κ : TS → Prop) (sg : TS) : Prop :=
  κ sg
def P_X5_four (κ : TS → Prop) (sg : TS) (x1 : Int) : Prop :=
  ∃ f9 : Nat, L_X5_four_3 (fun sg => P_X5_four_39 κ sg) κ f9 sg x1 24
def P_X5_append (κ : Int → TS → Prop) (sg : TS) (x1 : Int) (x2 : Int) (x3 : Int) (x4 : Int) (x5 : Int) : Prop :=
  InR ((sg.1 10) + 20) ∧ (pIf (700 < ((sg.1 10) + 20)) (κ (-1) (setS sg 7 0)) (P_X5_four (fun sg10 => P_X5_four (fun sg11 => P_X5_four (fun sg12 => P_X5_four (fun sg13 => P_X5_four (fun sg14 => κ (sg14.1 10) sg14) sg13 x5) sg12 x4) sg11 x3) sg10 x2) (setS sg 7 0) x1))
def P_X5_fails_26 (κ : Int → TS → Prop) (sg : TS) (s0 : Int) : Prop :=
  InR s0 ∧ (pIf (0 < s0) (κ 1 (setS sg 7 s0)) (κ 0 (setS sg 7 s0)))
def P_X5_fails (κ : Int → TS → Prop) (sg : TS) (x1 : Int) (x2 : Int) (x3 : Int) : Prop :=
  InR x1 ∧ (pIf (x1 = 0) (InR x2 ∧ (pIf (x2 = 0) (InR x3 ∧ (pIf (x3 = 0) (P_X5_fails_26 κ sg 0) (P_X5_fails_26 κ sg 3))) (P_X5_fails_26 κ sg 2))) (P_X5_fails_26 κ sg 1))
def P_X5_truncate_18 (κ : Int → TS → Prop) (sg : TS) (x1 : Int) (s0 : Int) : Prop :=
  P_X5_fails (fun r6 sg7 => InR r6 ∧ (pIf (r6 = 0) (κ x1 (setS sg7 10 x1)) (κ 0 sg7))) sg s0 0 0
def P_X5_truncate (κ : Int → TS → Prop) (sg : TS) (x1 : Int) : Prop :=
  P_X5_isIn (fun r10 => InR r10 ∧ (pIf (r10 = 0) (P_X5_truncate_18 κ sg x1 1) (P_X5_truncate_18 κ sg x1 0))) x1 0 (sg.1 10)
def P_X5_error_15 (κ : Int → TS → Prop) (sg : TS) (x1 : Int) (s0 : Int) : Prop :=
  P_X5_fails (fun r10 sg11 => InR r10 ∧ (pIf (r10 = 0) (InR x1 ∧ (pIf (x1 = 0) (κ (sg11.1 12) sg11) (pIf (x1 = 1) (κ (sg11.1 13) sg11) (κ (sg11.1 14) sg11)))) (κ 0 sg11))) sg s0 0 0
def P_X5_error (κ : Int → TS → Prop) (sg : TS) (x1 : Int) : Prop :=
  P_X5_isIn (fun r17 => InR r17 ∧ (pIf (r17 = 0) (P_X5_error_15 κ sg x1 1) (P_X5_error_15 κ sg x1 0))) x1 0 2
def P_X5_noColour (κ : Int → Prop) (x0 : Int) : Prop :=
  P_X5_isIn (fun r3 => InR r3 ∧ (pIf (r3 = 0) (κ 1) (κ 0))) x0 0 3
def P_X5_addPost_52 (κ : Int → TS → Prop) (sg : TS) (x1 : Int) (x2 : Int) (x3 : Int) (x4 : Int) (s0 : Int) (s1 : Int) (s2 : Int) : Prop :=
  P_X5_fails (fun r16 sg17 => InR r16 ∧ (pIf (r16 = 0) (P_X5_remember (fun sg20 => P_X5_lay (fun r21 sg22 => κ r21 sg22) sg20 x1 x2 x3 x4) sg17 0) (κ 0 sg17))) sg s2 s1 s0
def P_X5_addPost_24 (κ : Int → TS → Prop) (sg : TS) (x1 : Int) (x2 : Int) (x3 : Int) (x4 : Int) (s0 : Int) : Prop :=
  P_X5_noColour (fun r23 => InR s0 ∧ (pIf (s0 = 0) (P_X5_whyNoPost (fun r26 sg27 => InR r26 ∧ (pIf (0 < r26) (P_X5_addPost_52 κ sg27 x1 x2 x3 x4 1 s0 r23) (P_X5_addPost_52 κ sg27 x1 x2 x3 x4 0 s0 r23))) sg x1 x2) (P_X5_addPost_52 κ sg x1 x2 x3 x4 0 s0 r23))) x3
def P_X5_addPost (κ : Int → TS → Prop) (sg : TS) (x1 : Int) (x2 : Int) (x3 : Int) (x4 : Int) : Prop :=
  P_X5_isOn (fun r30 sg31 => InR r30 ∧ (pIf (r30 = 0) (P_X5_addPost_24 κ sg31 x1 x2 x3 x4 1) (P_X5_isIn (fun r34 => InR r34 ∧ (pIf (r34 = 0) (P_X5_addPost_24 κ sg31 x1 x2 x3 x4 1) (P_X5_addPost_24 κ sg31 x1 x2 x3 x4 0))) x4 0 4))) sg x1 x2
def P_X5_noPost (κ : Int → TS → Prop) (sg : TS) (x1 : Int) : Prop :=
  P_X5_isIn (fun r3 => InR r3 ∧ (pIf (r3 = 0) (κ 1 sg) (κ 0 sg))) x1 0 ((sg.2 0 4) - 1)
def L_X5_dropPost_42 (k_78 : TS → Prop) (κ : Int → TS → Prop) : Nat → TS → Int → Prop
  | 0, _, _ => False
  | f + 1, sg, x2 => InR x2 ∧ InR (406 + ((sg.2 0 4) * 5)) ∧ (pIf (x2 < (406 + ((sg.2 0 4) * 5))) ((0 ≤ (x2 + 5) ∧ (x2 + 5) < 526) ∧ ((0 ≤ x2 ∧ x2 < 526) ∧ (L_X5_dropPost_42 k_78 κ f (setA sg 0 (uI (sg.2 0) x2 (sg.2 0 (x2 + 5)))) (x2 + 1)))) (k_78 sg))
def P_X5_dropPost_78 (κ : Int → TS → Prop) (sg : TS) : Prop :=
  κ (sg.2 0 4) sg
def P_X5_dropPost (κ : Int → TS → Prop) (sg : TS) (x1 : Int) : Prop :=
  P_X5_noPost (fun r16 sg17 => P_X5_fails (fun r18 sg19 => InR r18 ∧ (pIf (r18 = 0) (P_X5_remember (fun sg22 => ∃ f9 : Nat, L_X5_dropPost_42 (fun sg => P_X5_dropPost_78 κ sg) κ f9 (setA sg22 0 (uI (sg22.2 0) 4 ((sg22.2 0 4) - 1))) (406 + (x1 * 5))) sg19 0) (κ 0 sg19))) sg17 r16 0 0) sg x1
def P_X5_turn_20 (κ : Int → TS → Prop) (sg : TS) (x1 : Int) (x2 : Int) (s0 : Int) (s1 : Int) : Prop :=
  P_X5_fails (fun r10 sg11 => InR r10 ∧ (pIf (r10 = 0) (P_X5_remember (fun sg14 => P_X5_of (fun r15 sg16 => P_X5_put (fun sg17 => κ r15 sg17) sg16 x1 3 x2) sg14 x1 3) sg11 0) (κ 0 sg11))) sg s1 s0 0
def P_X5_turn (κ : Int → TS → Prop) (sg : TS) (x1 : Int) (x2 : Int) : Prop :=
  P_X5_noPost (fun r18 sg19 => P_X5_isIn (fun r20 => InR r20 ∧ (pIf (r20 = 0) (P_X5_turn_20 κ sg19 x1 x2 1 r18) (P_X5_turn_20 κ sg19 x1 x2 0 r18))) x2 0 4) sg x1
def P_X5_stands (κ : Int → TS → Prop) (sg : TS) (x1 : Int) : Prop :=
  P_X5_of (fun r4 sg5 => InR r4 ∧ (pIf (r4 = 0) (κ 1 sg5) (κ 0 sg5))) sg x1 4
def P_X5_posts_32 (k_5 : TS → Int → Int → Int → Int → Prop) (k_54 : TS → Int → Prop) (κ : Int → TS → Prop) (sg : TS) (x1 : Int) (x2 : Int) (x3 : Int) (x4 : Int) : Prop :=
  InR x2 ∧ (pIf (x2 = 0) (k_5 sg x1 x2 (x3 + 1) (x4 + 1)) (P_X5_stands (fun r17 sg18 => InR r17 ∧ (pIf (r17 = 0) (k_5 sg18 x1 x2 x3 (x4 + 1)) (k_5 sg18 x1 x2 (x3 + 1) (x4 + 1)))) sg x4))
def L_X5_posts_5 (k_54 : TS → Int → Prop) (κ : Int → TS → Prop) : Nat → TS → Int → Int → Int → Int → Prop
  | 0, _, _, _, _, _ => False
  | f + 1, sg, x1, x2, x3, x4 => InR x4 ∧ InR (sg.2 0 4) ∧ (pIf (x4 < (sg.2 0 4)) (InR x1 ∧ (pIf (x1 = (-1)) (P_X5_posts_32 (fun sg x1 x2 x3 x4 => L_X5_posts_5 k_54 κ f sg x1 x2 x3 x4) k_54 κ sg x1 x2 x3 x4) (P_X5_of (fun r27 sg28 => InR r27 ∧ (pIf (r27 = x1) (P_X5_posts_32 (fun sg x1 x2 x3 x4 => L_X5_posts_5 k_54 κ f sg x1 x2 x3 x4) k_54 κ sg28 x1 x2 x3 x4) (L_X5_posts_5 k_54 κ f sg28 x1 x2 x3 (x4 + 1)))) sg x4 2))) (k_54 sg x3))
def P_X5_posts_54 (κ : Int → TS → Prop) (sg : TS) (x3 : Int) : Prop :=
  κ x3 sg
def P_X5_posts (κ : Int → TS → Prop) (sg : TS) (x1 : Int) (x2 : Int) : Prop :=
  ∃ f9 : Nat, L_X5_posts_5 (fun sg x3 => P_X5_posts_54 κ sg x3) κ f9 sg x1 x2 0 0
def P_X5_states_27 (κ : Int → TS → Prop) (sg : TS) (x1 : Int) (x2 : Int) (s0 : Int) (s1 : Int) : Prop :=
  P_X5_fails (fun r15 sg16 => InR r15 ∧ (pIf (r15 = 0) (P_X5_remember (fun sg19 => P_X5_put (fun sg20 => P_X5_of (fun r21 sg22 => P_X5_posts (fun r23 sg24 => κ r23 sg24) sg22 r21 1) sg20 x1 2) sg19 x1 4 x2) sg16 0) (κ 0 sg16))) sg s1 s0 0
def P_X5_states (κ : Int → TS → Prop) (sg : TS) (x1 : Int) (x2 : Int) : Prop :=
  P_X5_noPost (fun r25 sg26 => InR r25 ∧ (pIf (r25 = 0) (P_X5_of (fun r29 sg30 => InR r29 ∧ InR x2 ∧ (pIf (r29 = x2) (P_X5_states_27 κ sg30 x1 x2 1 r25) (P_X5_states_27 κ sg30 x1 x2 0 r25))) sg26 x1 4) (P_X5_states_27 κ sg26 x1 x2 0 r25))) sg x1
def P_X5_lose (κ : Int → TS → Prop) (sg : TS) (x1 : Int) : Prop :=
  P_X5_states (fun r2 sg3 => κ r2 sg3) sg x1 1
def P_X5_mend (κ : Int → TS → Prop) (sg : TS) (x1 : Int) : Prop :=
  P_X5_states (fun r2 sg3 => κ r2 sg3) sg x1 0
def P_X5_setBlock_83 (κ : Int → TS → Prop) (sg : TS) (s0 : Int) (s1 : Int) (s2 : Int) : Prop :=
  P_X5_block (fun sg21 => κ (sg21.2 0 5) sg21) sg s2 s1 s0
def P_X5_setBlock_54 (κ : Int → TS → Prop) (sg : TS) (x1 : Int) (x2 : Int) (x3 : Int) (s0 : Int) (s1 : Int) : Prop :=
  P_X5_fails (fun r22 sg23 => InR r22 ∧ (pIf (r22 = 0) (P_X5_remember (fun sg26 => InR x3 ∧ (pIf (x3 = 0) (P_X5_setBlock_83 κ sg26 0 x2 x1) (P_X5_setBlock_83 κ sg26 1 x2 x1))) sg23 0) (κ 0 sg23))) sg s1 s0 0
def P_X5_setBlock_14 (κ : Int → TS → Prop) (sg : TS) (x1 : Int) (x2 : Int) (x3 : Int) (s0 : Int) : Prop :=
  InR s0 ∧ (pIf (s0 = 0) (InR x3 ∧ (pIf (x3 = 0) (P_X5_isBlock (fun r33 sg34 => InR r33 ∧ (pIf (r33 = 0) (P_X5_setBlock_54 κ sg34 x1 x2 x3 1 s0) (P_X5_setBlock_54 κ sg34 x1 x2 x3 0 s0))) sg x1 x2) (P_X5_whyNoBlock (fun r37 sg38 => InR r37 ∧ (pIf (0 < r37) (P_X5_setBlock_54 κ sg38 x1 x2 x3 1 s0) (P_X5_setBlock_54 κ sg38 x1 x2 x3 0 s0))) sg x1 x2))) (P_X5_setBlock_54 κ sg x1 x2 x3 0 s0))
def P_X5_setBlock (κ : Int → TS → Prop) (sg : TS) (x1 : Int) (x2 : Int) (x3 : Int) : Prop :=
  P_X5_isOn (fun r41 sg42 => InR r41 ∧ (pIf (r41 = 0) (P_X5_setBlock_14 κ sg42 x1 x2 x3 1) (P_X5_setBlock_14 κ sg42 x1 x2 x3 0))) sg x1 x2
def P_X5_noSetting (κ : Int → Prop) (x0 : Int) (x1 : Int) : Prop :=
  P_X5_isIn (fun r9 => InR r9 ∧ (pIf (r9 = 0) (κ 1) (InR x0 ∧ (pIf (x0 = 0) (P_X5_isIn (fun r17 => InR r17 ∧ (pIf (r17 = 0) (κ 1) (κ 0))) x1 1 12) (P_X5_isIn (fun r14 => InR r14 ∧ (pIf (r14 = 0) (κ 1) (κ 0))) x1 0 2))))) x0 0 1
def P_X5_set (κ : Int → TS → Prop) (sg : TS) (x1 : Int) (x2 : Int) : Prop :=
  P_X5_noSetting (fun r6 => P_X5_fails (fun r7 sg8 => InR r7 ∧ (pIf (r7 = 0) (P_X5_remember (fun sg11 => (0 ≤ (2 + x1) ∧ (2 + x1) < 526) ∧ (κ (sg11.2 0 (2 + x1)) (setA sg11 0 (uI (sg11.2 0) (2 + x1) x2)))) sg8 0) (κ 0 sg8))) sg r6 0 0) x1 x2
def P_X5_undo_13 (κ : Int → TS → Prop) (sg : TS) (s0 : Int) : Prop :=
  P_X5_fails (fun r7 sg8 => InR r7 ∧ (pIf (r7 = 0) (P_X5_copy (fun sg11 => κ (sg11.1 6) sg11) (setS sg8 6 ((sg8.1 6) - 1)) 2 (((sg8.1 6) - 1) * 526) 0 0) (κ 0 sg8))) sg s0 0 0
def P_X5_undo (κ : Int → TS → Prop) (sg : TS) : Prop :=
  InR (sg.1 6) ∧ (pIf ((sg.1 6) = 0) (P_X5_undo_13 κ sg 1) (P_X5_undo_13 κ sg 0))
def P_X5_save_15 (κ : Int → TS → Prop) (sg : TS) (x1 : Int) (s0 : Int) : Prop :=
  P_X5_fails (fun r8 sg9 => InR r8 ∧ (pIf (r8 = 0) (P_X5_copy (fun sg12 => (0 ≤ x1 ∧ x1 < 2) ∧ (κ (((setA sg12 5 (uI (sg12.2 5) x1 1)).2 0) 4) (setA sg12 5 (uI (sg12.2 5) x1 1)))) sg9 0 0 3 (x1 * 526)) (κ 0 sg9))) sg s0 0 0
def P_X5_save (κ : Int → TS → Prop) (sg : TS) (x1 : Int) : Prop :=
  P_X5_isIn (fun r14 => InR r14 ∧ (pIf (r14 = 0) (P_X5_save_15 κ sg x1 1) (P_X5_save_15 κ sg x1 0))) x1 0 1
def P_X5_restore_35 (κ : Int → TS → Prop) (sg : TS) (x1 : Int) (s0 : Int) (s1 : Int) : Prop :=
  P_X5_fails (fun r13 sg14 => InR r13 ∧ (pIf (r13 = 0) (P_X5_remember (fun sg17 => P_X5_copy (fun sg18 => κ (sg18.2 0 4) sg18) sg17 3 (x1 * 526) 0 0) sg14 0) (κ 0 sg14))) sg s1 s0 0
def P_X5_restore_14 (κ : Int → TS → Prop) (sg : TS) (x1 : Int) (s0 : Int) : Prop :=
  InR s0 ∧ (pIf (s0 = 0) ((0 ≤ x1 ∧ x1 < 2) ∧ (InR (sg.2 5 x1) ∧ (pIf ((sg.2 5 x1) = 0) (P_X5_restore_35 κ sg x1 1 s0) (P_X5_restore_35 κ sg x1 0 s0)))) (P_X5_restore_35 κ sg x1 0 s0))
def P_X5_restore (κ : Int → TS → Prop) (sg : TS) (x1 : Int) : Prop :=
  P_X5_isIn (fun r24 => InR r24 ∧ (pIf (r24 = 0) (P_X5_restore_14 κ sg x1 1) (P_X5_restore_14 κ sg x1 0))) x1 0 1
def L_X5_begin_2 (k_30 : TS → Int → Prop) (k_38 : TS → Prop) (κ : Int → TS → Prop) : Nat → TS → Int → Int → Prop
  | 0, _, _, _ => False
  | f + 1, sg, x1, x2 => InR x2 ∧ InR (sg.2 0 4) ∧ (pIf (x2 < (sg.2 0 4)) (P_X5_of (fun r14 sg15 => InR r14 ∧ InR x1 ∧ (pIf (r14 = x1) (P_X5_stands (fun r19 sg20 => InR r19 ∧ (pIf (r19 = 0) (L_X5_begin_2 k_30 k_38 κ f sg20 x1 (x2 + 1)) (k_30 sg20 x2))) sg15 x2) (L_X5_begin_2 k_30 k_38 κ f sg15 x1 (x2 + 1)))) sg x2 2) (k_38 sg))
def P_X5_begin_30 (κ : Int → TS → Prop) (sg : TS) (x2 : Int) : Prop :=
  κ x2 sg
def P_X5_begin_38 (κ : Int → TS → Prop) (sg : TS) : Prop :=
  κ (-1) sg
def P_X5_begin (κ : Int → TS → Prop) (sg : TS) (x1 : Int) : Prop :=
  ∃ f9 : Nat, L_X5_begin_2 (fun sg x2 => P_X5_begin_30 κ sg x2) (fun sg => P_X5_begin_38 κ sg) κ f9 sg x1 0
def L_X5_begins_37 (k_56 : TS → Int → Prop) (κ : TS → Prop) : Nat → TS → Int → Int → Prop
  | 0, _, _, _ => False
  | f + 1, sg, x1, x2 => InR x2 ∧ (pIf (x2 < 24) ((0 ≤ x2 ∧ x2 < 24) ∧ (L_X5_begins_37 k_56 κ f (setA sg 31 (uI (sg.2 31) x2 0)) x1 (x2 + 1))) (k_56 sg x1))
def P_X5_begins_56 (κ : TS → Prop) (sg : TS) (x1 : Int) : Prop :=
  InR x1 ∧ (pIf (x1 = (-1)) (κ sg) (P_X5_stands (fun r16 sg17 => InR r16 ∧ (pIf (r16 = 0) (κ sg17) (P_X5_of (fun r20 sg21 => P_X5_of (fun r22 sg23 => κ (setS (setA sg23 26 (uI (sg23.2 26) 0 ((100 * r20) + r22))) 33 1)) sg21 x1 1) sg17 x1 0))) sg x1))
def P_X5_begins (κ : TS → Prop) (sg : TS) (x1 : Int) : Prop :=
  ∃ f9 : Nat, L_X5_begins_37 (fun sg x1 => P_X5_begins_56 κ sg x1) κ f9 (setS (setS (setS (setS (setS (setS (setS sg 32 0) 33 0) 34 0) 35 0) 38 0) 36 1) 37 (-1)) x1 0
def P_X5_isFree (κ : Int → TS → Prop) (sg : TS) (x1 : Int) (x2 : Int) : Prop :=
  P_X5_isOn (fun r7 sg8 => InR r7 ∧ (pIf (r7 = 0) (κ 0 sg8) (P_X5_isBlock (fun r11 sg12 => InR r11 ∧ (pIf (r11 = 0) (κ 1 sg12) (κ 0 sg12))) sg8 x1 x2))) sg x1 x2
def L_X5_leg_21 (k_157 : TS → Prop) (κ : TS → Prop) : Nat → TS → Int → Int → Int → Int → Prop
  | 0, _, _, _, _, _ => False
  | f + 1, sg, x3, x4, x5, x6 => InR (sg.1 15) ∧ InR (sg.2 0 2) ∧ (pIf ((sg.1 15) < (sg.2 0 2)) (P_X5_dx (fun r25 => P_X5_dy (fun r26 => P_X5_isFree (fun r27 sg28 => InR r27 ∧ (pIf (r27 = 0) (k_157 sg28) (P_X5_dx (fun r31 => P_X5_dy (fun r32 => P_X5_postAt (fun r33 sg34 => InR (sg34.1 16) ∧ (pIf ((sg34.1 16) = (-1)) (InR r33 ∧ (pIf (r33 = (-1)) (L_X5_leg_21 k_157 κ f sg34 x3 x4 (x5 + r31) (x6 + r32)) (InR x4 ∧ (pIf (r33 = x4) (L_X5_leg_21 k_157 κ f sg34 x3 x4 (x5 + r31) (x6 + r32)) (P_X5_stands (fun r41 sg42 => InR r41 ∧ (pIf (r41 = 0) (L_X5_leg_21 k_157 κ f sg42 x3 x4 (x5 + r31) (x6 + r32)) (P_X5_of (fun r45 sg46 => P_X5_of (fun r47 sg48 => InR r45 ∧ InR r47 ∧ (pIf (r45 = r47) (L_X5_leg_21 k_157 κ f (setS (setS sg48 16 r33) 17 (sg48.1 15)) x3 x4 (x5 + r31) (x6 + r32)) (L_X5_leg_21 k_157 κ f sg48 x3 x4 (x5 + r31) (x6 + r32)))) sg46 x4 2) sg42 r33 2))) sg34 r33))))) (L_X5_leg_21 k_157 κ f sg34 x3 x4 (x5 + r31) (x6 + r32)))) (setS sg28 15 ((sg28.1 15) + 1)) (x5 + r31) (x6 + r32)) x3) x3))) sg (x5 + r25) (x6 + r26)) x3) x3) (k_157 sg))
def P_X5_leg_157 (κ : TS → Prop) (sg : TS) : Prop :=
  κ sg
def P_X5_leg (κ : TS → Prop) (sg : TS) (x1 : Int) (x2 : Int) (x3 : Int) (x4 : Int) : Prop :=
  ∃ f9 : Nat, L_X5_leg_21 (fun sg => P_X5_leg_157 κ sg) κ f9 (setS (setS (setS sg 15 0) 16 (-1)) 17 0) x3 x4 x1 x2
def P_X5_steps (κ : Int → TS → Prop) (sg : TS) : Prop :=
  κ (((sg.1 20) + (sg.1 22)) + (sg.1 24)) sg
def P_X5_found_23 (κ : TS → Prop) (sg : TS) (x1 : Int) (x2 : Int) (x3 : Int) (x4 : Int) (x5 : Int) (x6 : Int) (x7 : Int) : Prop :=
  κ (setS (setS (setS (setS (setS (setS (setS sg 18 x1) 19 x2) 20 x3) 21 x4) 22 x5) 23 x6) 24 x7)
def P_X5_found (κ : TS → Prop) (sg : TS) (x1 : Int) (x2 : Int) (x3 : Int) (x4 : Int) (x5 : Int) (x6 : Int) (x7 : Int) : Prop :=
  InR (sg.1 18) ∧ (pIf ((sg.1 18) = (-1)) (P_X5_found_23 κ sg x1 x2 x3 x4 x5 x6 x7) (P_X5_steps (fun r9 sg10 => InR ((x3 + x5) + x7) ∧ InR r9 ∧ (pIf (((x3 + x5) + x7) < r9) (P_X5_found_23 κ sg10 x1 x2 x3 x4 x5 x6 x7) (κ sg10))) sg))
def L_X5_turns_21 (k_115 : TS → Prop) (κ : TS → Prop) : Nat → TS → Int → Int → Int → Int → Int → Int → Int → Int → Int → Prop
  | 0, _, _, _, _, _, _, _, _, _, _ => False
  | f + 1, sg, x1, x2, x3, x4, x5, x6, x7, x8, x9 => InR x9 ∧ (pIf (x9 < 4) (InR x8 ∧ (InR (x9.tmod 2) ∧ InR (x8.tmod 2) ∧ (pIf ((x9.tmod 2) = (x8.tmod 2)) (L_X5_turns_21 k_115 κ f sg x1 x2 x3 x4 x5 x6 x7 x8 (x9 + 1)) (P_X5_leg (fun sg24 => InR (sg24.1 16) ∧ (pIf ((sg24.1 16) = (-1)) (L_X5_turns_21 k_115 κ f sg24 x1 x2 x3 x4 x5 x6 x7 x8 (x9 + 1)) (InR x2 ∧ (pIf (x2 = 1) (P_X5_found (fun sg30 => L_X5_turns_21 k_115 κ f sg30 x1 x2 x3 x4 x5 x6 x7 x8 (x9 + 1)) sg24 (sg24.1 16) 1 x3 x9 0 0 (sg24.1 17)) (P_X5_found (fun sg29 => L_X5_turns_21 k_115 κ f sg29 x1 x2 x3 x4 x5 x6 x7 x8 (x9 + 1)) sg24 (sg24.1 16) 2 x3 x4 x7 x9 (sg24.1 17)))))) sg x5 x6 x9 x1)))) (k_115 sg))
def P_X5_turns_115 (κ : TS → Prop) (sg : TS) : Prop :=
  κ sg
def P_X5_turns (κ : TS → Prop) (sg : TS) (x1 : Int) (x2 : Int) (x3 : Int) (x4 : Int) (x5 : Int) (x6 : Int) (x7 : Int) : Prop :=
  InR x2 ∧ (pIf (x2 = 1) (P_X5_of (fun r34 sg35 => ∃ f9 : Nat, L_X5_turns_21 (fun sg => P_X5_turns_115 κ sg) κ f9 sg35 x1 x2 x3 x4 x5 x6 x7 r34 0) sg x1 3) (∃ f9 : Nat, L_X5_turns_21 (fun sg => P_X5_turns_115 κ sg) κ f9 sg x1 x2 x3 x4 x5 x6 x7 x4 0))
def L_X5_twice_19 (k_62 : TS → Prop) (κ : TS → Prop) : Nat → TS → Int → Int → Int → Int → Int → Int → Int → Prop
  | 0, _, _, _, _, _, _, _, _ => False
  | f + 1, sg, x1, x2, x3, x4, x5, x6, x7 => InR x7 ∧ InR x6 ∧ (pIf (x6 < x7) (k_62 sg) (P_X5_dx (fun r9 => P_X5_dy (fun r10 => P_X5_turns (fun sg11 => L_X5_twice_19 k_62 κ f sg11 x1 x2 x3 x4 x5 x6 (x7 + 1)) sg x1 2 x2 x3 (x4 + (x7 * r9)) (x5 + (x7 * r10)) x7) x3) x3))
def P_X5_twice_62 (κ : TS → Prop) (sg : TS) : Prop :=
  κ sg
def P_X5_twice (κ : TS → Prop) (sg : TS) (x1 : Int) (x2 : Int) (x3 : Int) (x4 : Int) (x5 : Int) : Prop :=
  P_X5_leg (fun sg12 => ∃ f9 : Nat, L_X5_twice_19 (fun sg => P_X5_twice_62 κ sg) κ f9 sg12 x1 x2 x3 x4 x5 (sg12.1 15) 1) sg x4 x5 x3 x1
def L_X5_find_187 (k_237 : TS → Int → Int → Int → Int → Int → Int → Prop) (κ : TS → Prop) : Nat → TS → Int → Int → Int → Int → Int → Int → Int → Prop
  | 0, _, _, _, _, _, _, _, _ => False
  | f + 1, sg, x1, x2, x3, x4, x5, x6, x7 => InR x7 ∧ (pIf (x7 < 4) (InR x2 ∧ (InR (x7.tmod 2) ∧ InR (x2.tmod 2) ∧ (pIf ((x7.tmod 2) = (x2.tmod 2)) (L_X5_find_187 k_237 κ f sg x1 x2 x3 x4 x5 x6 (x7 + 1)) (P_X5_dx (fun r39 => P_X5_dy (fun r40 => P_X5_twice (fun sg41 => L_X5_find_187 k_237 κ f sg41 x1 x2 x3 x4 x5 x6 (x7 + 1)) sg x1 x6 x7 (x3 + (x6 * r39)) (x4 + (x6 * r40))) x2) x2)))) (k_237 sg x1 x2 x3 x4 x5 x6))
def P_X5_find_237 (k_177 : TS → Int → Int → Int → Int → Int → Int → Prop) (k_243 : TS → Prop) (κ : TS → Prop) (sg : TS) (x1 : Int) (x2 : Int) (x3 : Int) (x4 : Int) (x5 : Int) (x6 : Int) : Prop :=
  k_177 sg x1 x2 x3 x4 x5 (x6 + 1)
def L_X5_find_177 (k_243 : TS → Prop) (κ : TS → Prop) : Nat → TS → Int → Int → Int → Int → Int → Int → Prop
  | 0, _, _, _, _, _, _, _ => False
  | f + 1, sg, x1, x2, x3, x4, x5, x6 => InR x6 ∧ InR x5 ∧ (pIf (x5 < x6) (k_243 sg) (∃ f9 : Nat, L_X5_find_187 (fun sg x1 x2 x3 x4 x5 x6 => P_X5_find_237 (fun sg x1 x2 x3 x4 x5 x6 => L_X5_find_177 k_243 κ f sg x1 x2 x3 x4 x5 x6) k_243 κ sg x1 x2 x3 x4 x5 x6) κ f9 sg x1 x2 x3 x4 x5 x6 0))
def P_X5_find_243 (κ : TS → Prop) (sg : TS) : Prop :=
  κ sg
def P_X5_find_155 (κ : TS → Prop) (sg : TS) (x1 : Int) (x2 : Int) (x3 : Int) (x4 : Int) (x5 : Int) : Prop :=
  InR (sg.1 18) ∧ (pIf ((sg.1 18) = (-1)) (InR (sg.2 0 3) ∧ (pIf ((sg.2 0 3) < 2) (κ sg) (∃ f9 : Nat, L_X5_find_177 (fun sg => P_X5_find_243 κ sg) κ f9 sg x1 x2 x3 x4 x5 1))) (κ sg))
def L_X5_find_113 (k_155 : TS → Int → Int → Int → Int → Int → Prop) (κ : TS → Prop) : Nat → TS → Int → Int → Int → Int → Int → Int → Prop
  | 0, _, _, _, _, _, _, _ => False
  | f + 1, sg, x1, x2, x3, x4, x5, x6 => InR x6 ∧ InR x5 ∧ (pIf (x5 < x6) (k_155 sg x1 x2 x3 x4 x5) (P_X5_dx (fun r56 => P_X5_dy (fun r57 => P_X5_turns (fun sg58 => L_X5_find_113 k_155 κ f sg58 x1 x2 x3 x4 x5 (x6 + 1)) sg x1 1 x6 (-1) (x3 + (x6 * r56)) (x4 + (x6 * r57)) 0) x2) x2))
def P_X5_find (κ : TS → Prop) (sg : TS) (x1 : Int) : Prop :=
  P_X5_of (fun r59 sg60 => P_X5_stands (fun r61 sg62 => InR r61 ∧ (pIf (r61 = 0) (κ sg62) (InR r59 ∧ (pIf (r59 = 4) (κ sg62) (P_X5_of (fun r67 sg68 => P_X5_of (fun r69 sg70 => P_X5_leg (fun sg71 => InR (sg71.1 16) ∧ (pIf ((sg71.1 16) = (-1)) (InR (sg71.2 0 3) ∧ (pIf (0 < (sg71.2 0 3)) (∃ f9 : Nat, L_X5_find_113 (fun sg x1 x2 x3 x4 x5 => P_X5_find_155 κ sg x1 x2 x3 x4 x5) κ f9 sg71 x1 r59 r67 r69 (sg71.1 15) 1) (P_X5_find_155 κ sg71 x1 r59 r67 r69 (sg71.1 15)))) (κ (setS (setS sg71 18 (sg71.1 16)) 24 (sg71.1 17))))) sg70 r67 r69 r59 x1) sg68 x1 1) sg62 x1 0))))) sg60 x1) (setS (setS (setS (setS (setS sg 18 (-1)) 19 0) 20 0) 22 0) 24 0) x1 3
def L_X5_goes_16 (k_66 : TS → Int → Int → Int → Int → Prop) (κ : TS → Prop) : Nat → TS → Int → Int → Int → Int → Int → Prop
  | 0, _, _, _, _, _, _ => False
  | f + 1, sg, x1, x2, x3, x4, x5 => InR x5 ∧ InR x1 ∧ (pIf (x5 < x1) (P_X5_dx (fun r14 => P_X5_dy (fun r15 => (0 ≤ (sg.1 33) ∧ (sg.1 33) < 1000) ∧ (L_X5_goes_16 k_66 κ f (setS (setA sg 26 (uI (sg.2 26) (sg.1 33) (x4 + ((100 * r14) + r15)))) 33 ((sg.1 33) + 1)) x1 x2 x3 (x4 + ((100 * r14) + r15)) (x5 + 1))) x2) x2) (k_66 sg x1 x2 x3 x4))
def P_X5_goes_66 (κ : TS → Prop) (sg : TS) (x1 : Int) (x2 : Int) (x3 : Int) (x4 : Int) : Prop :=
  (0 ≤ (sg.1 34) ∧ (sg.1 34) < 100) ∧ ((x3 = 0 ∨ x3 = 1) ∧ (InR x3 ∧ (pIf (x3 = 0) (κ (setS (setA (setA (setA sg 27 (uI (sg.2 27) (sg.1 34) x1)) 28 (uI ((setA sg 27 (uI (sg.2 27) (sg.1 34) x1)).2 28) (sg.1 34) x2)) 30 (uI ((setA (setA sg 27 (uI (sg.2 27) (sg.1 34) x1)) 28 (uI ((setA sg 27 (uI (sg.2 27) (sg.1 34) x1)).2 28) (sg.1 34) x2)).2 30) (sg.1 34) x3)) 34 ((sg.1 34) + 1))) ((0 ≤ (sg.1 35) ∧ (sg.1 35) < 60) ∧ (κ (setS (setA (setS (setA (setA (setA sg 27 (uI (sg.2 27) (sg.1 34) x1)) 28 (uI ((setA sg 27 (uI (sg.2 27) (sg.1 34) x1)).2 28) (sg.1 34) x2)) 30 (uI ((setA (setA sg 27 (uI (sg.2 27) (sg.1 34) x1)) 28 (uI ((setA sg 27 (uI (sg.2 27) (sg.1 34) x1)).2 28) (sg.1 34) x2)).2 30) (sg.1 34) x3)) 34 ((sg.1 34) + 1)) 29 (uI ((setS (setA (setA (setA sg 27 (uI (sg.2 27) (sg.1 34) x1)) 28 (uI ((setA sg 27 (uI (sg.2 27) (sg.1 34) x1)).2 28) (sg.1 34) x2)) 30 (uI ((setA (setA sg 27 (uI (sg.2 27) (sg.1 34) x1)) 28 (uI ((setA sg 27 (uI (sg.2 27) (sg.1 34) x1)).2 28) (sg.1 34) x2)).2 30) (sg.1 34) x3)) 34 ((sg.1 34) + 1)).2 29) (sg.1 35) x4)) 35 ((sg.1 35) + 1)))))))
def P_X5_goes (κ : TS → Prop) (sg : TS) (x1 : Int) (x2 : Int) (x3 : Int) : Prop :=
  (0 ≤ ((sg.1 33) - 1) ∧ ((sg.1 33) - 1) < 1000) ∧ (∃ f9 : Nat, L_X5_goes_16 (fun sg x1 x2 x3 x4 => P_X5_goes_66 κ sg x1 x2 x3 x4) κ f9 sg x1 x2 x3 (sg.2 26 ((sg.1 33) - 1)) 0)
def P_X5_walk_184 (k_15 : TS → Int → Prop) (k_69 : TS → Int → Prop) (k_196 : TS → Int → Prop) (κ : TS → Prop) (sg : TS) (s0 : Int) (s1 : Int) : Prop :=
  P_X5_goes (fun sg30 => k_15 sg30 (sg30.1 18)) sg s1 s0 0
def P_X5_walk_149 (k_15 : TS → Int → Prop) (k_69 : TS → Int → Prop) (k_196 : TS → Int → Prop) (κ : TS → Prop) (sg : TS) (x3 : Int) : Prop :=
  InR (sg.1 19) ∧ (pIf ((sg.1 19) = 0) (P_X5_walk_184 k_15 k_69 k_196 κ sg x3 (sg.1 24)) (pIf ((sg.1 19) = 1) (P_X5_walk_184 k_15 k_69 k_196 κ sg (sg.1 21) (sg.1 24)) (P_X5_walk_184 k_15 k_69 k_196 κ sg (sg.1 23) (sg.1 24))))
def P_X5_walk_128 (k_15 : TS → Int → Prop) (k_69 : TS → Int → Prop) (k_196 : TS → Int → Prop) (κ : TS → Prop) (sg : TS) (x3 : Int) : Prop :=
  InR (sg.1 19) ∧ (pIf ((sg.1 19) = 2) (P_X5_goes (fun sg36 => P_X5_walk_149 k_15 k_69 k_196 κ sg36 x3) sg (sg.1 22) (sg.1 21) 1) (P_X5_walk_149 k_15 k_69 k_196 κ sg x3))
def L_X5_walk_15 (k_69 : TS → Int → Prop) (k_196 : TS → Int → Prop) (κ : TS → Prop) : Nat → TS → Int → Prop
  | 0, _, _ => False
  | f + 1, sg, x2 => (0 ≤ x2 ∧ x2 < 24) ∧ (InR (sg.2 31 x2) ∧ (pIf ((sg.2 31 x2) = 0) ((0 ≤ (sg.1 32) ∧ (sg.1 32) < 25) ∧ (P_X5_find (fun sg41 => InR (sg41.1 18) ∧ (pIf ((sg41.1 18) = (-1)) (k_69 sg41 x2) (P_X5_steps (fun r44 sg45 => InR (sg41.1 38) ∧ InR r44 ∧ (P_X5_of (fun r48 sg49 => InR (sg49.1 19) ∧ (pIf (0 < (sg49.1 19)) (P_X5_goes (fun sg53 => P_X5_walk_128 (fun sg x2 => L_X5_walk_15 k_69 k_196 κ f sg x2) k_69 k_196 κ sg53 r48) sg49 (sg49.1 20) r48 1) (P_X5_walk_128 (fun sg x2 => L_X5_walk_15 k_69 k_196 κ f sg x2) k_69 k_196 κ sg49 r48))) (setS sg45 38 (jmax (sg41.1 38) r44)) x2 3)) sg41))) (setS (setS (setA (setA sg 31 (uI (sg.2 31) x2 1)) 25 (uI ((setA sg 31 (uI (sg.2 31) x2 1)).2 25) (sg.1 32) x2)) 32 ((sg.1 32) + 1)) 37 x2) x2)) (k_196 sg x2)))
def P_X5_walk_69 (κ : TS → Prop) (sg : TS) (x2 : Int) : Prop :=
  P_X5_of (fun r55 sg56 => InR r55 ∧ (pIf (r55 = 4) (κ (setS sg56 36 0)) (κ (setS sg56 36 1)))) sg x2 3
def P_X5_walk_196 (κ : TS → Prop) (sg : TS) (x2 : Int) : Prop :=
  κ (setS (setS sg 36 2) 37 x2)
def P_X5_walk (κ : TS → Prop) (sg : TS) (x1 : Int) : Prop :=
  P_X5_begins (fun sg59 => InR (sg59.1 33) ∧ (pIf ((sg59.1 33) = 0) (κ sg59) (∃ f9 : Nat, L_X5_walk_15 (fun sg x2 => P_X5_walk_69 κ sg x2) (fun sg x2 => P_X5_walk_196 κ sg x2) κ f9 sg59 x1))) sg x1
def P_X5_metBy (κ : Int → TS → Prop) (sg : TS) (x1 : Int) : Prop :=
  P_X5_begin (fun r3 sg4 => P_X5_walk (fun sg5 => κ (sg5.1 32) sg5) sg4 r3) sg x1
def P_X5_isComplete (κ : Int → TS → Prop) (sg : TS) (x1 : Int) : Prop :=
  P_X5_posts (fun r8 sg9 => InR r8 ∧ (pIf (0 < r8) (P_X5_metBy (fun r12 sg13 => InR r12 ∧ (pIf (r12 = r8) (κ 1 sg13) (κ 0 sg13))) sg9 x1) (κ 0 sg9))) sg x1 1
def L_X5_completeOnes_4 (k_26 : TS → Int → Prop) (κ : Int → TS → Prop) : Nat → TS → Int → Int → Prop
  | 0, _, _, _ => False
  | f + 1, sg, x1, x2 => InR x2 ∧ (pIf (x2 < 4) (P_X5_isComplete (fun r8 sg9 => InR r8 ∧ (pIf (r8 = 0) (L_X5_completeOnes_4 k_26 κ f sg9 x1 (x2 + 1)) (L_X5_completeOnes_4 k_26 κ f sg9 (x1 + 1) (x2 + 1)))) sg x2) (k_26 sg x1))
def P_X5_completeOnes_26 (κ : Int → TS → Prop) (sg : TS) (x1 : Int) : Prop :=
  κ x1 sg
def P_X5_completeOnes (κ : Int → TS → Prop) (sg : TS) : Prop :=
  ∃ f9 : Nat, L_X5_completeOnes_4 (fun sg x1 => P_X5_completeOnes_26 κ sg x1) κ f9 sg 0 0
def P_X5_count_16 (κ : Int → TS → Prop) (sg : TS) (x1 : Int) (s0 : Int) : Prop :=
  P_X5_fails (fun r8 sg9 => InR r8 ∧ (pIf (r8 = 0) (InR x1 ∧ (pIf (x1 = 0) (κ (sg9.2 0 0) sg9) (pIf (x1 = 1) (κ (sg9.2 0 1) sg9) (pIf (x1 = 2) (κ (sg9.2 0 4) sg9) (pIf (x1 = 3) (P_X5_posts (fun r17 sg18 => κ r17 sg18) sg9 (-1) 1) (pIf (x1 = 4) (κ (sg9.2 0 5) sg9) (pIf (x1 = 5) (κ (sg9.2 0 2) sg9) (pIf (x1 = 6) (κ (sg9.2 0 3) sg9) (pIf (x1 = 7) (P_X5_completeOnes (fun r23 sg24 => κ r23 sg24) sg9) (pIf (x1 = 8) (κ (sg9.1 6) sg9) (κ (sg9.1 10) sg9))))))))))) (κ 0 sg9))) sg s0 0 0
def P_X5_count (κ : Int → TS → Prop) (sg : TS) (x1 : Int) : Prop :=
  P_X5_isIn (fun r26 => InR r26 ∧ (pIf (r26 = 0) (P_X5_count_16 κ sg x1 1) (P_X5_count_16 κ sg x1 0))) x1 0 9
def P_X5_cell (κ : Int → TS → Prop) (sg : TS) (x1 : Int) : Prop :=
  P_X5_of (fun r3 sg4 => P_X5_of (fun r5 sg6 => κ ((100 * r3) + r5) sg6) sg4 x1 1) sg x1 0
def L_X5_comers_4 (k_41 : TS → Int → Prop) (κ : Int → TS → Prop) : Nat → TS → Int → Int → Int → Prop
  | 0, _, _, _, _ => False
  | f + 1, sg, x1, x2, x3 => InR x3 ∧ InR (sg.2 0 4) ∧ (pIf (x3 < (sg.2 0 4)) (P_X5_find (fun sg14 => InR x1 ∧ (pIf (x3 = x1) (L_X5_comers_4 k_41 κ f sg14 x1 x2 (x3 + 1)) (InR (sg14.1 18) ∧ (pIf ((sg14.1 18) = x1) (L_X5_comers_4 k_41 κ f sg14 x1 (x2 + 1) (x3 + 1)) (L_X5_comers_4 k_41 κ f sg14 x1 x2 (x3 + 1)))))) sg x3) (k_41 sg x2))
def P_X5_comers_41 (κ : Int → TS → Prop) (sg : TS) (x2 : Int) : Prop :=
  κ x2 sg
def P_X5_comers (κ : Int → TS → Prop) (sg : TS) (x1 : Int) : Prop :=
  ∃ f9 : Nat, L_X5_comers_4 (fun sg x2 => P_X5_comers_41 κ sg x2) κ f9 sg x1 0 0
def P_X5_post_21 (κ : Int → TS → Prop) (sg : TS) (x1 : Int) (x2 : Int) (s0 : Int) (s1 : Int) : Prop :=
  P_X5_fails (fun r24 sg25 => InR r24 ∧ (pIf (r24 = 0) (InR x2 ∧ (pIf (x2 = 7) (P_X5_comers (fun r43 sg44 => κ r43 sg44) sg25 x1) (pIf (x2 = 0) (P_X5_cell (fun r41 sg42 => κ r41 sg42) sg25 x1) (pIf (x2 < 4) (P_X5_of (fun r39 sg40 => κ r39 sg40) sg25 x1 (x2 + 1)) (P_X5_find (fun sg32 => InR (sg32.1 18) ∧ (pIf ((sg32.1 18) = (-1)) (κ (-1) sg32) (pIf (x2 = 4) (κ (sg32.1 18) sg32) (pIf (x2 = 5) (P_X5_steps (fun r37 sg38 => κ r37 sg38) sg32) (κ (sg32.1 19) sg32))))) sg25 x1))))) (κ 0 sg25))) sg s1 s0 0
def P_X5_post (κ : Int → TS → Prop) (sg : TS) (x1 : Int) (x2 : Int) : Prop :=
  P_X5_noPost (fun r45 sg46 => P_X5_isIn (fun r47 => InR r47 ∧ (pIf (r47 = 0) (P_X5_post_21 κ sg46 x1 x2 1 r45) (P_X5_post_21 κ sg46 x1 x2 0 r45))) x2 0 7) sg x1
def P_X5_at_15 (κ : Int → TS → Prop) (sg : TS) (x1 : Int) (x2 : Int) (s0 : Int) : Prop :=
  P_X5_fails (fun r11 sg12 => InR r11 ∧ (pIf (r11 = 0) (P_X5_isBlock (fun r15 sg16 => InR r15 ∧ (pIf (r15 = 0) (P_X5_postAt (fun r19 sg20 => κ r19 sg20) sg16 x1 x2) (κ (-2) sg16))) sg12 x1 x2) (κ 0 sg12))) sg s0 0 0
def P_X5_at (κ : Int → TS → Prop) (sg : TS) (x1 : Int) (x2 : Int) : Prop :=
  P_X5_isOn (fun r21 sg22 => InR r21 ∧ (pIf (r21 = 0) (P_X5_at_15 κ sg22 x1 x2 1) (P_X5_at_15 κ sg22 x1 x2 0))) sg x1 x2
def L_X5_right_4 (k_71 : TS → Int → Prop) (κ : Int → TS → Prop) : Nat → TS → Int → Int → Int → Prop
  | 0, _, _, _, _ => False
  | f + 1, sg, x1, x2, x3 => InR x3 ∧ InR (sg.1 35) ∧ (pIf (x3 < (sg.1 35)) ((0 ≤ x3 ∧ x3 < 60) ∧ (InR (sg.2 29 x3) ∧ (P_X5_postAt (fun r21 sg22 => InR r21 ∧ (pIf (r21 = (-1)) (L_X5_right_4 k_71 κ f sg22 x1 x2 (x3 + 1)) (P_X5_of (fun r25 sg26 => InR r25 ∧ InR x1 ∧ (pIf (r25 = x1) (P_X5_stands (fun r30 sg31 => InR r30 ∧ (pIf (r30 = 0) (L_X5_right_4 k_71 κ f sg31 x1 (x2 + 1) (x3 + 1)) (L_X5_right_4 k_71 κ f sg31 x1 x2 (x3 + 1)))) sg26 r21) (L_X5_right_4 k_71 κ f sg26 x1 x2 (x3 + 1)))) sg22 r21 2))) sg ((sg.2 29 x3).tdiv 100) ((sg.2 29 x3).tmod 100)))) (k_71 sg x2))
def P_X5_right_71 (κ : Int → TS → Prop) (sg : TS) (x2 : Int) : Prop :=
  κ x2 sg
def P_X5_right (κ : Int → TS → Prop) (sg : TS) (x1 : Int) : Prop :=
  ∃ f9 : Nat, L_X5_right_4 (fun sg x2 => P_X5_right_71 κ sg x2) κ f9 sg x1 0 0
def P_X5_colour_20 (κ : Int → TS → Prop) (sg : TS) (x1 : Int) (x2 : Int) (s0 : Int) (s1 : Int) : Prop :=
  P_X5_fails (fun r15 sg16 => InR r15 ∧ (pIf (r15 = 0) (P_X5_begin (fun r19 sg20 => P_X5_walk (fun sg21 => InR x2 ∧ (pIf (x2 = 0) (P_X5_posts (fun r26 sg27 => κ r26 sg27) sg21 x1 0) (pIf (x2 = 1) (P_X5_posts (fun r29 sg30 => κ r29 sg30) sg21 x1 1) (pIf (x2 = 2) (P_X5_begin (fun r32 sg33 => κ r32 sg33) sg21 x1) (pIf (x2 = 3) (P_X5_isComplete (fun r35 sg36 => InR r35 ∧ (pIf (r35 = 0) (κ 0 sg36) (κ 1 sg36))) sg21 x1) (pIf (x2 = 4) (κ (sg21.1 32) sg21) (pIf (x2 = 5) (κ (sg21.1 35) sg21) (P_X5_right (fun r23 sg24 => κ r23 sg24) sg21 x1)))))))) sg20 r19) sg16 x1) (κ 0 sg16))) sg s1 s0 0
def P_X5_colour (κ : Int → TS → Prop) (sg : TS) (x1 : Int) (x2 : Int) : Prop :=
  P_X5_noColour (fun r41 => P_X5_isIn (fun r42 => InR r42 ∧ (pIf (r42 = 0) (P_X5_colour_20 κ sg x1 x2 1 r41) (P_X5_colour_20 κ sg x1 x2 0 r41))) x2 0 6) x1
def L_X5_met_29 (k_59 : TS → Int64 → Prop) (κ : Int64 → TS → Prop) : Nat → TS → Int64 → Int → Prop
  | 0, _, _, _ => False
  | f + 1, sg, x2, x4 => InR x4 ∧ (pIf (x4 < 24) ((0 ≤ x4 ∧ x4 < 24) ∧ (InR (sg.2 31 x4) ∧ (pIf ((sg.2 31 x4) = 0) (L_X5_met_29 k_59 κ f sg x2 (x4 + 1)) (L_X5_met_29 k_59 κ f sg (x2 + (lshl 1 x4)) (x4 + 1))))) (k_59 sg x2))
def P_X5_met_59 (κ : Int64 → TS → Prop) (sg : TS) (x2 : Int64) : Prop :=
  κ x2 sg
def P_X5_met (κ : Int64 → TS → Prop) (sg : TS) (x1 : Int) : Prop :=
  P_X5_noColour (fun r16 => P_X5_fails (fun r17 sg18 => InR r17 ∧ (pIf (r17 = 0) (P_X5_begin (fun r21 sg22 => P_X5_walk (fun sg23 => ∃ f9 : Nat, L_X5_met_29 (fun sg x2 => P_X5_met_59 κ sg x2) κ f9 sg23 0 0) sg22 r21) sg18 x1) (κ 0 sg18))) sg r16 0 0) x1
def L_X5_loopSteps_29 (k_60 : TS → Int → Prop) (κ : Int → TS → Prop) : Nat → TS → Int → Prop
  | 0, _, _ => False
  | f + 1, sg, x1 => InR (sg.1 18) ∧ InR (sg.1 37) ∧ (pIf ((sg.1 18) = (sg.1 37)) (k_60 sg x1) (P_X5_find (fun sg13 => P_X5_steps (fun r14 sg15 => L_X5_loopSteps_29 k_60 κ f sg15 (x1 + r14)) sg13) sg (sg.1 18)))
def P_X5_loopSteps_60 (κ : Int → TS → Prop) (sg : TS) (x1 : Int) : Prop :=
  κ x1 sg
def P_X5_loopSteps (κ : Int → TS → Prop) (sg : TS) : Prop :=
  InR (sg.1 36) ∧ (pIf ((sg.1 36) = 2) (P_X5_find (fun sg18 => P_X5_steps (fun r19 sg20 => ∃ f9 : Nat, L_X5_loopSteps_29 (fun sg x1 => P_X5_loopSteps_60 κ sg x1) κ f9 sg20 (0 + r19)) sg18) sg (sg.1 37)) (κ 0 sg))
def P_X5_ofRoute (κ : Int → TS → Prop) (sg : TS) (x1 : Int) : Prop :=
  InR x1 ∧ (pIf (x1 = 0) (κ (sg.1 32) sg) (pIf (x1 = 1) (κ ((sg.1 33) - 1) sg) (pIf (x1 = 2) (κ (sg.1 36) sg) (pIf (x1 = 3) (κ (sg.1 37) sg) (pIf (x1 = 4) (κ (sg.1 35) sg) (pIf (x1 = 5) (P_X5_of (fun r11 sg12 => P_X5_posts (fun r13 sg14 => κ (r13 - (sg14.1 32)) sg14) sg12 r11 1) sg (sg.1 37) 2) (pIf (x1 = 6) (P_X5_loopSteps (fun r16 sg17 => κ r16 sg17) sg) (κ (sg.1 38) sg))))))))
def P_X5_routeOf (κ : Int → TS → Prop) (sg : TS) (x1 : Int) (x2 : Int) : Prop :=
  P_X5_walk (fun sg5 => InR (sg5.1 33) ∧ (pIf ((sg5.1 33) = 0) (κ (-1) sg5) (P_X5_ofRoute (fun r8 sg9 => κ r8 sg9) sg5 x2))) sg x1
def P_X5_route_21 (κ : Int → TS → Prop) (sg : TS) (x1 : Int) (x2 : Int) (s0 : Int) (s1 : Int) : Prop :=
  P_X5_fails (fun r8 sg9 => InR r8 ∧ (pIf (r8 = 0) (P_X5_routeOf (fun r12 sg13 => κ r12 sg13) sg9 x1 x2) (κ 0 sg9))) sg s1 s0 0
def P_X5_route (κ : Int → TS → Prop) (sg : TS) (x1 : Int) (x2 : Int) : Prop :=
  P_X5_noPost (fun r14 sg15 => P_X5_isIn (fun r16 => InR r16 ∧ (pIf (r16 = 0) (P_X5_route_21 κ sg15 x1 x2 1 r14) (P_X5_route_21 κ sg15 x1 x2 0 r14))) x2 0 7) sg x1
def P_X5_told (κ : Int → TS → Prop) (sg : TS) (x1 : Nat) (x2 : Int) (x3 : Int) : Prop :=
  P_X5_isIn (fun r5 => InR r5 ∧ (pIf (r5 = 0) (κ (-1) sg) (∃ N8 : Nat, (twOK x1 0 N8 ∧ 0 ≤ x3 ∧ x3 < N8) ∧ (κ (sg.2 x1 x3) sg)))) x3 0 (x2 - 1)
def P_X5_routePost (κ : Int → TS → Prop) (sg : TS) (x1 : Int) (x2 : Int) : Prop :=
  P_X5_noPost (fun r7 sg8 => P_X5_fails (fun r9 sg10 => InR r9 ∧ (pIf (r9 = 0) (P_X5_walk (fun sg13 => P_X5_told (fun r14 sg15 => κ r14 sg15) sg13 25 (sg13.1 32) x2) sg10 x1) (κ 0 sg10))) sg8 r7 0 0) sg x1
def P_X5_routeCell (κ : Int → TS → Prop) (sg : TS) (x1 : Int) (x2 : Int) : Prop :=
  P_X5_noPost (fun r7 sg8 => P_X5_fails (fun r9 sg10 => InR r9 ∧ (pIf (r9 = 0) (P_X5_walk (fun sg13 => P_X5_told (fun r14 sg15 => κ r14 sg15) sg13 26 (sg13.1 33) x2) sg10 x1) (κ 0 sg10))) sg8 r7 0 0) sg x1
def P_X5_inferred (κ : Int → TS → Prop) (sg : TS) (x1 : Int) (x2 : Int) : Prop :=
  P_X5_noPost (fun r7 sg8 => P_X5_fails (fun r9 sg10 => InR r9 ∧ (pIf (r9 = 0) (P_X5_walk (fun sg13 => P_X5_told (fun r14 sg15 => κ r14 sg15) sg13 29 (sg13.1 35) x2) sg10 x1) (κ 0 sg10))) sg8 r7 0 0) sg x1
def L_X5_marks_11 (k_28 : TS → Nat → Prop) (κ : TS → Prop) : Nat → TS → Nat → Int → Prop
  | 0, _, _, _ => False
  | f + 1, sg, x1, x3 => InR x3 ∧ (pIf (x3 < 2000) (∃ N15 : Nat, (twOK x1 2 N15 ∧ 0 ≤ x3 ∧ x3 < N15) ∧ (L_X5_marks_11 k_28 κ f (setA sg x1 (uI (sg.2 x1) x3 0)) x1 (x3 + 1))) (k_28 sg x1))
def L_X5_marks_30 (k_53 : TS → Prop) (κ : TS → Prop) : Nat → TS → Nat → Int → Prop
  | 0, _, _, _ => False
  | f + 1, sg, x1, x3 => InR x3 ∧ InR (sg.1 33) ∧ (pIf (x3 < (sg.1 33)) ((0 ≤ x3 ∧ x3 < 1000) ∧ (∃ N21 : Nat, (twOK x1 2 N21 ∧ 0 ≤ (sg.2 26 x3) ∧ (sg.2 26 x3) < N21) ∧ (L_X5_marks_30 k_53 κ f (setA sg x1 (uI (sg.2 x1) (sg.2 26 x3) 1)) x1 (x3 + 1)))) (k_53 sg))
def P_X5_marks_53 (κ : TS → Prop) (sg : TS) : Prop :=
  κ sg
def P_X5_marks_28 (κ : TS → Prop) (sg : TS) (x1 : Nat) : Prop :=
  ∃ f9 : Nat, L_X5_marks_30 (fun sg => P_X5_marks_53 κ sg) κ f9 sg x1 0
def P_X5_marks (κ : TS → Prop) (sg : TS) (x1 : Nat) (x2 : Int) : Prop :=
  P_X5_begin (fun r24 sg25 => P_X5_walk (fun sg26 => ∃ f9 : Nat, L_X5_marks_11 (fun sg x1 => P_X5_marks_28 κ sg x1) κ f9 sg26 x1 0) sg25 r24) sg x2
def L_X5_shared_53 (k_90 : TS → Int → Prop) (κ : Int → TS → Prop) : Nat → TS → Int → Int → Prop
  | 0, _, _, _ => False
  | f + 1, sg, x3, x4 => InR x4 ∧ (pIf (x4 < 2000) ((0 ≤ x4 ∧ x4 < 2000) ∧ (InR (sg.2 51 x4) ∧ (pIf ((sg.2 51 x4) = 0) (L_X5_shared_53 k_90 κ f sg x3 (x4 + 1)) (InR (sg.2 52 x4) ∧ (pIf ((sg.2 52 x4) = 0) (L_X5_shared_53 k_90 κ f sg x3 (x4 + 1)) (L_X5_shared_53 k_90 κ f sg (x3 + 1) (x4 + 1))))))) (k_90 sg x3))
def P_X5_shared_90 (κ : Int → TS → Prop) (sg : TS) (x3 : Int) : Prop :=
  κ x3 sg
def P_X5_shared_20 (κ : Int → TS → Prop) (sg : TS) (x1 : Int) (x2 : Int) (s0 : Int) : Prop :=
  P_X5_fails (fun r25 sg26 => InR r25 ∧ (pIf (r25 = 0) (P_X5_marks (fun sg29 => P_X5_marks (fun sg30 => ∃ f9 : Nat, L_X5_shared_53 (fun sg x3 => P_X5_shared_90 κ sg x3) κ f9 sg30 0 0) sg29 52 x2) sg26 51 x1) (κ 0 sg26))) sg s0 0 0
def P_X5_shared (κ : Int → TS → Prop) (sg : TS) (x1 : Int) (x2 : Int) : Prop :=
  P_X5_noColour (fun r32 => InR r32 ∧ (pIf (r32 = 0) (P_X5_noColour (fun r35 => InR r35 ∧ (pIf (r35 = 0) (P_X5_shared_20 κ sg x1 x2 0) (P_X5_shared_20 κ sg x1 x2 1))) x2) (P_X5_shared_20 κ sg x1 x2 1))) x1
def P_X5_stopped (κ : Int → TS → Prop) (sg : TS) (x1 : Int) (x2 : Int) : Prop :=
  P_X5_of (fun r15 sg16 => P_X5_of (fun r17 sg18 => P_X5_of (fun r19 sg20 => P_X5_leg (fun sg21 => InR x2 ∧ (pIf (x2 = 0) (κ (sg21.1 15) sg21) (P_X5_of (fun r24 sg25 => P_X5_dx (fun r26 => P_X5_of (fun r27 sg28 => P_X5_dy (fun r29 => P_X5_isOn (fun r30 sg31 => InR r30 ∧ (pIf (r30 = 0) (κ 1 sg31) (P_X5_isBlock (fun r34 sg35 => InR r34 ∧ (pIf (r34 = 0) (κ 3 sg35) (κ 2 sg35))) sg31 (r24 + (((sg25.1 15) + 1) * r26)) (r27 + (((sg28.1 15) + 1) * r29))))) sg28 (r24 + (((sg25.1 15) + 1) * r26)) (r27 + (((sg28.1 15) + 1) * r29))) r15) sg25 x1 1) r15) sg21 x1 0))) sg20 r17 r19 r15 x1) sg18 x1 1) sg16 x1 0) sg x1 3
def P_X5_why_20 (κ : Int → TS → Prop) (sg : TS) (x1 : Int) (x2 : Int) (s0 : Int) (s1 : Int) : Prop :=
  P_X5_fails (fun r34 sg35 => InR r34 ∧ (pIf (r34 = 0) (P_X5_stands (fun r38 sg39 => InR r38 ∧ (pIf (r38 = 0) (InR x2 ∧ (pIf (x2 = 0) (κ 5 sg39) (κ (-1) sg39))) (P_X5_of (fun r42 sg43 => InR r42 ∧ (pIf (r42 = 4) (InR x2 ∧ (pIf (x2 = 0) (κ 3 sg43) (κ (-1) sg43))) (P_X5_find (fun sg46 => InR (sg46.1 18) ∧ (pIf ((sg46.1 18) = (-1)) (InR x2 ∧ (pIf (x2 = 0) (κ 4 sg46) (pIf (x2 = 1) (P_X5_stopped (fun r67 sg68 => κ r67 sg68) sg46 x1 1) (P_X5_stopped (fun r65 sg66 => κ r65 sg66) sg46 x1 0)))) (InR x2 ∧ (pIf (x2 = 0) (κ (sg46.1 19) sg46) (pIf (x2 = 1) (κ (sg46.1 18) sg46) (InR (sg46.1 19) ∧ (pIf ((sg46.1 19) = 0) (κ (sg46.1 24) sg46) (P_X5_cell (fun r54 sg55 => P_X5_of (fun r56 sg57 => P_X5_dx (fun r58 => P_X5_of (fun r59 sg60 => P_X5_dy (fun r61 => κ (r54 + ((sg55.1 20) * ((100 * r58) + r61))) sg60) r59) sg57 x1 3) r56) sg55 x1 3) sg46 x1)))))))) sg43 x1))) sg39 x1 3))) sg35 x1) (κ 0 sg35))) sg s1 s0 0
def P_X5_why (κ : Int → TS → Prop) (sg : TS) (x1 : Int) (x2 : Int) : Prop :=
  P_X5_noPost (fun r73 sg74 => P_X5_isIn (fun r75 => InR r75 ∧ (pIf (r75 = 0) (P_X5_why_20 κ sg74 x1 x2 1 r73) (P_X5_why_20 κ sg74 x1 x2 0 r73))) x2 0 2) sg x1
def P_X5_fromBegin (κ : Int → TS → Prop) (sg : TS) (x1 : Int) (x2 : Int) : Prop :=
  P_X5_begin (fun r5 sg6 => InR r5 ∧ (pIf (r5 = (-1)) (κ (-1) sg6) (P_X5_routeOf (fun r9 sg10 => κ r9 sg10) sg6 r5 x2))) sg x1
def P_X5_laidBack (κ : Int → TS → Prop) (sg : TS) (x1 : Int) : Prop :=
  P_X5_copy (fun sg2 => κ x1 sg2) sg 1 0 0 0
def P_X5_switches (κ : TS → Prop) (sg : TS) (x1 : Int) : Prop :=
  P_X5_of (fun r3 sg4 => P_X5_put (fun sg5 => κ sg5) sg4 x1 4 (1 - r3)) sg x1 4
def P_X5_tryOut (κ : TS → Prop) (sg : TS) : Prop :=
  P_X5_copy (fun sg2 => κ sg2) sg 0 0 1 0
def P_X5_ifOther_36 (κ : Int → TS → Prop) (sg : TS) (x1 : Int) (x2 : Int) (x3 : Int) (s0 : Int) (s1 : Int) : Prop :=
  P_X5_fails (fun r15 sg16 => InR r15 ∧ (pIf (r15 = 0) (P_X5_tryOut (fun sg19 => P_X5_switches (fun sg20 => P_X5_fromBegin (fun r21 sg22 => P_X5_laidBack (fun r23 sg24 => κ r23 sg24) sg22 r21) sg20 x2 x3) sg19 x1) sg16) (κ 0 sg16))) sg s1 s0 0
def P_X5_ifOther_21 (κ : Int → TS → Prop) (sg : TS) (x1 : Int) (x2 : Int) (x3 : Int) (s0 : Int) : Prop :=
  P_X5_isIn (fun r25 => InR r25 ∧ (pIf (r25 = 0) (P_X5_ifOther_36 κ sg x1 x2 x3 1 s0) (P_X5_ifOther_36 κ sg x1 x2 x3 0 s0))) x3 0 7
def P_X5_ifOther (κ : Int → TS → Prop) (sg : TS) (x1 : Int) (x2 : Int) (x3 : Int) : Prop :=
  P_X5_noPost (fun r28 sg29 => InR r28 ∧ (pIf (r28 = 0) (P_X5_noColour (fun r32 => InR r32 ∧ (pIf (r32 = 0) (P_X5_ifOther_21 κ sg29 x1 x2 x3 0) (P_X5_ifOther_21 κ sg29 x1 x2 x3 1))) x2) (P_X5_ifOther_21 κ sg29 x1 x2 x3 1))) sg x1
def P_X5_ifSet_29 (κ : Int → TS → Prop) (sg : TS) (x1 : Int) (x2 : Int) (x3 : Int) (x4 : Int) (s0 : Int) (s1 : Int) : Prop :=
  P_X5_fails (fun r12 sg13 => InR r12 ∧ (pIf (r12 = 0) (P_X5_tryOut (fun sg16 => (0 ≤ (2 + x1) ∧ (2 + x1) < 526) ∧ (P_X5_fromBegin (fun r18 sg19 => P_X5_laidBack (fun r20 sg21 => κ r20 sg21) sg19 r18) (setA sg16 0 (uI (sg16.2 0) (2 + x1) x2)) x3 x4)) sg13) (κ 0 sg13))) sg s1 s0 0
def P_X5_ifSet (κ : Int → TS → Prop) (sg : TS) (x1 : Int) (x2 : Int) (x3 : Int) (x4 : Int) : Prop :=
  P_X5_noColour (fun r22 => P_X5_noSetting (fun r23 => InR r23 ∧ (pIf (r23 = 0) (P_X5_isIn (fun r26 => InR r26 ∧ (pIf (r26 = 0) (P_X5_ifSet_29 κ sg x1 x2 x3 x4 1 r22) (P_X5_ifSet_29 κ sg x1 x2 x3 x4 0 r22))) x4 0 7) (P_X5_ifSet_29 κ sg x1 x2 x3 x4 1 r22))) x1 x2) x3
def P_X5_extreme_84 (k_9 : TS → Int → Int → Int → Int → Int → Int → Prop) (k_98 : TS → Int → Prop) (κ : Int → TS → Prop) (sg : TS) (x1 : Int) (x2 : Int) (x3 : Int) (x6 : Int) (x7 : Int) : Prop :=
  k_9 sg x1 x2 x3 x6 x7 (x6 + 1)
def L_X5_extreme_9 (k_98 : TS → Int → Prop) (κ : Int → TS → Prop) : Nat → TS → Int → Int → Int → Int → Int → Int → Prop
  | 0, _, _, _, _, _, _, _ => False
  | f + 1, sg, x1, x2, x3, x4, x5, x6 => InR x6 ∧ InR (sg.2 0 4) ∧ (pIf (x6 < (sg.2 0 4)) (P_X5_of (fun r24 sg25 => InR r24 ∧ InR x1 ∧ (pIf (r24 = x1) (P_X5_of (fun r29 sg30 => InR r29 ∧ InR x2 ∧ (pIf (r29 = x2) (P_X5_tryOut (fun sg34 => P_X5_switches (fun sg35 => P_X5_metBy (fun r36 sg37 => P_X5_laidBack (fun r38 sg39 => InR x4 ∧ (pIf (x4 = (-1)) (P_X5_extreme_84 (fun sg x1 x2 x3 x4 x5 x6 => L_X5_extreme_9 k_98 κ f sg x1 x2 x3 x4 x5 x6) k_98 κ sg39 x1 x2 x3 x6 (r38 * x3)) (InR (r38 * x3) ∧ InR x5 ∧ (pIf (x5 < (r38 * x3)) (P_X5_extreme_84 (fun sg x1 x2 x3 x4 x5 x6 => L_X5_extreme_9 k_98 κ f sg x1 x2 x3 x4 x5 x6) k_98 κ sg39 x1 x2 x3 x6 (r38 * x3)) (L_X5_extreme_9 k_98 κ f sg39 x1 x2 x3 x4 x5 (x6 + 1)))))) sg37 r36) sg35 x1) sg34 x6) sg30) (L_X5_extreme_9 k_98 κ f sg30 x1 x2 x3 x4 x5 (x6 + 1)))) sg25 x6 4) (L_X5_extreme_9 k_98 κ f sg25 x1 x2 x3 x4 x5 (x6 + 1)))) sg x6 2) (k_98 sg x4))
def P_X5_extreme_98 (κ : Int → TS → Prop) (sg : TS) (x4 : Int) : Prop :=
  κ x4 sg
def P_X5_extreme (κ : Int → TS → Prop) (sg : TS) (x1 : Int) (x2 : Int) (x3 : Int) : Prop :=
  ∃ f9 : Nat, L_X5_extreme_9 (fun sg x4 => P_X5_extreme_98 κ sg x4) κ f9 sg x1 x2 x3 (-1) 0 0
def P_X5_bestMend (κ : Int → TS → Prop) (sg : TS) (x1 : Int) : Prop :=
  P_X5_noColour (fun r5 => P_X5_fails (fun r6 sg7 => InR r6 ∧ (pIf (r6 = 0) (P_X5_extreme (fun r10 sg11 => κ r10 sg11) sg7 x1 1 1) (κ 0 sg7))) sg r5 0 0) x1
def P_X5_worstLoss (κ : Int → TS → Prop) (sg : TS) (x1 : Int) : Prop :=
  P_X5_noColour (fun r5 => P_X5_fails (fun r6 sg7 => InR r6 ∧ (pIf (r6 = 0) (P_X5_extreme (fun r10 sg11 => κ r10 sg11) sg7 x1 0 (-1)) (κ 0 sg7))) sg r5 0 0) x1
def L_X5_leastGap_28 (k_59 : TS → Int → Int → Prop) (κ : Int → TS → Prop) : Nat → TS → Int → Int → Int → Int → Prop
  | 0, _, _, _, _, _ => False
  | f + 1, sg, x1, x2, x3, x4 => InR x4 ∧ (pIf (x4 < 1) (k_59 sg x2 x3) (P_X5_isComplete (fun r11 sg12 => InR r11 ∧ (pIf (r11 = 0) (L_X5_leastGap_28 k_59 κ f sg12 x1 x2 x3 (x4 + (-1))) (L_X5_leastGap_28 k_59 κ f sg12 x1 x2 x4 (x4 + (-1))))) (setA sg 0 (uI (sg.2 0) 2 x4)) x1))
def P_X5_leastGap_59 (κ : Int → TS → Prop) (sg : TS) (x2 : Int) (x3 : Int) : Prop :=
  κ x3 (setA sg 0 (uI (sg.2 0) 2 x2))
def P_X5_leastGap (κ : Int → TS → Prop) (sg : TS) (x1 : Int) : Prop :=
  P_X5_noColour (fun r15 => P_X5_fails (fun r16 sg17 => InR r16 ∧ (pIf (r16 = 0) (∃ f9 : Nat, L_X5_leastGap_28 (fun sg x2 x3 => P_X5_leastGap_59 κ sg x2 x3) κ f9 sg17 x1 (sg17.2 0 2) (-1) 12) (κ 0 sg17))) sg r15 0 0) x1
def P_X5_gap_183 (k_9 : TS → Int → Int → Prop) (k_189 : TS → Int → Prop) (κ : Int → TS → Prop) (sg : TS) (x1 : Int) (x2 : Int) : Prop :=
  k_9 sg x1 (x2 + 1)
def L_X5_gap_39 (k_64 : TS → Int → Int → Int → Prop) (κ : Int → TS → Prop) : Nat → TS → Int → Int → Int → Int → Prop
  | 0, _, _, _, _, _ => False
  | f + 1, sg, x1, x2, x3, x4 => InR x4 ∧ InR (sg.1 34) ∧ (pIf (x4 < (sg.1 34)) ((0 ≤ x4 ∧ x4 < 100) ∧ (L_X5_gap_39 k_64 κ f sg x1 x2 (x3 + (sg.2 27 x4)) (x4 + 1))) (k_64 sg x1 x2 x3))
def P_X5_gap_128 (k_81 : TS → Int → Int → Int → Prop) (k_183 : TS → Int → Int → Prop) (κ : Int → TS → Prop) (sg : TS) (x1 : Int) (x2 : Int) (x4 : Int) (x5 : Int) (x6 : Int) : Prop :=
  InR x4 ∧ (pIf (0 < x4) ((0 ≤ (x4 - 1) ∧ (x4 - 1) < 1000) ∧ (InR (sg.2 26 (x4 - 1)) ∧ (InR (x5 - ((sg.2 26 (x4 - 1)).tdiv 100)) ∧ (InR (x6 - ((sg.2 26 (x4 - 1)).tmod 100)) ∧ (InR ((jabs (x5 - ((sg.2 26 (x4 - 1)).tdiv 100))) + (jabs (x6 - ((sg.2 26 (x4 - 1)).tmod 100)))) ∧ (pIf (((jabs (x5 - ((sg.2 26 (x4 - 1)).tdiv 100))) + (jabs (x6 - ((sg.2 26 (x4 - 1)).tmod 100)))) = 1) (k_81 sg x1 x2 (x4 + 1)) (k_81 sg (x1 + 1) x2 (x4 + 1)))))))) (k_81 sg x1 x2 (x4 + 1)))
def L_X5_gap_81 (k_183 : TS → Int → Int → Prop) (κ : Int → TS → Prop) : Nat → TS → Int → Int → Int → Prop
  | 0, _, _, _, _ => False
  | f + 1, sg, x1, x2, x4 => InR x4 ∧ InR (sg.1 33) ∧ (pIf (x4 < (sg.1 33)) ((0 ≤ x4 ∧ x4 < 1000) ∧ (InR (sg.2 26 x4) ∧ (P_X5_isFree (fun r45 sg46 => InR r45 ∧ (pIf (r45 = 0) (P_X5_gap_128 (fun sg x1 x2 x4 => L_X5_gap_81 k_183 κ f sg x1 x2 x4) k_183 κ sg46 (x1 + 1) x2 x4 ((sg.2 26 x4).tdiv 100) ((sg.2 26 x4).tmod 100)) (P_X5_gap_128 (fun sg x1 x2 x4 => L_X5_gap_81 k_183 κ f sg x1 x2 x4) k_183 κ sg46 x1 x2 x4 ((sg.2 26 x4).tdiv 100) ((sg.2 26 x4).tmod 100)))) sg ((sg.2 26 x4).tdiv 100) ((sg.2 26 x4).tmod 100)))) (k_183 sg x1 x2))
def P_X5_gap_64 (k_9 : TS → Int → Int → Prop) (k_189 : TS → Int → Prop) (κ : Int → TS → Prop) (sg : TS) (x1 : Int) (x2 : Int) (x3 : Int) : Prop :=
  InR ((x3 + 1) - (sg.1 33)) ∧ (∃ f9 : Nat, L_X5_gap_81 (fun sg x1 x2 => P_X5_gap_183 k_9 k_189 κ sg x1 x2) κ f9 sg (x1 + (jabs ((x3 + 1) - (sg.1 33)))) x2 0)
def L_X5_gap_9 (k_189 : TS → Int → Prop) (κ : Int → TS → Prop) : Nat → TS → Int → Int → Prop
  | 0, _, _, _ => False
  | f + 1, sg, x1, x2 => InR x2 ∧ InR (sg.2 0 4) ∧ (pIf (x2 < (sg.2 0 4)) (P_X5_walk (fun sg56 => InR (sg56.1 33) ∧ (pIf ((sg56.1 33) = 0) (P_X5_gap_183 (fun sg x1 x2 => L_X5_gap_9 k_189 κ f sg x1 x2) k_189 κ sg56 x1 x2) (∃ f9 : Nat, L_X5_gap_39 (fun sg x1 x2 x3 => P_X5_gap_64 (fun sg x1 x2 => L_X5_gap_9 k_189 κ f sg x1 x2) k_189 κ sg x1 x2 x3) κ f9 sg56 x1 x2 0 0))) sg x2) (k_189 sg x1))
def P_X5_gap_189 (κ : Int → TS → Prop) (sg : TS) (x1 : Int) : Prop :=
  κ x1 sg
def P_X5_gap (κ : Int → TS → Prop) (sg : TS) : Prop :=
  ∃ f9 : Nat, L_X5_gap_9 (fun sg x1 => P_X5_gap_189 κ sg x1) κ f9 (setS sg 7 0) 0 0
def L_X5_reached_16 (k_35 : TS → Int → Int → Prop) (κ : UInt64 → TS → Prop) : Nat → TS → Int → Int → Int → Prop
  | 0, _, _, _, _ => False
  | f + 1, sg, x1, x2, x3 => InR x3 ∧ (pIf (x3 < 4) (P_X5_metBy (fun r10 sg11 => L_X5_reached_16 k_35 κ f sg11 x1 (x2 + r10) (x3 + 1)) sg x3) (k_35 sg x1 x2))
def P_X5_reached_35 (κ : UInt64 → TS → Prop) (sg : TS) (x1 : Int) (x2 : Int) : Prop :=
  InR x1 ∧ (pIf (x1 = 0) (κ 0x3ff0000000000000 sg) (vf_n64 (FP.ddiv (i2d x2) (i2d x1)) ∧ (κ (FP.ddiv (i2d x2) (i2d x1)) sg)))
def P_X5_reached (κ : UInt64 → TS → Prop) (sg : TS) : Prop :=
  P_X5_posts (fun r15 sg16 => ∃ f9 : Nat, L_X5_reached_16 (fun sg x1 x2 => P_X5_reached_35 κ sg x1 x2) κ f9 sg16 r15 0 0) (setS sg 7 0) (-1) 1
def P_X5_areSame (κ : Int → TS → Prop) (sg : TS) (x1 : Int) (x2 : Int) : Prop :=
  (0 ≤ x1 ∧ x1 < 100) ∧ ((0 ≤ x2 ∧ x2 < 100) ∧ (InR (sg.2 27 x1) ∧ InR (sg.2 27 x2) ∧ (pIf ((sg.2 27 x1) = (sg.2 27 x2)) (InR (sg.2 28 x1) ∧ InR (sg.2 28 x2) ∧ (pIf ((sg.2 28 x1) = (sg.2 28 x2)) (InR (sg.2 30 x1) ∧ InR (sg.2 30 x2) ∧ (pIf ((sg.2 30 x1) = (sg.2 30 x2)) (κ 1 sg) (κ 0 sg))) (κ 0 sg))) (κ 0 sg))))
def L_X5_repeats_25 (k_50 : TS → Int → Prop) (k_58 : TS → Int → Int → Int → Prop) (κ : Int → TS → Prop) : Nat → TS → Int → Int → Int → Int → Prop
  | 0, _, _, _, _, _ => False
  | f + 1, sg, x1, x2, x3, x4 => InR x4 ∧ InR x2 ∧ (pIf (x4 < x2) (P_X5_areSame (fun r15 sg16 => InR r15 ∧ (pIf (r15 = 0) (k_50 sg16 x3) (L_X5_repeats_25 k_50 k_58 κ f sg16 x1 x2 x3 (x4 + 1)))) sg (x1 + x4) ((x1 + (x3 * x2)) + x4)) (k_58 sg x1 x2 x3))
def P_X5_repeats_58 (k_2 : TS → Int → Int → Int → Prop) (k_50 : TS → Int → Prop) (k_64 : TS → Int → Prop) (κ : Int → TS → Prop) (sg : TS) (x1 : Int) (x2 : Int) (x3 : Int) : Prop :=
  k_2 sg x1 x2 (x3 + 1)
def L_X5_repeats_2 (k_50 : TS → Int → Prop) (k_64 : TS → Int → Prop) (κ : Int → TS → Prop) : Nat → TS → Int → Int → Int → Prop
  | 0, _, _, _, _ => False
  | f + 1, sg, x1, x2, x3 => InR x3 ∧ (pIf (x3 < 9) (InR (x1 + ((x3 + 1) * x2)) ∧ InR (sg.1 34) ∧ (pIf ((sg.1 34) < (x1 + ((x3 + 1) * x2))) (k_64 sg x3) (∃ f9 : Nat, L_X5_repeats_25 k_50 (fun sg x1 x2 x3 => P_X5_repeats_58 (fun sg x1 x2 x3 => L_X5_repeats_2 k_50 k_64 κ f sg x1 x2 x3) k_50 k_64 κ sg x1 x2 x3) κ f9 sg x1 x2 x3 0))) (k_64 sg x3))
def P_X5_repeats_50 (κ : Int → TS → Prop) (sg : TS) (x3 : Int) : Prop :=
  κ x3 sg
def P_X5_repeats_64 (κ : Int → TS → Prop) (sg : TS) (x3 : Int) : Prop :=
  κ x3 sg
def P_X5_repeats (κ : Int → TS → Prop) (sg : TS) (x1 : Int) (x2 : Int) : Prop :=
  ∃ f9 : Nat, L_X5_repeats_2 (fun sg x3 => P_X5_repeats_50 κ sg x3) (fun sg x3 => P_X5_repeats_64 κ sg x3) κ f9 sg x1 x2 1
def P_X5_out (κ : TS → Prop) (sg : TS) (x1 : Int) : Prop :=
  (0 ≤ (sg.1 11) ∧ (sg.1 11) < 1500) ∧ (κ (setS (setA sg 9 (uI (sg.2 9) (sg.1 11) x1)) 11 ((sg.1 11) + 1)))
def P_X5_outputByte (κ : Int → TS → Prop) (sg : TS) (x1 : Int) : Prop :=
  P_X5_isIn (fun r4 => InR r4 ∧ (pIf (r4 = 0) (κ (-1) (setS sg 7 0)) ((0 ≤ x1 ∧ x1 < 1500) ∧ (κ (((setS sg 7 0).2 9) x1) (setS sg 7 0))))) x1 0 ((sg.1 11) - 1)
