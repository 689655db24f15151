set_option maxRecDepth 100000
def P_X10_init (K : KT) (o : Nat) (κ : AH → Nat → Nat → Prop) (χ : QxT) (h : AH) (n : Nat) (z : Nat) (x1 : Option Nat) : Prop :=
  pPut K h (some o) 9 0 (vR x1) (fun h2 => κ h2 n z)
def L_X10_go_25 (K : KT) (o : Nat) (k_209 : AH → Nat → Nat → Prop) (κ : Option Nat → AH → Nat → Nat → Prop) (χ : QxT) : Nat → AH → Nat → Nat → Int → Int → Int → Prop
  | 0, _, _, _, _, _, _ => False
  | f + 1, h, n, z, x3, x4, x5 => pGI h (some o) 9 4 (fun y54 => InR y54 ∧ (pIf (y54 = 0) (pGI h (some o) 9 5 (fun y57 => InR y57 ∧ (pIf (y57 = (-1)) (pGI h (some o) 9 1 (fun y60 => False)) (k_209 h n z)))) (k_209 h n z)))
def P_X10_go_209 (K : KT) (o : Nat) (κ : Option Nat → AH → Nat → Nat → Prop) (χ : QxT) (h : AH) (n : Nat) (z : Nat) : Prop :=
  κ (some o) h n z
def P_X10_go (K : KT) (o : Nat) (κ : Option Nat → AH → Nat → Nat → Prop) (χ : QxT) (h : AH) (n : Nat) (z : Nat) (x1 : Int) (x2 : Int) (x3 : Int) (x4 : Int) (x5 : Int) : Prop :=
  pPut K h (some o) 9 1 (vI x1) (fun h62 => pPut K h62 (some o) 9 2 (vI x2) (fun h63 => pPut K h63 (some o) 9 3 (vI 0) (fun h64 => pPut K h64 (some o) 9 5 (vI (-1)) (fun h65 => pPut K h65 (some o) 9 4 (vI 0) (fun h66 => ∃ f9 : Nat, L_X10_go_25 K o (fun h n z => P_X10_go_209 K o κ χ h n z) κ χ f9 h66 n z x3 x4 x5)))))
def P_X2_init (K : KT) (o : Nat) (κ : AH → Nat → Nat → Prop) (χ : QxT) (h : AH) (n : Nat) (z : Nat) (x1 : Int) (x2 : Int) (x3 : Int) (x4 : Int) : Prop :=
  pNewA K h n z 5 24 (.inr (.inl (fun _ => none))) (fun h13 => pPut K h13 (some o) 1 2 (vR (some n)) (fun h14 => pNewA K h14 (n + 1) (z + Int.toNat 24) 1 400 (.inl (fun _ => 0)) (fun h15 => pPut K h15 (some o) 1 4 (vR (some (n + 1))) (fun h16 => pNewA K h16 ((n + 1) + 1) ((z + Int.toNat 24) + Int.toNat 400) 0 2 (.inl (fun _ => 0)) (fun h17 => pPut K h17 (some o) 1 6 (vR (some ((n + 1) + 1))) (fun h18 => pPut K h18 (some o) 1 0 (vI x1) (fun h19 => pPut K h19 (some o) 1 1 (vI x2) (fun h20 => pGR h20 (some o) 1 6 (fun y21 => pSI K h20 y21 0 0 x3 (fun h22 => pGR h22 (some o) 1 6 (fun y23 => pSI K h22 y23 0 1 x4 (fun h24 => κ h24 (((n + 1) + 1) + 1) (((z + Int.toNat 24) + Int.toNat 400) + Int.toNat 2)))))))))))))
def P_X2_isBlock (K : KT) (o : Nat) (κ : Int → AH → Nat → Nat → Prop) (χ : QxT) (h : AH) (n : Nat) (z : Nat) (x1 : Int) (x2 : Int) : Prop :=
  pGR h (some o) 1 4 (fun y5 => pAI h y5 1 ((20 * x2) + x1) (fun y6 => InR y6 ∧ (pIf (y6 < 0) (κ 1 h n z) (κ 0 h n z))))
def P_X2_isOnMap (K : KT) (o : Nat) (κ : Int → AH → Nat → Nat → Prop) (χ : QxT) (h : AH) (n : Nat) (z : Nat) (x1 : Int) (x2 : Int) : Prop :=
  InR x1 ∧ (pIf (x1 < 0) (κ 0 h n z) (pGI h (some o) 1 0 (fun y15 => InR y15 ∧ (pIf (x1 < y15) (InR x2 ∧ (pIf (x2 < 0) (κ 0 h n z) (pGI h (some o) 1 1 (fun y20 => InR y20 ∧ (pIf (x2 < y20) (κ 1 h n z) (κ 0 h n z)))))) (κ 0 h n z)))))
def P_X2_postAt (K : KT) (o : Nat) (κ : Int → AH → Nat → Nat → Prop) (χ : QxT) (h : AH) (n : Nat) (z : Nat) (x1 : Int) (x2 : Int) : Prop :=
  pGR h (some o) 1 4 (fun y7 => pAI h y7 1 ((20 * x2) + x1) (fun y8 => InR y8 ∧ (pIf (0 < y8) (pGR h (some o) 1 4 (fun y11 => pAI h y11 1 ((20 * x2) + x1) (fun y12 => κ (y12 - 1) h n z))) (κ (-1) h n z))))
def P_X2_reasonNot (K : KT) (o : Nat) (κ : Int → AH → Nat → Nat → Prop) (χ : QxT) (h : AH) (n : Nat) (z : Nat) (x1 : Int) (x2 : Int) (x3 : Int) : Prop :=
  pRecv h (some o) 1 (fun o53 => P_X2_isOnMap K o53 (fun r12 h13 n14 z15 => InR r12 ∧ (pIf (r12 = 0) (κ 1 h13 n14 z15) (pRecv h13 (some o) 1 (fun o45 => P_X2_isBlock K o45 (fun r18 h19 n20 z21 => InR r18 ∧ (pIf (r18 = 0) (pRecv h19 (some o) 1 (fun o37 => P_X2_postAt K o37 (fun r24 h25 n26 z27 => InR r24 ∧ (pIf (r24 = (-1)) (InR x3 ∧ (pIf (x3 = 0) (κ 0 h25 n26 z27) (κ 4 h25 n26 z27))) (κ 3 h25 n26 z27))) χ h19 n20 z21 x1 x2)) (κ 2 h19 n20 z21))) χ h13 n14 z15 x1 x2)))) χ h n z x1 x2)
def P_X2_needFree (K : KT) (o : Nat) (κ : AH → Nat → Nat → Prop) (χ : QxT) (h : AH) (n : Nat) (z : Nat) (x1 : Int) (x2 : Int) (x3 : Int) : Prop :=
  pRecv h (some o) 1 (fun o27 => P_X2_reasonNot K o27 (fun r5 h6 n7 z8 => InR r5 ∧ (pIf (r5 = 0) (κ h6 n7 z8) (pNew K h6 n7 z8 (.inr (3, [vR none, vR none, vR none, vR none, vR none, vI 0, vI 0])) 7 (fun h11 => P_X4_init K n7 (fun h12 n13 z14 => pThrow K h12 (some n7) (fun ci15 q16 => χ ci15 q16 h12 n13 z14)) χ h11 (n7 + 1) (z8 + 7) r5)))) χ h n z x1 x2 x3)
def P_X2_put (K : KT) (o : Nat) (κ : AH → Nat → Nat → Prop) (χ : QxT) (h : AH) (n : Nat) (z : Nat) (x1 : Int) (x2 : Int) (x3 : Int) : Prop :=
  pGR h (some o) 1 4 (fun y3 => pSI K h y3 1 ((20 * x2) + x1) (i2b (i2b x3)) (fun h4 => κ h4 n z))
def P_X2_add_23 (K : KT) (o : Nat) (κ : Int → AH → Nat → Nat → Prop) (χ : QxT) (h : AH) (n : Nat) (z : Nat) (x1 : Option Nat) (s0 : Int) (s1 : Int) (s2 : Int) : Prop :=
  pRecv h (some o) 1 (fun o43 => P_X2_needFree K o43 (fun h15 n16 z17 => pGR h15 (some o) 1 2 (fun y18 => pGI h15 (some o) 1 3 (fun y19 => pSR K h15 y18 5 y19 x1 [2] (fun h20 => pGI h20 (some o) 1 3 (fun y21 => pPut K h20 (some o) 1 3 (vI (y21 + 1)) (fun h22 => pGI h22 x1 2 0 (fun y23 => pGI h22 x1 2 1 (fun y24 => pGI h22 (some o) 1 3 (fun y25 => pRecv h22 (some o) 1 (fun o35 => P_X2_put K o35 (fun h26 n27 z28 => pGI h26 (some o) 1 3 (fun y29 => κ (y29 - 1) h26 n27 z28)) χ h22 n16 z17 y23 y24 y25)))))))))) χ h n z s2 s1 s0)
def P_X2_add (K : KT) (o : Nat) (κ : Int → AH → Nat → Nat → Prop) (χ : QxT) (h : AH) (n : Nat) (z : Nat) (x1 : Option Nat) : Prop :=
  pGI h x1 2 0 (fun y46 => pGI h x1 2 1 (fun y47 => pGI h (some o) 1 3 (fun y48 => InR y48 ∧ (pIf (y48 = 24) (P_X2_add_23 K o κ χ h n z x1 1 y47 y46) (P_X2_add_23 K o κ χ h n z x1 0 y47 y46)))))
def P_X3_init (K : KT) (o : Nat) (κ : AH → Nat → Nat → Prop) (χ : QxT) (h : AH) (n : Nat) (z : Nat) (x1 : Int) (x2 : Int) (x3 : Int) (x4 : Int) (x5 : Int) : Prop :=
  pPut K h (some o) 2 0 (vI x1) (fun h7 => pPut K h7 (some o) 2 1 (vI x2) (fun h8 => pPut K h8 (some o) 2 2 (vI x3) (fun h9 => pPut K h9 (some o) 2 3 (vI x4) (fun h10 => (x5 = 0 ∨ x5 = 1) ∧ (pPut K h10 (some o) 2 4 (vI x5) (fun h11 => κ h11 n z))))))
def P_X3_inState (K : KT) (o : Nat) (κ : Option Nat → AH → Nat → Nat → Prop) (χ : QxT) (h : AH) (n : Nat) (z : Nat) (x1 : Int) : Prop :=
  pNew K h n z (.inr (2, [vI 0, vI 0, vI 0, vI 0, vI 0])) 5 (fun h6 => pGI h6 (some o) 2 0 (fun y7 => pGI h6 (some o) 2 1 (fun y8 => pGI h6 (some o) 2 2 (fun y9 => pGI h6 (some o) 2 3 (fun y10 => P_X3_init K n (fun h11 n12 z13 => κ (some n) h11 n12 z13) χ h6 (n + 1) (z + 5) y7 y8 y9 y10 x1)))))
def P_X2_change (K : KT) (o : Nat) (κ : AH → Nat → Nat → Prop) (χ : QxT) (h : AH) (n : Nat) (z : Nat) (x1 : Int) (x2 : Int) : Prop :=
  pGR h (some o) 1 2 (fun y13 => pAR h y13 5 x1 (fun y14 => pGI h y14 2 4 (fun y15 => InR y15 ∧ InR x2 ∧ (pIf (y15 = x2) (pNew K h n z (.inr (3, [vR none, vR none, vR none, vR none, vR none, vI 0, vI 0])) 7 (fun h35 => P_X4_init K n (fun h36 n37 z38 => pThrow K h36 (some n) (fun ci39 q40 => χ ci39 q40 h36 n37 z38)) χ h35 (n + 1) (z + 7) 5)) (pGR h (some o) 1 2 (fun y19 => pGR h (some o) 1 2 (fun y20 => pAR h y20 5 x1 (fun y21 => pRecv h y21 2 (fun o32 => P_X3_inState K o32 (fun r22 h23 n24 z25 => pSR K h23 y19 5 x1 r22 [2] (fun h26 => κ h26 n24 z25)) χ h n z x2)))))))))
def P_X2_layBlock_17 (K : KT) (o : Nat) (κ : AH → Nat → Nat → Prop) (χ : QxT) (h : AH) (n : Nat) (z : Nat) (x1 : Int) (x2 : Int) (s0 : Int) (s1 : Int) (s2 : Int) : Prop :=
  pRecv h (some o) 1 (fun o27 => P_X2_needFree K o27 (fun h6 n7 z8 => pRecv h6 (some o) 1 (fun o19 => P_X2_put K o19 (fun h9 n10 z11 => pGI h9 (some o) 1 5 (fun y12 => pPut K h9 (some o) 1 5 (vI (y12 + 1)) (fun h13 => κ h13 n10 z11))) χ h6 n7 z8 x1 x2 (-1))) χ h n z s2 s1 s0)
def P_X2_layBlock (K : KT) (o : Nat) (κ : AH → Nat → Nat → Prop) (χ : QxT) (h : AH) (n : Nat) (z : Nat) (x1 : Int) (x2 : Int) : Prop :=
  pGI h (some o) 1 5 (fun y30 => InR y30 ∧ (pIf (y30 = 20) (P_X2_layBlock_17 K o κ χ h n z x1 x2 1 x2 x1) (P_X2_layBlock_17 K o κ χ h n z x1 x2 0 x2 x1)))
def P_X2_copy (K : KT) (o : Nat) (κ : Option Nat → AH → Nat → Nat → Prop) (χ : QxT) (h : AH) (n : Nat) (z : Nat) : Prop :=
  pNew K h n z (.inr (1, [vI 0, vI 0, vR none, vI 0, vR none, vI 0, vR none])) 7 (fun h21 => pGI h21 (some o) 1 0 (fun y22 => pGI h21 (some o) 1 1 (fun y23 => pGR h21 (some o) 1 6 (fun y24 => pAI h21 y24 0 0 (fun y25 => pGR h21 (some o) 1 6 (fun y26 => pAI h21 y26 0 1 (fun y27 => P_X2_init K n (fun h28 n29 z30 => pGR h28 (some o) 1 2 (fun y31 => pGR h28 (some n) 1 2 (fun y32 => pGI h28 (some o) 1 3 (fun y33 => pCopyR K h28 y31 0 y32 0 y33 5 [2] (fun h34 => pGI h34 (some o) 1 3 (fun y35 => pPut K h34 (some n) 1 3 (vI y35) (fun h36 => pGR h36 (some o) 1 4 (fun y37 => pGR h36 (some n) 1 4 (fun y38 => pGR h36 (some o) 1 4 (fun y39 => pLen h36 y39 1 (fun y40 => pCopyB K h36 y37 0 y38 0 y40 (fun h41 => pGI h41 (some o) 1 5 (fun y42 => pPut K h41 (some n) 1 5 (vI y42) (fun h43 => κ (some n) h43 n29 z30)))))))))))))) χ h21 (n + 1) (z + 7) y22 y23 y25 y27)))))))
def P_X3_standsFor (K : KT) (o : Nat) (κ : Int → AH → Nat → Nat → Prop) (χ : QxT) (h : AH) (n : Nat) (z : Nat) (x1 : Int) : Prop :=
  pGI h (some o) 2 4 (fun y8 => InR y8 ∧ (pIf (y8 = 0) (pGI h (some o) 2 2 (fun y11 => InR y11 ∧ InR x1 ∧ (pIf (y11 = x1) (κ 1 h n z) (κ 0 h n z)))) (κ 0 h n z)))
def L_X2_standing_4 (K : KT) (o : Nat) (k_34 : AH → Nat → Nat → Int → Prop) (κ : Int → AH → Nat → Nat → Prop) (χ : QxT) : Nat → AH → Nat → Nat → Int → Int → Int → Prop
  | 0, _, _, _, _, _, _ => False
  | f + 1, h, n, z, x1, x2, x3 => pGI h (some o) 1 3 (fun y10 => InR x3 ∧ InR y10 ∧ (pIf (x3 < y10) (pGR h (some o) 1 2 (fun y14 => pAR h y14 5 x3 (fun y15 => pRecv h y15 2 (fun o27 => P_X3_standsFor K o27 (fun r16 h17 n18 z19 => InR r16 ∧ (pIf (r16 = 0) (L_X2_standing_4 K o k_34 κ χ f h17 n18 z19 x1 x2 (x3 + 1)) (L_X2_standing_4 K o k_34 κ χ f h17 n18 z19 x1 (x2 + 1) (x3 + 1)))) χ h n z x1)))) (k_34 h n z x2)))
def P_X2_standing_34 (K : KT) (o : Nat) (κ : Int → AH → Nat → Nat → Prop) (χ : QxT) (h : AH) (n : Nat) (z : Nat) (x2 : Int) : Prop :=
  κ x2 h n z
def P_X2_standing (K : KT) (o : Nat) (κ : Int → AH → Nat → Nat → Prop) (χ : QxT) (h : AH) (n : Nat) (z : Nat) (x1 : Int) : Prop :=
  ∃ f9 : Nat, L_X2_standing_4 K o (fun h n z x2 => P_X2_standing_34 K o κ χ h n z x2) κ χ f9 h n z x1 0 0
def L_X2_begin_2 (K : KT) (o : Nat) (k_23 : AH → Nat → Nat → Int → Prop) (k_31 : AH → Nat → Nat → Prop) (κ : Int → AH → Nat → Nat → Prop) (χ : QxT) : Nat → AH → Nat → Nat → Int → Int → Prop
  | 0, _, _, _, _, _ => False
  | f + 1, h, n, z, x1, x2 => pGI h (some o) 1 3 (fun y10 => InR x2 ∧ InR y10 ∧ (pIf (x2 < y10) (pGR h (some o) 1 2 (fun y14 => pAR h y14 5 x2 (fun y15 => pRecv h y15 2 (fun o27 => P_X3_standsFor K o27 (fun r16 h17 n18 z19 => InR r16 ∧ (pIf (r16 = 0) (L_X2_begin_2 K o k_23 k_31 κ χ f h17 n18 z19 x1 (x2 + 1)) (k_23 h17 n18 z19 x2))) χ h n z x1)))) (k_31 h n z)))
def P_X2_begin_23 (K : KT) (o : Nat) (κ : Int → AH → Nat → Nat → Prop) (χ : QxT) (h : AH) (n : Nat) (z : Nat) (x2 : Int) : Prop :=
  κ x2 h n z
def P_X2_begin_31 (K : KT) (o : Nat) (κ : Int → AH → Nat → Nat → Prop) (χ : QxT) (h : AH) (n : Nat) (z : Nat) : Prop :=
  κ (-1) h n z
def P_X2_begin (K : KT) (o : Nat) (κ : Int → AH → Nat → Nat → Prop) (χ : QxT) (h : AH) (n : Nat) (z : Nat) (x1 : Int) : Prop :=
  ∃ f9 : Nat, L_X2_begin_2 K o (fun h n z x2 => P_X2_begin_23 K o κ χ h n z x2) (fun h n z => P_X2_begin_31 K o κ χ h n z) κ χ f9 h n z x1 0
def L_X2_drop_35 (K : KT) (o : Nat) (k_88 : AH → Nat → Nat → Prop) (κ : AH → Nat → Nat → Prop) (χ : QxT) : Nat → AH → Nat → Nat → Int → Prop
  | 0, _, _, _, _ => False
  | f + 1, h, n, z, x2 => pGI h (some o) 1 3 (fun y23 => InR x2 ∧ InR y23 ∧ (pIf (x2 < y23) (pGR h (some o) 1 2 (fun y27 => pGR h (some o) 1 2 (fun y28 => pAR h y28 5 (x2 + 1) (fun y29 => pSR K h y27 5 x2 y29 [2] (fun h30 => pGR h30 (some o) 1 2 (fun y31 => pAR h30 y31 5 x2 (fun y32 => pGI h30 y32 2 0 (fun y33 => pGR h30 (some o) 1 2 (fun y34 => pAR h30 y34 5 x2 (fun y35 => pGI h30 y35 2 1 (fun y36 => pRecv h30 (some o) 1 (fun o45 => P_X2_put K o45 (fun h37 n38 z39 => L_X2_drop_35 K o k_88 κ χ f h37 n38 z39 (x2 + 1)) χ h30 n z y33 y36 (x2 + 1))))))))))))) (k_88 h n z)))
def P_X2_drop_88 (K : KT) (o : Nat) (κ : AH → Nat → Nat → Prop) (χ : QxT) (h : AH) (n : Nat) (z : Nat) : Prop :=
  κ h n z
def P_X2_drop (K : KT) (o : Nat) (κ : AH → Nat → Nat → Prop) (χ : QxT) (h : AH) (n : Nat) (z : Nat) (x1 : Int) : Prop :=
  pGR h (some o) 1 2 (fun y48 => pAR h y48 5 x1 (fun y49 => pGI h y49 2 0 (fun y50 => pGR h (some o) 1 2 (fun y51 => pAR h y51 5 x1 (fun y52 => pGI h y52 2 1 (fun y53 => pRecv h (some o) 1 (fun o65 => P_X2_put K o65 (fun h54 n55 z56 => pGI h54 (some o) 1 3 (fun y57 => pPut K h54 (some o) 1 3 (vI (y57 - 1)) (fun h58 => ∃ f9 : Nat, L_X2_drop_35 K o (fun h n z => P_X2_drop_88 K o κ χ h n z) κ χ f9 h58 n55 z56 x1))) χ h n z y50 y53 0)))))))
def P_X2_takeBlock (K : KT) (o : Nat) (κ : AH → Nat → Nat → Prop) (χ : QxT) (h : AH) (n : Nat) (z : Nat) (x1 : Int) (x2 : Int) : Prop :=
  pRecv h (some o) 1 (fun o13 => P_X2_put K o13 (fun h3 n4 z5 => pGI h3 (some o) 1 5 (fun y6 => pPut K h3 (some o) 1 5 (vI (y6 - 1)) (fun h7 => κ h7 n4 z5))) χ h n z x1 x2 0)
def P_X2_hasMissingAt (K : KT) (o : Nat) (κ : Int → AH → Nat → Nat → Prop) (χ : QxT) (h : AH) (n : Nat) (z : Nat) (x1 : Int) (x2 : Int) : Prop :=
  InR x1 ∧ (pRecv h (some o) 1 (fun o39 => P_X2_postAt K o39 (fun r17 h18 n19 z20 => InR r17 ∧ (pIf (r17 = (-1)) (κ 0 h18 n19 z20) (pGR h18 (some o) 1 2 (fun y23 => pAR h18 y23 5 r17 (fun y24 => pGI h18 y24 2 4 (fun y25 => InR y25 ∧ (pIf (y25 = 0) (κ 0 h18 n19 z20) (pGR h18 (some o) 1 2 (fun y28 => pAR h18 y28 5 r17 (fun y29 => pGI h18 y29 2 2 (fun y30 => InR y30 ∧ InR x2 ∧ (pIf (y30 = x2) (κ 1 h18 n19 z20) (κ 0 h18 n19 z20))))))))))))) χ h n z (x1.tdiv 100) (x1.tmod 100)))
def P_X3_turned (K : KT) (o : Nat) (κ : Option Nat → AH → Nat → Nat → Prop) (χ : QxT) (h : AH) (n : Nat) (z : Nat) (x1 : Int) : Prop :=
  pNew K h n z (.inr (2, [vI 0, vI 0, vI 0, vI 0, vI 0])) 5 (fun h6 => pGI h6 (some o) 2 0 (fun y7 => pGI h6 (some o) 2 1 (fun y8 => pGI h6 (some o) 2 2 (fun y9 => pGI h6 (some o) 2 4 (fun y10 => P_X3_init K n (fun h11 n12 z13 => κ (some n) h11 n12 z13) χ h6 (n + 1) (z + 5) y7 y8 y9 x1 y10)))))
def P_X3_cell (K : KT) (o : Nat) (κ : Int → AH → Nat → Nat → Prop) (χ : QxT) (h : AH) (n : Nat) (z : Nat) : Prop :=
  pGI h (some o) 2 0 (fun y3 => pGI h (some o) 2 1 (fun y4 => κ ((100 * y3) + y4) h n z))
def P_X9_init (K : KT) (o : Nat) (κ : AH → Nat → Nat → Prop) (χ : QxT) (h : AH) (n : Nat) (z : Nat) : Prop :=
  pNewA K h n z 0 3 (.inl (fun _ => 0)) (fun h5 => pPut K h5 (some o) 8 3 (vR (some n)) (fun h6 => pNewA K h6 (n + 1) (z + Int.toNat 3) 0 3 (.inl (fun _ => 0)) (fun h7 => pPut K h7 (some o) 8 4 (vR (some (n + 1))) (fun h8 => κ h8 ((n + 1) + 1) ((z + Int.toNat 3) + Int.toNat 3)))))
def P_X9_clear (K : KT) (o : Nat) (κ : AH → Nat → Nat → Prop) (χ : QxT) (h : AH) (n : Nat) (z : Nat) : Prop :=
  pPut K h (some o) 8 0 (vI (-1)) (fun h4 => pPut K h4 (some o) 8 1 (vI 0) (fun h5 => pPut K h5 (some o) 8 2 (vI 0) (fun h6 => κ h6 n z)))
def L_X9_offer_6 (K : KT) (o : Nat) (k_27 : AH → Nat → Nat → Int → Int → Option Nat → Option Nat → Int → Prop) (κ : AH → Nat → Nat → Prop) (χ : QxT) : Nat → AH → Nat → Nat → Int → Int → Option Nat → Option Nat → Int → Int → Prop
  | 0, _, _, _, _, _, _, _, _, _ => False
  | f + 1, h, n, z, x1, x2, x3, x4, x5, x6 => InR x6 ∧ InR x2 ∧ (pIf (x2 < x6) (k_27 h n z x1 x2 x3 x4 x5) (pAI h x3 0 x6 (fun y26 => L_X9_offer_6 K o k_27 κ χ f h n z x1 x2 x3 x4 (x5 + y26) (x6 + 1))))
def P_X9_offer_45 (K : KT) (o : Nat) (κ : AH → Nat → Nat → Prop) (χ : QxT) (h : AH) (n : Nat) (z : Nat) (x1 : Int) (x2 : Int) (x3 : Option Nat) (x4 : Option Nat) (x5 : Int) : Prop :=
  pPut K h (some o) 8 0 (vI x1) (fun h27 => pPut K h27 (some o) 8 1 (vI x5) (fun h28 => pPut K h28 (some o) 8 2 (vI x2) (fun h29 => pGR h29 (some o) 8 3 (fun y30 => pGR h29 (some o) 8 3 (fun y31 => pLen h29 y31 0 (fun y32 => pCopyI K h29 x3 0 y30 0 y32 (fun h33 => pGR h33 (some o) 8 4 (fun y34 => pGR h33 (some o) 8 4 (fun y35 => pLen h33 y35 0 (fun y36 => pCopyI K h33 x4 0 y34 0 y36 (fun h37 => κ h37 n z)))))))))))
def P_X9_offer_27 (K : KT) (o : Nat) (κ : AH → Nat → Nat → Prop) (χ : QxT) (h : AH) (n : Nat) (z : Nat) (x1 : Int) (x2 : Int) (x3 : Option Nat) (x4 : Option Nat) (x5 : Int) : Prop :=
  pGI h (some o) 8 0 (fun y38 => InR y38 ∧ (pIf (y38 = (-1)) (P_X9_offer_45 K o κ χ h n z x1 x2 x3 x4 x5) (pGI h (some o) 8 1 (fun y41 => InR x5 ∧ InR y41 ∧ (pIf (x5 < y41) (P_X9_offer_45 K o κ χ h n z x1 x2 x3 x4 x5) (κ h n z))))))
def P_X9_offer (K : KT) (o : Nat) (κ : AH → Nat → Nat → Prop) (χ : QxT) (h : AH) (n : Nat) (z : Nat) (x1 : Int) (x2 : Int) (x3 : Option Nat) (x4 : Option Nat) : Prop :=
  ∃ f9 : Nat, L_X9_offer_6 K o (fun h n z x1 x2 x3 x4 x5 => P_X9_offer_27 K o κ χ h n z x1 x2 x3 x4 x5) κ χ f9 h n z x1 x2 x3 x4 0 0
