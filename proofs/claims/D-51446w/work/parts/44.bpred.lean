set_option maxRecDepth 100000
def P_J5_canEncode (κ : Int → Prop) (x0 : Int) : Prop :=
  InR x0 ∧ (pIf (255 < x0) (κ 0) (κ 1))
def P_J13_newLength (κ : Int → Prop) (x0 : Int) (x1 : Int) (x2 : Int) : Prop :=
  InR x1 ∧ InR x2 ∧ (InR (x0 + (jmax x1 x2)) ∧ (pIf (0 < (x0 + (jmax x1 x2))) (pIf (2147483639 < (x0 + (jmax x1 x2))) (False) (κ (x0 + (jmax x1 x2)))) (False)))
def P_J11_init (K : KT) (o : Nat) (κ : AH → Nat → Nat → Prop) (χ : QxT) (h : AH) (n : Nat) (z : Nat) (x1 : Int) : Prop :=
  pNewA K h n z 1 x1 (.inl (fun _ => 0)) (fun h8 => pPut K h8 (some o) 14 0 (vR (some n)) (fun h9 => pPut K h9 (some o) 14 1 (vI 0) (fun h10 => κ h10 (n + 1) (z + Int.toNat x1))))
def P_J11_isLatin1 (K : KT) (o : Nat) (κ : Int → AH → Nat → Nat → Prop) (χ : QxT) (h : AH) (n : Nat) (z : Nat) : Prop :=
  pGI h (some o) 14 1 (fun y5 => InR y5 ∧ (pIf (y5 = 0) (κ 1 h n z) (κ 0 h n z)))
def P_J11_getValue (K : KT) (o : Nat) (κ : Option Nat → AH → Nat → Nat → Prop) (χ : QxT) (h : AH) (n : Nat) (z : Nat) : Prop :=
  pGR h (some o) 14 0 (fun y2 => κ y2 h n z)
def P_J11_length (K : KT) (o : Nat) (κ : Int → AH → Nat → Nat → Prop) (χ : QxT) (h : AH) (n : Nat) (z : Nat) : Prop :=
  pGI h (some o) 14 3 (fun y2 => κ y2 h n z)
def P_J11_newCapacity (K : KT) (o : Nat) (κ : Int → AH → Nat → Nat → Prop) (χ : QxT) (h : AH) (n : Nat) (z : Nat) (x1 : Int) : Prop :=
  pGR h (some o) 14 0 (fun y9 => pLen h y9 1 (fun y10 => pGI h (some o) 14 1 (fun y11 => pGI h (some o) 14 1 (fun y12 => P_J13_newLength (fun r13 => InR r13 ∧ (pIf (r13 = 2147483647) (False) (pGI h (some o) 14 1 (fun y16 => κ (ishr r13 y16) h n z)))) y10 ((ishl x1 y11) - y10) (y10 + (ishl 2 y12))))))
def P_J14_copyOf (K : KT) (κ : Option Nat → AH → Nat → Nat → Prop) (χ : QxT) (h : AH) (n : Nat) (z : Nat) (x0 : Option Nat) (x1 : Int) : Prop :=
  pLen h x0 1 (fun y12 => InR x1 ∧ InR y12 ∧ (pIf (x1 = y12) (pCloneB K h n z x0 (fun h20 z21 => pCastA K h20 (some n) 1 (κ (some n) h20 (n + 1) z21))) (pNewA K h n z 1 x1 (.inl (fun _ => 0)) (fun h16 => pLen h16 x0 1 (fun y17 => InR y17 ∧ (pCopyB K h16 x0 0 (some n) 0 (jmin y17 x1) (fun h19 => κ (some n) h19 (n + 1) (z + Int.toNat x1))))))))
def P_J11_ensureCapacityInternal (K : KT) (o : Nat) (κ : AH → Nat → Nat → Prop) (χ : QxT) (h : AH) (n : Nat) (z : Nat) (x1 : Int) : Prop :=
  pGR h (some o) 14 0 (fun y11 => pLen h y11 1 (fun y12 => pGI h (some o) 14 1 (fun y13 => InR (x1 - (ishr y12 y13)) ∧ (pIf (0 < (x1 - (ishr y12 y13))) (pGR h (some o) 14 0 (fun y16 => pRecv h (some o) 14 (fun o37 => P_J11_newCapacity K o37 (fun r17 h18 n19 z20 => pGI h18 (some o) 14 1 (fun y21 => P_J14_copyOf K (fun r22 h23 n24 z25 => pPut K h23 (some o) 14 0 (vR r22) (fun h26 => κ h26 n24 z25)) χ h18 n19 z20 y16 (ishl r17 y21))) χ h n z x1))) (κ h n z)))))
def P_J11_append_56 (K : KT) (o : Nat) (κ : Option Nat → AH → Nat → Nat → Prop) (χ : QxT) (h : AH) (n : Nat) (z : Nat) (x1 : Int) : Prop :=
  pGR h (some o) 14 0 (fun y18 => pGI h (some o) 14 3 (fun y19 => pPut K h (some o) 14 3 (vI (y19 + 1)) (fun h20 => False)))
def P_J11_append_45 (K : KT) (o : Nat) (κ : Option Nat → AH → Nat → Nat → Prop) (χ : QxT) (h : AH) (n : Nat) (z : Nat) (x1 : Int) : Prop :=
  pRecv h (some o) 14 (fun o32 => P_J11_isLatin1 K o32 (fun r21 h22 n23 z24 => InR r21 ∧ (pIf (r21 = 0) (P_J11_append_56 K o κ χ h22 n23 z24 x1) (False))) χ h n z )
def P_J11_append (K : KT) (o : Nat) (κ : Option Nat → AH → Nat → Nat → Prop) (χ : QxT) (h : AH) (n : Nat) (z : Nat) (x1 : Int) : Prop :=
  pGI h (some o) 14 3 (fun y35 => pRecv h (some o) 14 (fun o65 => P_J11_ensureCapacityInternal K o65 (fun h36 n37 z38 => pRecv h36 (some o) 14 (fun o57 => P_J11_isLatin1 K o57 (fun r39 h40 n41 z42 => InR r39 ∧ (pIf (r39 = 0) (P_J11_append_45 K o κ χ h40 n41 z42 x1) (P_J5_canEncode (fun r45 => InR r45 ∧ (pIf (r45 = 0) (P_J11_append_45 K o κ χ h40 n41 z42 x1) (pGR h40 (some o) 14 0 (fun y48 => pGI h40 (some o) 14 3 (fun y49 => pPut K h40 (some o) 14 3 (vI (y49 + 1)) (fun h50 => pSI K h50 y48 1 y49 (i2b (i2b x1)) (fun h51 => κ (some o) h51 n41 z42))))))) x1))) χ h36 n37 z38 )) χ h n z (y35 + 1)))
def L_J16_getChars_22 (K : KT) (k_72 : AH → Nat → Nat → Int → Option Nat → Int → Int → Prop) (κ : Int → AH → Nat → Nat → Prop) (χ : QxT) : Nat → AH → Nat → Nat → Int → Option Nat → Int → Int → Prop
  | 0, _, _, _, _, _, _, _ => False
  | f + 1, h, n, z, x0, x2, x5, x6 => InR x0 ∧ (pIf ((-100) < x0) (k_72 h n z x0 x2 x5 x6) (pAI h (some (kl K 200)) 1 (((x0.tdiv 100) * 100) - x0) (fun y23 => pSI K h x2 1 (x5 + (-1)) (i2b y23) (fun h24 => pAI h24 (some (kl K 201)) 1 (((x0.tdiv 100) * 100) - x0) (fun y25 => pSI K h24 x2 1 ((x5 + (-1)) + (-1)) (i2b y25) (fun h26 => L_J16_getChars_22 K k_72 κ χ f h26 n z (x0.tdiv 100) x2 ((x5 + (-1)) + (-1)) x6))))))
def P_J16_getChars_104 (K : KT) (κ : Int → AH → Nat → Nat → Prop) (χ : QxT) (h : AH) (n : Nat) (z : Nat) (x2 : Option Nat) (x5 : Int) (x6 : Int) : Prop :=
  InR x6 ∧ (pIf (x6 = 0) (κ x5 h n z) (pSI K h x2 1 (x5 + (-1)) (i2b 45) (fun h29 => κ (x5 + (-1)) h29 n z)))
def P_J16_getChars_72 (K : KT) (κ : Int → AH → Nat → Nat → Prop) (χ : QxT) (h : AH) (n : Nat) (z : Nat) (x0 : Int) (x2 : Option Nat) (x5 : Int) (x6 : Int) : Prop :=
  pAI h (some (kl K 200)) 1 (-x0) (fun y30 => pSI K h x2 1 (x5 + (-1)) (i2b y30) (fun h31 => InR x0 ∧ (pIf (x0 < (-9)) (pAI h31 (some (kl K 201)) 1 (-x0) (fun y34 => pSI K h31 x2 1 ((x5 + (-1)) + (-1)) (i2b y34) (fun h35 => P_J16_getChars_104 K κ χ h35 n z x2 ((x5 + (-1)) + (-1)) x6))) (P_J16_getChars_104 K κ χ h31 n z x2 (x5 + (-1)) x6))))
def P_J16_getChars_12 (K : KT) (κ : Int → AH → Nat → Nat → Prop) (χ : QxT) (h : AH) (n : Nat) (z : Nat) (x0 : Int) (x2 : Option Nat) (x5 : Int) (s0 : Int) : Prop :=
  InR s0 ∧ (pIf (s0 = 0) (∃ f9 : Nat, L_J16_getChars_22 K (fun h n z x0 x2 x5 x6 => P_J16_getChars_72 K κ χ h n z x0 x2 x5 x6) κ χ f9 h n z (-x0) x2 x5 s0) (∃ f9 : Nat, L_J16_getChars_22 K (fun h n z x0 x2 x5 x6 => P_J16_getChars_72 K κ χ h n z x0 x2 x5 x6) κ χ f9 h n z x0 x2 x5 s0))
def P_J16_getChars (K : KT) (κ : Int → AH → Nat → Nat → Prop) (χ : QxT) (h : AH) (n : Nat) (z : Nat) (x0 : Int) (x1 : Int) (x2 : Option Nat) : Prop :=
  InR x0 ∧ (pIf (x0 < 0) (P_J16_getChars_12 K κ χ h n z x0 x2 x1 1) (P_J16_getChars_12 K κ χ h n z x0 x2 x1 0))
def L_J16_stringSize_16 (k_27 : Int → Int → Prop) (k_42 : Int → Prop) (κ : Int → Prop) : Nat → Int → Int → Int → Int → Prop
  | 0, _, _, _, _ => False
  | f + 1, x0, x1, x2, x3 => InR x3 ∧ (pIf (x3 < 10) (InR x0 ∧ InR x2 ∧ (pIf (x2 < x0) (k_27 x1 x3) (L_J16_stringSize_16 k_27 k_42 κ f x0 x1 (10 * x2) (x3 + 1)))) (k_42 x1))
def P_J16_stringSize_27 (κ : Int → Prop) (x1 : Int) (x3 : Int) : Prop :=
  κ (x3 + x1)
def P_J16_stringSize_42 (κ : Int → Prop) (x1 : Int) : Prop :=
  κ (10 + x1)
def P_J16_stringSize_11 (κ : Int → Prop) (x0 : Int) (x1 : Int) : Prop :=
  ∃ f9 : Nat, L_J16_stringSize_16 (fun x1 x3 => P_J16_stringSize_27 κ x1 x3) (fun x1 => P_J16_stringSize_42 κ x1) κ f9 x0 x1 (-10) 1
def P_J16_stringSize (κ : Int → Prop) (x0 : Int) : Prop :=
  InR x0 ∧ (pIf (x0 < 0) (P_J16_stringSize_11 κ x0 1) (P_J16_stringSize_11 κ (-x0) 0))
def P_J11_append_2_48 (K : KT) (o : Nat) (κ : Option Nat → AH → Nat → Nat → Prop) (χ : QxT) (h : AH) (n : Nat) (z : Nat) (x3 : Int) : Prop :=
  pPut K h (some o) 14 3 (vI x3) (fun h11 => κ (some o) h11 n z)
def P_J11_append_2 (K : KT) (o : Nat) (κ : Option Nat → AH → Nat → Nat → Prop) (χ : QxT) (h : AH) (n : Nat) (z : Nat) (x1 : Int) : Prop :=
  pGI h (some o) 14 3 (fun y12 => P_J16_stringSize (fun r13 => pRecv h (some o) 14 (fun o48 => P_J11_ensureCapacityInternal K o48 (fun h14 n15 z16 => pRecv h14 (some o) 14 (fun o40 => P_J11_isLatin1 K o40 (fun r17 h18 n19 z20 => InR r17 ∧ (pIf (r17 = 0) (pGR h18 (some o) 14 0 (fun y23 => False)) (pGR h18 (some o) 14 0 (fun y25 => P_J16_getChars K (fun r26 h27 n28 z29 => P_J11_append_2_48 K o κ χ h27 n28 z29 (y12 + r13)) χ h18 n19 z20 x1 (y12 + r13) y25)))) χ h14 n15 z16 )) χ h n z (y12 + r13))) x1)
def P_J12_init (K : KT) (o : Nat) (κ : AH → Nat → Nat → Prop) (χ : QxT) (h : AH) (n : Nat) (z : Nat) : Prop :=
  P_J11_init K o (fun h1 n2 z3 => κ h1 n2 z3) χ h n z 16
def P_J12_append (K : KT) (o : Nat) (κ : Option Nat → AH → Nat → Nat → Prop) (χ : QxT) (h : AH) (n : Nat) (z : Nat) (x1 : Int) : Prop :=
  pSup h (some o) (fun o11 => P_J11_append K o11 (fun r2 h3 n4 z5 => κ (some o) h3 n4 z5) χ h n z x1)
def P_J12_append_2 (K : KT) (o : Nat) (κ : Option Nat → AH → Nat → Nat → Prop) (χ : QxT) (h : AH) (n : Nat) (z : Nat) (x1 : Int) : Prop :=
  pSup h (some o) (fun o11 => P_J11_append_2 K o11 (fun r2 h3 n4 z5 => κ (some o) h3 n4 z5) χ h n z x1)
def P_J12_length (K : KT) (o : Nat) (κ : Int → AH → Nat → Nat → Prop) (χ : QxT) (h : AH) (n : Nat) (z : Nat) : Prop :=
  pSup h (some o) (fun o11 => P_J11_length K o11 (fun r2 h3 n4 z5 => κ r2 h3 n4 z5) χ h n z )
def P_J14_checkLength (K : KT) (κ : AH → Nat → Nat → Prop) (χ : QxT) (h : AH) (n : Nat) (z : Nat) (x0 : Int) (x1 : Int) : Prop :=
  InR x1 ∧ InR x0 ∧ (pIf (x1 < x0) (pNew K h n z (.inr (21, [vR none, vR none, vR none, vR none, vR none, vI 0])) 6 (fun h13 => pNew K h13 (n + 1) (z + 6) (.inr (14, [vR none, vI 0, vI 0, vI 0])) 4 (fun h14 => P_J12_init K (n + 1) (fun h15 n16 z17 => pRecv h15 (some (n + 1)) 14 (fun o27 => P_J12_append_2 K o27 (fun r18 h19 n20 z21 => False) χ h15 n16 z17 x0)) χ h14 ((n + 1) + 1) ((z + 6) + 4) ))) (κ h n z))
def P_J14_copyOfRangeByte (K : KT) (κ : Option Nat → AH → Nat → Nat → Prop) (χ : QxT) (h : AH) (n : Nat) (z : Nat) (x0 : Option Nat) (x1 : Int) (x2 : Int) : Prop :=
  P_J14_checkLength K (fun h6 n7 z8 => pNewA K h6 n7 z8 1 (x2 - x1) (.inl (fun _ => 0)) (fun h9 => pLen h9 x0 1 (fun y10 => InR (y10 - x1) ∧ InR (x2 - x1) ∧ (pCopyB K h9 x0 x1 (some n7) 0 (jmin (y10 - x1) (x2 - x1)) (fun h13 => κ (some n7) h13 (n7 + 1) (z8 + Int.toNat (x2 - x1))))))) χ h n z x1 x2
def P_J14_copyOfRange_10 (K : KT) (κ : Option Nat → AH → Nat → Nat → Prop) (χ : QxT) (h : AH) (n : Nat) (z : Nat) (x0 : Option Nat) (x1 : Int) (x2 : Int) : Prop :=
  P_J14_copyOfRangeByte K (fun r10 h11 n12 z13 => κ r10 h11 n12 z13) χ h n z x0 x1 x2
def P_J14_copyOfRange (K : KT) (κ : Option Nat → AH → Nat → Nat → Prop) (χ : QxT) (h : AH) (n : Nat) (z : Nat) (x0 : Option Nat) (x1 : Int) (x2 : Int) : Prop :=
  InR x1 ∧ (pIf (x1 = 0) (pLen h x0 1 (fun y21 => InR x2 ∧ InR y21 ∧ (pIf (x2 = y21) (pCloneB K h n z x0 (fun h25 z26 => pCastA K h25 (some n) 1 (κ (some n) h25 (n + 1) z26))) (P_J14_copyOfRange_10 K κ χ h n z x0 x1 x2)))) (P_J14_copyOfRange_10 K κ χ h n z x0 x1 x2))
def P_J4_init_2_79 (K : KT) (o : Nat) (κ : AH → Nat → Nat → Prop) (χ : QxT) (h : AH) (n : Nat) (z : Nat) (x3 : Option Nat) (x4 : Int) : Prop :=
  pPut K h (some o) 13 1 (vI 1) (fun h22 => P_J14_copyOfRange K (fun r23 h24 n25 z26 => pPut K h24 (some o) 13 0 (vR r23) (fun h27 => κ h27 n25 z26)) χ h22 n z x3 0 (ishl x4 1))
def P_J4_init_2 (K : KT) (o : Nat) (κ : AH → Nat → Nat → Prop) (χ : QxT) (h : AH) (n : Nat) (z : Nat) (x1 : Option Nat) (x2 : Option Nat) : Prop :=
  pRecv h x1 14 (fun o84 => P_J11_getValue K o84 (fun r33 h34 n35 z36 => pRecv h34 x1 14 (fun o76 => P_J12_length K o76 (fun r37 h38 n39 z40 => pRecv h38 x1 14 (fun o68 => P_J11_isLatin1 K o68 (fun r41 h42 n43 z44 => InR r41 ∧ (pIf (r41 = 0) (pGI h42 x1 14 2 (fun y47 => InR y47 ∧ (pIf (y47 = 0) (P_J4_init_2_79 K o κ χ h42 n43 z44 r33 r37) (False)))) (pPut K h42 (some o) 13 1 (vI 0) (fun h52 => P_J14_copyOfRange K (fun r53 h54 n55 z56 => pPut K h54 (some o) 13 0 (vR r53) (fun h57 => κ h57 n55 z56)) χ h52 n43 z44 r33 0 r37)))) χ h38 n39 z40 )) χ h34 n35 z36 )) χ h n z )
def P_J4_init (K : KT) (o : Nat) (κ : AH → Nat → Nat → Prop) (χ : QxT) (h : AH) (n : Nat) (z : Nat) (x1 : Option Nat) : Prop :=
  P_J4_init_2 K o (fun h1 n2 z3 => κ h1 n2 z3) χ h n z x1 none
def P_J12_toString (K : KT) (o : Nat) (κ : Option Nat → AH → Nat → Nat → Prop) (χ : QxT) (h : AH) (n : Nat) (z : Nat) : Prop :=
  pNew K h n z (.inr (13, [vR none, vI 0, vI 0, vI 0])) 4 (fun h2 => P_J4_init K n (fun h3 n4 z5 => κ (some n) h3 n4 z5) χ h2 (n + 1) (z + 4) (some o))
def L_J5_equals_9 (K : KT) (k_24 : AH → Nat → Nat → Prop) (k_32 : AH → Nat → Nat → Prop) (κ : Int → AH → Nat → Nat → Prop) (χ : QxT) : Nat → AH → Nat → Nat → Option Nat → Option Nat → Int → Prop
  | 0, _, _, _, _, _, _ => False
  | f + 1, h, n, z, x0, x1, x2 => pLen h x0 1 (fun y15 => InR x2 ∧ InR y15 ∧ (pIf (x2 < y15) (pAI h x0 1 x2 (fun y19 => pAI h x1 1 x2 (fun y20 => InR y19 ∧ InR y20 ∧ (pIf (y19 = y20) (L_J5_equals_9 K k_24 k_32 κ χ f h n z x0 x1 (x2 + 1)) (k_24 h n z))))) (k_32 h n z)))
def P_J5_equals_24 (K : KT) (κ : Int → AH → Nat → Nat → Prop) (χ : QxT) (h : AH) (n : Nat) (z : Nat) : Prop :=
  κ 0 h n z
def P_J5_equals_32 (K : KT) (κ : Int → AH → Nat → Nat → Prop) (χ : QxT) (h : AH) (n : Nat) (z : Nat) : Prop :=
  κ 1 h n z
def P_J5_equals (K : KT) (κ : Int → AH → Nat → Nat → Prop) (χ : QxT) (h : AH) (n : Nat) (z : Nat) (x0 : Option Nat) (x1 : Option Nat) : Prop :=
  pLen h x0 1 (fun y24 => pLen h x1 1 (fun y25 => InR y24 ∧ InR y25 ∧ (pIf (y24 = y25) (∃ f9 : Nat, L_J5_equals_9 K (fun h n z => P_J5_equals_24 K κ χ h n z) (fun h n z => P_J5_equals_32 K κ χ h n z) κ χ f9 h n z x0 x1 0) (κ 0 h n z))))
def P_J4_equals_36 (K : KT) (o : Nat) (κ : Int → AH → Nat → Nat → Prop) (χ : QxT) (h : AH) (n : Nat) (z : Nat) (x2 : Option Nat) : Prop :=
  pGR h (some o) 13 0 (fun y16 => pGR h x2 13 0 (fun y17 => P_J5_equals K (fun r18 h19 n20 z21 => InR r18 ∧ (pIf (r18 = 0) (κ 0 h19 n20 z21) (κ 1 h19 n20 z21))) χ h n z y16 y17))
def P_J4_equals (K : KT) (o : Nat) (κ : Int → AH → Nat → Nat → Prop) (χ : QxT) (h : AH) (n : Nat) (z : Nat) (x1 : Option Nat) : Prop :=
  pIf ((some o) = x1) (κ 1 h n z) (pInst h x1 [13] [] (fun y30 => InR y30 ∧ (pIf (y30 = 0) (κ 0 h n z) (pCast h x1 [13] (pGI h (some o) 13 1 (fun y33 => pGI h x1 13 1 (fun y34 => InR y33 ∧ InR y34 ∧ (pIf (y33 = y34) (P_J4_equals_36 K o κ χ h n z x1) (κ 0 h n z)))))))))
def L_J13_hashCode_2_8 (K : KT) (k_31 : AH → Nat → Nat → Int → Prop) (κ : Int → AH → Nat → Nat → Prop) (χ : QxT) : Nat → AH → Nat → Nat → Int → Option Nat → Int → Int → Prop
  | 0, _, _, _, _, _, _, _ => False
  | f + 1, h, n, z, x0, x1, x4, x5 => InR x5 ∧ InR x4 ∧ (pIf (x5 < x4) (pAI h x1 1 x5 (fun y8 => L_J13_hashCode_2_8 K k_31 κ χ f h n z ((31 * x0) + y8) x1 x4 (x5 + 1))) (k_31 h n z x0))
def P_J13_hashCode_2_31 (K : KT) (κ : Int → AH → Nat → Nat → Prop) (χ : QxT) (h : AH) (n : Nat) (z : Nat) (x0 : Int) : Prop :=
  κ x0 h n z
def P_J13_hashCode_2 (K : KT) (κ : Int → AH → Nat → Nat → Prop) (χ : QxT) (h : AH) (n : Nat) (z : Nat) (x0 : Int) (x1 : Option Nat) (x2 : Int) (x3 : Int) : Prop :=
  ∃ f9 : Nat, L_J13_hashCode_2_8 K (fun h n z x0 => P_J13_hashCode_2_31 K κ χ h n z x0) κ χ f9 h n z x0 x1 (x2 + x3) x2
def L_J13_signedHashCode_8 (K : KT) (k_35 : AH → Nat → Nat → Int → Prop) (κ : Int → AH → Nat → Nat → Prop) (χ : QxT) : Nat → AH → Nat → Nat → Int → Option Nat → Int → Int → Prop
  | 0, _, _, _, _, _, _, _ => False
  | f + 1, h, n, z, x0, x1, x4, x5 => InR x5 ∧ InR x4 ∧ (pIf (x5 < x4) (pAI h x1 1 x5 (fun y8 => L_J13_signedHashCode_8 K k_35 κ χ f h n z ((31 * x0) + (iand y8 255)) x1 x4 (x5 + 1))) (k_35 h n z x0))
def P_J13_signedHashCode_35 (K : KT) (κ : Int → AH → Nat → Nat → Prop) (χ : QxT) (h : AH) (n : Nat) (z : Nat) (x0 : Int) : Prop :=
  κ x0 h n z
def P_J13_signedHashCode (K : KT) (κ : Int → AH → Nat → Nat → Prop) (χ : QxT) (h : AH) (n : Nat) (z : Nat) (x0 : Int) (x1 : Option Nat) (x2 : Int) (x3 : Int) : Prop :=
  ∃ f9 : Nat, L_J13_signedHashCode_8 K (fun h n z x0 => P_J13_signedHashCode_35 K κ χ h n z x0) κ χ f9 h n z x0 x1 (x2 + x3) x2
def P_J13_vectorizedHashCode (K : KT) (κ : Int → AH → Nat → Nat → Prop) (χ : QxT) (h : AH) (n : Nat) (z : Nat) (x0 : Option Nat) (x1 : Int) (x2 : Int) (x3 : Int) (x4 : Int) : Prop :=
  InR x4 ∧ (pIf (x4 = 4) (pCastA K h x0 1 (P_J13_signedHashCode K (fun r27 h28 n29 z30 => κ r27 h28 n29 z30) χ h n z x3 x0 x1 x2)) (pIf (x4 = 5) (pInst h x0 [] [] (fun y37 => InR y37 ∧ (pIf (y37 = 0) (pCast h x0 [] (False)) (pCastA K h x0 1 (False))))) (pIf (x4 = 6) (pNew K h n z (.inr (21, [vR none, vR none, vR none, vR none, vR none, vI 0])) 6 (fun h43 => pNew K h43 (n + 1) (z + 6) (.inr (14, [vR none, vI 0, vI 0, vI 0])) 4 (fun h44 => P_J12_init K (n + 1) (fun h45 n46 z47 => False) χ h44 ((n + 1) + 1) ((z + 6) + 4) ))) (pIf (x4 = 7) (pNew K h n z (.inr (21, [vR none, vR none, vR none, vR none, vR none, vI 0])) 6 (fun h54 => pNew K h54 (n + 1) (z + 6) (.inr (14, [vR none, vI 0, vI 0, vI 0])) 4 (fun h55 => P_J12_init K (n + 1) (fun h56 n57 z58 => False) χ h55 ((n + 1) + 1) ((z + 6) + 4) ))) (pIf (x4 = 8) (pCastA K h x0 1 (P_J13_hashCode_2 K (fun r65 h66 n67 z68 => κ r65 h66 n67 z68) χ h n z x3 x0 x1 x2)) (pIf (x4 = 9) (pCast h x0 [] (False)) (pIf (x4 = 10) (pCast h x0 [] (False)) (pNew K h n z (.inr (21, [vR none, vR none, vR none, vR none, vR none, vI 0])) 6 (fun h16 => pNew K h16 (n + 1) (z + 6) (.inr (14, [vR none, vI 0, vI 0, vI 0])) 4 (fun h17 => P_J12_init K (n + 1) (fun h18 n19 z20 => False) χ h17 ((n + 1) + 1) ((z + 6) + 4) ))))))))))
def P_J5_hashCode (K : KT) (κ : Int → AH → Nat → Nat → Prop) (χ : QxT) (h : AH) (n : Nat) (z : Nat) (x0 : Option Nat) : Prop :=
  pLen h x0 1 (fun y5 => InR y5 ∧ (pIf (y5 = 0) (κ 0 h n z) (pIf (y5 = 1) (pAI h x0 1 0 (fun y19 => κ (iand y19 255) h n z)) (pLen h x0 1 (fun y7 => P_J13_vectorizedHashCode K (fun r8 h9 n10 z11 => κ r8 h9 n10 z11) χ h n z x0 0 y7 0 4)))))
def P_J4_hashCode_40 (K : KT) (o : Nat) (κ : Int → AH → Nat → Nat → Prop) (χ : QxT) (h : AH) (n : Nat) (z : Nat) (s0 : Int) : Prop :=
  InR s0 ∧ (pIf (s0 = 0) (pPut K h (some o) 13 3 (vI 1) (fun h21 => κ s0 h21 n z)) (pPut K h (some o) 13 2 (vI s0) (fun h20 => κ s0 h20 n z)))
def P_J4_hashCode (K : KT) (o : Nat) (κ : Int → AH → Nat → Nat → Prop) (χ : QxT) (h : AH) (n : Nat) (z : Nat) : Prop :=
  pGI h (some o) 13 2 (fun y22 => InR y22 ∧ (pIf (y22 = 0) (pGI h (some o) 13 3 (fun y25 => InR y25 ∧ (pIf (y25 = 0) (pRecv h (some o) 13 (fun o51 => P_J4_isLatin1 K o51 (fun r28 h29 n30 z31 => InR r28 ∧ (pIf (r28 = 0) (pGR h29 (some o) 13 0 (fun y34 => False)) (pGR h29 (some o) 13 0 (fun y36 => P_J5_hashCode K (fun r37 h38 n39 z40 => P_J4_hashCode_40 K o κ χ h38 n39 z40 r37) χ h29 n30 z31 y36)))) χ h n z )) (κ y22 h n z)))) (κ y22 h n z)))
