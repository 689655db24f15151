set_option maxRecDepth 100000
def P_J4_coder (K : KT) (o : Nat) (κ : Int → AH → Nat → Nat → Prop) (χ : QxT) (h : AH) (n : Nat) (z : Nat) : Prop :=
  pGI h (some o) 13 1 (fun y3 => narrow .byte (.int (iN y3)) = .int (iN y3) ∧ κ y3 h n z)
def P_J4_length (K : KT) (o : Nat) (κ : Int → AH → Nat → Nat → Prop) (χ : QxT) (h : AH) (n : Nat) (z : Nat) : Prop :=
  pGR h (some o) 13 0 (fun y4 => pLen h y4 1 (fun y5 => pRecv h (some o) 13 (fun o15 => P_J4_coder K o15 (fun r6 h7 n8 z9 => κ (ishr y5 r6) h7 n8 z9) χ h n z )))
def P_J4_isLatin1 (K : KT) (o : Nat) (κ : Int → AH → Nat → Nat → Prop) (χ : QxT) (h : AH) (n : Nat) (z : Nat) : Prop :=
  pGI h (some o) 13 1 (fun y5 => InR y5 ∧ (pIf (y5 = 0) (κ 1 h n z) (κ 0 h n z)))
def P_J6_checkIndex_9 (K : KT) (κ : Int → AH → Nat → Nat → Prop) (χ : QxT) (h : AH) (n : Nat) (z : Nat) (x0 : Int) (x1 : Int) (x2 : Option Nat) : Prop :=
  False
def P_J6_checkIndex (K : KT) (κ : Int → AH → Nat → Nat → Prop) (χ : QxT) (h : AH) (n : Nat) (z : Nat) (x0 : Int) (x1 : Int) (x2 : Option Nat) : Prop :=
  InR x0 ∧ (pIf (x0 < 0) (P_J6_checkIndex_9 K κ χ h n z x0 x1 x2) (InR x1 ∧ (pIf (x0 < x1) (κ x0 h n z) (P_J6_checkIndex_9 K κ χ h n z x0 x1 x2))))
def P_J4_checkIndex (K : KT) (κ : AH → Nat → Nat → Prop) (χ : QxT) (h : AH) (n : Nat) (z : Nat) (x0 : Int) (x1 : Int) : Prop :=
  P_J6_checkIndex K (fun r2 h3 n4 z5 => κ h3 n4 z5) χ h n z x0 x1 (kr K 2)
def P_J5_charAt (K : KT) (κ : Int → AH → Nat → Nat → Prop) (χ : QxT) (h : AH) (n : Nat) (z : Nat) (x0 : Option Nat) (x1 : Int) : Prop :=
  pLen h x0 1 (fun y3 => P_J4_checkIndex K (fun h4 n5 z6 => pAI h4 x0 1 x1 (fun y7 => narrow .char (.int (iN (i2c (iand y7 255)))) = .int (iN (i2c (iand y7 255))) ∧ κ (i2c (iand y7 255)) h4 n5 z6)) χ h n z x1 y3)
def P_J4_charAt (K : KT) (o : Nat) (κ : Int → AH → Nat → Nat → Prop) (χ : QxT) (h : AH) (n : Nat) (z : Nat) (x1 : Int) : Prop :=
  pRecv h (some o) 13 (fun o32 => P_J4_isLatin1 K o32 (fun r8 h9 n10 z11 => InR r8 ∧ (pIf (r8 = 0) (pGR h9 (some o) 13 0 (fun y14 => False)) (pGR h9 (some o) 13 0 (fun y16 => P_J5_charAt K (fun r17 h18 n19 z20 => narrow .char (.int (iN r17)) = .int (iN r17) ∧ κ r17 h18 n19 z20) χ h9 n10 z11 y16 x1)))) χ h n z )
