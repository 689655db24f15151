set_option maxRecDepth 100000
def P_J2_init (K : KT) (o : Nat) (κ : AH → Nat → Nat → Prop) (χ : QxT) (h : AH) (n : Nat) (z : Nat) : Prop :=
  pPutL K h (some o) [3, 6, 21, 22, 23] 0 (vR (some o)) (fun h4 => pPutL K h4 (some o) [3, 6, 21, 22, 23] 1 (vR (kr K 0)) (fun h5 => pPutL K h5 (some o) [3, 6, 21, 22, 23] 2 (vR (kr K 1)) (fun h6 => pFill K h6 (some o) (κ h6 n z))))
def P_J2_init_3 (K : KT) (o : Nat) (κ : AH → Nat → Nat → Prop) (χ : QxT) (h : AH) (n : Nat) (z : Nat) (x1 : Option Nat) (x2 : Option Nat) : Prop :=
  pPutL K h (some o) [3, 6, 21, 22, 23] 0 (vR (some o)) (fun h6 => pPutL K h6 (some o) [3, 6, 21, 22, 23] 1 (vR (kr K 0)) (fun h7 => pPutL K h7 (some o) [3, 6, 21, 22, 23] 2 (vR (kr K 1)) (fun h8 => pFill K h8 (some o) (pPutL K h8 (some o) [3, 6, 21, 22, 23] 3 (vR x1) (fun h9 => pPutL K h9 (some o) [3, 6, 21, 22, 23] 0 (vR x2) (fun h10 => κ h10 n z))))))
def P_J3_init (K : KT) (o : Nat) (κ : AH → Nat → Nat → Prop) (χ : QxT) (h : AH) (n : Nat) (z : Nat) : Prop :=
  P_J2_init K o (fun h1 n2 z3 => κ h1 n2 z3) χ h n z 
def P_J3_init_3 (K : KT) (o : Nat) (κ : AH → Nat → Nat → Prop) (χ : QxT) (h : AH) (n : Nat) (z : Nat) (x1 : Option Nat) (x2 : Option Nat) : Prop :=
  P_J2_init_3 K o (fun h1 n2 z3 => κ h1 n2 z3) χ h n z x1 x2
def P_J9_init_2 (K : KT) (o : Nat) (κ : AH → Nat → Nat → Prop) (χ : QxT) (h : AH) (n : Nat) (z : Nat) : Prop :=
  P_J3_init K o (fun h1 n2 z3 => κ h1 n2 z3) χ h n z 
def P_J10_init_2 (K : KT) (o : Nat) (κ : AH → Nat → Nat → Prop) (χ : QxT) (h : AH) (n : Nat) (z : Nat) : Prop :=
  P_J9_init_2 K o (fun h1 n2 z3 => κ h1 n2 z3) χ h n z 
def P_J17_init_2 (K : KT) (o : Nat) (κ : AH → Nat → Nat → Prop) (χ : QxT) (h : AH) (n : Nat) (z : Nat) : Prop :=
  P_J9_init_2 K o (fun h1 n2 z3 => κ h1 n2 z3) χ h n z 
def P_J18_init_2 (K : KT) (o : Nat) (κ : AH → Nat → Nat → Prop) (χ : QxT) (h : AH) (n : Nat) (z : Nat) : Prop :=
  P_J9_init_2 K o (fun h1 n2 z3 => κ h1 n2 z3) χ h n z 
def P_X4_init (K : KT) (o : Nat) (κ : AH → Nat → Nat → Prop) (χ : QxT) (h : AH) (n : Nat) (z : Nat) (x1 : Int) : Prop :=
  P_J3_init K o (fun h2 n3 z4 => pPut K h2 (some o) 3 6 (vI x1) (fun h5 => κ h5 n3 z4)) χ h n z 
def P_X7_init (K : KT) (o : Nat) (κ : AH → Nat → Nat → Prop) (χ : QxT) (h : AH) (n : Nat) (z : Nat) (x1 : Int) (x2 : Int) : Prop :=
  P_J3_init K o (fun h3 n4 z5 => pPut K h3 (some o) 6 6 (vI x1) (fun h6 => pPut K h6 (some o) 6 7 (vI x2) (fun h7 => κ h7 n4 z5))) χ h n z 
def P_X7_init_2 (K : KT) (o : Nat) (κ : AH → Nat → Nat → Prop) (χ : QxT) (h : AH) (n : Nat) (z : Nat) (x1 : Option Nat) (x2 : Int) : Prop :=
  P_J3_init_3 K o (fun h3 n4 z5 => pPut K h3 (some o) 6 6 (vI 5) (fun h6 => pPut K h6 (some o) 6 7 (vI x2) (fun h7 => κ h7 n4 z5))) χ h n z none x1
def P_X7_reason (K : KT) (o : Nat) (κ : Int → AH → Nat → Nat → Prop) (χ : QxT) (h : AH) (n : Nat) (z : Nat) : Prop :=
  pCause K h (some o) (fun y6 => pInst h y6 [3] [6, 22, 21, 23] (fun y7 => InR y7 ∧ (pIf (y7 = 0) (κ 0 h n z) (pCast h y6 [3] (pGI h y6 3 6 (fun y10 => κ y10 h n z))))))
