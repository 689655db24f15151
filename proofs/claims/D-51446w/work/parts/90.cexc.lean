set_option maxRecDepth 100000
/-! exceptions of the component -/
def ExF (K : KT) (a : Nat) (T : List AV) : List AV := vR (some a) :: vR (kr K 0) :: vR (kr K 1) :: vR none :: vR none :: vI 0 :: T
def ExO (K : KT) (a ci : Nat) (T : List AV) : AE := .inr (ci, ExF K a T)
section EX
variable {K : KT} {χ : QxT} {h : AH} {n z : Nat}
theorem pPutL_i {a ci k : Nat} {fs : List AV} {v : AV} {L : List Nat} {κ : AH → Prop} (ha : h a = some (.inr (ci, fs))) (hL : ci ∈ L) (hz : kz K ≤ a) (q : κ (up h a (.inr (ci, fs.set k v)))) : pPutL K h (some a) L k v κ := ⟨a, ci, fs, rfl, ha, hL, hz, q⟩
theorem x_J2 {κ : AH → Nat → Nat → Prop} {a ci n1 z1 : Nat} {T : List AV} (hc : ci ∈ [3, 6, 21, 22, 23]) (hz : kz K ≤ a) (q : κ (up h a (ExO K a ci T)) n1 z1) : P_J2_init K a κ χ (up h a (.inr (ci, vR none :: vR none :: vR none :: vR none :: vR none :: vI 0 :: T))) n1 z1 := by
  refine pPutL_i (up_same _ _ _) hc hz ?_
  rw [up_up]
  refine pPutL_i (up_same _ _ _) hc hz ?_
  rw [up_up]
  refine pPutL_i (up_same _ _ _) hc hz ?_
  rw [up_up]
  exact ⟨a, ci, _, rfl, up_same _ _ _, hc, hz, rfl, rfl, q⟩
theorem x_J2c {κ : AH → Nat → Nat → Prop} {a ci n1 z1 : Nat} {T : List AV} {c : Option Nat} (hc : ci ∈ [3, 6, 21, 22, 23]) (hz : kz K ≤ a) (q : κ (up h a (.inr (ci, vR c :: vR (kr K 0) :: vR (kr K 1) :: vR none :: vR none :: vI 0 :: T))) n1 z1) : P_J2_init_3 K a κ χ (up h a (.inr (ci, vR none :: vR none :: vR none :: vR none :: vR none :: vI 0 :: T))) n1 z1 none c := by
  refine pPutL_i (up_same _ _ _) hc hz ?_
  rw [up_up]
  refine pPutL_i (up_same _ _ _) hc hz ?_
  rw [up_up]
  refine pPutL_i (up_same _ _ _) hc hz ?_
  rw [up_up]
  refine ⟨a, ci, _, rfl, up_same _ _ _, hc, hz, rfl, rfl, pPutL_i (up_same _ _ _) hc hz ?_⟩
  rw [up_up]
  refine pPutL_i (up_same _ _ _) hc hz ?_
  rw [up_up]
  exact q
/-- a new exception of the class ci is thrown -/
theorem x_new {ci : Nat} {κ2 : (AH → Nat → Nat → Prop) → AH → Nat → Nat → Prop} (hw : WfH h n) (hci : ci ∈ [21, 22, 23]) (hz : kz K ≤ n) (hkn : n + 1 ≤ kn K ∧ z + 6 ≤ kw K) (hκ : ∀ k h1 n1 z1, P_J9_init_2 K n k χ h1 n1 z1 → κ2 k h1 n1 z1) (q : χ ci n (up h n (ExO K n ci [])) (n + 1) (z + 6)) :
    pNew K h n z (.inr (ci, [vR none, vR none, vR none, vR none, vR none, vI 0])) 6 (fun h11 => κ2 (fun h12 n13 z14 => pThrow K h12 (some n) (fun ci15 q16 => χ ci15 q16 h12 n13 z14)) h11 (n + 1) (z + 6)) := by
  refine ⟨hkn.1, hkn.2, hκ _ _ _ _ ?_⟩
  unfold P_J9_init_2 P_J3_init
  refine x_J2 (T := []) ?_ hz ⟨n, ci, _, rfl, up_same _ _ _, hz, q⟩
  simp only [List.mem_cons, List.not_mem_nil, or_false] at hci ⊢
  omega
theorem x_iae (hw : WfH h n) (hz : kz K ≤ n) (hkn : n + 1 ≤ kn K ∧ z + 6 ≤ kw K) (q : χ 21 n (up h n (ExO K n 21 [])) (n + 1) (z + 6)) : pNew K h n z (.inr (21, [vR none, vR none, vR none, vR none, vR none, vI 0])) 6 (fun h11 => P_J10_init_2 K n (fun h12 n13 z14 => pThrow K h12 (some n) (fun ci15 q16 => χ ci15 q16 h12 n13 z14)) χ h11 (n + 1) (z + 6)) :=
  x_new (κ2 := fun k h1 n1 z1 => P_J10_init_2 K n k χ h1 n1 z1) hw (by decide) hz hkn (fun _ _ _ _ w => w) q
theorem x_ise (hw : WfH h n) (hz : kz K ≤ n) (hkn : n + 1 ≤ kn K ∧ z + 6 ≤ kw K) (q : χ 22 n (up h n (ExO K n 22 [])) (n + 1) (z + 6)) : pNew K h n z (.inr (22, [vR none, vR none, vR none, vR none, vR none, vI 0])) 6 (fun h11 => P_J17_init_2 K n (fun h12 n13 z14 => pThrow K h12 (some n) (fun ci15 q16 => χ ci15 q16 h12 n13 z14)) χ h11 (n + 1) (z + 6)) :=
  x_new (κ2 := fun k h1 n1 z1 => P_J17_init_2 K n k χ h1 n1 z1) hw (by decide) hz hkn (fun _ _ _ _ w => w) q
theorem x_ioo (hw : WfH h n) (hz : kz K ≤ n) (hkn : n + 1 ≤ kn K ∧ z + 6 ≤ kw K) (q : χ 23 n (up h n (ExO K n 23 [])) (n + 1) (z + 6)) : pNew K h n z (.inr (23, [vR none, vR none, vR none, vR none, vR none, vI 0])) 6 (fun h11 => P_J18_init_2 K n (fun h12 n13 z14 => pThrow K h12 (some n) (fun ci15 q16 => χ ci15 q16 h12 n13 z14)) χ h11 (n + 1) (z + 6)) :=
  x_new (κ2 := fun k h1 n1 z1 => P_J18_init_2 K n k χ h1 n1 z1) hw (by decide) hz hkn (fun _ _ _ _ w => w) q
/-- a PlaceException -/
theorem x_place {r : Int} (hw : WfH h n) (hz : kz K ≤ n) (hkn : n + 1 ≤ kn K ∧ z + 7 ≤ kw K) (q : χ 3 n (up h n (ExO K n 3 [vI r])) (n + 1) (z + 7)) : pNew K h n z (.inr (3, [vR none, vR none, vR none, vR none, vR none, vI 0, vI 0])) 7 (fun h11 => P_X4_init K n (fun h12 n13 z14 => pThrow K h12 (some n) (fun ci15 q16 => χ ci15 q16 h12 n13 z14)) χ h11 (n + 1) (z + 7) r) := by
  refine ⟨hkn.1, hkn.2, ?_⟩
  show P_X4_init K n _ χ _ (n + 1) (z + 7) r
  unfold P_X4_init P_J3_init
  refine x_J2 (ci := 3) (T := [vI 0]) (by decide) hz (pPut_i (up_same _ _ _) hz ?_)
  rw [up_up]
  exact ⟨n, 3, _, rfl, up_same _ _ _, hz, q⟩
theorem c_need {κ : AH → Nat → Nat → Prop} {o : Nat} {x lo hi : Int} (hw : WfH h n) (hz : kz K ≤ n) (hkn : n + 1 ≤ kn K ∧ z + 6 ≤ kw K) (h1 : InR x) (h2 : InR lo) (h3 : InR hi) (ok : lo ≤ x ∧ x ≤ hi → κ h n z) (no : ¬ (lo ≤ x ∧ x ≤ hi) → χ 21 n (up h n (ExO K n 21 [])) (n + 1) (z + 6)) : P_X1_need K o κ χ h n z x lo hi :=
  ⟨h1, h2, fun c => x_iae hw hz hkn (no (by omega)), fun c => ⟨h3, fun d => x_iae hw hz hkn (no (by omega)), fun d => ok (by omega)⟩⟩
end EX
