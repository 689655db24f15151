set_option maxRecDepth 100000
/-- the texts of the String constants, by their places in litS -/
def litBy : List (List Int) := [[], [], [109, 97, 112], [98, 108, 97, 122, 101], [98, 108, 111, 99, 107], [108, 111, 115, 101], [109, 101, 110, 100], [103, 97, 112], [109, 105, 115, 115], [114, 101, 100], [98, 108, 117, 101], [119, 104, 105, 116, 101], [103, 111, 108, 100], [110, 101, 115, 119], [120], [110, 101, 115, 119], [94, 62, 118, 60, 111], [109, 97, 112, 32, 49, 50, 32, 49, 48, 32, 53, 32, 49, 59, 32, 98, 108, 97, 122, 101, 32, 114, 101, 100, 32, 49, 32, 49, 32, 51, 32, 101, 32, 50, 32, 115, 32, 120, 32, 50, 32, 101, 32, 50, 32, 115, 59, 32, 98, 108, 97, 122, 101, 32, 98, 108, 117, 101, 32, 48, 32, 57, 32, 50, 32, 40, 32, 50, 32, 110, 32, 49, 32, 101, 32, 41, 32, 51, 32, 101, 59, 32, 98, 108, 111, 99, 107, 32, 53, 32, 48, 32, 50, 32, 54, 59], [109, 97, 112], [98, 108, 97, 122, 101], [114, 101, 100], [98, 108, 117, 101], [119, 104, 105, 116, 101], [103, 111, 108, 100], [110], [101], [115], [119], [120], [98, 108, 111, 99, 107], [108, 111, 115, 101], [109, 101, 110, 100], [103, 97, 112], [109, 105, 115, 115], [110, 101, 115, 119], [94, 62, 118, 60, 111]]
def litLen (i : Nat) : Int := ((litBy.getD i []).length : Int)
def litCh (i : Nat) (k : Int) : Int := (litBy.getD i []).getD k.toNat 0
def LitOK (K : KT) (h : AH) : Prop := ∀ i : Nat, i < 36 → (∃ hs hz : Int, h (kl K i) = some (.inr (13, [vR (some (kl K (100 + i))), vI 0, vI hs, vI hz]))) ∧ h (kl K (100 + i)) = some (.inl (1, (litBy.getD i []).length, .inl (litCh i))) ∧ kl K i < kz K ∧ kl K (100 + i) < kz K
theorem lit_by : ∀ l ∈ litBy, ∀ c ∈ l, (0 : Int) ≤ c ∧ c < 128 := by decide +kernel
theorem lit_sz : ∀ i, i < 36 → (litBy.getD i []).length < 1000 := by decide +kernel
theorem lit_ch {i : Nat} {k : Int} (hk : 0 ≤ k ∧ k < litLen i) : 0 ≤ litCh i k ∧ litCh i k < 128 := by
  unfold litCh litLen at *
  have h1 : k.toNat < (litBy.getD i []).length := by omega
  rw [List.getD_eq_getElem?_getD, List.getElem?_eq_getElem h1]
  simp only [Option.getD_some]
  by_cases hi : i < litBy.length
  · have h2 : litBy.getD i [] = litBy[i] := by rw [List.getD_eq_getElem?_getD, List.getElem?_eq_getElem hi]; rfl
    refine lit_by (litBy.getD i []) (by rw [h2]; exact List.getElem_mem _) _ (List.getElem_mem _)
  · exfalso
    rw [List.getD_eq_getElem?_getD, List.getElem?_eq_none (by omega)] at h1
    simp at h1
theorem ishr0 {a : Int} (h : InR a) : ishr a 0 = a := by
  unfold ishr
  have : iN a >>> (iN 0 &&& 31) = iN a := sb_shr0 (iN a)
  rw [this, iN_toInt h]
theorem asc_c : ∀ c : Nat, c < 256 → iand (c : Int) 255 = c ∧ i2c (c : Int) = c ∧ narrow .char (.int (iN (c : Int))) = .int (iN (c : Int)) := by decide +kernel
theorem asc_i {c : Int} (h : 0 ≤ c ∧ c < 256) : iand c 255 = c ∧ i2c c = c ∧ narrow .char (.int (iN c)) = .int (iN c) := by
  have := asc_c c.toNat (by omega)
  rw [Int.toNat_of_nonneg h.1] at this
  exact this
theorem tw_lo {t : Nat} {σ : TS} {h0 : AH} {a : Nat} (h : a < t) : tw t σ h0 a = h0 a := by
  unfold tw
  rw [if_neg (by omega), if_neg (by omega)]
theorem tw_lit {K : KT} {t : Nat} {σ : TS} {h0 : AH} (hz : kz K ≤ t) (hL : LitOK K h0) : LitOK K (tw t σ h0) := by
  intro i hi
  obtain ⟨⟨hs, hz1, h1⟩, h2, h3, h4⟩ := hL i hi
  exact ⟨⟨hs, hz1, by rw [tw_lo (by omega)]; exact h1⟩, by rw [tw_lo (by omega)]; exact h2, h3, h4⟩
/-- length() of a String constant -/
theorem lit_len {K : KT} {h : AH} {n z i : Nat} {κ : Int → AH → Nat → Nat → Prop} {χ : QxT} (hL : LitOK K h) (hi : i < 36) (hk : κ (litLen i) h n z) : P_J4_length K (kl K i) κ χ h n z := by
  obtain ⟨⟨hs, hz1, h1⟩, h2, h3, h4⟩ := hL i hi
  have hsz := lit_sz i hi
  have hr : InR ((litBy.getD i []).length : Int) := ⟨by omega, by omega⟩
  refine ⟨_, _, _, rfl, h1, rfl, _, _, _, rfl, h2, _, _, rfl, h1, ?_⟩
  refine ⟨_, _, _, rfl, h1, rfl, rfl, ?_⟩
  show κ (ishr _ 0) h n z
  rw [ishr0 hr]
  exact hk
/-- charAt(k) of a String constant -/
theorem lit_char {K : KT} {h : AH} {n z i : Nat} {k : Int} {κ : Int → AH → Nat → Nat → Prop} {χ : QxT} (hL : LitOK K h) (hi : i < 36) (hk0 : 0 ≤ k ∧ k < litLen i) (hk : κ (litCh i k) h n z) : P_J4_charAt K (kl K i) κ χ h n z k := by
  obtain ⟨⟨hs, hz1, h1⟩, h2, h3, h4⟩ := hL i hi
  have hsz := lit_sz i hi
  have hl : litLen i = ((litBy.getD i []).length : Int) := rfl
  have hb := lit_ch hk0
  obtain ⟨e1, e2, e3⟩ := asc_i (c := litCh i k) (by omega)
  refine ⟨_, _, rfl, h1, ⟨_, _, _, rfl, h1, rfl, (by decide), fun _ => ?_, fun q => absurd rfl q⟩⟩
  refine ⟨by decide, fun q => absurd q (by decide), fun _ => ⟨_, _, _, rfl, h1, rfl, ?_⟩⟩
  refine ⟨_, _, _, rfl, h2, ?_⟩
  refine ⟨⟨by omega, by omega⟩, fun q => absurd q (by omega), fun _ => ⟨⟨by omega, by omega⟩, fun _ => ?_, fun q => absurd (by omega) q⟩⟩
  refine ⟨_, _, _, rfl, h2, ⟨by omega, by omega⟩, ?_⟩
  dsimp only
  rw [e1, e2]
  exact ⟨e3, e3, hk⟩
section LT
variable {K : KT} {own mn : String} {cc : ByteArray} {rt : Option FieldType} {tb : List ExceptionTableEntry} {nL fr lo : Nat} {Y : YT} {h0 : AH} {n z : Nat} {pc : Nat} {lv : List (Nat × AV)} {st : List AV} {t : Nat} {σ : TS}
theorem r_tslen (X : XY K own mn cc rt tb nL fr lo Y) {i j : Nat} (hz : kz K ≤ t) (hL : LitOK K h0) (hi : i < 36) (M : MV own j yJ4_length cJ4_length 1 (some .int) 0) (hR : 1 + 1 ≤ fr ∧ 8 + (1 + 11) + 20 ≤ lo) (hst : (st.map cat).sum ≤ 8) (d : decode cc pc = .ok (.invokevirtual j, 3)) (kk : G K Y (tw t σ h0) n z (pc + 3) lv (vI (litLen i) :: st)) : G K Y (tw t σ h0) n z pc lv (vR (some (kl K i)) :: st) := by
  obtain ⟨⟨hs, hz1, h1⟩, -⟩ := tw_lit (σ := σ) hz hL i hi
  refine r_callV X (As := []) rfl rfl rfl h1 M (fun _ => s_J4_length (lit_len (κ := fun r h n1 z1 => r = litLen i ∧ tw t σ h0 = h ∧ n = n1 ∧ z = z1) (χ := noX) (tw_lit hz hL) hi ⟨rfl, rfl, rfl, rfl⟩)) hR hst d (fun v h1 n1 z1 hq => ?_) (fun _ _ _ _ _ hf => hf.elim)
  obtain ⟨r, rfl, rfl, rfl, rfl, rfl⟩ := hq
  exact ⟨[vI (litLen i)], rfl, kk⟩
theorem r_tschar (X : XY K own mn cc rt tb nL fr lo Y) {i j : Nat} {k : Int} (hz : kz K ≤ t) (hL : LitOK K h0) (hi : i < 36) (hk : 0 ≤ k ∧ k < litLen i) (M : MV own j yJ4_charAt cJ4_charAt 2 (some .char) 1) (hR : 3 + 1 ≤ fr ∧ 8 + (2 + 11) + 64 ≤ lo) (hst : (st.map cat).sum ≤ 8) (d : decode cc pc = .ok (.invokevirtual j, 3)) (kk : G K Y (tw t σ h0) n z (pc + 3) lv (vI (litCh i k) :: st)) : G K Y (tw t σ h0) n z pc lv (vI k :: vR (some (kl K i)) :: st) := by
  obtain ⟨⟨hs, hz1, h1⟩, -⟩ := tw_lit (σ := σ) hz hL i hi
  refine r_callV X (As := [vI k]) rfl rfl rfl h1 M (fun _ => s_J4_charAt (lit_char (κ := fun r h n1 z1 => r = litCh i k ∧ tw t σ h0 = h ∧ n = n1 ∧ z = z1) (χ := noX) (tw_lit hz hL) hi hk ⟨rfl, rfl, rfl, rfl⟩)) hR hst d (fun v h1 n1 z1 hq => ?_) (fun _ _ _ _ _ hf => hf.elim)
  obtain ⟨r, rfl, rfl, rfl, rfl, rfl⟩ := hq
  exact ⟨[vI (litCh i k)], rfl, kk⟩
end LT
