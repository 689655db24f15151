/-! the reference's object: one cell of 53 fields at t, its 21 arrays behind it; its state is a pair of tables, of the scalars and of the arrays, by the fields' numbers -/
set_option maxRecDepth 100000
abbrev TS : Type := (Nat → Int) × (Nat → Int → Int)
/-- field, element type, length -/
def twA : List (Nat × Nat × Nat) := [(0, 0, 526), (1, 0, 526), (2, 0, 4208), (3, 0, 1052), (4, 0, 526), (5, 2, 2), (8, 0, 700), (9, 0, 1500), (25, 0, 25), (26, 0, 1000), (27, 0, 100), (28, 0, 100), (29, 0, 60), (30, 2, 100), (31, 2, 24), (44, 0, 25), (45, 0, 25), (46, 0, 25), (47, 2, 25), (51, 2, 2000), (52, 2, 2000)]
/-- a branch of the predicates -/
def pIf (c A B : Prop) : Prop := (c → A) ∧ (¬ c → B)
def twJ (k : Nat) : Nat := twA.findIdx (fun q => q.1 == k)
def twAd (t k : Nat) : Nat := t + 1 + twJ k
def twSc (k : Nat) : Bool := decide (k < 53) && !(twA.any (fun q => q.1 == k))
def twOK (k ty N : Nat) : Prop := twA[twJ k]? = some (k, ty, N)
def setS (σ : TS) (k : Nat) (v : Int) : TS := (fun j => if j = k then v else σ.1 j, σ.2)
def setA (σ : TS) (k : Nat) (f : Int → Int) : TS := (σ.1, fun j => if j = k then f else σ.2 j)
def twF (t : Nat) (σ : TS) (k : Nat) : AV := if twA.any (fun q => q.1 == k) = true then vR (some (twAd t k)) else vI (σ.1 k)
def twFs (t : Nat) (σ : TS) : List AV := (List.range 53).map (twF t σ)
def tw (t : Nat) (σ : TS) (h0 : AH) : AH := fun q => if q = t then some (.inr (4, twFs t σ)) else match (if t < q then twA[q - t - 1]? else none) with
  | some (k, ty, N) => some (.inl (ty, N, .inl (σ.2 k)))
  | none => h0 q
theorem tw_t (t : Nat) (σ : TS) (h0 : AH) : tw t σ h0 t = some (.inr (4, twFs t σ)) := by simp [tw]
theorem twFs_I {t : Nat} {σ : TS} {k : Nat} (hk : twSc k = true) : (twFs t σ)[k]? = some (vI (σ.1 k)) := by
  simp only [twSc, Bool.and_eq_true, decide_eq_true_eq, Bool.not_eq_true'] at hk
  unfold twFs
  rw [List.getElem?_map, List.getElem?_range hk.1]
  simp [twF, hk.2]
theorem twOK_any {k ty N : Nat} (h : twOK k ty N) : twA.any (fun q => q.1 == k) = true := by
  rw [List.any_eq_true]
  exact ⟨_, List.mem_of_getElem? h, by simp⟩
theorem twFs_R {t : Nat} {σ : TS} {k ty N : Nat} (h : twOK k ty N) (hk : k < 53) : (twFs t σ)[k]? = some (vR (some (twAd t k))) := by
  unfold twFs
  rw [List.getElem?_map, List.getElem?_range hk]
  simp [twF, twOK_any h]
theorem tw_arr {t : Nat} {σ : TS} {h0 : AH} {k ty N : Nat} (h : twOK k ty N) : tw t σ h0 (twAd t k) = some (.inl (ty, N, .inl (σ.2 k))) := by
  unfold tw twAd
  have h1 : ¬ t + 1 + twJ k = t := by omega
  have h2 : t < t + 1 + twJ k := by omega
  have h3 : t + 1 + twJ k - t - 1 = twJ k := by omega
  rw [if_neg h1, if_pos h2, h3, h]
theorem tw_setS {t : Nat} {σ : TS} {h0 : AH} {k : Nat} {v : Int} (hk : twSc k = true) : up (tw t σ h0) t (.inr (4, (twFs t σ).set k (vI v))) = tw t (setS σ k v) h0 := by
  funext q
  unfold up tw
  by_cases hq : q = t
  · subst hq
    simp only [if_true]
    congr 3
    simp only [twSc, Bool.and_eq_true, decide_eq_true_eq, Bool.not_eq_true'] at hk
    apply List.ext_getElem?
    intro j
    unfold twFs
    by_cases hj : j = k
    · subst hj
      rw [List.getElem?_set_self (by simp; exact hk.1), List.getElem?_map, List.getElem?_range hk.1]
      simp [twF, hk.2, setS]
    · rw [List.getElem?_set_ne (Ne.symm hj), List.getElem?_map, List.getElem?_map]
      by_cases hj53 : j < 53
      · rw [List.getElem?_range hj53]
        simp [twF, setS, hj]
      · rw [List.getElem?_eq_none (by simp; omega)]; rfl
  · simp only [if_neg hq, setS]
theorem tw_uniq : ∀ j, j < 21 → twJ ((twA.getD j (0, 0, 0)).1) = j := by decide +kernel
theorem tw_ix {j k ty N : Nat} (h : twA[j]? = some (k, ty, N)) : twJ k = j := by
  have hj : j < 21 := (List.getElem?_eq_some_iff.mp h).1
  have h1 := tw_uniq j hj
  rw [List.getD_eq_getElem?_getD, h] at h1
  exact h1
theorem tw_setA {t : Nat} {σ : TS} {h0 : AH} {k ty N : Nat} {f : Int → Int} (h : twOK k ty N) : up (tw t σ h0) (twAd t k) (.inl (ty, N, .inl f)) = tw t (setA σ k f) h0 := by
  funext q
  unfold up
  by_cases hq : q = twAd t k
  · subst hq
    rw [if_pos rfl, tw_arr h]
    simp [setA]
  · rw [if_neg hq]
    unfold tw
    by_cases hqt : q = t
    · rw [if_pos hqt, if_pos hqt]; rfl
    · rw [if_neg hqt, if_neg hqt]
      by_cases hlt : t < q
      · rw [if_pos hlt]
        cases hm : twA[q - t - 1]? with
        | none => rfl
        | some e =>
          obtain ⟨k', ty', N'⟩ := e
          have h1 := tw_ix hm
          have : ¬ k' = k := by
            intro e
            subst e
            exact hq (by unfold twAd; omega)
          simp [setA, this]
      · rw [if_neg hlt]
section TWR
variable {K : KT} {own mn : String} {cc : ByteArray} {rt : Option FieldType} {tb : List ExceptionTableEntry} {nL fr lo : Nat} {Y : YT} {h0 : AH} {n z : Nat} {pc : Nat} {lv : List (Nat × AV)} {st : List AV} {t : Nat} {σ : TS}
theorem r_tgI (X : XY K own mn cc rt tb nL fr lo Y) {i k : Nat} {v : Int} (fa : FA own i 4 k) (hk : twSc k = true) (hv : σ.1 k = v) (d : decode cc pc = .ok (.getfield i, 3)) (kk : G K Y (tw t σ h0) n z (pc + 3) lv (vI v :: st)) : G K Y (tw t σ h0) n z pc lv (vR (some t) :: st) :=
  r_getf X fa d (tw_t t σ h0) (twFs_I hk) (by rw [hv]; exact kk)
theorem r_tgR (X : XY K own mn cc rt tb nL fr lo Y) {i k ty N : Nat} (fa : FA own i 4 k) (hk : twOK k ty N) (hk1 : k < 53) (d : decode cc pc = .ok (.getfield i, 3)) (kk : G K Y (tw t σ h0) n z (pc + 3) lv (vR (some (twAd t k)) :: st)) : G K Y (tw t σ h0) n z pc lv (vR (some t) :: st) :=
  r_getf X fa d (tw_t t σ h0) (twFs_R hk hk1) kk
theorem r_tpI (X : XY K own mn cc rt tb nL fr lo Y) {i k : Nat} {v : Int} (fa : FP own i 4 k .int false) (hz : kz K ≤ t) (hk : twSc k = true) (d : decode cc pc = .ok (.putfield i, 3)) (kk : G K Y (tw t (setS σ k v) h0) n z (pc + 3) lv st) : G K Y (tw t σ h0) n z pc lv (vI v :: vR (some t) :: st) :=
  r_putf X fa d (tw_t t σ h0) hz rfl rfl (by rw [tw_setS hk]; exact kk)
theorem r_tpZ (X : XY K own mn cc rt tb nL fr lo Y) {i k : Nat} {v : Int} (fa : FP own i 4 k .boolean false) (hz : kz K ≤ t) (hk : twSc k = true) (hv : v = 0 ∨ v = 1) (d : decode cc pc = .ok (.putfield i, 3)) (kk : G K Y (tw t (setS σ k v) h0) n z (pc + 3) lv st) : G K Y (tw t σ h0) n z pc lv (vI v :: vR (some t) :: st) :=
  r_putf X fa d (tw_t t σ h0) hz (by rcases hv with rfl | rfl <;> rfl) (by rcases hv with rfl | rfl <;> decide) (by rw [tw_setS hk]; exact kk)
theorem r_tlen (X : XY K own mn cc rt tb nL fr lo Y) {k ty N : Nat} {f : FieldType} (ht : vwTy[ty]? = some f) (hk : twOK k ty N) (d : decode cc pc = .ok (.arraylength, 1)) (kk : G K Y (tw t σ h0) n z (pc + 1) lv (vI (N : Int) :: st)) : G K Y (tw t σ h0) n z pc lv (vR (some (twAd t k)) :: st) :=
  r_alen X ht d (tw_arr hk) kk
theorem r_tiald (X : XY K own mn cc rt tb nL fr lo Y) {k N : Nat} {i v : Int} (hk : twOK k 0 N) (hv : σ.2 k i = v) (d : decode cc pc = .ok (.iaload, 1)) (hi : 0 ≤ i ∧ i < N) (kk : G K Y (tw t σ h0) n z (pc + 1) lv (vI v :: st)) : G K Y (tw t σ h0) n z pc lv (vI i :: vR (some (twAd t k)) :: st) :=
  r_iald X (t := 0) rfl d (tw_arr hk) hi.1 hi.2 (by rw [hv]; exact kk)
theorem r_tzald (X : XY K own mn cc rt tb nL fr lo Y) {k N : Nat} {i v : Int} (hk : twOK k 2 N) (hv : σ.2 k i = v) (d : decode cc pc = .ok (.baload, 1)) (hi : 0 ≤ i ∧ i < N) (kk : G K Y (tw t σ h0) n z (pc + 1) lv (vI v :: st)) : G K Y (tw t σ h0) n z pc lv (vI i :: vR (some (twAd t k)) :: st) :=
  r_zald X (t := 2) rfl d (tw_arr hk) hi.1 hi.2 (by rw [hv]; exact kk)
theorem r_tiast (X : XY K own mn cc rt tb nL fr lo Y) {k N : Nat} {i v : Int} (hz : kz K ≤ t) (hk : twOK k 0 N) (d : decode cc pc = .ok (.iastore, 1)) (hi : 0 ≤ i ∧ i < N) (kk : G K Y (tw t (setA σ k (uI (σ.2 k) i v)) h0) n z (pc + 1) lv st) : G K Y (tw t σ h0) n z pc lv (vI v :: vI i :: vR (some (twAd t k)) :: st) :=
  r_iast X (t := 0) rfl d (tw_arr hk) (by unfold twAd; omega) hi.1 hi.2 (by rw [tw_setA hk]; exact kk)
theorem r_tzast (X : XY K own mn cc rt tb nL fr lo Y) {k N : Nat} {i v : Int} (hz : kz K ≤ t) (hk : twOK k 2 N) (hv : v = 0 ∨ v = 1) (d : decode cc pc = .ok (.bastore, 1)) (hi : 0 ≤ i ∧ i < N) (kk : G K Y (tw t (setA σ k (uI (σ.2 k) i v)) h0) n z (pc + 1) lv st) : G K Y (tw t σ h0) n z pc lv (vI v :: vI i :: vR (some (twAd t k)) :: st) :=
  r_zast X (t := 2) rfl d (tw_arr hk) (by unfold twAd; omega) hi.1 hi.2 hv (by rw [tw_setA hk]; exact kk)
end TWR
/-- what holds behind a method of the reference -/
def tQ (t : Nat) (h0 : AH) (n z : Nat) (κ : Int → TS → Prop) : QvT := QvI (fun r h n1 z1 => n = n1 ∧ z = z1 ∧ ∃ σ, h = tw t σ h0 ∧ κ r σ)
def tQv (t : Nat) (h0 : AH) (n z : Nat) (κ : TS → Prop) : QvT := QvV (fun h n1 z1 => n = n1 ∧ z = z1 ∧ ∃ σ, h = tw t σ h0 ∧ κ σ)
def tQj (t : Nat) (h0 : AH) (n z : Nat) (κ : Int64 → TS → Prop) : QvT := QvJ (fun r h n1 z1 => n = n1 ∧ z = z1 ∧ ∃ σ, h = tw t σ h0 ∧ κ r σ)
def tQd (t : Nat) (h0 : AH) (n z : Nat) (κ : UInt64 → TS → Prop) : QvT := QvD (fun r h n1 z1 => n = n1 ∧ z = z1 ∧ ∃ σ, h = tw t σ h0 ∧ κ r σ)
/-- .. of a method that does not touch the heap -/
def pQ (h : AH) (n z : Nat) (κ : Int → Prop) : QvT := QvI (fun r h1 n1 z1 => h = h1 ∧ n = n1 ∧ z = z1 ∧ κ r)
