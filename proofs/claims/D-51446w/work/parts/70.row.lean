set_option maxRecDepth 100000
/-! PHASE 2. The row of ints as the common value: its parts, what makes it valid, and the reference's small functions over it -/
abbrev Row : Type := Int → Int
def rPf (f : Row) (k w : Int) : Int := f (406 + k * 5 + w)
def rBlk (f : Row) (x y : Int) : Int := f (6 + 20 * y + x)
abbrev rOn (f : Row) (x y : Int) : Prop := 0 ≤ x ∧ x < f 0 ∧ 0 ≤ y ∧ y < f 1
/-- a valid row, but for the number of its blocks -/
def RowOK (f : Row) : Prop :=
  (4 ≤ f 0 ∧ f 0 ≤ 20) ∧
  (4 ≤ f 1 ∧ f 1 ≤ 20) ∧
  (1 ≤ f 2 ∧ f 2 ≤ 12) ∧
  (0 ≤ f 3 ∧ f 3 ≤ 2) ∧
  (0 ≤ f 4 ∧ f 4 ≤ 24) ∧
  (0 ≤ f 5 ∧ f 5 ≤ 20) ∧
  (∀ x y : Int, 0 ≤ x → x < 20 → 0 ≤ y → y < 20 → rBlk f x y = 0 ∨ rBlk f x y = 1) ∧
  (∀ k : Int, 0 ≤ k → k < f 4 → rOn f (rPf f k 0) (rPf f k 1)) ∧
  (∀ k : Int, 0 ≤ k → k < f 4 → 0 ≤ rPf f k 2 ∧ rPf f k 2 < 4) ∧
  (∀ k : Int, 0 ≤ k → k < f 4 → 0 ≤ rPf f k 3 ∧ rPf f k 3 ≤ 4) ∧
  (∀ k : Int, 0 ≤ k → k < f 4 → rPf f k 4 = 0 ∨ rPf f k 4 = 1) ∧
  (∀ j k : Int, 0 ≤ j → j < f 4 → 0 ≤ k → k < f 4 → rPf f j 0 = rPf f k 0 → rPf f j 1 = rPf f k 1 → j = k) ∧
  (∀ k : Int, 0 ≤ k → k < f 4 → rBlk f (rPf f k 0) (rPf f k 1) = 0)
theorem RowOK.w {f : Row} (h : RowOK f) : 4 ≤ f 0 ∧ f 0 ≤ 20 := h.1
theorem RowOK.h {f : Row} (h : RowOK f) : 4 ≤ f 1 ∧ f 1 ≤ 20 := h.2.1
theorem RowOK.gap {f : Row} (h : RowOK f) : 1 ≤ f 2 ∧ f 2 ≤ 12 := h.2.2.1
theorem RowOK.miss {f : Row} (h : RowOK f) : 0 ≤ f 3 ∧ f 3 ≤ 2 := h.2.2.2.1
theorem RowOK.many {f : Row} (h : RowOK f) : 0 ≤ f 4 ∧ f 4 ≤ 24 := h.2.2.2.2.1
theorem RowOK.blocks {f : Row} (h : RowOK f) : 0 ≤ f 5 ∧ f 5 ≤ 20 := h.2.2.2.2.2.1
theorem RowOK.blk {f : Row} (h : RowOK f) : ∀ x y : Int, 0 ≤ x → x < 20 → 0 ≤ y → y < 20 → rBlk f x y = 0 ∨ rBlk f x y = 1 := h.2.2.2.2.2.2.1
theorem RowOK.on {f : Row} (h : RowOK f) : ∀ k : Int, 0 ≤ k → k < f 4 → rOn f (rPf f k 0) (rPf f k 1) := h.2.2.2.2.2.2.2.1
theorem RowOK.colour {f : Row} (h : RowOK f) : ∀ k : Int, 0 ≤ k → k < f 4 → 0 ≤ rPf f k 2 ∧ rPf f k 2 < 4 := h.2.2.2.2.2.2.2.2.1
theorem RowOK.arrow {f : Row} (h : RowOK f) : ∀ k : Int, 0 ≤ k → k < f 4 → 0 ≤ rPf f k 3 ∧ rPf f k 3 ≤ 4 := h.2.2.2.2.2.2.2.2.2.1
theorem RowOK.state {f : Row} (h : RowOK f) : ∀ k : Int, 0 ≤ k → k < f 4 → rPf f k 4 = 0 ∨ rPf f k 4 = 1 := h.2.2.2.2.2.2.2.2.2.2.1
theorem RowOK.apart {f : Row} (h : RowOK f) : ∀ j k : Int, 0 ≤ j → j < f 4 → 0 ≤ k → k < f 4 → rPf f j 0 = rPf f k 0 → rPf f j 1 = rPf f k 1 → j = k := h.2.2.2.2.2.2.2.2.2.2.2.1
theorem RowOK.free {f : Row} (h : RowOK f) : ∀ k : Int, 0 ≤ k → k < f 4 → rBlk f (rPf f k 0) (rPf f k 1) = 0 := h.2.2.2.2.2.2.2.2.2.2.2.2
theorem pIf_pos {c A B : Prop} (h : c) (a : A) : pIf c A B := ⟨fun _ => a, fun q => absurd h q⟩
theorem pIf_neg {c A B : Prop} (h : ¬ c) (b : B) : pIf c A B := ⟨fun q => absurd q h, fun _ => b⟩
/-- a branch whose two ends are one function of the condition -/
theorem pIf_ite {c : Prop} [Decidable c] {α : Type} {κ : α → Prop} {x y : α} (h : κ (if c then x else y)) : pIf c (κ x) (κ y) :=
  ⟨fun q => by rw [if_pos q] at h; exact h, fun q => by rw [if_neg q] at h; exact h⟩
def b2i (c : Prop) [Decidable c] : Int := if c then 1 else 0
theorem t_isIn {κ : Int → Prop} {a lo hi : Int} (h1 : InR a) (h2 : InR lo) (h3 : InR hi) (hk : κ (b2i (lo ≤ a ∧ a ≤ hi))) : P_X5_isIn κ a lo hi := by
  refine ⟨h1, h2, fun c => ?_, fun c => ⟨h3, fun d => ?_, fun d => ?_⟩⟩
  · rw [b2i, if_neg (by omega)] at hk; exact hk
  · rw [b2i, if_neg (by omega)] at hk; exact hk
  · rw [b2i, if_pos (by omega)] at hk; exact hk
theorem t_dx {κ : Int → Prop} {d : Int} (h : InR d) (hk : κ (if d = 1 then 1 else if d = 3 then -1 else 0)) : P_X5_dx κ d := by
  refine ⟨h, fun c => ?_, fun c => ⟨fun e => ?_, fun e => ?_⟩⟩
  · rw [if_pos c] at hk; exact hk
  · rw [if_neg c, if_pos e] at hk; exact hk
  · rw [if_neg c, if_neg e] at hk; exact hk
theorem t_dy {κ : Int → Prop} {d : Int} (h : InR d) (hk : κ (if d = 0 then -1 else if d = 2 then 1 else 0)) : P_X5_dy κ d := by
  refine ⟨h, fun c => ?_, fun c => ⟨fun e => ?_, fun e => ?_⟩⟩
  · rw [if_pos c] at hk; exact hk
  · rw [if_neg c, if_pos e] at hk; exact hk
  · rw [if_neg c, if_neg e] at hk; exact hk
theorem t_of {κ : Int → TS → Prop} {sg : TS} {k w : Int} (h : 0 ≤ k ∧ k < 24 ∧ 0 ≤ w ∧ w < 5) (hk : κ (rPf (sg.2 0) k w) sg) : P_X5_of κ sg k w := ⟨⟨by omega, by omega⟩, hk⟩
theorem b2i_cases (c : Prop) [Decidable c] : b2i c = 0 ∨ b2i c = 1 := by
  unfold b2i
  by_cases h : c
  · rw [if_pos h]; exact Or.inr rfl
  · rw [if_neg h]; exact Or.inl rfl
theorem b2i_inr (c : Prop) [Decidable c] : InR (b2i c) := by rcases b2i_cases c with h | h <;> rw [h] <;> decide
theorem b2i_z {c : Prop} [Decidable c] : b2i c = 0 ↔ ¬ c := by
  unfold b2i
  by_cases h : c
  · rw [if_pos h]; exact ⟨fun q => absurd q (by decide), fun q => absurd h q⟩
  · rw [if_neg h]; exact ⟨fun _ => h, fun _ => rfl⟩
theorem t_isOn {κ : Int → TS → Prop} {sg : TS} {x y : Int} (hr : RowOK (sg.2 0)) (hx : InR x) (hy : InR y) (hk : κ (b2i (rOn (sg.2 0) x y)) sg) : P_X5_isOn κ sg x y := by
  have h1 := hr.w; have h2 := hr.h
  refine t_isIn hx (by decide) ⟨by omega, by omega⟩ ⟨b2i_inr _, fun c => ?_, fun c => t_isIn hy (by decide) ⟨by omega, by omega⟩ ⟨b2i_inr _, fun d => ?_, fun d => ?_⟩⟩
  · have c := b2i_z.mp c
    rw [b2i, if_neg (by unfold rOn; omega)] at hk; exact hk
  · have d := b2i_z.mp d
    rw [b2i, if_neg (by unfold rOn; omega)] at hk; exact hk
  · have c := Decidable.not_not.mp (fun q => c (b2i_z.mpr q))
    have d := Decidable.not_not.mp (fun q => d (b2i_z.mpr q))
    rw [b2i, if_pos (by unfold rOn; omega)] at hk; exact hk
theorem t_isBlock {κ : Int → TS → Prop} {sg : TS} {x y : Int} (hr : RowOK (sg.2 0)) (h : 0 ≤ x ∧ x < 20 ∧ 0 ≤ y ∧ y < 20) (hk : κ (rBlk (sg.2 0) x y) sg) : P_X5_isBlock κ sg x y := by
  have hb := hr.blk x y h.1 h.2.1 h.2.2.1 h.2.2.2
  refine ⟨⟨by omega, by omega⟩, ?_, fun c => ?_, fun c => ?_⟩
  · show InR (rBlk (sg.2 0) x y)
    rcases hb with q | q <;> rw [q] <;> decide
  · have c : rBlk (sg.2 0) x y = 1 := c
    rw [c] at hk; exact hk
  · rcases hb with q | q
    · rw [q] at hk; exact hk
    · exact absurd q c
/-- the first k, of n from k on, with p; -1 if there is none -/
def fnd (p : Int → Prop) [DecidablePred p] : Nat → Int → Int
  | 0, _ => -1
  | n + 1, k => if p k then k else fnd p n (k + 1)
theorem fnd_spec (p : Int → Prop) [DecidablePred p] : ∀ (n : Nat) (k : Int), (fnd p n k = -1 ∧ ∀ j, k ≤ j → j < k + n → ¬ p j) ∨ (k ≤ fnd p n k ∧ fnd p n k < k + n ∧ p (fnd p n k) ∧ ∀ j, k ≤ j → j < fnd p n k → ¬ p j) := by
  intro n
  induction n with
  | zero => intro k; exact Or.inl ⟨rfl, fun j h1 h2 => by omega⟩
  | succ n ih =>
    intro k
    unfold fnd
    by_cases hp : p k
    · rw [if_pos hp]; exact Or.inr ⟨Int.le_refl _, by omega, hp, fun j h1 h2 => by omega⟩
    · rw [if_neg hp]
      rcases ih (k + 1) with ⟨h1, h2⟩ | ⟨h1, h2, h3, h4⟩
      · refine Or.inl ⟨h1, fun j a b => ?_⟩
        by_cases e : j = k
        · rw [e]; exact hp
        · exact h2 j (by omega) (by omega)
      · refine Or.inr ⟨by omega, by omega, h3, fun j a b => ?_⟩
        by_cases e : j = k
        · rw [e]; exact hp
        · exact h4 j (by omega) b
/-- the post at a cell; -1 if there is none -/
def rAt (f : Row) (x y : Int) : Int := fnd (fun k => rPf f k 0 = x ∧ rPf f k 1 = y) (f 4).toNat 0
theorem t_postAt_loop {κ : Int → TS → Prop} {sg : TS} {x y : Int} (hr : RowOK (sg.2 0)) (hx : InR x) (hy : InR y) : ∀ (n : Nat) (k : Int), 0 ≤ k → k + n = sg.2 0 4 → κ (fnd (fun k => rPf (sg.2 0) k 0 = x ∧ rPf (sg.2 0) k 1 = y) n k) sg →
    L_X5_postAt_2 (fun sg x3 => P_X5_postAt_32 κ sg x3) (fun sg => P_X5_postAt_40 κ sg) κ (n + 1) sg x y k := by
  have hm := hr.many
  intro n
  induction n with
  | zero =>
    intro k h0 hk hq
    exact ⟨⟨by omega, by omega⟩, ⟨by omega, by omega⟩, pIf_neg (by omega) hq⟩
  | succ n ih =>
    intro k h0 hk hq
    have ho := hr.on k h0 (by omega)
    have hw := hr.w; have hh := hr.h
    have nx : ¬ (rPf (sg.2 0) k 0 = x ∧ rPf (sg.2 0) k 1 = y) → L_X5_postAt_2 (fun sg x3 => P_X5_postAt_32 κ sg x3) (fun sg => P_X5_postAt_40 κ sg) κ (n + 1) sg x y (k + 1) := fun q => by
      refine ih (k + 1) (by omega) (by omega) ?_
      unfold fnd at hq
      rw [if_neg q] at hq; exact hq
    refine ⟨⟨by omega, by omega⟩, ⟨by omega, by omega⟩, pIf_pos (by omega) (t_of ⟨h0, by omega, by decide, by decide⟩ ⟨⟨by omega, by omega⟩, hx, fun c => ?_, fun c => ?_⟩)⟩
    · refine t_of ⟨h0, by omega, by decide, by decide⟩ ⟨⟨by omega, by omega⟩, hy, fun e => ?_, fun e => ?_⟩
      · unfold fnd at hq
        rw [if_pos ⟨c, e⟩] at hq; exact hq
      · exact nx (fun q => e q.2)
    · exact nx (fun q => c q.1)
theorem t_postAt {κ : Int → TS → Prop} {sg : TS} {x y : Int} (hr : RowOK (sg.2 0)) (hx : InR x) (hy : InR y) (hk : κ (rAt (sg.2 0) x y) sg) : P_X5_postAt κ sg x y := by
  have hm := hr.many
  exact ⟨(sg.2 0 4).toNat + 1, t_postAt_loop hr hx hy (sg.2 0 4).toNat 0 (by decide) (by omega) hk⟩
