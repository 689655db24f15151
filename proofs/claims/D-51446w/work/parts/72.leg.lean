set_option maxRecDepth 100000
abbrev rFree (f : Row) (x y : Int) : Prop := rOn f x y ∧ ¬ rBlk f x y = 1
theorem t_isFree {κ : Int → TS → Prop} {sg : TS} {x y : Int} (hr : RowOK (sg.2 0)) (hx : InR x) (hy : InR y) (h1 : rFree (sg.2 0) x y → κ 1 sg) (h0 : ¬ rFree (sg.2 0) x y → κ 0 sg) : P_X5_isFree κ sg x y := by
  have hw := hr.w; have hh := hr.h
  refine t_isOn hr hx hy ⟨b2i_inr _, fun c => h0 (fun q => (b2i_z.mp c) q.1), fun c => ?_⟩
  have c : rOn (sg.2 0) x y := Decidable.not_not.mp (fun q => c (b2i_z.mpr q))
  have hb := hr.blk x y c.1 (by have := c.2.1; omega) c.2.2.1 (by have := c.2.2.2; omega)
  refine t_isBlock hr ⟨c.1, by have := c.2.1; omega, c.2.2.1, by have := c.2.2.2; omega⟩ ⟨by rcases hb with q | q <;> rw [q] <;> decide, fun d => h1 ⟨c, by rw [d]; decide⟩, fun d => h0 (fun q => q.2 (by rcases hb with w | w; exact absurd w d; exact w))⟩
abbrev jdx (d : Int) : Int := if d = 1 then 1 else if d = 3 then -1 else 0
abbrev jdy (d : Int) : Int := if d = 0 then -1 else if d = 2 then 1 else 0
theorem jdx_r (d : Int) : -1 ≤ jdx d ∧ jdx d ≤ 1 := by
  unfold jdx
  by_cases h : d = 1
  · rw [if_pos h]; decide
  · rw [if_neg h]
    by_cases g : d = 3
    · rw [if_pos g]; decide
    · rw [if_neg g]; decide
theorem jdy_r (d : Int) : -1 ≤ jdy d ∧ jdy d ≤ 1 := by
  unfold jdy
  by_cases h : d = 0
  · rw [if_pos h]; decide
  · rw [if_neg h]
    by_cases g : d = 2
    · rw [if_pos g]; decide
    · rw [if_neg g]; decide
/-- the post p is met on a leg of the post o -/
abbrev rMeet (f : Row) (o p : Int) : Prop := p ≠ -1 ∧ p ≠ o ∧ rPf f p 4 = 0 ∧ rPf f p 2 = rPf f o 2
/-- the leg's loop: steps left, the cell, how far, what was met and where -/
def rLeg (f : Row) (d o : Int) : Nat → Int → Int → Int → Int → Int → Int × Int × Int
  | 0, _, _, far, met, ms => (far, met, ms)
  | n + 1, x, y, far, met, ms => if rFree f (x + jdx d) (y + jdy d) then
      (if met = -1 ∧ rMeet f o (rAt f (x + jdx d) (y + jdy d)) then rLeg f d o n (x + jdx d) (y + jdy d) (far + 1) (rAt f (x + jdx d) (y + jdy d)) (far + 1) else rLeg f d o n (x + jdx d) (y + jdy d) (far + 1) met ms) else (far, met, ms)
/-- the reference's state with the leg's three numbers -/
def sL (sg : TS) (a b c : Int) : TS := (fun j => if j = 15 then a else if j = 16 then b else if j = 17 then c else sg.1 j, sg.2)
theorem sL_15 (sg : TS) (a b c v : Int) : setS (sL sg a b c) 15 v = sL sg v b c := by
  unfold setS sL
  congr 1
  funext j
  by_cases h : j = 15
  · simp only [h, if_true]
  · simp only [h, if_false]
theorem sL_16 (sg : TS) (a b c v : Int) : setS (sL sg a b c) 16 v = sL sg a v c := by
  unfold setS sL
  congr 1
  funext j
  by_cases h : j = 16
  · simp [h]
  · simp only [h, if_false]
theorem sL_17 (sg : TS) (a b c v : Int) : setS (sL sg a b c) 17 v = sL sg a b v := by
  unfold setS sL
  congr 1
  funext j
  by_cases h : j = 17
  · simp [h]
  · simp only [h, if_false]
theorem t_leg_loop {κ : TS → Prop} {sg : TS} {d o : Int} (hr : RowOK (sg.2 0)) (hd : InR d) (ho : 0 ≤ o ∧ o < sg.2 0 4) : ∀ (n : Nat) (x y far met ms : Int), (-1000 ≤ x ∧ x ≤ 1000) → (-1000 ≤ y ∧ y ≤ 1000) → (0 ≤ far ∧ far + n = sg.2 0 2) → (-1 ≤ met ∧ met < 24) →
    κ (sL sg (rLeg (sg.2 0) d o n x y far met ms).1 (rLeg (sg.2 0) d o n x y far met ms).2.1 (rLeg (sg.2 0) d o n x y far met ms).2.2) → L_X5_leg_21 (fun sg => P_X5_leg_157 κ sg) κ (n + 1) (sL sg far met ms) d o x y := by
  have hw := hr.w; have hh := hr.h; have hg := hr.gap; have hm := hr.many
  have hdx := jdx_r d; have hdy := jdy_r d
  intro n
  induction n with
  | zero =>
    intro x y far met ms hx hy hf hmt hk
    exact ⟨⟨by show -2147483648 ≤ far; omega, by show far < _; omega⟩, ⟨by show -2147483648 ≤ sg.2 0 2; omega, by show sg.2 0 2 < _; omega⟩, pIf_neg (by show ¬ far < sg.2 0 2; omega) hk⟩
  | succ n ih =>
    intro x y far met ms hx hy hf hmt hk
    unfold rLeg at hk
    refine ⟨⟨by show -2147483648 ≤ far; omega, by show far < _; omega⟩, ⟨by show -2147483648 ≤ sg.2 0 2; omega, by show sg.2 0 2 < _; omega⟩, pIf_pos (by show far < sg.2 0 2; omega) (t_dx hd (t_dy hd (t_isFree (sg := sL sg far met ms) hr ⟨by omega, by omega⟩ ⟨by omega, by omega⟩ (fun hfr => ?_) (fun hfr => ?_))))⟩
    · have hfr : rFree (sg.2 0) (x + jdx d) (y + jdy d) := hfr
      rw [if_pos hfr] at hk
      have hon : rOn (sg.2 0) (x + jdx d) (y + jdy d) := hfr.1
      have e15 : setS (sL sg far met ms) 15 ((sL sg far met ms).1 15 + 1) = sL sg (far + 1) met ms := sL_15 sg far met ms (far + 1)
      have hat := rAt_inr hr (x + jdx d) (y + jdy d)
      have hX : -1000 ≤ x + jdx d ∧ x + jdx d ≤ 1000 := ⟨by omega, by omega⟩
      have hY : -1000 ≤ y + jdy d ∧ y + jdy d ≤ 1000 := ⟨by omega, by omega⟩
      have no : ¬ (met = -1 ∧ rMeet (sg.2 0) o (rAt (sg.2 0) (x + jdx d) (y + jdy d))) → L_X5_leg_21 (fun sg => P_X5_leg_157 κ sg) κ (n + 1) (sL sg (far + 1) met ms) d o (x + jdx d) (y + jdy d) := fun q => by
        rw [if_neg q] at hk
        exact ih _ _ _ _ _ hX hY ⟨by omega, by omega⟩ hmt hk
      refine ⟨by decide, pIf_neg (by decide) (t_dx hd (t_dy hd ?_))⟩
      rw [e15]
      refine t_postAt (sg := sL sg (far + 1) met ms) hr ⟨by omega, by omega⟩ ⟨by omega, by omega⟩ ⟨⟨by show -2147483648 ≤ met; omega, by show met < _; omega⟩, fun c => ?_, fun c => no (fun q => c q.1)⟩
      have c : met = -1 := c
      have r9 : InR (rAt (sg.2 0) (x + jdx d) (y + jdy d)) := ⟨by omega, by omega⟩
      refine ⟨r9, fun e => no (fun q => q.2.1 e), fun e => ?_⟩
      have r7 : InR o := ⟨by omega, by omega⟩
      refine ⟨r7, fun g => no (fun q => q.2.2.1 g), fun g => ?_⟩
      have hpr : 0 ≤ rAt (sg.2 0) (x + jdx d) (y + jdy d) ∧ rAt (sg.2 0) (x + jdx d) (y + jdy d) < sg.2 0 4 := by
        rcases rAt_r hr (x + jdx d) (y + jdy d) with ⟨h1, -⟩ | ⟨h1, h2, -⟩
        · exact absurd h1 e
        · exact ⟨h1, h2⟩
      refine t_stands (sg := sL sg (far + 1) met ms) hr hpr ⟨b2i_inr _, fun k => no (fun q => (b2i_z.mp k) q.2.2.2.1), fun k => ?_⟩
      have k : rPf (sg.2 0) (rAt (sg.2 0) (x + jdx d) (y + jdy d)) 4 = 0 := Decidable.not_not.mp (fun q => k (b2i_z.mpr q))
      have c1 := hr.colour _ hpr.1 hpr.2
      have c2 := hr.colour o ho.1 ho.2
      have r5 : InR (rPf (sg.2 0) (rAt (sg.2 0) (x + jdx d) (y + jdy d)) 2) := ⟨by omega, by omega⟩
      have r6 : InR (rPf (sg.2 0) o 2) := ⟨by omega, by omega⟩
      have p24 : rAt (sg.2 0) (x + jdx d) (y + jdy d) < 24 := by omega
      refine t_of ⟨hpr.1, p24, by decide, by decide⟩ (t_of ⟨ho.1, by omega, by decide, by decide⟩ ⟨r5, r6, fun w => ?_, fun w => no (fun q => w q.2.2.2.2)⟩)
      rw [if_pos ⟨c, e, g, k, w⟩] at hk
      have h9 := ih _ _ _ _ _ hX hY ⟨by omega, by omega⟩ hat hk
      have e9 : setS (setS (sL sg (far + 1) met ms) 16 (rAt (sg.2 0) (x + jdx d) (y + jdy d))) 17 ((sL sg (far + 1) met ms).1 15) = sL sg (far + 1) (rAt (sg.2 0) (x + jdx d) (y + jdy d)) (far + 1) := by
        rw [sL_16, sL_17]; rfl
      show L_X5_leg_21 (fun sg => P_X5_leg_157 κ sg) κ (n + 1) (setS (setS (sL sg (far + 1) met ms) 16 (rAt (sg.2 0) (x + jdx d) (y + jdy d))) 17 ((sL sg (far + 1) met ms).1 15)) d o (x + jdx d) (y + jdy d)
      rw [e9]
      exact h9
    · have hfr : ¬ rFree (sg.2 0) (x + jdx d) (y + jdy d) := hfr
      rw [if_neg hfr] at hk
      exact ⟨by decide, pIf_pos rfl hk⟩
theorem sL_0 (sg : TS) (a b c : Int) : setS (setS (setS sg 15 a) 16 b) 17 c = sL sg a b c := by
  unfold setS sL
  congr 1
  funext j
  by_cases h1 : j = 15
  · simp [h1]
  · by_cases h2 : j = 16
    · simp [h2]
    · by_cases h3 : j = 17
      · simp [h3]
      · simp only [h1, h2, h3, if_false]
/-- leg: how far, what is met, behind how many steps -/
def rLeg0 (f : Row) (x y d o : Int) : Int × Int × Int := rLeg f d o (f 2).toNat x y 0 (-1) 0
theorem t_leg {κ : TS → Prop} {sg : TS} {x y d o : Int} (hr : RowOK (sg.2 0)) (hd : InR d) (ho : 0 ≤ o ∧ o < sg.2 0 4) (hx : -1000 ≤ x ∧ x ≤ 1000) (hy : -1000 ≤ y ∧ y ≤ 1000)
    (hk : κ (sL sg (rLeg0 (sg.2 0) x y d o).1 (rLeg0 (sg.2 0) x y d o).2.1 (rLeg0 (sg.2 0) x y d o).2.2)) : P_X5_leg κ sg x y d o := by
  have hg := hr.gap
  refine ⟨(sg.2 0 2).toNat + 1, ?_⟩
  rw [sL_0]
  exact t_leg_loop hr hd ho (sg.2 0 2).toNat x y 0 (-1) 0 hx hy ⟨by decide, by omega⟩ ⟨by decide, by decide⟩ hk
