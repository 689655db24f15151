set_option maxRecDepth 100000
abbrev Leg3 : Type := Int × Int × Int
/-- a way within bounds -/
def WOK (w : Way7) : Prop := (-1 ≤ wNext w ∧ wNext w < 24) ∧ 0 ≤ wSum w ∧ wSum w ≤ 100
theorem rLeg0_b {f : Row} (hr : RowOK f) (x y d o : Int) : 0 ≤ (rLeg0 f x y d o).1 ∧ (rLeg0 f x y d o).1 ≤ 12 ∧ -1 ≤ (rLeg0 f x y d o).2.1 ∧ (rLeg0 f x y d o).2.1 < 24 ∧ 0 ≤ (rLeg0 f x y d o).2.2 ∧ (rLeg0 f x y d o).2.2 ≤ 12 := by
  have hg := hr.gap
  obtain ⟨h1, h2, h3, h4, h5, h6⟩ := rLeg_b hr d o (f 2).toNat x y 0 (-1) 0 (by decide) (by decide) (by decide) (by decide) (by decide)
  unfold rLeg0
  exact ⟨h1, by omega, h3, h4, h5, by omega⟩
theorem WOK.offer {w c : Way7} (h1 : WOK w) (h2 : WOK c) : WOK (wOffer w c) := by
  unfold wOffer
  by_cases h : wNext w = -1 ∨ wSum c < wSum w
  · rw [if_pos h]; exact h2
  · rw [if_neg h]; exact h1
/-- all turns at a cell: n directions left, from d on -/
def rTurns (f : Row) (o m a b x y c al : Int) : Nat → Int → Leg3 → Way7 → Leg3 × Way7
  | 0, _, l, w => (l, w)
  | n + 1, d, l, w => if d.tmod 2 = al.tmod 2 then rTurns f o m a b x y c al n (d + 1) l w else
      if (rLeg0 f x y d o).2.1 = -1 then rTurns f o m a b x y c al n (d + 1) (rLeg0 f x y d o) w else
      rTurns f o m a b x y c al n (d + 1) (rLeg0 f x y d o) (wOffer w (if m = 1 then ((rLeg0 f x y d o).2.1, 1, a, d, 0, 0, (rLeg0 f x y d o).2.2) else ((rLeg0 f x y d o).2.1, 2, a, b, c, d, (rLeg0 f x y d o).2.2)))
theorem t_turns_loop {κ : TS → Prop} {sg : TS} {o m a b x y c al : Int} (hr : RowOK (sg.2 0)) (ho : 0 ≤ o ∧ o < sg.2 0 4) (hm : InR m) (hal : 0 ≤ al ∧ al ≤ 4) (ha : 0 ≤ a ∧ a ≤ 12) (hc : 0 ≤ c ∧ c ≤ 12) (hx : -1000 ≤ x ∧ x ≤ 1000) (hy : -1000 ≤ y ∧ y ≤ 1000) : ∀ (n : Nat) (d : Int) (l : Leg3) (w : Way7), 0 ≤ d → d + n = 4 → WOK w →
    κ (sW sg (rTurns (sg.2 0) o m a b x y c al n d l w).1 (rTurns (sg.2 0) o m a b x y c al n d l w).2) → L_X5_turns_21 (fun sg => P_X5_turns_115 κ sg) κ (n + 1) (sW sg l w) o m a b x y c al d := by
  intro n
  induction n with
  | zero => intro d l w h0 h4 hw hk; exact ⟨⟨by omega, by omega⟩, pIf_neg (by omega) hk⟩
  | succ n ih =>
    intro d l w h0 h4 hw hk
    unfold rTurns at hk
    have hb := rLeg0_b hr x y d o
    have t1 : d.tmod 2 = d % 2 := Int.tmod_eq_emod_of_nonneg h0
    have t2 : al.tmod 2 = al % 2 := Int.tmod_eq_emod_of_nonneg hal.1
    refine ⟨⟨by omega, by omega⟩, pIf_pos (by omega) ⟨⟨by omega, by omega⟩, ⟨by rw [t1]; omega, by rw [t1]; omega⟩, ⟨by rw [t2]; omega, by rw [t2]; omega⟩, fun q => ?_, fun q => ?_⟩⟩
    · rw [if_pos q] at hk
      exact ih (d + 1) l w (by omega) (by omega) hw hk
    · rw [if_neg q] at hk
      refine t_leg (sg := sW sg l w) hr ⟨by omega, by omega⟩ ho hx hy ?_
      rw [sW_sL]
      have r16 : InR (rLeg0 (sg.2 0) x y d o).2.1 := ⟨by omega, by omega⟩
      refine ⟨r16, fun e => ?_, fun e => ⟨hm, fun g => ?_, fun g => ?_⟩⟩
      · have e : (rLeg0 (sg.2 0) x y d o).2.1 = -1 := e
        rw [if_pos e] at hk
        exact ih (d + 1) _ w (by omega) (by omega) hw hk
      · have e : ¬ (rLeg0 (sg.2 0) x y d o).2.1 = -1 := e
        rw [if_neg e, if_pos g] at hk
        refine t_found ⟨by have := hw.1; omega, by have := hw.1; omega⟩ ⟨by have := hw.2; omega, by have := hw.2; omega⟩ ⟨by show -2147483648 ≤ a + 0 + (rLeg0 (sg.2 0) x y d o).2.2; omega, by show a + 0 + (rLeg0 (sg.2 0) x y d o).2.2 < _; omega⟩ ?_
        exact ih (d + 1) _ _ (by omega) (by omega) (hw.offer ⟨⟨hb.2.2.1, hb.2.2.2.1⟩, by show 0 ≤ a + 0 + (rLeg0 (sg.2 0) x y d o).2.2; omega, by show a + 0 + (rLeg0 (sg.2 0) x y d o).2.2 ≤ 100; omega⟩) hk
      · have e : ¬ (rLeg0 (sg.2 0) x y d o).2.1 = -1 := e
        rw [if_neg e, if_neg g] at hk
        refine t_found ⟨by have := hw.1; omega, by have := hw.1; omega⟩ ⟨by have := hw.2; omega, by have := hw.2; omega⟩ ⟨by show -2147483648 ≤ a + c + (rLeg0 (sg.2 0) x y d o).2.2; omega, by show a + c + (rLeg0 (sg.2 0) x y d o).2.2 < _; omega⟩ ?_
        exact ih (d + 1) _ _ (by omega) (by omega) (hw.offer ⟨⟨hb.2.2.1, hb.2.2.2.1⟩, by show 0 ≤ a + c + (rLeg0 (sg.2 0) x y d o).2.2; omega, by show a + c + (rLeg0 (sg.2 0) x y d o).2.2 ≤ 100; omega⟩) hk
