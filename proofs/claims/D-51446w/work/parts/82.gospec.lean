set_option maxRecDepth 100000
/-! the component's walk against the reference's leg -/
theorem rLeg_far (f : Row) (d o : Int) : ∀ (n : Nat) (x y far met ms : Int), far ≤ (rLeg f d o n x y far met ms).1 := by
  intro n
  induction n with
  | zero => intro x y far met ms; exact Int.le_refl _
  | succ n ih =>
    intro x y far met ms
    unfold rLeg
    split
    · split
      · have := ih (x + jdx d) (y + jdy d) (far + 1) (rAt f (x + jdx d) (y + jdy d)) (far + 1); omega
      · have := ih (x + jdx d) (y + jdy d) (far + 1) met ms; omega
    · exact Int.le_refl _
theorem step_mul (x s j : Int) : x + j + (s - 1) * j = x + s * j := by rw [Int.sub_mul, Int.one_mul]; omega
theorem rStop_step (f : Row) (x y d s : Int) : rStop f (x + jdx d) (y + jdy d) d (s - 1) = rStop f x y d s := by
  unfold rStop
  rw [step_mul, step_mul]
theorem gGo_spec {f : Row} (d o : Int) : ∀ (n : Nat) (x y s : Int),
    ((rLeg f d o n x y s (-1) 0).2.1 = -1 → (gGo f d o (rPf f o 2) n x y s).2.2 = ((rLeg f d o n x y s (-1) 0).1, rStop f x y d ((rLeg f d o n x y s (-1) 0).1 - s + 1), -1)) ∧
    (¬ (rLeg f d o n x y s (-1) 0).2.1 = -1 → (gGo f d o (rPf f o 2) n x y s).2.2 = ((rLeg f d o n x y s (-1) 0).2.2, 0, (rLeg f d o n x y s (-1) 0).2.1)) := by
  intro n
  induction n with
  | zero =>
    intro x y s
    have e : rLeg f d o 0 x y s (-1) 0 = (s, -1, 0) := rfl
    rw [e]
    refine ⟨fun _ => ?_, fun q => absurd rfl q⟩
    show (gGo f d o (rPf f o 2) 0 x y s).2.2 = (s, rStop f x y d (s - s + 1), -1)
    unfold gGo rStop
    rw [Int.sub_self, Int.zero_add, Int.one_mul, Int.one_mul]
    split
    · rfl
    · split <;> rfl
  | succ n ih =>
    intro x y s
    unfold rLeg gGo
    by_cases h1 : rOn f (x + jdx d) (y + jdy d)
    · by_cases h2 : rBlk f (x + jdx d) (y + jdy d) = 1
      · rw [if_neg (show ¬ rFree f (x + jdx d) (y + jdy d) from fun q => q.2 h2), if_neg (show ¬ ¬ rOn f (x + jdx d) (y + jdy d) from fun q => q h1), if_pos h2]
        refine ⟨fun _ => ?_, fun q => absurd rfl q⟩
        show ((s, 2, -1) : Int × Int × Int) = (s, rStop f x y d (s - s + 1), -1)
        unfold rStop
        rw [Int.sub_self, Int.zero_add, Int.one_mul, Int.one_mul, if_neg (show ¬ ¬ rOn f (x + jdx d) (y + jdy d) from fun q => q h1), if_pos h2]
      · rw [if_pos (show rFree f (x + jdx d) (y + jdy d) from ⟨h1, h2⟩), if_neg (show ¬ ¬ rOn f (x + jdx d) (y + jdy d) from fun q => q h1), if_neg h2]
        by_cases h3 : rMeet f o (rAt f (x + jdx d) (y + jdy d))
        · rw [if_pos ⟨rfl, h3⟩, if_pos (show rAt f (x + jdx d) (y + jdy d) ≠ -1 ∧ rAt f (x + jdx d) (y + jdy d) ≠ o ∧ rPf f (rAt f (x + jdx d) (y + jdy d)) 4 = 0 ∧ rPf f (rAt f (x + jdx d) (y + jdy d)) 2 = rPf f o 2 from h3)]
          have e := rLeg_met f d o n (x + jdx d) (y + jdy d) (s + 1) (rAt f (x + jdx d) (y + jdy d)) (s + 1) h3.1
          rw [e]
          exact ⟨fun q => absurd q h3.1, fun _ => rfl⟩
        · rw [if_neg (show ¬ ((-1 : Int) = -1 ∧ rMeet f o (rAt f (x + jdx d) (y + jdy d))) from fun q => h3 q.2), if_neg (show ¬ (rAt f (x + jdx d) (y + jdy d) ≠ -1 ∧ rAt f (x + jdx d) (y + jdy d) ≠ o ∧ rPf f (rAt f (x + jdx d) (y + jdy d)) 4 = 0 ∧ rPf f (rAt f (x + jdx d) (y + jdy d)) 2 = rPf f o 2) from h3)]
          obtain ⟨g1, g2⟩ := ih (x + jdx d) (y + jdy d) (s + 1)
          refine ⟨fun q => ?_, g2⟩
          rw [g1 q]
          have e : (rLeg f d o n (x + jdx d) (y + jdy d) (s + 1) (-1) 0).1 - (s + 1) + 1 = (rLeg f d o n (x + jdx d) (y + jdy d) (s + 1) (-1) 0).1 - s + 1 - 1 := by omega
          rw [e, rStop_step]
    · rw [if_neg (show ¬ rFree f (x + jdx d) (y + jdy d) from fun q => h1 q.1), if_pos h1]
      refine ⟨fun _ => ?_, fun q => absurd rfl q⟩
      show ((s, 1, -1) : Int × Int × Int) = (s, rStop f x y d (s - s + 1), -1)
      unfold rStop
      rw [Int.sub_self, Int.zero_add, Int.one_mul, Int.one_mul, if_pos h1]
/-- from a cell: what the walk answers, by the leg -/
def gG0 (f : Row) (x y d o : Int) : Go5 := gGo f d o (rPf f o 2) (f 2).toNat x y 0
theorem gG0_none {f : Row} {x y d o : Int} (q : (rLeg0 f x y d o).2.1 = -1) : (gG0 f x y d o).2.2 = ((rLeg0 f x y d o).1, rStop f x y d ((rLeg0 f x y d o).1 + 1), -1) := by
  have h := (gGo_spec (f := f) d o (f 2).toNat x y 0).1 q
  unfold gG0
  rw [h]
  show _ = ((rLeg0 f x y d o).1, rStop f x y d ((rLeg0 f x y d o).1 + 1), -1)
  unfold rLeg0
  rw [Int.sub_zero]
theorem gG0_met {f : Row} {x y d o : Int} (q : ¬ (rLeg0 f x y d o).2.1 = -1) : (gG0 f x y d o).2.2 = ((rLeg0 f x y d o).2.2, 0, (rLeg0 f x y d o).2.1) := (gGo_spec (f := f) d o (f 2).toNat x y 0).2 q
theorem gG0_m {f : Row} (x y d o : Int) : (gG0 f x y d o).2.2.2.2 = (rLeg0 f x y d o).2.1 := by
  by_cases q : (rLeg0 f x y d o).2.1 = -1
  · rw [gG0_none q, q]
  · rw [gG0_met q]
