set_option maxRecDepth 100000
/-! the geometry of a way: it goes over free cells and ends at the post that it found -/
def rSeg (f : Row) (x y d s : Int) : Prop := ∀ j : Int, 1 ≤ j → j ≤ s → rFree f (x + j * jdx d) (y + j * jdy d)
theorem mul_step (x j k : Int) : x + k + (j - 1) * k = x + j * k := by rw [Int.sub_mul, Int.one_mul]; omega
theorem rLeg_seg {f : Row} (d o : Int) : ∀ (n : Nat) (x y far met ms : Int), ∀ j : Int, 1 ≤ j → j ≤ (rLeg f d o n x y far met ms).1 - far → rFree f (x + j * jdx d) (y + j * jdy d) := by
  intro n
  induction n with
  | zero => intro x y far met ms j h1 h2; unfold rLeg at h2; exact absurd h2 (by show ¬ j ≤ far - far; omega)
  | succ n ih =>
    intro x y far met ms j h1 h2
    unfold rLeg at h2
    by_cases q : rFree f (x + jdx d) (y + jdy d)
    · by_cases hj : j = 1
      · subst hj; rw [Int.one_mul, Int.one_mul]; exact q
      · rw [if_pos q] at h2
        have key : ∀ (a b : Int), j ≤ (rLeg f d o n (x + jdx d) (y + jdy d) (far + 1) a b).1 - far → rFree f (x + j * jdx d) (y + j * jdy d) := fun a b h3 => by
          have := ih (x + jdx d) (y + jdy d) (far + 1) a b (j - 1) (by omega) (by omega)
          rw [mul_step, mul_step] at this; exact this
        split at h2
        · exact key _ _ h2
        · exact key _ _ h2
    · rw [if_neg q] at h2
      exact absurd h2 (by show ¬ j ≤ far - far; omega)
theorem rLeg0_seg (f : Row) (x y d o : Int) : rSeg f x y d (rLeg0 f x y d o).1 := fun j h1 h2 => rLeg_seg d o (f 2).toNat x y 0 (-1) 0 j h1 (by unfold rLeg0 at h2; omega)
theorem rSeg.le {f : Row} {x y d s t : Int} (h : rSeg f x y d s) (ht : t ≤ s) : rSeg f x y d t := fun j h1 h2 => h j h1 (by omega)
theorem rLeg_met (f : Row) (d o : Int) : ∀ (n : Nat) (x y far met ms : Int), met ≠ -1 → (rLeg f d o n x y far met ms).2 = (met, ms) := by
  intro n
  induction n with
  | zero => intro x y far met ms h; rfl
  | succ n ih =>
    intro x y far met ms h
    unfold rLeg
    split
    · rw [if_neg (fun q => h q.1)]; exact ih _ _ _ _ _ h
    · rfl
theorem rLeg_at {f : Row} (hr : RowOK f) (d o : Int) : ∀ (n : Nat) (x y far met ms : Int), (rLeg f d o n x y far met ms).2.1 ≠ -1 → (met ≠ -1 ∧ (rLeg f d o n x y far met ms).2 = (met, ms)) ∨ (rPf f (rLeg f d o n x y far met ms).2.1 0 = x + ((rLeg f d o n x y far met ms).2.2 - far) * jdx d ∧ rPf f (rLeg f d o n x y far met ms).2.1 1 = y + ((rLeg f d o n x y far met ms).2.2 - far) * jdy d) := by
  intro n
  induction n with
  | zero => intro x y far met ms h; exact Or.inl ⟨h, rfl⟩
  | succ n ih =>
    intro x y far met ms h
    unfold rLeg at h ⊢
    by_cases q : rFree f (x + jdx d) (y + jdy d)
    · rw [if_pos q] at h ⊢
      by_cases q2 : met = -1 ∧ rMeet f o (rAt f (x + jdx d) (y + jdy d))
      · rw [if_pos q2] at h ⊢
        rw [rLeg_met _ _ _ _ _ _ _ _ _ q2.2.1] at h ⊢
        refine Or.inr ?_
        have e : far + 1 - far = 1 := by omega
        show rPf f (rAt f (x + jdx d) (y + jdy d)) 0 = x + (far + 1 - far) * jdx d ∧ rPf f (rAt f (x + jdx d) (y + jdy d)) 1 = y + (far + 1 - far) * jdy d
        rw [e, Int.one_mul, Int.one_mul]
        rcases rAt_r hr (x + jdx d) (y + jdy d) with ⟨t, -⟩ | ⟨-, -, t3, t4⟩
        · exact absurd t q2.2.1
        · exact ⟨t3, t4⟩
      · rw [if_neg q2] at h ⊢
        rcases ih _ _ _ _ _ h with t | ⟨t1, t2⟩
        · exact Or.inl t
        · refine Or.inr ?_
          rw [t1, t2]
          have e : ∀ v k z : Int, z + k + (v - (far + 1)) * k = z + (v - far) * k := fun v k z => by
            have : v - (far + 1) = v - far - 1 := by omega
            rw [this, mul_step]
          rw [e, e]
          exact ⟨rfl, rfl⟩
    · rw [if_neg q] at h ⊢
      exact Or.inl ⟨h, rfl⟩
theorem rLeg0_at {f : Row} (hr : RowOK f) {x y d o : Int} (h : (rLeg0 f x y d o).2.1 ≠ -1) : rPf f (rLeg0 f x y d o).2.1 0 = x + (rLeg0 f x y d o).2.2 * jdx d ∧ rPf f (rLeg0 f x y d o).2.1 1 = y + (rLeg0 f x y d o).2.2 * jdy d := by
  rcases rLeg_at hr d o (f 2).toNat x y 0 (-1) 0 h with ⟨t, -⟩ | t
  · exact absurd rfl t
  · rw [Int.sub_zero] at t; exact t
section FI
variable {f : Row} {o d1 d2 : Int} {P : Way7 → Prop}
theorem rTw_ind {m a b x y c al : Int} (hc : ∀ d, 0 ≤ d → d < 4 → (rLeg0 f x y d o).2.1 ≠ -1 → P (tCand m a b c d (rLeg0 f x y d o))) : ∀ (n : Nat) (d : Int) (w : Way7), 0 ≤ d → d + n ≤ 4 → P w → P (rTw f o m a b x y c al n d w) := by
  intro n
  induction n with
  | zero => intro d w _ _ h; exact h
  | succ n ih =>
    intro d w h0 h1 h
    unfold rTw
    refine ih _ _ (by omega) (by omega) ?_
    split
    · exact h
    · rename_i q
      exact wOffer_P h (hc d h0 (by omega) (fun t => q (Or.inr t)))
theorem rFind_ind (hr : RowOK f) (h0 : P (rW0 d1 d2)) (hp : (rLegO f o).2.1 ≠ -1 → P ((rLegO f o).2.1, 0, 0, d1, 0, d2, (rLegO f o).2.2))
    (h1 : ∀ a d, 1 ≤ a → a ≤ (rLegO f o).1 → 0 ≤ d → d < 4 → (rLeg0 f (rPf f o 0 + a * jdx (rPf f o 3)) (rPf f o 1 + a * jdy (rPf f o 3)) d o).2.1 ≠ -1 → P (tCand 1 a (-1) 0 d (rLeg0 f (rPf f o 0 + a * jdx (rPf f o 3)) (rPf f o 1 + a * jdy (rPf f o 3)) d o)))
    (h2 : ∀ a b c d, 1 ≤ a → a ≤ (rLegO f o).1 → 0 ≤ b → b < 4 → 1 ≤ c → c ≤ (rLeg0 f (rPf f o 0 + a * jdx (rPf f o 3)) (rPf f o 1 + a * jdy (rPf f o 3)) b o).1 → 0 ≤ d → d < 4 → (rLeg0 f (rPf f o 0 + a * jdx (rPf f o 3) + c * jdx b) (rPf f o 1 + a * jdy (rPf f o 3) + c * jdy b) d o).2.1 ≠ -1 →
      P (tCand 2 a b c d (rLeg0 f (rPf f o 0 + a * jdx (rPf f o 3) + c * jdx b) (rPf f o 1 + a * jdy (rPf f o 3) + c * jdy b) d o))) : P (rFind f o d1 d2) := by
  have hb := rLeg0_b hr (rPf f o 0) (rPf f o 1) (rPf f o 3) o
  have hb1 : 0 ≤ (rLegO f o).1 := hb.1
  have one : ∀ (n : Nat) (a : Int) (w : Way7), 1 ≤ a → a + n ≤ (rLegO f o).1 + 1 → P w → P (rOne f o (rPf f o 3) (rPf f o 0) (rPf f o 1) n a w) := by
    intro n
    induction n with
    | zero => intro a w _ _ h; exact h
    | succ n ih => intro a w g0 g1 h; exact ih _ _ (by omega) (by omega) (rTw_ind (fun d t1 t2 t3 => h1 a d g0 (by omega) t1 t2 t3) 4 0 w (by decide) (by decide) h)
  have hw1 : P (rW1 f o d1 d2) := by
    unfold rW1
    split
    · exact one _ 1 _ (by decide) (by omega) h0
    · exact h0
  have tc : ∀ (a b : Int), 1 ≤ a → a ≤ (rLegO f o).1 → 0 ≤ b → b < 4 → ∀ (n : Nat) (c : Int) (w : Way7), 1 ≤ c → c + n ≤ (rLeg0 f (rPf f o 0 + a * jdx (rPf f o 3)) (rPf f o 1 + a * jdy (rPf f o 3)) b o).1 + 1 → P w → P (rTc f o a b (rPf f o 0 + a * jdx (rPf f o 3)) (rPf f o 1 + a * jdy (rPf f o 3)) n c w) := by
    intro a b a1 a2 b1 b2 n
    induction n with
    | zero => intro c w _ _ h; exact h
    | succ n ih => intro c w g0 g1 h; exact ih _ _ (by omega) (by omega) (rTw_ind (fun d t1 t2 t3 => h2 a b c d a1 a2 b1 b2 g0 (by omega) t1 t2 t3) 4 0 w (by decide) (by decide) h)
  have td : ∀ (a : Int), 1 ≤ a → a ≤ (rLegO f o).1 → ∀ (n : Nat) (d : Int) (w : Way7), 0 ≤ d → d + n ≤ 4 → P w → P (rTd f o (rPf f o 3) a (rPf f o 0) (rPf f o 1) n d w) := by
    intro a a1 a2 n
    induction n with
    | zero => intro d w _ _ h; exact h
    | succ n ih =>
      intro d w g0 g1 h
      unfold rTd
      refine ih _ _ (by omega) (by omega) ?_
      split
      · exact h
      · have hb2 := rLeg0_b hr (rPf f o 0 + a * jdx (rPf f o 3)) (rPf f o 1 + a * jdy (rPf f o 3)) d o
        exact tc a d a1 a2 g0 (by omega) _ 1 w (by decide) (by omega) h
  have two : ∀ (n : Nat) (a : Int) (w : Way7), 1 ≤ a → a + n ≤ (rLegO f o).1 + 1 → P w → P (rTwo f o (rPf f o 3) (rPf f o 0) (rPf f o 1) n a w) := by
    intro n
    induction n with
    | zero => intro a w _ _ h; exact h
    | succ n ih => intro a w g0 g1 h; exact ih _ _ (by omega) (by omega) (td a g0 (by omega) 4 0 w (by decide) (by decide) h)
  unfold rFind
  split
  · split
    · split
      · exact two _ 1 _ (by decide) (by omega) hw1
      · exact hw1
    · rename_i q; exact hp q
  · exact h0
end FI
/-- where a way's legs begin -/
def wX1 (f : Row) (o : Int) (w : Way7) : Int := rPf f o 0 + wK1 w * jdx (rPf f o 3)
def wY1 (f : Row) (o : Int) (w : Way7) : Int := rPf f o 1 + wK1 w * jdy (rPf f o 3)
def WGeo (f : Row) (o : Int) (w : Way7) : Prop := wNext w ≠ -1 →
  (wMany w = 0 → rSeg f (rPf f o 0) (rPf f o 1) (rPf f o 3) (wLast w) ∧ rPf f (wNext w) 0 = rPf f o 0 + wLast w * jdx (rPf f o 3) ∧ rPf f (wNext w) 1 = rPf f o 1 + wLast w * jdy (rPf f o 3)) ∧
  (1 ≤ wMany w → rSeg f (rPf f o 0) (rPf f o 1) (rPf f o 3) (wK1 w)) ∧
  (wMany w = 1 → rSeg f (wX1 f o w) (wY1 f o w) (wD1 w) (wLast w) ∧ rPf f (wNext w) 0 = wX1 f o w + wLast w * jdx (wD1 w) ∧ rPf f (wNext w) 1 = wY1 f o w + wLast w * jdy (wD1 w)) ∧
  (wMany w = 2 → rSeg f (wX1 f o w) (wY1 f o w) (wD1 w) (wK2 w) ∧ rSeg f (wX1 f o w + wK2 w * jdx (wD1 w)) (wY1 f o w + wK2 w * jdy (wD1 w)) (wD2 w) (wLast w) ∧
    rPf f (wNext w) 0 = wX1 f o w + wK2 w * jdx (wD1 w) + wLast w * jdx (wD2 w) ∧ rPf f (wNext w) 1 = wY1 f o w + wK2 w * jdy (wD1 w) + wLast w * jdy (wD2 w))
theorem rLeg_mf {f : Row} (d o : Int) : ∀ (n : Nat) (x y far met ms : Int), ms ≤ far → (rLeg f d o n x y far met ms).2.2 ≤ (rLeg f d o n x y far met ms).1 := by
  intro n
  induction n with
  | zero => intro x y far met ms h; exact h
  | succ n ih =>
    intro x y far met ms h
    unfold rLeg
    split
    · split
      · exact ih _ _ _ _ _ (Int.le_refl _)
      · exact ih _ _ _ _ _ (by omega)
    · exact h
theorem rLeg0_mf (f : Row) (x y d o : Int) : (rLeg0 f x y d o).2.2 ≤ (rLeg0 f x y d o).1 := rLeg_mf d o (f 2).toNat x y 0 (-1) 0 (Int.le_refl _)
theorem rFind_geo {f : Row} (hr : RowOK f) (o d1 d2 : Int) : WGeo f o (rFind f o d1 d2) := by
  refine rFind_ind hr (fun q => absurd rfl q) (fun q => ?_) (fun a d a1 a2 e1 e2 q => ?_) (fun a b c d a1 a2 b1 b2 c1 c2 e1 e2 q => ?_)
  · intro _
    refine ⟨fun _ => ⟨(rLeg0_seg f _ _ _ o).le (rLeg0_mf f _ _ _ o), rLeg0_at hr q⟩, fun t => absurd t (by show ¬ (1 : Int) ≤ 0; decide), fun t => absurd t (by show ¬ (0 : Int) = 1; decide), fun t => absurd t (by show ¬ (0 : Int) = 2; decide)⟩
  · intro _
    refine ⟨fun t => absurd t (by show ¬ (1 : Int) = 0; decide), fun _ => (rLeg0_seg f _ _ _ o).le a2, fun _ => ⟨(rLeg0_seg f _ _ _ o).le (rLeg0_mf f _ _ _ o), rLeg0_at hr q⟩, fun t => absurd t (by show ¬ (1 : Int) = 2; decide)⟩
  · intro _
    refine ⟨fun t => absurd t (by show ¬ (2 : Int) = 0; decide), fun _ => (rLeg0_seg f _ _ _ o).le a2, fun t => absurd t (by show ¬ (2 : Int) = 1; decide), fun _ => ⟨(rLeg0_seg f _ _ _ o).le c2, (rLeg0_seg f _ _ _ o).le (rLeg0_mf f _ _ _ o), rLeg0_at hr q⟩⟩
