set_option maxRecDepth 100000
/-! the way from a post to the next one: (next, inferred, k1, d1, k2, d2, last) -/
abbrev Way7 : Type := Int × Int × Int × Int × Int × Int × Int
def wNext (w : Way7) : Int := w.1
def wMany (w : Way7) : Int := w.2.1
def wK1 (w : Way7) : Int := w.2.2.1
def wD1 (w : Way7) : Int := w.2.2.2.1
def wK2 (w : Way7) : Int := w.2.2.2.2.1
def wD2 (w : Way7) : Int := w.2.2.2.2.2.1
def wLast (w : Way7) : Int := w.2.2.2.2.2.2
def wSum (w : Way7) : Int := wK1 w + wK2 w + wLast w
/-- the better of two ways: the first that was found, or a shorter one -/
def wOffer (w c : Way7) : Way7 := if wNext w = -1 ∨ wSum c < wSum w then c else w
/-- the reference's state with a leg and a way -/
def sW (sg : TS) (l : Int × Int × Int) (w : Way7) : TS := (fun j => if j = 15 then l.1 else if j = 16 then l.2.1 else if j = 17 then l.2.2 else if j = 18 then wNext w else if j = 19 then wMany w else if j = 20 then wK1 w else if j = 21 then wD1 w else if j = 22 then wK2 w else if j = 23 then wD2 w else if j = 24 then wLast w else sg.1 j, sg.2)
theorem sW_sL (sg : TS) (l : Int × Int × Int) (w : Way7) (a b c : Int) : sL (sW sg l w) a b c = sW sg (a, b, c) w := by
  unfold sL sW
  congr 1
  funext j
  by_cases h1 : j = 15
  · simp [h1]
  · by_cases h2 : j = 16
    · simp [h2]
    · by_cases h3 : j = 17
      · simp [h3]
      · simp only [h1, h2, h3, if_false]
theorem sW_put (sg : TS) (l : Int × Int × Int) (w : Way7) (a1 a2 a3 a4 a5 a6 a7 : Int) : setS (setS (setS (setS (setS (setS (setS (sW sg l w) 18 a1) 19 a2) 20 a3) 21 a4) 22 a5) 23 a6) 24 a7 = sW sg l (a1, a2, a3, a4, a5, a6, a7) := by
  unfold setS sW
  congr 1
  funext j
  by_cases g : 15 ≤ j ∧ j ≤ 24
  · have : j = 15 ∨ j = 16 ∨ j = 17 ∨ j = 18 ∨ j = 19 ∨ j = 20 ∨ j = 21 ∨ j = 22 ∨ j = 23 ∨ j = 24 := by omega
    rcases this with h | h | h | h | h | h | h | h | h | h <;> subst h <;> rfl
  · have e : ∀ k : Nat, 15 ≤ k → k ≤ 24 → ¬ j = k := fun k h1 h2 q => g (by omega)
    simp only [e 15 (by decide) (by decide), e 16 (by decide) (by decide), e 17 (by decide) (by decide), e 18 (by decide) (by decide), e 19 (by decide) (by decide), e 20 (by decide) (by decide), e 21 (by decide) (by decide), e 22 (by decide) (by decide), e 23 (by decide) (by decide), e 24 (by decide) (by decide), if_false]
theorem t_found {κ : TS → Prop} {sg : TS} {l : Int × Int × Int} {w : Way7} {p m a b c d e : Int} (h1 : InR (wNext w)) (h2 : InR (wSum w)) (h3 : InR (a + c + e)) (hk : κ (sW sg l (wOffer w (p, m, a, b, c, d, e)))) : P_X5_found κ (sW sg l w) p m a b c d e := by
  unfold wOffer at hk
  have key : (wNext w = -1 ∨ wSum (p, m, a, b, c, d, e) < wSum w) → P_X5_found_23 κ (sW sg l w) p m a b c d e := fun q => by
    rw [if_pos q] at hk
    show κ _
    rw [sW_put]; exact hk
  refine ⟨h1, fun q => key (Or.inl q), fun q => ⟨h3, h2, fun g => key (Or.inr g), fun g => ?_⟩⟩
  rw [if_neg (fun t => t.elim q g)] at hk
  exact hk
/-- bounds of a leg's three numbers -/
theorem rLeg_b {f : Row} (hr : RowOK f) (d o : Int) : ∀ (n : Nat) (x y far met ms : Int), 0 ≤ far → -1 ≤ met → met < 24 → 0 ≤ ms → ms ≤ far →
    far ≤ (rLeg f d o n x y far met ms).1 ∧ (rLeg f d o n x y far met ms).1 ≤ far + n ∧ -1 ≤ (rLeg f d o n x y far met ms).2.1 ∧ (rLeg f d o n x y far met ms).2.1 < 24 ∧ 0 ≤ (rLeg f d o n x y far met ms).2.2 ∧ (rLeg f d o n x y far met ms).2.2 ≤ (rLeg f d o n x y far met ms).1 := by
  intro n
  induction n with
  | zero => intro x y far met ms h0 h1 h2 h3 h4; unfold rLeg; exact ⟨Int.le_refl _, by simp, h1, h2, h3, h4⟩
  | succ n ih =>
    intro x y far met ms h0 h1 h2 h3 h4
    unfold rLeg
    by_cases hf : rFree f (x + jdx d) (y + jdy d)
    · rw [if_pos hf]
      have ha := rAt_inr hr (x + jdx d) (y + jdy d)
      by_cases hm : met = -1 ∧ rMeet f o (rAt f (x + jdx d) (y + jdy d))
      · rw [if_pos hm]
        obtain ⟨g1, g2, g3, g4, g5, g6⟩ := ih (x + jdx d) (y + jdy d) (far + 1) (rAt f (x + jdx d) (y + jdy d)) (far + 1) (by omega) ha.1 ha.2 (by omega) (by omega)
        exact ⟨by omega, by omega, g3, g4, g5, g6⟩
      · rw [if_neg hm]
        obtain ⟨g1, g2, g3, g4, g5, g6⟩ := ih (x + jdx d) (y + jdy d) (far + 1) met ms (by omega) h1 h2 h3 (by omega)
        exact ⟨by omega, by omega, g3, g4, g5, g6⟩
    · rw [if_neg hf]
      exact ⟨Int.le_refl _, by show far ≤ far + _; omega, h1, h2, h3, h4⟩
