set_option maxRecDepth 100000
/-! facts of the way that a search finds -/
theorem rLeg_v {f : Row} (hr : RowOK f) (d o : Int) : ∀ (n : Nat) (x y far met ms : Int), (met = -1 ∨ (0 ≤ met ∧ met < f 4 ∧ rPf f met 4 = 0 ∧ rPf f met 2 = rPf f o 2)) → ((rLeg f d o n x y far met ms).2.1 = -1 ∨ (0 ≤ (rLeg f d o n x y far met ms).2.1 ∧ (rLeg f d o n x y far met ms).2.1 < f 4 ∧ rPf f (rLeg f d o n x y far met ms).2.1 4 = 0 ∧ rPf f (rLeg f d o n x y far met ms).2.1 2 = rPf f o 2)) := by
  intro n
  induction n with
  | zero => intro x y far met ms h; exact h
  | succ n ih =>
    intro x y far met ms h
    unfold rLeg
    split
    · split
      · rename_i q
        refine ih _ _ _ _ _ (Or.inr ?_)
        rcases rAt_r hr (x + jdx d) (y + jdy d) with ⟨t, -⟩ | ⟨t1, t2, -⟩
        · exact absurd t q.2.1
        · exact ⟨t1, t2, q.2.2.2.1, q.2.2.2.2⟩
      · exact ih _ _ _ _ _ h
    · exact h
theorem rLeg_pos {f : Row} (d o : Int) : ∀ (n : Nat) (x y far met ms : Int), 0 ≤ far → (met ≠ -1 → 1 ≤ ms) → (rLeg f d o n x y far met ms).2.1 ≠ -1 → 1 ≤ (rLeg f d o n x y far met ms).2.2 := by
  intro n
  induction n with
  | zero => intro x y far met ms h0 h q; exact h q
  | succ n ih =>
    intro x y far met ms h0 h
    unfold rLeg
    split
    · split
      · exact ih _ _ _ _ _ (by omega) (fun _ => by omega)
      · exact ih _ _ _ _ _ (by omega) h
    · exact h
def WVal (f : Row) (o : Int) (w : Way7) : Prop := (wNext w = -1 ∨ (0 ≤ wNext w ∧ wNext w < f 4 ∧ rPf f (wNext w) 4 = 0 ∧ rPf f (wNext w) 2 = rPf f o 2)) ∧ (0 ≤ wMany w ∧ wMany w ≤ 2) ∧ (0 ≤ wK1 w ∧ wK1 w ≤ 12) ∧ (0 ≤ wK2 w ∧ wK2 w ≤ 12) ∧ (0 ≤ wLast w ∧ wLast w ≤ 12) ∧
  (1 ≤ wMany w → 0 ≤ wD1 w ∧ wD1 w < 4) ∧ (wMany w = 2 → 0 ≤ wD2 w ∧ wD2 w < 4) ∧ (wMany w = 0 → wK1 w = 0) ∧ (wMany w ≤ 1 → wK2 w = 0)
theorem tCand_V {f : Row} (hr : RowOK f) {m a b c d x y o : Int} (hm : (m = 1 ∧ c = 0) ∨ (m = 2 ∧ 0 ≤ b ∧ b < 4)) (ha : 0 ≤ a ∧ a ≤ 12) (hc : 0 ≤ c ∧ c ≤ 12) (hd : 0 ≤ d ∧ d < 4) : WVal f o (tCand m a b c d (rLeg0 f x y d o)) := by
  have hb := rLeg0_b hr x y d o
  have hv : ((rLeg0 f x y d o).2.1 = -1 ∨ (0 ≤ (rLeg0 f x y d o).2.1 ∧ (rLeg0 f x y d o).2.1 < f 4 ∧ rPf f (rLeg0 f x y d o).2.1 4 = 0 ∧ rPf f (rLeg0 f x y d o).2.1 2 = rPf f o 2)) := rLeg_v hr d o (f 2).toNat x y 0 (-1) 0 (Or.inl rfl)
  rcases hm with ⟨rfl, rfl⟩ | ⟨rfl, h1, h2⟩
  · exact ⟨hv, (by decide : (0 : Int) ≤ 1 ∧ (1 : Int) ≤ 2), ha, (by decide : (0 : Int) ≤ 0 ∧ (0 : Int) ≤ 12), ⟨hb.2.2.2.2.1, hb.2.2.2.2.2⟩, fun _ => hd, fun q => absurd q (by decide : ¬ (1 : Int) = 2), fun q => absurd q (by decide : ¬ (1 : Int) = 0), fun _ => rfl⟩
  · exact ⟨hv, (by decide : (0 : Int) ≤ 2 ∧ (2 : Int) ≤ 2), ha, hc, ⟨hb.2.2.2.2.1, hb.2.2.2.2.2⟩, fun _ => ⟨h1, h2⟩, fun _ => hd, fun q => absurd q (by decide : ¬ (2 : Int) = 0), fun q => absurd q (by decide : ¬ (2 : Int) ≤ 1)⟩
theorem wOffer_P {P : Way7 → Prop} {w c : Way7} (h1 : P w) (h2 : P c) : P (wOffer w c) := by
  unfold wOffer
  split
  · exact h2
  · exact h1
theorem rTw_V {f : Row} (hr : RowOK f) {o m a b x y c al : Int} (hm : (m = 1 ∧ c = 0) ∨ (m = 2 ∧ 0 ≤ b ∧ b < 4)) (ha : 0 ≤ a ∧ a ≤ 12) (hc : 0 ≤ c ∧ c ≤ 12) : ∀ (n : Nat) (d : Int) (w : Way7), 0 ≤ d → d + n ≤ 4 → WVal f o w → WVal f o (rTw f o m a b x y c al n d w) := by
  intro n
  induction n with
  | zero => intro d w _ _ hw; exact hw
  | succ n ih =>
    intro d w h0 h1 hw
    unfold rTw
    refine ih _ _ (by omega) (by omega) ?_
    split
    · exact hw
    · exact wOffer_P hw (tCand_V hr hm ha hc ⟨h0, by omega⟩)
theorem rOne_V {f : Row} (hr : RowOK f) {o ar x y : Int} : ∀ (n : Nat) (a : Int) (w : Way7), 0 ≤ a → a + n ≤ 13 → WVal f o w → WVal f o (rOne f o ar x y n a w) := by
  intro n
  induction n with
  | zero => intro a w _ _ hw; exact hw
  | succ n ih => intro a w h0 h1 hw; exact ih _ _ (by omega) (by omega) (rTw_V hr (Or.inl ⟨rfl, rfl⟩) ⟨h0, by omega⟩ (by decide) 4 0 w (by decide) (by decide) hw)
theorem rTc_V {f : Row} (hr : RowOK f) {o a d x y : Int} (hd : 0 ≤ d ∧ d < 4) (ha : 0 ≤ a ∧ a ≤ 12) : ∀ (n : Nat) (c : Int) (w : Way7), 0 ≤ c → c + n ≤ 13 → WVal f o w → WVal f o (rTc f o a d x y n c w) := by
  intro n
  induction n with
  | zero => intro a w _ _ hw; exact hw
  | succ n ih => intro c w h0 h1 hw; exact ih _ _ (by omega) (by omega) (rTw_V hr (Or.inr ⟨rfl, hd.1, hd.2⟩) ha ⟨h0, by omega⟩ 4 0 w (by decide) (by decide) hw)
theorem rTd_V {f : Row} (hr : RowOK f) {o ar a x y : Int} (ha : 0 ≤ a ∧ a ≤ 12) : ∀ (n : Nat) (d : Int) (w : Way7), 0 ≤ d → d + n ≤ 4 → WVal f o w → WVal f o (rTd f o ar a x y n d w) := by
  intro n
  induction n with
  | zero => intro d w _ _ hw; exact hw
  | succ n ih =>
    intro d w h0 h1 hw
    unfold rTd
    refine ih _ _ (by omega) (by omega) ?_
    split
    · exact hw
    · have hb := rLeg0_b hr (x + a * jdx ar) (y + a * jdy ar) d o
      exact rTc_V hr ⟨h0, by omega⟩ ha _ 1 w (by decide) (by omega) hw
theorem rTwo_V {f : Row} (hr : RowOK f) {o ar x y : Int} : ∀ (n : Nat) (a : Int) (w : Way7), 0 ≤ a → a + n ≤ 13 → WVal f o w → WVal f o (rTwo f o ar x y n a w) := by
  intro n
  induction n with
  | zero => intro a w _ _ hw; exact hw
  | succ n ih => intro a w h0 h1 hw; exact ih _ _ (by omega) (by omega) (rTd_V hr ⟨h0, by omega⟩ 4 0 w (by decide) (by decide) hw)
theorem rW0_V (f : Row) (o d1 d2 : Int) : WVal f o (rW0 d1 d2) := ⟨Or.inl rfl, ⟨by show (0 : Int) ≤ 0; decide, by show (0 : Int) ≤ 2; decide⟩, ⟨by show (0 : Int) ≤ 0; decide, by show (0 : Int) ≤ 12; decide⟩, ⟨by show (0 : Int) ≤ 0; decide, by show (0 : Int) ≤ 12; decide⟩, ⟨by show (0 : Int) ≤ 0; decide, by show (0 : Int) ≤ 12; decide⟩, fun q => absurd q (by show ¬ (1 : Int) ≤ 0; decide), fun q => absurd q (by show ¬ (0 : Int) = 2; decide), fun _ => rfl, fun _ => rfl⟩
theorem rW1_V {f : Row} (hr : RowOK f) (o d1 d2 : Int) : WVal f o (rW1 f o d1 d2) := by
  have hb := rLeg0_b hr (rPf f o 0) (rPf f o 1) (rPf f o 3) o
  have h2 : (rLegO f o).1 ≤ 12 := hb.2.1
  have h1 : 0 ≤ (rLegO f o).1 := hb.1
  unfold rW1
  split
  · exact rOne_V hr _ 1 _ (by decide) (by omega) (rW0_V _ _ _ _)
  · exact rW0_V _ _ _ _
theorem rFind_V {f : Row} (hr : RowOK f) (o d1 d2 : Int) : WVal f o (rFind f o d1 d2) := by
  have hb := rLeg0_b hr (rPf f o 0) (rPf f o 1) (rPf f o 3) o
  have h2 : (rLegO f o).1 ≤ 12 := hb.2.1
  have h1 : 0 ≤ (rLegO f o).1 := hb.1
  unfold rFind
  split
  · split
    · split
      · exact rTwo_V hr _ 1 _ (by decide) (by omega) (rW1_V hr _ _ _)
      · exact rW1_V hr _ _ _
    · have hv := rLeg_v hr (rPf f o 3) o (f 2).toNat (rPf f o 0) (rPf f o 1) 0 (-1) 0 (Or.inl rfl)
      exact ⟨hv, ⟨by show (0 : Int) ≤ 0; decide, by show (0 : Int) ≤ 2; decide⟩, ⟨by show (0 : Int) ≤ 0; decide, by show (0 : Int) ≤ 12; decide⟩, ⟨by show (0 : Int) ≤ 0; decide, by show (0 : Int) ≤ 12; decide⟩, ⟨hb.2.2.2.2.1, hb.2.2.2.2.2⟩, fun q => absurd q (by show ¬ (1 : Int) ≤ 0; decide), fun q => absurd q (by show ¬ (0 : Int) = 2; decide), fun _ => rfl, fun _ => rfl⟩
  · exact rW0_V _ _ _ _
theorem rFind_arrow {f : Row} {o d1 d2 : Int} (h : wNext (rFind f o d1 d2) ≠ -1) : ¬ rPf f o 3 = 4 := fun q => by
  unfold rFind at h
  rw [if_neg (fun t => t.2 q)] at h
  exact h rfl
/-- the same way, but for turns that it doesn't have -/
def WEq (w v : Way7) : Prop := wNext w = wNext v ∧ wMany w = wMany v ∧ wK1 w = wK1 v ∧ wK2 w = wK2 v ∧ wLast w = wLast v ∧ (1 ≤ wMany w → wD1 w = wD1 v) ∧ (wMany w = 2 → wD2 w = wD2 v)
theorem WEq.refl (w : Way7) : WEq w w := ⟨rfl, rfl, rfl, rfl, rfl, fun _ => rfl, fun _ => rfl⟩
theorem WEq.sum {w v : Way7} (h : WEq w v) : wSum w = wSum v := by unfold wSum; rw [h.2.2.1, h.2.2.2.1, h.2.2.2.2.1]
theorem WEq.offer {w v : Way7} (h : WEq w v) (c : Way7) : WEq (wOffer w c) (wOffer v c) := by
  unfold wOffer
  rw [h.1, h.sum]
  split
  · exact WEq.refl c
  · exact h
theorem rTw_E {f : Row} {o m a b x y c al : Int} : ∀ (n : Nat) (d : Int) (w v : Way7), WEq w v → WEq (rTw f o m a b x y c al n d w) (rTw f o m a b x y c al n d v) := by
  intro n
  induction n with
  | zero => intro d w v h; exact h
  | succ n ih =>
    intro d w v h
    unfold rTw
    refine ih _ _ _ ?_
    split
    · exact h
    · exact h.offer _
theorem rOne_E {f : Row} {o ar x y : Int} : ∀ (n : Nat) (a : Int) (w v : Way7), WEq w v → WEq (rOne f o ar x y n a w) (rOne f o ar x y n a v) := by
  intro n
  induction n with
  | zero => intro a w v h; exact h
  | succ n ih => intro a w v h; exact ih _ _ _ (rTw_E 4 0 w v h)
theorem rTc_E {f : Row} {o a d x y : Int} : ∀ (n : Nat) (c : Int) (w v : Way7), WEq w v → WEq (rTc f o a d x y n c w) (rTc f o a d x y n c v) := by
  intro n
  induction n with
  | zero => intro a w v h; exact h
  | succ n ih => intro a w v h; exact ih _ _ _ (rTw_E 4 0 w v h)
theorem rTd_E {f : Row} {o ar a x y : Int} : ∀ (n : Nat) (d : Int) (w v : Way7), WEq w v → WEq (rTd f o ar a x y n d w) (rTd f o ar a x y n d v) := by
  intro n
  induction n with
  | zero => intro d w v h; exact h
  | succ n ih =>
    intro d w v h
    unfold rTd
    refine ih _ _ _ ?_
    split
    · exact h
    · exact rTc_E _ 1 w v h
theorem rTwo_E {f : Row} {o ar x y : Int} : ∀ (n : Nat) (a : Int) (w v : Way7), WEq w v → WEq (rTwo f o ar x y n a w) (rTwo f o ar x y n a v) := by
  intro n
  induction n with
  | zero => intro a w v h; exact h
  | succ n ih => intro a w v h; exact ih _ _ _ (rTd_E 4 0 w v h)
theorem rW0_E (d1 d2 e1 e2 : Int) : WEq (rW0 d1 d2) (rW0 e1 e2) := ⟨rfl, rfl, rfl, rfl, rfl, fun q => absurd q (by show ¬ (1 : Int) ≤ 0; decide), fun q => absurd q (by show ¬ (0 : Int) = 2; decide)⟩
theorem rW1_E (f : Row) (o d1 d2 e1 e2 : Int) : WEq (rW1 f o d1 d2) (rW1 f o e1 e2) := by
  unfold rW1
  split
  · exact rOne_E _ 1 _ _ (rW0_E _ _ _ _)
  · exact rW0_E _ _ _ _
theorem rFind_E (f : Row) (o d1 d2 e1 e2 : Int) : WEq (rFind f o d1 d2) (rFind f o e1 e2) := by
  have h1 := rW1_E f o d1 d2 e1 e2
  unfold rFind
  rw [h1.1]
  split
  · split
    · split
      · exact rTwo_E _ 1 _ _ h1
      · exact h1
    · exact ⟨rfl, rfl, rfl, rfl, rfl, fun q => absurd q (by show ¬ (1 : Int) ≤ 0; decide), fun q => absurd q (by show ¬ (0 : Int) = 2; decide)⟩
  · exact rW0_E _ _ _ _
