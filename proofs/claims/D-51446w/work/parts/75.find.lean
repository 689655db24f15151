set_option maxRecDepth 100000
/-! the reference's search of the way, without the leg's numbers -/
def tCand (m a b c d : Int) (L : Leg3) : Way7 := if m = 1 then (L.2.1, 1, a, d, 0, 0, L.2.2) else (L.2.1, 2, a, b, c, d, L.2.2)
def rTw (f : Row) (o m a b x y c al : Int) : Nat → Int → Way7 → Way7
  | 0, _, w => w
  | n + 1, d, w => rTw f o m a b x y c al n (d + 1) (if d.tmod 2 = al.tmod 2 ∨ (rLeg0 f x y d o).2.1 = -1 then w else wOffer w (tCand m a b c d (rLeg0 f x y d o)))
theorem rTurns_w (f : Row) (o m a b x y c al : Int) : ∀ (n : Nat) (d : Int) (l : Leg3) (w : Way7), (rTurns f o m a b x y c al n d l w).2 = rTw f o m a b x y c al n d w := by
  intro n
  induction n with
  | zero => intro d l w; rfl
  | succ n ih =>
    intro d l w
    unfold rTurns rTw
    by_cases h1 : d.tmod 2 = al.tmod 2
    · rw [if_pos h1, if_pos (Or.inl h1)]; exact ih _ _ _
    · rw [if_neg h1]
      by_cases h2 : (rLeg0 f x y d o).2.1 = -1
      · rw [if_pos h2, if_pos (Or.inr h2)]; exact ih _ _ _
      · rw [if_neg h2, if_neg (show ¬ (d.tmod 2 = al.tmod 2 ∨ (rLeg0 f x y d o).2.1 = -1) from fun q => q.elim h1 h2)]; exact ih _ _ _
theorem tCand_OK {f : Row} (hr : RowOK f) {m a b c d x y o : Int} (ha : 0 ≤ a ∧ a ≤ 12) (hc : 0 ≤ c ∧ c ≤ 12) : WOK (tCand m a b c d (rLeg0 f x y d o)) := by
  have hb := rLeg0_b hr x y d o
  unfold tCand
  split
  · exact ⟨⟨hb.2.2.1, hb.2.2.2.1⟩, by show 0 ≤ a + 0 + (rLeg0 f x y d o).2.2; omega, by show a + 0 + (rLeg0 f x y d o).2.2 ≤ 100; omega⟩
  · exact ⟨⟨hb.2.2.1, hb.2.2.2.1⟩, by show 0 ≤ a + c + (rLeg0 f x y d o).2.2; omega, by show a + c + (rLeg0 f x y d o).2.2 ≤ 100; omega⟩
theorem rTw_OK {f : Row} (hr : RowOK f) {o m a b x y c al : Int} (ha : 0 ≤ a ∧ a ≤ 12) (hc : 0 ≤ c ∧ c ≤ 12) : ∀ (n : Nat) (d : Int) (w : Way7), WOK w → WOK (rTw f o m a b x y c al n d w) := by
  intro n
  induction n with
  | zero => intro d w hw; exact hw
  | succ n ih =>
    intro d w hw
    unfold rTw
    refine ih _ _ ?_
    split
    · exact hw
    · exact hw.offer (tCand_OK hr ha hc)
theorem t_turns {κ : TS → Prop} {sg : TS} {o m a b x y c al : Int} {l : Leg3} {w : Way7} (hr : RowOK (sg.2 0)) (ho : 0 ≤ o ∧ o < sg.2 0 4) (hm : (m = 1 ∧ al = rPf (sg.2 0) o 3) ∨ (m = 2 ∧ al = b ∧ 0 ≤ b ∧ b < 4)) (ha : 0 ≤ a ∧ a ≤ 12) (hc : 0 ≤ c ∧ c ≤ 12) (hx : -1000 ≤ x ∧ x ≤ 1000) (hy : -1000 ≤ y ∧ y ≤ 1000) (hw : WOK w)
    (hk : ∀ l, κ (sW sg l (rTw (sg.2 0) o m a b x y c al 4 0 w))) : P_X5_turns κ (sW sg l w) o m a b x y c := by
  have har := hr.arrow o ho.1 ho.2
  have hmm := hr.many
  have go : 0 ≤ al ∧ al ≤ 4 → InR m → ∃ f9 : Nat, L_X5_turns_21 (fun sg => P_X5_turns_115 κ sg) κ f9 (sW sg l w) o m a b x y c al 0 := fun h1 h2 => ⟨5, by
    refine t_turns_loop hr ho h2 h1 ha hc hx hy 4 0 l w (by decide) (by decide) hw ?_
    have := hk (rTurns (sg.2 0) o m a b x y c al 4 0 l w).1
    rw [rTurns_w]; exact this⟩
  rcases hm with ⟨rfl, rfl⟩ | ⟨rfl, rfl, h1, h2⟩
  · exact ⟨by decide, pIf_pos rfl (t_of (sg := sW sg l w) ⟨ho.1, by omega, by decide, by decide⟩ (go ⟨har.1, har.2⟩ (by decide)))⟩
  · exact ⟨by decide, pIf_neg (by decide) (go ⟨h1, by omega⟩ (by decide))⟩
theorem t_dxj {κ : Int → Prop} {d : Int} (h : InR d) (hk : κ (jdx d)) : P_X5_dx κ d := t_dx h hk
theorem t_dyj {κ : Int → Prop} {d : Int} (h : InR d) (hk : κ (jdy d)) : P_X5_dy κ d := t_dy h hk
/-- the loop over the steps of the first leg, one turn -/
def rOne (f : Row) (o ar x y : Int) : Nat → Int → Way7 → Way7
  | 0, _, w => w
  | n + 1, a, w => rOne f o ar x y n (a + 1) (rTw f o 1 a (-1) (x + a * jdx ar) (y + a * jdy ar) 0 ar 4 0 w)
/-- the steps of a second leg -/
def rTc (f : Row) (o a d x y : Int) : Nat → Int → Way7 → Way7
  | 0, _, w => w
  | n + 1, c, w => rTc f o a d x y n (c + 1) (rTw f o 2 a d (x + c * jdx d) (y + c * jdy d) c d 4 0 w)
def rTwice (f : Row) (o a d x y : Int) (w : Way7) : Way7 := rTc f o a d x y (rLeg0 f x y d o).1.toNat 1 w
def rTd (f : Row) (o ar a x y : Int) : Nat → Int → Way7 → Way7
  | 0, _, w => w
  | n + 1, d, w => rTd f o ar a x y n (d + 1) (if d.tmod 2 = ar.tmod 2 then w else rTwice f o a d (x + a * jdx ar) (y + a * jdy ar) w)
def rTwo (f : Row) (o ar x y : Int) : Nat → Int → Way7 → Way7
  | 0, _, w => w
  | n + 1, a, w => rTwo f o ar x y n (a + 1) (rTd f o ar a x y 4 0 w)
def rW0 (d1 d2 : Int) : Way7 := (-1, 0, 0, d1, 0, d2, 0)
def rLegO (f : Row) (o : Int) : Leg3 := rLeg0 f (rPf f o 0) (rPf f o 1) (rPf f o 3) o
def rW1 (f : Row) (o d1 d2 : Int) : Way7 := if 0 < f 3 then rOne f o (rPf f o 3) (rPf f o 0) (rPf f o 1) (rLegO f o).1.toNat 1 (rW0 d1 d2) else rW0 d1 d2
def rFind (f : Row) (o d1 d2 : Int) : Way7 :=
  if rPf f o 4 = 0 ∧ ¬ rPf f o 3 = 4 then
    (if (rLegO f o).2.1 = -1 then (if wNext (rW1 f o d1 d2) = -1 ∧ ¬ f 3 < 2 then rTwo f o (rPf f o 3) (rPf f o 0) (rPf f o 1) (rLegO f o).1.toNat 1 (rW1 f o d1 d2) else rW1 f o d1 d2)
     else ((rLegO f o).2.1, 0, 0, d1, 0, d2, (rLegO f o).2.2)) else rW0 d1 d2
theorem mul_b {a d : Int} (ha : 0 ≤ a ∧ a ≤ 12) (hd : -1 ≤ d ∧ d ≤ 1) : -12 ≤ a * d ∧ a * d ≤ 12 := by
  have : d = -1 ∨ d = 0 ∨ d = 1 := by omega
  rcases this with rfl | rfl | rfl <;> omega
theorem rOne_OK {f : Row} (hr : RowOK f) {o ar x y : Int} : ∀ (n : Nat) (a : Int) (w : Way7), 0 ≤ a → a + n ≤ 13 → WOK w → WOK (rOne f o ar x y n a w) := by
  intro n
  induction n with
  | zero => intro a w _ _ hw; exact hw
  | succ n ih => intro a w h0 h1 hw; exact ih _ _ (by omega) (by omega) (rTw_OK hr ⟨h0, by omega⟩ (by decide) 4 0 w hw)
theorem rTc_OK {f : Row} (hr : RowOK f) {o a d x y : Int} (ha : 0 ≤ a ∧ a ≤ 12) : ∀ (n : Nat) (c : Int) (w : Way7), 0 ≤ c → c + n ≤ 13 → WOK w → WOK (rTc f o a d x y n c w) := by
  intro n
  induction n with
  | zero => intro a w _ _ hw; exact hw
  | succ n ih => intro c w h0 h1 hw; exact ih _ _ (by omega) (by omega) (rTw_OK hr ha ⟨h0, by omega⟩ 4 0 w hw)
theorem rTwice_OK {f : Row} (hr : RowOK f) {o a d x y : Int} (ha : 0 ≤ a ∧ a ≤ 12) {w : Way7} (hw : WOK w) : WOK (rTwice f o a d x y w) := by
  have hb := rLeg0_b hr x y d o
  exact rTc_OK hr ha _ 1 w (by decide) (by omega) hw
theorem rTd_OK {f : Row} (hr : RowOK f) {o ar a x y : Int} (ha : 0 ≤ a ∧ a ≤ 12) : ∀ (n : Nat) (d : Int) (w : Way7), WOK w → WOK (rTd f o ar a x y n d w) := by
  intro n
  induction n with
  | zero => intro d w hw; exact hw
  | succ n ih =>
    intro d w hw
    unfold rTd
    refine ih _ _ ?_
    split
    · exact hw
    · exact rTwice_OK hr ha hw
theorem rTwo_OK {f : Row} (hr : RowOK f) {o ar x y : Int} : ∀ (n : Nat) (a : Int) (w : Way7), 0 ≤ a → a + n ≤ 13 → WOK w → WOK (rTwo f o ar x y n a w) := by
  intro n
  induction n with
  | zero => intro a w _ _ hw; exact hw
  | succ n ih => intro a w h0 h1 hw; exact ih _ _ (by omega) (by omega) (rTd_OK hr ⟨h0, by omega⟩ 4 0 w hw)
theorem rW0_OK (d1 d2 : Int) : WOK (rW0 d1 d2) := ⟨⟨by show (-1 : Int) ≤ -1; decide, by show (-1 : Int) < 24; decide⟩, by show (0 : Int) ≤ 0 + 0 + 0; decide, by show (0 : Int) + 0 + 0 ≤ 100; decide⟩
theorem rW1_OK {f : Row} (hr : RowOK f) (o d1 d2 : Int) : WOK (rW1 f o d1 d2) := by
  have hb := rLeg0_b hr (rPf f o 0) (rPf f o 1) (rPf f o 3) o
  have h2 : (rLegO f o).1 ≤ 12 := hb.2.1
  have h1 : 0 ≤ (rLegO f o).1 := hb.1
  unfold rW1
  split
  · exact rOne_OK hr _ 1 _ (by decide) (by omega) (rW0_OK _ _)
  · exact rW0_OK _ _
theorem rFind_OK {f : Row} (hr : RowOK f) (o d1 d2 : Int) : WOK (rFind f o d1 d2) := by
  have hb := rLeg0_b hr (rPf f o 0) (rPf f o 1) (rPf f o 3) o
  have h2 : (rLegO f o).1 ≤ 12 := hb.2.1
  have h1 : 0 ≤ (rLegO f o).1 := hb.1
  unfold rFind
  split
  · split
    · split
      · exact rTwo_OK hr _ 1 _ (by decide) (by omega) (rW1_OK hr _ _ _)
      · exact rW1_OK hr _ _ _
    · exact ⟨⟨hb.2.2.1, hb.2.2.2.1⟩, by show 0 ≤ 0 + 0 + (rLegO f o).2.2; have := hb.2.2.2.2.1; unfold rLegO; omega, by show 0 + 0 + (rLegO f o).2.2 ≤ 100; have := hb.2.2.2.2.2; unfold rLegO; omega⟩
  · exact rW0_OK _ _
theorem t_twice_loop {κ : TS → Prop} {sg : TS} {o a d x y rc : Int} (hr : RowOK (sg.2 0)) (ho : 0 ≤ o ∧ o < sg.2 0 4) (hd : 0 ≤ d ∧ d < 4) (ha : 0 ≤ a ∧ a ≤ 12) (hx : -500 ≤ x ∧ x ≤ 500) (hy : -500 ≤ y ∧ y ≤ 500) (hrc : 0 ≤ rc ∧ rc ≤ 12) : ∀ (n : Nat) (c : Int) (l : Leg3) (w : Way7), 1 ≤ c → c + n = rc + 1 → WOK w →
    (∀ l, κ (sW sg l (rTc (sg.2 0) o a d x y n c w))) → L_X5_twice_19 (fun sg => P_X5_twice_62 κ sg) κ (n + 1) (sW sg l w) o a d x y rc c := by
  intro n
  induction n with
  | zero => intro c l w h0 h1 hw hk; exact ⟨⟨by omega, by omega⟩, ⟨by omega, by omega⟩, pIf_pos (by omega) (hk l)⟩
  | succ n ih =>
    intro c l w h0 h1 hw hk
    have m1 := mul_b (a := c) (d := jdx d) ⟨by omega, by omega⟩ (jdx_r d)
    have m2 := mul_b (a := c) (d := jdy d) ⟨by omega, by omega⟩ (jdy_r d)
    refine ⟨⟨by omega, by omega⟩, ⟨by omega, by omega⟩, pIf_neg (by omega) (t_dxj ⟨by omega, by omega⟩ (t_dyj ⟨by omega, by omega⟩ ?_))⟩
    refine t_turns hr ho (Or.inr ⟨rfl, rfl, hd.1, hd.2⟩) ha ⟨by omega, by omega⟩ ⟨by omega, by omega⟩ ⟨by omega, by omega⟩ hw fun l2 => ?_
    exact ih (c + 1) l2 _ (by omega) (by omega) (rTw_OK hr ha ⟨by omega, by omega⟩ 4 0 w hw) hk
theorem t_twice {κ : TS → Prop} {sg : TS} {o a d x y : Int} {l : Leg3} {w : Way7} (hr : RowOK (sg.2 0)) (ho : 0 ≤ o ∧ o < sg.2 0 4) (hd : 0 ≤ d ∧ d < 4) (ha : 0 ≤ a ∧ a ≤ 12) (hx : -500 ≤ x ∧ x ≤ 500) (hy : -500 ≤ y ∧ y ≤ 500) (hw : WOK w)
    (hk : ∀ l, κ (sW sg l (rTwice (sg.2 0) o a d x y w))) : P_X5_twice κ (sW sg l w) o a d x y := by
  have hb := rLeg0_b hr x y d o
  refine t_leg (sg := sW sg l w) hr ⟨by omega, by omega⟩ ho ⟨by omega, by omega⟩ ⟨by omega, by omega⟩ ?_
  rw [sW_sL]
  exact ⟨(rLeg0 (sg.2 0) x y d o).1.toNat + 1, t_twice_loop hr ho hd ha hx hy ⟨hb.1, hb.2.1⟩ _ 1 _ w (by decide) (by have := hb.1; show 1 + (((rLeg0 (sg.2 0) x y d o).1.toNat : Nat) : Int) = _; omega) hw hk⟩
theorem t_find_187 {κ : TS → Prop} {k : TS → Int → Int → Int → Int → Int → Int → Prop} {sg : TS} {o ar x y rc a : Int} (hr : RowOK (sg.2 0)) (ho : 0 ≤ o ∧ o < sg.2 0 4) (har : 0 ≤ ar ∧ ar ≤ 4) (ha : 0 ≤ a ∧ a ≤ 12) (hx : -100 ≤ x ∧ x ≤ 100) (hy : -100 ≤ y ∧ y ≤ 100) : ∀ (n : Nat) (d : Int) (l : Leg3) (w : Way7), 0 ≤ d → d + n = 4 → WOK w →
    (∀ l, k (sW sg l (rTd (sg.2 0) o ar a x y n d w)) o ar x y rc a) → L_X5_find_187 k κ (n + 1) (sW sg l w) o ar x y rc a d := by
  have m1 := mul_b (a := a) (d := jdx ar) ha (jdx_r ar)
  have m2 := mul_b (a := a) (d := jdy ar) ha (jdy_r ar)
  intro n
  induction n with
  | zero => intro d l w h0 h1 hw hk; exact ⟨⟨by omega, by omega⟩, pIf_neg (by omega) (hk l)⟩
  | succ n ih =>
    intro d l w h0 h1 hw hk
    have t1 : d.tmod 2 = d % 2 := Int.tmod_eq_emod_of_nonneg h0
    have t2 : ar.tmod 2 = ar % 2 := Int.tmod_eq_emod_of_nonneg har.1
    refine ⟨⟨by omega, by omega⟩, pIf_pos (by omega) ⟨⟨by omega, by omega⟩, ⟨by rw [t1]; omega, by rw [t1]; omega⟩, ⟨by rw [t2]; omega, by rw [t2]; omega⟩, fun q => ?_, fun q => ?_⟩⟩
    · unfold rTd at hk
      rw [if_pos q] at hk
      exact ih (d + 1) l w (by omega) (by omega) hw hk
    · unfold rTd at hk
      rw [if_neg q] at hk
      refine t_dxj ⟨by omega, by omega⟩ (t_dyj ⟨by omega, by omega⟩ (t_twice hr ho ⟨h0, by omega⟩ ha ⟨by omega, by omega⟩ ⟨by omega, by omega⟩ hw fun l2 => ?_))
      exact ih (d + 1) l2 _ (by omega) (by omega) (rTwice_OK hr ha hw) hk
theorem t_find_177 {κ : TS → Prop} {sg : TS} {o ar x y rc : Int} (hr : RowOK (sg.2 0)) (ho : 0 ≤ o ∧ o < sg.2 0 4) (har : 0 ≤ ar ∧ ar ≤ 4) (hrc : 0 ≤ rc ∧ rc ≤ 12) (hx : -100 ≤ x ∧ x ≤ 100) (hy : -100 ≤ y ∧ y ≤ 100) : ∀ (n : Nat) (a : Int) (l : Leg3) (w : Way7), 1 ≤ a → a + n = rc + 1 → WOK w →
    (∀ l, κ (sW sg l (rTwo (sg.2 0) o ar x y n a w))) → L_X5_find_177 (fun sg => P_X5_find_243 κ sg) κ (n + 1) (sW sg l w) o ar x y rc a := by
  intro n
  induction n with
  | zero => intro a l w h0 h1 hw hk; exact ⟨⟨by omega, by omega⟩, ⟨by omega, by omega⟩, pIf_pos (by omega) (hk l)⟩
  | succ n ih =>
    intro a l w h0 h1 hw hk
    refine ⟨⟨by omega, by omega⟩, ⟨by omega, by omega⟩, pIf_neg (by omega) ⟨5, t_find_187 hr ho har ⟨by omega, by omega⟩ hx hy 4 0 l w (by decide) (by decide) hw fun l2 => ?_⟩⟩
    exact ih (a + 1) l2 _ (by omega) (by omega) (rTd_OK hr ⟨by omega, by omega⟩ 4 0 w hw) hk
theorem t_find_113 {κ : TS → Prop} {k : TS → Int → Int → Int → Int → Int → Prop} {sg : TS} {o x y rc : Int} (hr : RowOK (sg.2 0)) (ho : 0 ≤ o ∧ o < sg.2 0 4) (hrc : 0 ≤ rc ∧ rc ≤ 12) (hx : -100 ≤ x ∧ x ≤ 100) (hy : -100 ≤ y ∧ y ≤ 100) : ∀ (n : Nat) (a : Int) (l : Leg3) (w : Way7), 1 ≤ a → a + n = rc + 1 → WOK w →
    (∀ l, k (sW sg l (rOne (sg.2 0) o (rPf (sg.2 0) o 3) x y n a w)) o (rPf (sg.2 0) o 3) x y rc) → L_X5_find_113 k κ (n + 1) (sW sg l w) o (rPf (sg.2 0) o 3) x y rc a := by
  have har := hr.arrow o ho.1 ho.2
  intro n
  induction n with
  | zero => intro a l w h0 h1 hw hk; exact ⟨⟨by omega, by omega⟩, ⟨by omega, by omega⟩, pIf_pos (by omega) (hk l)⟩
  | succ n ih =>
    intro a l w h0 h1 hw hk
    have m1 := mul_b (a := a) (d := jdx (rPf (sg.2 0) o 3)) ⟨by omega, by omega⟩ (jdx_r _)
    have m2 := mul_b (a := a) (d := jdy (rPf (sg.2 0) o 3)) ⟨by omega, by omega⟩ (jdy_r _)
    refine ⟨⟨by omega, by omega⟩, ⟨by omega, by omega⟩, pIf_neg (by omega) (t_dxj ⟨by omega, by omega⟩ (t_dyj ⟨by omega, by omega⟩ ?_))⟩
    refine t_turns hr ho (Or.inl ⟨rfl, rfl⟩) ⟨by omega, by omega⟩ (by decide) ⟨by omega, by omega⟩ ⟨by omega, by omega⟩ hw fun l2 => ?_
    exact ih (a + 1) l2 _ (by omega) (by omega) (rTw_OK hr ⟨by omega, by omega⟩ (by decide) 4 0 w hw) hk
theorem sW_start (sg : TS) : setS (setS (setS (setS (setS sg 18 (-1)) 19 0) 20 0) 22 0) 24 0 = sW sg (sg.1 15, sg.1 16, sg.1 17) (rW0 (sg.1 21) (sg.1 23)) := by
  unfold setS sW
  congr 1
  funext j
  by_cases g : 15 ≤ j ∧ j ≤ 24
  · have : j = 15 ∨ j = 16 ∨ j = 17 ∨ j = 18 ∨ j = 19 ∨ j = 20 ∨ j = 21 ∨ j = 22 ∨ j = 23 ∨ j = 24 := by omega
    rcases this with h | h | h | h | h | h | h | h | h | h <;> subst h <;> rfl
  · have e : ∀ k : Nat, 15 ≤ k → k ≤ 24 → ¬ j = k := fun k h1 h2 q => g (by omega)
    simp only [e 15 (by decide) (by decide), e 16 (by decide) (by decide), e 17 (by decide) (by decide), e 18 (by decide) (by decide), e 19 (by decide) (by decide), e 20 (by decide) (by decide), e 21 (by decide) (by decide), e 22 (by decide) (by decide), e 23 (by decide) (by decide), e 24 (by decide) (by decide), if_false]
theorem sW_met (sg : TS) (l : Leg3) (d1 d2 p s : Int) : setS (setS (sW sg l (rW0 d1 d2)) 18 p) 24 s = sW sg l (p, 0, 0, d1, 0, d2, s) := by
  unfold setS sW
  congr 1
  funext j
  by_cases g : 15 ≤ j ∧ j ≤ 24
  · have : j = 15 ∨ j = 16 ∨ j = 17 ∨ j = 18 ∨ j = 19 ∨ j = 20 ∨ j = 21 ∨ j = 22 ∨ j = 23 ∨ j = 24 := by omega
    rcases this with h | h | h | h | h | h | h | h | h | h <;> subst h <;> rfl
  · have e : ∀ k : Nat, 15 ≤ k → k ≤ 24 → ¬ j = k := fun k h1 h2 q => g (by omega)
    simp only [e 15 (by decide) (by decide), e 16 (by decide) (by decide), e 17 (by decide) (by decide), e 18 (by decide) (by decide), e 19 (by decide) (by decide), e 20 (by decide) (by decide), e 21 (by decide) (by decide), e 22 (by decide) (by decide), e 23 (by decide) (by decide), e 24 (by decide) (by decide), if_false]
theorem t_find_155 {κ : TS → Prop} {sg : TS} {o x y rc d1 d2 : Int} {l : Leg3} {w : Way7} (hr : RowOK (sg.2 0)) (ho : 0 ≤ o ∧ o < sg.2 0 4) (hrc : 0 ≤ rc ∧ rc ≤ 12) (hx : -100 ≤ x ∧ x ≤ 100) (hy : -100 ≤ y ∧ y ≤ 100) (hw : WOK w)
    (hk : ∀ l, κ (sW sg l (if wNext w = -1 ∧ ¬ sg.2 0 3 < 2 then rTwo (sg.2 0) o (rPf (sg.2 0) o 3) x y rc.toNat 1 w else w))) : P_X5_find_155 κ (sW sg l w) o (rPf (sg.2 0) o 3) x y rc := by
  have har := hr.arrow o ho.1 ho.2
  have hms := hr.miss
  have hn := hw.1
  have i1 : InR (wNext w) := ⟨by omega, by omega⟩
  have i2 : InR (sg.2 0 3) := ⟨by omega, by omega⟩
  refine ⟨i1, fun q => ⟨i2, fun q2 => ?_, fun q2 => ?_⟩, fun q => ?_⟩
  · have q2 : sg.2 0 3 < 2 := q2
    have := hk l
    rw [if_neg (fun t => t.2 q2)] at this; exact this
  · have q : wNext w = -1 := q
    have q2 : ¬ sg.2 0 3 < 2 := q2
    simp only [if_pos (show wNext w = -1 ∧ ¬ sg.2 0 3 < 2 from ⟨q, q2⟩)] at hk
    exact ⟨rc.toNat + 1, t_find_177 hr ho har hrc hx hy rc.toNat 1 l w (by decide) (by omega) hw hk⟩
  · have q : ¬ wNext w = -1 := q
    have := hk l
    rw [if_neg (fun t => q t.1)] at this; exact this
theorem t_find {κ : TS → Prop} {sg : TS} {o : Int} (hr : RowOK (sg.2 0)) (ho : 0 ≤ o ∧ o < sg.2 0 4)
    (hk : ∀ l, κ (sW sg l (rFind (sg.2 0) o (sg.1 21) (sg.1 23)))) : P_X5_find κ sg o := by
  have hmm := hr.many; have har := hr.arrow o ho.1 ho.2; have hon := hr.on o ho.1 ho.2; have hw := hr.w; have hh := hr.h; have hms := hr.miss
  unfold rFind at hk
  unfold P_X5_find
  rw [sW_start]
  refine t_of (sg := sW sg _ _) ⟨ho.1, by omega, by decide, by decide⟩ (t_stands (sg := sW sg _ _) hr ho ⟨b2i_inr _, fun q => ?_, fun q => ⟨?_, fun q2 => ?_, fun q2 => ?_⟩⟩)
  · have q : ¬ rPf (sg.2 0) o 4 = 0 := b2i_z.mp q
    simp only [if_neg (show ¬ (rPf (sg.2 0) o 4 = 0 ∧ ¬ rPf (sg.2 0) o 3 = 4) from fun t => q t.1)] at hk
    exact hk _
  · show InR (rPf (sg.2 0) o 3); exact ⟨by omega, by omega⟩
  · have q2 : rPf (sg.2 0) o 3 = 4 := q2
    simp only [if_neg (show ¬ (rPf (sg.2 0) o 4 = 0 ∧ ¬ rPf (sg.2 0) o 3 = 4) from fun t => t.2 q2)] at hk
    exact hk _
  · have q : rPf (sg.2 0) o 4 = 0 := Decidable.not_not.mp (fun t => q (b2i_z.mpr t))
    have q2 : ¬ rPf (sg.2 0) o 3 = 4 := q2
    simp only [if_pos (show (rPf (sg.2 0) o 4 = 0 ∧ ¬ rPf (sg.2 0) o 3 = 4) from ⟨q, q2⟩)] at hk
    have hb := rLeg0_b hr (rPf (sg.2 0) o 0) (rPf (sg.2 0) o 1) (rPf (sg.2 0) o 3) o
    have x1 : -100 ≤ rPf (sg.2 0) o 0 ∧ rPf (sg.2 0) o 0 ≤ 100 := by unfold rOn at hon; omega
    have y1 : -100 ≤ rPf (sg.2 0) o 1 ∧ rPf (sg.2 0) o 1 ≤ 100 := by unfold rOn at hon; omega
    refine t_of (sg := sW sg _ _) ⟨ho.1, by omega, by decide, by decide⟩ (t_of (sg := sW sg _ _) ⟨ho.1, by omega, by decide, by decide⟩ (t_leg (sg := sW sg _ _) hr ⟨by show -2147483648 ≤ rPf (sg.2 0) o 3; omega, by show rPf (sg.2 0) o 3 < _; omega⟩ ho ⟨by show -1000 ≤ rPf (sg.2 0) o 0; omega, by show rPf (sg.2 0) o 0 ≤ 1000; omega⟩ ⟨by show -1000 ≤ rPf (sg.2 0) o 1; omega, by show rPf (sg.2 0) o 1 ≤ 1000; omega⟩ ?_))
    rw [sW_sL]
    have i16 : InR (rLegO (sg.2 0) o).2.1 := by unfold rLegO; exact ⟨by omega, by omega⟩
    refine ⟨i16, fun e => ⟨?_, fun e2 => ?_, fun e2 => ?_⟩, fun e => ?_⟩
    · show InR (sg.2 0 3); exact ⟨by omega, by omega⟩
    · have e : (rLegO (sg.2 0) o).2.1 = -1 := e
      have e2 : 0 < sg.2 0 3 := e2
      simp only [if_pos e] at hk
      refine ⟨(rLegO (sg.2 0) o).1.toNat + 1, t_find_113 (sg := sg) (rc := (rLegO (sg.2 0) o).1) hr ho ⟨hb.1, hb.2.1⟩ x1 y1 (rLegO (sg.2 0) o).1.toNat 1 _ _ (by decide) (by have := hb.1; unfold rLegO; omega) (rW0_OK _ _) fun l2 => ?_⟩
      have e9 : rW1 (sg.2 0) o (sg.1 21) (sg.1 23) = rOne (sg.2 0) o (rPf (sg.2 0) o 3) (rPf (sg.2 0) o 0) (rPf (sg.2 0) o 1) (rLegO (sg.2 0) o).1.toNat 1 (rW0 (sg.1 21) (sg.1 23)) := by unfold rW1; rw [if_pos e2]
      rw [← e9]
      exact t_find_155 (d1 := 0) (d2 := 0) hr ho ⟨hb.1, hb.2.1⟩ x1 y1 (rW1_OK hr _ _ _) hk
    · have e : (rLegO (sg.2 0) o).2.1 = -1 := e
      have e2 : ¬ 0 < sg.2 0 3 := e2
      simp only [if_pos e] at hk
      have e9 : rW1 (sg.2 0) o (sg.1 21) (sg.1 23) = rW0 (sg.1 21) (sg.1 23) := by unfold rW1; rw [if_neg e2]
      rw [e9] at hk
      exact t_find_155 (d1 := 0) (d2 := 0) (rc := (rLegO (sg.2 0) o).1) hr ho ⟨hb.1, hb.2.1⟩ x1 y1 (rW0_OK _ _) hk
    · have e : ¬ (rLegO (sg.2 0) o).2.1 = -1 := e
      simp only [if_neg e] at hk
      have := hk (rLegO (sg.2 0) o)
      rw [← sW_met] at this
      exact this
