set_option maxRecDepth 100000
theorem t_stands {κ : Int → TS → Prop} {sg : TS} {k : Int} (hr : RowOK (sg.2 0)) (h : 0 ≤ k ∧ k < sg.2 0 4) (hk : κ (b2i (rPf (sg.2 0) k 4 = 0)) sg) : P_X5_stands κ sg k := by
  have hm := hr.many
  have hs := hr.state k h.1 h.2
  refine t_of ⟨h.1, by omega, by decide, by decide⟩ ⟨by rcases hs with q | q <;> rw [q] <;> decide, fun c => ?_, fun c => ?_⟩
  · rw [b2i, if_pos c] at hk; exact hk
  · rw [b2i, if_neg c] at hk; exact hk
theorem t_put {κ : TS → Prop} {sg : TS} {k w v : Int} (h : 0 ≤ k ∧ k < 24 ∧ 0 ≤ w ∧ w < 5) (hk : κ (setA sg 0 (uI (sg.2 0) (406 + k * 5 + w) v))) : P_X5_put κ sg k w v := ⟨⟨by omega, by omega⟩, hk⟩
theorem rAt_r {f : Row} (hr : RowOK f) (x y : Int) : (rAt f x y = -1 ∧ ∀ j, 0 ≤ j → j < f 4 → ¬ (rPf f j 0 = x ∧ rPf f j 1 = y)) ∨ (0 ≤ rAt f x y ∧ rAt f x y < f 4 ∧ rPf f (rAt f x y) 0 = x ∧ rPf f (rAt f x y) 1 = y) := by
  have hm := hr.many
  have e : ((f 4).toNat : Int) = f 4 := Int.toNat_of_nonneg hm.1
  rcases fnd_spec (fun k => rPf f k 0 = x ∧ rPf f k 1 = y) (f 4).toNat 0 with ⟨h1, h2⟩ | ⟨h1, h2, h3, -⟩
  · exact Or.inl ⟨h1, fun j a b => h2 j a (by omega)⟩
  · exact Or.inr ⟨h1, by unfold rAt; omega, h3.1, h3.2⟩
theorem rAt_inr {f : Row} (hr : RowOK f) (x y : Int) : -1 ≤ rAt f x y ∧ rAt f x y < 24 := by
  have hm := hr.many
  rcases rAt_r hr x y with ⟨h1, -⟩ | ⟨h1, h2, -⟩ <;> omega
/-- why a post cannot be laid at a cell; 0 if it can -/
def rWhy (f : Row) (x y : Int) : Int := if ¬ rOn f x y then 1 else if rBlk f x y = 1 then 2 else if rAt f x y ≠ -1 then 3 else if f 4 = 24 then 4 else 0
theorem t_whyNoPost {κ : Int → TS → Prop} {sg : TS} {x y : Int} (hr : RowOK (sg.2 0)) (hx : InR x) (hy : InR y) (hk : κ (rWhy (sg.2 0) x y) sg) : P_X5_whyNoPost κ sg x y := by
  have hm := hr.many; have hw := hr.w; have hh := hr.h
  unfold rWhy at hk
  refine t_isOn hr hx hy ⟨b2i_inr _, fun c => ?_, fun c => ?_⟩
  · have c := b2i_z.mp c
    rw [if_pos c] at hk; exact hk
  · have c : rOn (sg.2 0) x y := Decidable.not_not.mp (fun q => c (b2i_z.mpr q))
    rw [if_neg (fun q => q c)] at hk
    have hb := hr.blk x y c.1 (by have := c.2.1; omega) c.2.2.1 (by have := c.2.2.2; omega)
    refine t_isBlock hr ⟨c.1, by have := c.2.1; omega, c.2.2.1, by have := c.2.2.2; omega⟩ ⟨by rcases hb with q | q <;> rw [q] <;> decide, fun d => ?_, fun d => ?_⟩
    · rw [if_neg (by rw [d]; decide)] at hk
      have ha := rAt_inr hr x y
      refine t_postAt hr hx hy ⟨⟨by omega, by omega⟩, fun e => ?_, fun e => ?_⟩
      · rw [if_neg (fun q => q e)] at hk
        refine ⟨⟨by omega, by omega⟩, fun g => ?_, fun g => ?_⟩
        · rw [if_pos g] at hk; exact hk
        · rw [if_neg g] at hk; exact hk
      · rw [if_pos e] at hk; exact hk
    · rw [if_pos (by rcases hb with q | q; exact absurd q d; exact q)] at hk; exact hk
/-- the first standing post of a colour; -1 if there is none -/
def rBegin (f : Row) (c : Int) : Int := fnd (fun k => rPf f k 2 = c ∧ rPf f k 4 = 0) (f 4).toNat 0
theorem t_begin_loop {κ : Int → TS → Prop} {sg : TS} {c : Int} (hr : RowOK (sg.2 0)) (hc : InR c) : ∀ (n : Nat) (k : Int), 0 ≤ k → k + n = sg.2 0 4 → κ (fnd (fun k => rPf (sg.2 0) k 2 = c ∧ rPf (sg.2 0) k 4 = 0) n k) sg →
    L_X5_begin_2 (fun sg x2 => P_X5_begin_30 κ sg x2) (fun sg => P_X5_begin_38 κ sg) κ (n + 1) sg c k := by
  have hm := hr.many
  intro n
  induction n with
  | zero =>
    intro k h0 hk hq
    exact ⟨⟨by omega, by omega⟩, ⟨by omega, by omega⟩, pIf_neg (by omega) hq⟩
  | succ n ih =>
    intro k h0 hk hq
    have ho := hr.colour k h0 (by omega)
    have nx : ¬ (rPf (sg.2 0) k 2 = c ∧ rPf (sg.2 0) k 4 = 0) → L_X5_begin_2 (fun sg x2 => P_X5_begin_30 κ sg x2) (fun sg => P_X5_begin_38 κ sg) κ (n + 1) sg c (k + 1) := fun q => by
      refine ih (k + 1) (by omega) (by omega) ?_
      unfold fnd at hq
      rw [if_neg q] at hq; exact hq
    refine ⟨⟨by omega, by omega⟩, ⟨by omega, by omega⟩, pIf_pos (by omega) (t_of ⟨h0, by omega, by decide, by decide⟩ ⟨⟨by omega, by omega⟩, hc, fun e => ?_, fun e => nx (fun q => e q.1)⟩)⟩
    refine t_stands hr ⟨h0, by omega⟩ ⟨b2i_inr _, fun g => ?_, fun g => ?_⟩
    · exact nx (fun q => (b2i_z.mp g) q.2)
    · have g : rPf (sg.2 0) k 4 = 0 := Decidable.not_not.mp (fun q => g (b2i_z.mpr q))
      unfold fnd at hq
      rw [if_pos ⟨e, g⟩] at hq; exact hq
theorem t_begin {κ : Int → TS → Prop} {sg : TS} {c : Int} (hr : RowOK (sg.2 0)) (hc : InR c) (hk : κ (rBegin (sg.2 0) c) sg) : P_X5_begin κ sg c := by
  have hm := hr.many
  exact ⟨(sg.2 0 4).toNat + 1, t_begin_loop hr hc (sg.2 0 4).toNat 0 (by decide) (by omega) hk⟩
/-- how many k, of n from k on, have p -/
def cnt (p : Int → Prop) [DecidablePred p] : Nat → Int → Int
  | 0, _ => 0
  | n + 1, k => b2i (p k) + cnt p n (k + 1)
theorem cnt_r (p : Int → Prop) [DecidablePred p] : ∀ (n : Nat) (k : Int), 0 ≤ cnt p n k ∧ cnt p n k ≤ n := by
  intro n
  induction n with
  | zero => intro k; exact ⟨Int.le_refl _, Int.le_refl _⟩
  | succ n ih =>
    intro k
    have := ih (k + 1)
    unfold cnt
    rcases b2i_cases (p k) with h | h <;> rw [h] <;> omega
/-- how many posts of a colour (-1: of any) there are; st ≠ 0: that stand -/
def rPosts (f : Row) (c st : Int) : Int := cnt (fun k => (c = -1 ∨ rPf f k 2 = c) ∧ (st = 0 ∨ rPf f k 4 = 0)) (f 4).toNat 0
theorem t_posts_loop {κ : Int → TS → Prop} {sg : TS} {c s0 : Int} (hr : RowOK (sg.2 0)) (hc : InR c) (hs : InR s0) : ∀ (n : Nat) (k a : Int), 0 ≤ k → k + n = sg.2 0 4 → κ (a + cnt (fun k => (c = -1 ∨ rPf (sg.2 0) k 2 = c) ∧ (s0 = 0 ∨ rPf (sg.2 0) k 4 = 0)) n k) sg →
    L_X5_posts_5 (fun sg x3 => P_X5_posts_54 κ sg x3) κ (n + 1) sg c s0 a k := by
  have hm := hr.many
  intro n
  induction n with
  | zero =>
    intro k a h0 hk hq
    refine ⟨⟨by omega, by omega⟩, ⟨by omega, by omega⟩, pIf_neg (by omega) ?_⟩
    unfold cnt at hq
    rw [Int.add_zero] at hq; exact hq
  | succ n ih =>
    intro k a h0 hk hq
    have ho := hr.colour k h0 (by omega)
    unfold cnt at hq
    have yes : ((c = -1 ∨ rPf (sg.2 0) k 2 = c) ∧ (s0 = 0 ∨ rPf (sg.2 0) k 4 = 0)) → L_X5_posts_5 (fun sg x3 => P_X5_posts_54 κ sg x3) κ (n + 1) sg c s0 (a + 1) (k + 1) := fun q => by
      refine ih (k + 1) (a + 1) (by omega) (by omega) ?_
      rw [b2i, if_pos q] at hq
      rw [Int.add_assoc]; exact hq
    have no : ¬ ((c = -1 ∨ rPf (sg.2 0) k 2 = c) ∧ (s0 = 0 ∨ rPf (sg.2 0) k 4 = 0)) → L_X5_posts_5 (fun sg x3 => P_X5_posts_54 κ sg x3) κ (n + 1) sg c s0 a (k + 1) := fun q => by
      refine ih (k + 1) a (by omega) (by omega) ?_
      rw [b2i, if_neg q, Int.zero_add] at hq; exact hq
    have body : (c = -1 ∨ rPf (sg.2 0) k 2 = c) → P_X5_posts_32 (fun sg x1 x2 x3 x4 => L_X5_posts_5 (fun sg x3 => P_X5_posts_54 κ sg x3) κ (n + 1) sg x1 x2 x3 x4) (fun sg x3 => P_X5_posts_54 κ sg x3) κ sg c s0 a k := fun q => by
      refine ⟨hs, fun e => yes ⟨q, Or.inl e⟩, fun e => t_stands hr ⟨h0, by omega⟩ ⟨b2i_inr _, fun g => ?_, fun g => ?_⟩⟩
      · exact no (fun w => w.2.elim e (b2i_z.mp g))
      · exact yes ⟨q, Or.inr (Decidable.not_not.mp (fun w => g (b2i_z.mpr w)))⟩
    refine ⟨⟨by omega, by omega⟩, ⟨by omega, by omega⟩, pIf_pos (by omega) ⟨hc, fun e => body (Or.inl e), fun e => t_of ⟨h0, by omega, by decide, by decide⟩ ⟨⟨by omega, by omega⟩, fun g => body (Or.inr g), fun g => ?_⟩⟩⟩
    exact no (fun w => w.1.elim e g)
theorem t_posts {κ : Int → TS → Prop} {sg : TS} {c s0 : Int} (hr : RowOK (sg.2 0)) (hc : InR c) (hs : InR s0) (hk : κ (rPosts (sg.2 0) c s0) sg) : P_X5_posts κ sg c s0 := by
  have hm := hr.many
  exact ⟨(sg.2 0 4).toNat + 1, t_posts_loop hr hc hs (sg.2 0 4).toNat 0 0 (by decide) (by omega) (by rw [Int.zero_add]; exact hk)⟩
