set_option maxRecDepth 100000
/-! the reference's commands that ask -/
theorem fcS7 (sg : TS) (v : Int) : FrW sg (setS sg 7 v) → FrW sg (setS sg 7 v) := id
/-- unchanged, but for the scratch and the number thrown -/
def FrT (sg sg1 : TS) : Prop := (∀ j, j ≠ 7 → ¬ (15 ≤ j ∧ j ≤ 24) → ¬ (32 ≤ j ∧ j ≤ 38) → sg1.1 j = sg.1 j) ∧ (∀ j, j ≠ 1 → ¬ (25 ≤ j ∧ j ≤ 31) → j ≠ 51 → j ≠ 52 → sg1.2 j = sg.2 j)
theorem FrT.refl (sg : TS) : FrT sg sg := ⟨fun _ _ _ _ => rfl, fun _ _ _ _ _ => rfl⟩
theorem FrT.trans {a b c : TS} (p : FrT a b) (q : FrT b c) : FrT a c := ⟨fun j h1 h2 h3 => (q.1 j h1 h2 h3).trans (p.1 j h1 h2 h3), fun j h1 h2 h3 h4 => (q.2 j h1 h2 h3 h4).trans (p.2 j h1 h2 h3 h4)⟩
theorem FrW.ft {a b : TS} (p : FrW a b) : FrT a b := ⟨fun j _ h2 h3 => p.1 j h2 h3, fun j _ h2 _ _ => p.2 j h2⟩
theorem FrW.s7 {a b : TS} (p : FrW a b) : b.1 7 = a.1 7 := p.1 7 (by omega) (by omega)
theorem ft7 (sg : TS) (v : Int) : FrT sg (setS sg 7 v) := ⟨fun j h _ _ => by show (if j = 7 then v else sg.1 j) = _; rw [if_neg h], fun _ _ _ _ _ => rfl⟩
theorem FrT.row {a b : TS} (p : FrT a b) : b.2 0 = a.2 0 := p.2 0 (by decide) (by omega) (by decide) (by decide)
section TR
variable {κ : Int → TS → Prop} {f : Row} {sg : TS}
/-- route -/
theorem t_route {p w : Int} (hr : RowOK f) (hf : sg.2 0 = f) (hp : InR p) (hw : InR w) (h1 : ¬ (0 ≤ p ∧ p < f 4) → ∀ sg1, FrT sg sg1 → sg1.1 7 = 1 → κ 0 sg1) (h2 : (0 ≤ p ∧ p < f 4) → ¬ (0 ≤ w ∧ w ≤ 7) → ∀ sg1, FrT sg sg1 → sg1.1 7 = 2 → κ 0 sg1)
    (h0 : (0 ≤ p ∧ p < f 4) → (0 ≤ w ∧ w ≤ 7) → ∀ sg1, FrT sg sg1 → sg1.1 7 = 0 → κ (rRouteOf f p w) sg1) : P_X5_route κ sg p w := by
  subst hf
  have go : ∀ s0 : Int, s0 = b2i (¬ (0 ≤ w ∧ w ≤ 7)) → P_X5_route_21 κ sg p w s0 (b2i (¬ (0 ≤ p ∧ p < sg.2 0 4))) := fun s0 es => by
    subst es
    refine t_fails (b2i_inr _) (b2i_inr _) (by decide) (fun q => ⟨by decide, pIf_neg (by decide) (h1 (b2i_nz.mp q) _ (ft7 _ _) rfl)⟩) (fun q1 q2 => ⟨by decide, pIf_neg (by decide) (h2 (Decidable.not_not.mp (b2i_z.mp q1)) (b2i_nz.mp q2) _ (ft7 _ _) rfl)⟩) (fun _ _ q => absurd rfl q) (fun q1 q2 _ => ⟨by decide, pIf_pos rfl ?_⟩)
    have g1 := Decidable.not_not.mp (b2i_z.mp q1)
    have g2 := Decidable.not_not.mp (b2i_z.mp q2)
    exact t_routeOf (sg := setS sg 7 0) hr rfl g1 g2 (fun sg1 t => h0 g1 g2 sg1 ((ft7 sg 0).trans t.ft) t.s7)
  refine t_noPost hr hp (t_isIn hw (by decide) (by decide) ⟨b2i_inr _, fun q => go 1 ?_, fun q => go 0 ?_⟩)
  · rw [b2i, if_pos (b2i_z.mp q)]
  · rw [b2i, if_neg (fun t => t (b2i_nz.mp q))]
/-- an element of a list, -1 outside -/
def rTold (l : List Int) (i : Int) : Int := if 0 ≤ i ∧ i < l.length then l.getD i.toNat 0 else -1
theorem t_told {k N : Nat} {i m : Int} {l : List Int} (hk : twOK k 0 N) (hN : l.length ≤ N ∧ l.length ≤ 2000) (hl : LsI (sg.2 k) l) (hm : m = l.length) (hi : InR i) (h : κ (rTold l i) sg) : P_X5_told κ sg k m i := by
  unfold rTold at h
  refine t_isIn hi (by decide) ⟨by omega, by omega⟩ ⟨b2i_inr _, fun q => ?_, fun q => ?_⟩
  · have q := b2i_z.mp q
    rw [if_neg (by omega)] at h; exact h
  · have q := b2i_nz.mp q
    rw [if_pos (by omega)] at h
    refine ⟨N, ⟨hk, by omega, by omega⟩, ?_⟩
    have := hl i.toNat (by omega)
    rw [Int.toNat_of_nonneg q.1] at this
    rw [this]; exact h
theorem rRoute_len {f : Row} (hr : RowOK f) {p : Int} (hp : 0 ≤ p ∧ p < f 4) : (rRoute f p).1.1.length ≤ 24 ∧ (rRoute f p).1.2.1.length ≤ 865 ∧ (rRoute f p).1.2.2.2.1.length ≤ 48 ∧ (rRoute f p).1.2.2.1.length ≤ 72 := by
  by_cases hst : rPf f p 4 = 0
  · have h := (rRoute_end hr hp hst).2
    have h7 := h.2.2.2.2.2.2.1
    exact ⟨h.2.2.2.2.2.1, h7.1, h7.2.2.1, h7.2.1⟩
  · have eR : rRoute f p = (([], [], [], [], 0), 1, -1) := by unfold rRoute; rw [if_pos (Or.inr hst)]
    rw [eR]; decide
theorem t_routePost {p i : Int} (hr : RowOK f) (hf : sg.2 0 = f) (hp : InR p) (hi : InR i) (h1 : ¬ (0 ≤ p ∧ p < f 4) → ∀ sg1, FrT sg sg1 → sg1.1 7 = 1 → κ 0 sg1) (h0 : (0 ≤ p ∧ p < f 4) → ∀ sg1, FrT sg sg1 → sg1.1 7 = 0 → κ (rTold (rRoute f p).1.1 i) sg1) : P_X5_routePost κ sg p i := by
  subst hf
  refine t_noPost hr hp (t_fails (b2i_inr _) (by decide) (by decide) (fun q => ⟨by decide, pIf_neg (by decide) (h1 (b2i_nz.mp q) _ (ft7 _ _) rfl)⟩) (fun _ q => absurd rfl q) (fun _ _ q => absurd rfl q) (fun q1 _ _ => ⟨by decide, pIf_pos rfl ?_⟩))
  have g1 := Decidable.not_not.mp (b2i_z.mp q1)
  have hL := rRoute_len hr g1
  exact t_walk (sg := setS sg 7 0) hr (Or.inr g1) (fun sg1 t1 t2 t3 t4 => t_told (N := 25) rfl ⟨by show (rRoute (sg.2 0) p).1.1.length ≤ 25; omega, by show (rRoute (sg.2 0) p).1.1.length ≤ 2000; omega⟩ t2.2.1 t2.1.1 hi (h0 g1 sg1 ((ft7 sg 0).trans t1.ft) t1.s7))
theorem t_routeCell {p i : Int} (hr : RowOK f) (hf : sg.2 0 = f) (hp : InR p) (hi : InR i) (h1 : ¬ (0 ≤ p ∧ p < f 4) → ∀ sg1, FrT sg sg1 → sg1.1 7 = 1 → κ 0 sg1) (h0 : (0 ≤ p ∧ p < f 4) → ∀ sg1, FrT sg sg1 → sg1.1 7 = 0 → κ (rTold (rRoute f p).1.2.1 i) sg1) : P_X5_routeCell κ sg p i := by
  subst hf
  refine t_noPost hr hp (t_fails (b2i_inr _) (by decide) (by decide) (fun q => ⟨by decide, pIf_neg (by decide) (h1 (b2i_nz.mp q) _ (ft7 _ _) rfl)⟩) (fun _ q => absurd rfl q) (fun _ _ q => absurd rfl q) (fun q1 _ _ => ⟨by decide, pIf_pos rfl ?_⟩))
  have g1 := Decidable.not_not.mp (b2i_z.mp q1)
  have hL := rRoute_len hr g1
  exact t_walk (sg := setS sg 7 0) hr (Or.inr g1) (fun sg1 t1 t2 t3 t4 => t_told (N := 1000) rfl ⟨by show (rRoute (sg.2 0) p).1.2.1.length ≤ 1000; omega, by show (rRoute (sg.2 0) p).1.2.1.length ≤ 2000; omega⟩ t2.2.2.1 t2.1.2.1 hi (h0 g1 sg1 ((ft7 sg 0).trans t1.ft) t1.s7))
theorem t_inferred {p i : Int} (hr : RowOK f) (hf : sg.2 0 = f) (hp : InR p) (hi : InR i) (h1 : ¬ (0 ≤ p ∧ p < f 4) → ∀ sg1, FrT sg sg1 → sg1.1 7 = 1 → κ 0 sg1) (h0 : (0 ≤ p ∧ p < f 4) → ∀ sg1, FrT sg sg1 → sg1.1 7 = 0 → κ (rTold (rRoute f p).1.2.2.2.1 i) sg1) : P_X5_inferred κ sg p i := by
  subst hf
  refine t_noPost hr hp (t_fails (b2i_inr _) (by decide) (by decide) (fun q => ⟨by decide, pIf_neg (by decide) (h1 (b2i_nz.mp q) _ (ft7 _ _) rfl)⟩) (fun _ q => absurd rfl q) (fun _ _ q => absurd rfl q) (fun q1 _ _ => ⟨by decide, pIf_pos rfl ?_⟩))
  have g1 := Decidable.not_not.mp (b2i_z.mp q1)
  have hL := rRoute_len hr g1
  exact t_walk (sg := setS sg 7 0) hr (Or.inr g1) (fun sg1 t1 t2 t3 t4 => t_told (N := 60) rfl ⟨by show (rRoute (sg.2 0) p).1.2.2.2.1.length ≤ 60; omega, by show (rRoute (sg.2 0) p).1.2.2.2.1.length ≤ 2000; omega⟩ t2.2.2.2.2.2.2.1 t2.1.2.2.2.1 hi (h0 g1 sg1 ((ft7 sg 0).trans t1.ft) t1.s7))
/-- at -/
def rAtV (f : Row) (x y : Int) : Int := if rBlk f x y = 1 then -2 else rAt f x y
theorem t_at {x y : Int} (hr : RowOK f) (hf : sg.2 0 = f) (hx : InR x) (hy : InR y) (h1 : ¬ rOn f x y → ∀ sg1, FrT sg sg1 → sg1.1 7 = 1 → κ 0 sg1) (h0 : rOn f x y → ∀ sg1, FrT sg sg1 → sg1.1 7 = 0 → κ (rAtV f x y) sg1) : P_X5_at κ sg x y := by
  subst hf
  have hw := hr.w; have hh := hr.h
  refine t_isOn hr hx hy ⟨b2i_inr _, fun q => ?_, fun q => ?_⟩
  · refine t_fails (by decide) (by decide) (by decide) (fun _ => ⟨by decide, pIf_neg (by decide) (h1 (b2i_z.mp q) _ (ft7 _ _) rfl)⟩) (fun q => absurd q (by decide)) (fun q => absurd q (by decide)) (fun q => absurd q (by decide))
  · have g := b2i_nz.mp q
    have k0 := h0 g (setS sg 7 0) (ft7 sg 0) rfl
    have g20 : 0 ≤ x ∧ x < 20 ∧ 0 ≤ y ∧ y < 20 := by unfold rOn at g; omega
    have hb := hr.blk x y g20.1 g20.2.1 g20.2.2.1 g20.2.2.2
    refine t_fails (by decide) (by decide) (by decide) (fun q => absurd rfl q) (fun _ q => absurd rfl q) (fun _ _ q => absurd rfl q) (fun _ _ _ => ⟨by decide, pIf_pos rfl (t_isBlock (sg := setS sg 7 0) hr g20 ⟨by show InR (rBlk (sg.2 0) x y); rcases hb with t | t <;> rw [t] <;> decide, fun e => t_postAt (sg := setS sg 7 0) hr hx hy ?_, fun e => ?_⟩)⟩)
    · have e : rBlk (sg.2 0) x y = 0 := e
      unfold rAtV at k0
      rw [if_neg (by rw [e]; decide)] at k0; exact k0
    · have e : rBlk (sg.2 0) x y = 1 := hb.resolve_left e
      unfold rAtV at k0
      rw [if_pos e] at k0; exact k0
/-- count -/
def rCount (f : Row) (ch il w : Int) : Int := if w = 0 then f 0 else if w = 1 then f 1 else if w = 2 then f 4 else if w = 3 then rPosts f (-1) 1 else if w = 4 then f 5 else if w = 5 then f 2 else if w = 6 then f 3 else if w = 7 then rCmps f else if w = 8 then ch else il
theorem t_count {w : Int} (hr : RowOK f) (hf : sg.2 0 = f) (hw : InR w) (h1 : ¬ (0 ≤ w ∧ w ≤ 9) → ∀ sg1, FrT sg sg1 → sg1.1 7 = 1 → κ 0 sg1) (h0 : (0 ≤ w ∧ w ≤ 9) → ∀ sg1, FrT sg sg1 → sg1.1 7 = 0 → κ (rCount f (sg.1 6) (sg.1 10) w) sg1) : P_X5_count κ sg w := by
  subst hf
  refine t_isIn hw (by decide) (by decide) ⟨b2i_inr _, fun q => ?_, fun q => ?_⟩
  · refine t_fails (by decide) (by decide) (by decide) (fun _ => ⟨by decide, pIf_neg (by decide) (h1 (b2i_z.mp q) _ (ft7 _ _) rfl)⟩) (fun q => absurd q (by decide)) (fun q => absurd q (by decide)) (fun q => absurd q (by decide))
  · have g := b2i_nz.mp q
    have k0 := h0 g (setS sg 7 0) (ft7 sg 0) rfl
    have k1 := h0 g
    unfold rCount at k0 k1
    refine t_fails (by decide) (by decide) (by decide) (fun q => absurd rfl q) (fun _ q => absurd rfl q) (fun _ _ q => absurd rfl q) (fun _ _ _ => ⟨by decide, pIf_pos rfl ⟨hw, fun e => ?_, fun e0 => ⟨fun e => ?_, fun e1 => ⟨fun e => ?_, fun e2 => ⟨fun e => ?_, fun e3 => ⟨fun e => ?_, fun e4 => ⟨fun e => ?_, fun e5 => ⟨fun e => ?_, fun e6 => ⟨fun e => ?_, fun e7 => ⟨fun e => ?_, fun e8 => ?_⟩⟩⟩⟩⟩⟩⟩⟩⟩⟩)
    · rw [if_pos e] at k0; exact k0
    · rw [if_neg e0, if_pos e] at k0; exact k0
    · rw [if_neg e0, if_neg e1, if_pos e] at k0; exact k0
    · rw [if_neg e0, if_neg e1, if_neg e2, if_pos e] at k0
      exact t_posts (sg := setS sg 7 0) hr (by decide) (by decide) k0
    · rw [if_neg e0, if_neg e1, if_neg e2, if_neg e3, if_pos e] at k0; exact k0
    · rw [if_neg e0, if_neg e1, if_neg e2, if_neg e3, if_neg e4, if_pos e] at k0; exact k0
    · rw [if_neg e0, if_neg e1, if_neg e2, if_neg e3, if_neg e4, if_neg e5, if_pos e] at k0; exact k0
    · simp only [if_neg e0, if_neg e1, if_neg e2, if_neg e3, if_neg e4, if_neg e5, if_neg e6, if_pos e] at k1
      exact t_completeOnes (sg := setS sg 7 0) hr rfl (fun sg1 t => k1 sg1 ((ft7 sg 0).trans t.ft) t.s7)
    · rw [if_neg e0, if_neg e1, if_neg e2, if_neg e3, if_neg e4, if_neg e5, if_neg e6, if_neg e7, if_pos e] at k0; exact k0
    · rw [if_neg e0, if_neg e1, if_neg e2, if_neg e3, if_neg e4, if_neg e5, if_neg e6, if_neg e7, if_neg e8] at k0; exact k0
/-- post -/
def rComers (f : Row) (p : Int) : Int := cnt (fun k => k ≠ p ∧ wNext (rFind f k 0 0) = p) (f 4).toNat 0
def rPostV (f : Row) (p w : Int) : Int := if w = 7 then rComers f p else if w = 0 then rCell f p else if w < 4 then rPf f p (w + 1) else if wNext (rFind f p 0 0) = -1 then -1 else if w = 4 then wNext (rFind f p 0 0) else if w = 5 then wSum (rFind f p 0 0) else wMany (rFind f p 0 0)
theorem t_comers {p : Int} (hr : RowOK f) (hf : sg.2 0 = f) (hp : 0 ≤ p ∧ p < f 4) (hk : ∀ sg1, FrW sg sg1 → κ (rComers f p) sg1) : P_X5_comers κ sg p := by
  have hm := hr.many
  have loop : ∀ (n : Nat) (k a : Int) (sg1 : TS), 0 ≤ k → k + n = f 4 → FrW sg sg1 → (∀ sg2, FrW sg sg2 → κ (a + cnt (fun k => k ≠ p ∧ wNext (rFind f k 0 0) = p) n k) sg2) → L_X5_comers_4 (fun sg x2 => P_X5_comers_41 κ sg x2) κ (n + 1) sg1 p a k := by
    intro n
    induction n with
    | zero =>
      intro k a sg1 h0 h1 g hq
      have e : sg1.2 0 = f := (g.2 0 (by omega)).trans hf
      refine ⟨⟨by omega, by omega⟩, by rw [e]; exact ⟨by omega, by omega⟩, pIf_neg (by rw [e]; omega) ?_⟩
      have := hq sg1 g
      unfold cnt at this
      rw [Int.add_zero] at this; exact this
    | succ n ih =>
      intro k a sg1 h0 h1 g hq
      have e : sg1.2 0 = f := (g.2 0 (by omega)).trans hf
      unfold cnt at hq
      refine ⟨⟨by omega, by omega⟩, by rw [e]; exact ⟨by omega, by omega⟩, pIf_pos (by rw [e]; omega) (t_find (by rw [e]; exact hr) (by rw [e]; exact ⟨h0, by omega⟩) (fun l => ?_))⟩
      rw [e]
      have hE := rFind_E f k (sg1.1 21) (sg1.1 23) 0 0
      have hO := rFind_OK hr k (sg1.1 21) (sg1.1 23)
      generalize rFind f k (sg1.1 21) (sg1.1 23) = w at *
      have no : ¬ (k ≠ p ∧ wNext (rFind f k 0 0) = p) → L_X5_comers_4 (fun sg x2 => P_X5_comers_41 κ sg x2) κ (n + 1) (sW sg1 l w) p a (k + 1) := fun t => by
        rw [b2i, if_neg t] at hq
        simp only [Int.zero_add] at hq
        exact ih (k + 1) a _ (by omega) (by omega) (g.trans (sW_fw _ _ _)) hq
      refine ⟨⟨by omega, by omega⟩, fun q => no (fun t => t.1 q), fun q => ⟨by show -2147483648 ≤ wNext w ∧ wNext w < _; have := hO.1; omega, fun q2 => ?_, fun q2 => no (fun t => q2 (hE.1.trans t.2))⟩⟩
      have q2 : wNext w = p := q2
      rw [b2i, if_pos ⟨q, hE.1.symm.trans q2⟩] at hq
      refine ih (k + 1) (a + 1) _ (by omega) (by omega) (g.trans (sW_fw _ _ _)) (fun sg3 t => ?_)
      have := hq sg3 t
      rw [Int.add_assoc]; exact this
  exact ⟨(f 4).toNat + 1, loop (f 4).toNat 0 0 sg (by decide) (by omega) (FrW.refl sg) (fun sg1 g => by rw [Int.zero_add]; exact hk sg1 g)⟩
theorem t_post {p w : Int} (hr : RowOK f) (hf : sg.2 0 = f) (hp : InR p) (hw : InR w) (h1 : ¬ (0 ≤ p ∧ p < f 4) → ∀ sg1, FrT sg sg1 → sg1.1 7 = 1 → κ 0 sg1) (h2 : (0 ≤ p ∧ p < f 4) → ¬ (0 ≤ w ∧ w ≤ 7) → ∀ sg1, FrT sg sg1 → sg1.1 7 = 2 → κ 0 sg1)
    (h0 : (0 ≤ p ∧ p < f 4) → (0 ≤ w ∧ w ≤ 7) → ∀ sg1, FrT sg sg1 → sg1.1 7 = 0 → κ (rPostV f p w) sg1) : P_X5_post κ sg p w := by
  subst hf
  have hm := hr.many
  have go : ∀ s0 : Int, s0 = b2i (¬ (0 ≤ w ∧ w ≤ 7)) → P_X5_post_21 κ sg p w s0 (b2i (¬ (0 ≤ p ∧ p < sg.2 0 4))) := fun s0 es => by
    subst es
    refine t_fails (b2i_inr _) (b2i_inr _) (by decide) (fun q => ⟨by decide, pIf_neg (by decide) (h1 (b2i_nz.mp q) _ (ft7 _ _) rfl)⟩) (fun q1 q2 => ⟨by decide, pIf_neg (by decide) (h2 (Decidable.not_not.mp (b2i_z.mp q1)) (b2i_nz.mp q2) _ (ft7 _ _) rfl)⟩) (fun _ _ q => absurd rfl q) (fun q1 q2 _ => ⟨by decide, pIf_pos rfl ?_⟩)
    have g1 := Decidable.not_not.mp (b2i_z.mp q1)
    have g2 := Decidable.not_not.mp (b2i_z.mp q2)
    have k1 := h0 g1 g2
    have k0 := k1 (setS sg 7 0) (ft7 sg 0) rfl
    unfold rPostV at k0 k1
    refine ⟨hw, fun e => ?_, fun e7 => ⟨fun e => ?_, fun e0 => ⟨fun e => ?_, fun e4 => ?_⟩⟩⟩
    · simp only [if_pos e] at k1
      exact t_comers (sg := setS sg 7 0) hr rfl g1 (fun sg1 t => k1 sg1 ((ft7 sg 0).trans t.ft) t.s7)
    · rw [if_neg e7, if_pos e] at k0
      exact t_of ⟨g1.1, by omega, by decide, by decide⟩ (t_of ⟨g1.1, by omega, by decide, by decide⟩ k0)
    · rw [if_neg e7, if_neg e0, if_pos e] at k0
      exact t_of ⟨g1.1, by omega, by omega, by omega⟩ k0
    · simp only [if_neg e7, if_neg e0, if_neg e4] at k1
      refine t_find (sg := setS sg 7 0) hr g1 (fun l => ?_)
      have hE := rFind_E (sg.2 0) p ((setS sg 7 0).1 21) ((setS sg 7 0).1 23) 0 0
      have hO := rFind_OK hr p ((setS sg 7 0).1 21) ((setS sg 7 0).1 23)
      have hf9 : (setS sg 7 0).2 0 = sg.2 0 := rfl
      rw [hf9]
      generalize rFind (sg.2 0) p ((setS sg 7 0).1 21) ((setS sg 7 0).1 23) = w9 at *
      have k2 := k1 (sW (setS sg 7 0) l w9) ((ft7 sg 0).trans (sW_fw _ _ _).ft) rfl
      rw [← hE.1, ← hE.sum, ← hE.2.1] at k2
      refine ⟨by show -2147483648 ≤ wNext w9 ∧ wNext w9 < _; have := hO.1; omega, fun q => ?_, fun q => ⟨fun e => ?_, fun e5 => ⟨fun e => ?_, fun e6 => ?_⟩⟩⟩
      · have q : wNext w9 = -1 := q
        rw [if_pos q] at k2; exact k2
      · have q : ¬ wNext w9 = -1 := q
        rw [if_neg q, if_pos e] at k2; exact k2
      · have q : ¬ wNext w9 = -1 := q
        rw [if_neg q, if_neg e5, if_pos e] at k2; exact k2
      · have q : ¬ wNext w9 = -1 := q
        rw [if_neg q, if_neg e5, if_neg e6] at k2; exact k2
  refine t_noPost hr hp (t_isIn hw (by decide) (by decide) ⟨b2i_inr _, fun q => go 1 ?_, fun q => go 0 ?_⟩)
  · rw [b2i, if_pos (b2i_z.mp q)]
  · rw [b2i, if_neg (fun t => t (b2i_nz.mp q))]
end TR
