set_option maxRecDepth 100000
/-! rows that are changed at one place -/
theorem rPf_put {f : Row} {k w v k1 w1 : Int} (hw : 0 ≤ w ∧ w < 5) (hw1 : 0 ≤ w1 ∧ w1 < 5) : rPf (uI f (406 + k * 5 + w) v) k1 w1 = if k1 = k ∧ w1 = w then v else rPf f k1 w1 := by
  unfold rPf uI
  by_cases h : k1 = k ∧ w1 = w
  · rw [if_pos h, if_pos (by obtain ⟨rfl, rfl⟩ := h; rfl)]
  · rw [if_neg h, if_neg (by omega)]
theorem uI_lo {f : Row} {i v j : Int} (hj : j < i) : uI f i v j = f j := uIn (by omega)
theorem rBlk_put {f : Row} {k w v x y : Int} (hk : 0 ≤ k) (hw : 0 ≤ w) (hx : x < 20) (hy : y < 20) : rBlk (uI f (406 + k * 5 + w) v) x y = rBlk f x y := by
  unfold rBlk
  exact uI_lo (by omega)
/-- a post in another state, or with another arrow -/
theorem RowOK.put {f : Row} {k w v : Int} (hr : RowOK f) (hk : 0 ≤ k ∧ k < f 4) (hw : (w = 4 ∧ (v = 0 ∨ v = 1)) ∨ (w = 3 ∧ 0 ≤ v ∧ v ≤ 4)) : RowOK (uI f (406 + k * 5 + w) v) := by
  have hlo : ∀ j : Int, j < 406 → uI f (406 + k * 5 + w) v j = f j := fun j hj => uI_lo (by omega)
  have e0 := hlo 0 (by decide); have e1 := hlo 1 (by decide); have e2 := hlo 2 (by decide); have e3 := hlo 3 (by decide); have e4 := hlo 4 (by decide); have e5 := hlo 5 (by decide)
  have hp : ∀ k1 w1 : Int, 0 ≤ w1 ∧ w1 < 5 → rPf (uI f (406 + k * 5 + w) v) k1 w1 = if k1 = k ∧ w1 = w then v else rPf f k1 w1 := fun k1 w1 h => rPf_put (by omega) h
  have hp' : ∀ k1 w1 : Int, 0 ≤ w1 ∧ w1 < 3 → rPf (uI f (406 + k * 5 + w) v) k1 w1 = rPf f k1 w1 := fun k1 w1 h => by rw [hp k1 w1 (by omega), if_neg (by omega)]
  refine ⟨by rw [e0]; exact hr.w, by rw [e1]; exact hr.h, by rw [e2]; exact hr.gap, by rw [e3]; exact hr.miss, by rw [e4]; exact hr.many, by rw [e5]; exact hr.blocks, ?_, ?_, ?_, ?_, ?_, ?_, ?_⟩
  · intro x y x0 x1 y0 y1; rw [rBlk_put hk.1 (by omega) x1 y1]; exact hr.blk x y x0 x1 y0 y1
  · intro j j0 j1; rw [e4] at j1; rw [hp' j 0 (by decide), hp' j 1 (by decide)]; unfold rOn; rw [e0, e1]; exact hr.on j j0 j1
  · intro j j0 j1; rw [e4] at j1; rw [hp' j 2 (by decide)]; exact hr.colour j j0 j1
  · intro j j0 j1
    rw [e4] at j1
    rw [hp j 3 (by decide)]
    split
    · rename_i t; rcases hw with ⟨rfl, -⟩ | ⟨-, h⟩
      · exact absurd t.2 (by decide)
      · exact h
    · exact hr.arrow j j0 j1
  · intro j j0 j1
    rw [e4] at j1
    rw [hp j 4 (by decide)]
    split
    · rename_i t; rcases hw with ⟨-, h⟩ | ⟨rfl, -⟩
      · exact h
      · exact absurd t.2 (by decide)
    · exact hr.state j j0 j1
  · intro i j i0 i1 j0 j1
    rw [e4] at i1 j1
    rw [hp' i 0 (by decide), hp' i 1 (by decide), hp' j 0 (by decide), hp' j 1 (by decide)]; exact hr.apart i j i0 i1 j0 j1
  · intro j j0 j1
    rw [e4] at j1
    have on := hr.on j j0 j1
    have hW := hr.w; have hH := hr.h
    unfold rOn at on
    rw [hp' j 0 (by decide), hp' j 1 (by decide), rBlk_put hk.1 (by omega) (by omega) (by omega)]; exact hr.free j j0 j1
/-- another setting -/
theorem RowOK.set {f : Row} {w v : Int} (hr : RowOK f) (hw : SetOK w v) : RowOK (uI f (2 + w) v) := by
  have hn : ∀ j : Int, j ≠ 2 + w → uI f (2 + w) v j = f j := fun j hj => uIn hj
  have hv : uI f (2 + w) v (2 + w) = v := uIs _ _ _
  have hp : ∀ k1 w1 : Int, 0 ≤ k1 → 0 ≤ w1 → rPf (uI f (2 + w) v) k1 w1 = rPf f k1 w1 := fun k1 w1 h h1 => by unfold rPf; exact hn _ (by rcases hw with t | t <;> omega)
  have hb : ∀ x y : Int, 0 ≤ x → 0 ≤ y → rBlk (uI f (2 + w) v) x y = rBlk f x y := fun x y h h1 => by unfold rBlk; exact hn _ (by rcases hw with t | t <;> omega)
  have hw01 : w = 0 ∨ w = 1 := by rcases hw with t | t <;> omega
  have e0 := hn 0 (by omega); have e1 := hn 1 (by omega); have e4 := hn 4 (by omega); have e5 := hn 5 (by omega)
  refine ⟨by rw [e0]; exact hr.w, by rw [e1]; exact hr.h, ?_, ?_, by rw [e4]; exact hr.many, by rw [e5]; exact hr.blocks, ?_, ?_, ?_, ?_, ?_, ?_, ?_⟩
  · rcases hw with ⟨rfl, t⟩ | ⟨rfl, t⟩
    · have : uI f (2 + 0) v 2 = v := hv
      rw [this]; exact t
    · rw [hn 2 (by decide)]; exact hr.gap
  · rcases hw with ⟨rfl, t⟩ | ⟨rfl, t⟩
    · rw [hn 3 (by decide)]; exact hr.miss
    · have : uI f (2 + 1) v 3 = v := hv
      rw [this]; exact t
  · intro x y x0 x1 y0 y1; rw [hb x y x0 y0]; exact hr.blk x y x0 x1 y0 y1
  · intro j j0 j1; rw [e4] at j1; rw [hp j 0 j0 (by decide), hp j 1 j0 (by decide)]; unfold rOn; rw [e0, e1]; exact hr.on j j0 j1
  · intro j j0 j1; rw [e4] at j1; rw [hp j 2 j0 (by decide)]; exact hr.colour j j0 j1
  · intro j j0 j1; rw [e4] at j1; rw [hp j 3 j0 (by decide)]; exact hr.arrow j j0 j1
  · intro j j0 j1; rw [e4] at j1; rw [hp j 4 j0 (by decide)]; exact hr.state j j0 j1
  · intro i j i0 i1 j0 j1
    rw [e4] at i1 j1
    rw [hp i 0 i0 (by decide), hp i 1 i0 (by decide), hp j 0 j0 (by decide), hp j 1 j0 (by decide)]; exact hr.apart i j i0 i1 j0 j1
  · intro j j0 j1
    rw [e4] at j1
    have on := hr.on j j0 j1
    unfold rOn at on
    rw [hp j 0 j0 (by decide), hp j 1 j0 (by decide), hb _ _ on.1 on.2.2.1]; exact hr.free j j0 j1
theorem cpI_back (s a : Row) {i v : Int} (hi : 0 ≤ i ∧ i < 526) : cpI (cpI s a 0 0 526) (uI s i v) 0 0 526 = s := by
  funext j
  unfold cpI
  by_cases h : 0 ≤ j ∧ j < 0 + 526
  · rw [if_pos h, Int.sub_zero, Int.zero_add, if_pos h, Int.sub_zero, Int.zero_add]
  · rw [if_neg h, uIn (by omega)]
/-- the row with a post in the other state -/
def rOther (f : Row) (p : Int) : Row := uI f (406 + p * 5 + 4) (1 - rPf f p 4)
theorem rOther_OK {f : Row} (hr : RowOK f) {p : Int} (hp : 0 ≤ p ∧ p < f 4) : RowOK (rOther f p) := hr.put hp (Or.inl ⟨rfl, by rcases hr.state p hp.1 hp.2 with t | t <;> rw [t] <;> decide⟩)
/-- a number of the route from the beginning of a colour -/
def rFrom (f : Row) (c w : Int) : Int := if rBegin f c = -1 then -1 else rRouteOf f (rBegin f c) w
section TT
variable {κ : Int → TS → Prop} {f : Row} {sg : TS}
theorem t_fromBegin {c w : Int} (hr : RowOK f) (hf : sg.2 0 = f) (hc : 0 ≤ c ∧ c < 4) (hw : 0 ≤ w ∧ w ≤ 7) (hk : ∀ sg1, FrW sg sg1 → κ (rFrom f c w) sg1) : P_X5_fromBegin κ sg c w := by
  subst hf
  have hm := hr.many
  have hb := rBegin_t hr c
  unfold rFrom at hk
  refine t_begin hr ⟨by omega, by omega⟩ ⟨by omega, fun q => ?_, fun q => ?_⟩
  · simp only [if_pos q] at hk; exact hk sg (FrW.refl sg)
  · simp only [if_neg q] at hk
    have h := hb.resolve_left q
    exact t_routeOf hr rfl ⟨h.1, h.2.1⟩ hw hk
/-- tried out with another row, and laid back -/
theorem t_tried {sg1 : TS} {i v : Int} {r : Int} (hi : 0 ≤ i ∧ i < 526) (g : FrW (setA (setA sg 1 (cpI (sg.2 0) (sg.2 1) 0 0 526)) 0 (uI (sg.2 0) i v)) sg1) (hk : ∀ sg2, FrT sg sg2 → sg2.1 7 = sg.1 7 → κ r sg2) : P_X5_laidBack κ sg1 r := by
  have e0 : sg1.2 0 = uI (sg.2 0) i v := g.2 0 (by omega)
  have e1 : sg1.2 1 = cpI (sg.2 0) (sg.2 1) 0 0 526 := g.2 1 (by omega)
  refine ⟨526, 526, ⟨rfl, rfl, ⟨by decide, by decide, by decide⟩, by decide, by decide⟩, ?_⟩
  rw [e0, e1, cpI_back _ _ hi]
  refine hk _ ⟨fun j h1 h2 h3 => g.1 j h2 h3, fun j h1 h2 h3 h4 => ?_⟩ (g.1 7 (by omega) (by omega))
  show (if j = 0 then sg.2 0 else sg1.2 j) = sg.2 j
  by_cases hj : j = 0
  · rw [if_pos hj, hj]
  · rw [if_neg hj, g.2 j h2]
    show (if j = 0 then _ else if j = 1 then _ else sg.2 j) = sg.2 j
    rw [if_neg hj, if_neg h1]
theorem t_ifOther {p c w : Int} (hr : RowOK f) (hf : sg.2 0 = f) (hp : InR p) (hc : InR c) (hw : InR w) (h1 : ¬ ((0 ≤ p ∧ p < f 4) ∧ (0 ≤ c ∧ c < 4)) → ∀ sg1, FrT sg sg1 → sg1.1 7 = 1 → κ 0 sg1) (h2 : (0 ≤ p ∧ p < f 4) ∧ (0 ≤ c ∧ c < 4) → ¬ (0 ≤ w ∧ w ≤ 7) → ∀ sg1, FrT sg sg1 → sg1.1 7 = 2 → κ 0 sg1)
    (h0 : (0 ≤ p ∧ p < f 4) ∧ (0 ≤ c ∧ c < 4) → (0 ≤ w ∧ w ≤ 7) → ∀ sg1, FrT sg sg1 → sg1.1 7 = 0 → κ (rFrom (rOther f p) c w) sg1) : P_X5_ifOther κ sg p c w := by
  subst hf
  have hm := hr.many
  have go : ∀ s0 s1 : Int, s0 = b2i (¬ ((0 ≤ p ∧ p < sg.2 0 4) ∧ (0 ≤ c ∧ c < 4))) → s1 = b2i (¬ (0 ≤ w ∧ w ≤ 7)) → P_X5_ifOther_36 κ sg p c w s1 s0 := fun s0 s1 es es1 => by
    subst es; subst es1
    refine t_fails (b2i_inr _) (b2i_inr _) (by decide) (fun q => ⟨by decide, pIf_neg (by decide) (h1 (b2i_nz.mp q) _ (ft7 _ _) rfl)⟩) (fun q1 q2 => ⟨by decide, pIf_neg (by decide) (h2 (Decidable.not_not.mp (b2i_z.mp q1)) (b2i_nz.mp q2) _ (ft7 _ _) rfl)⟩) (fun _ _ q => absurd rfl q) (fun q1 q2 _ => ⟨by decide, pIf_pos rfl ?_⟩)
    have g1 := Decidable.not_not.mp (b2i_z.mp q1)
    have g2 := Decidable.not_not.mp (b2i_z.mp q2)
    have k0 := h0 g1 g2
    refine ⟨526, 526, ⟨rfl, rfl, ⟨by decide, by decide, by decide⟩, by decide, by decide⟩, ?_⟩
    have g4 := g1.1.2
    refine t_of ⟨g1.1.1, by omega, by decide, by decide⟩ (t_put ⟨g1.1.1, by omega, by decide, by decide⟩ ?_)
    refine t_fromBegin (f := rOther (sg.2 0) p) (rOther_OK hr g1.1) rfl g1.2 g2 (fun sg1 t => ?_)
    exact t_tried (sg := setS sg 7 0) (i := 406 + p * 5 + 4) ⟨by omega, by omega⟩ t (fun sg2 t2 t3 => k0 sg2 ((ft7 sg 0).trans t2) t3)
  have go2 : ∀ s0 : Int, s0 = b2i (¬ ((0 ≤ p ∧ p < sg.2 0 4) ∧ (0 ≤ c ∧ c < 4))) → P_X5_ifOther_21 κ sg p c w s0 := fun s0 es => by
    refine t_isIn hw (by decide) (by decide) ⟨b2i_inr _, fun q => go s0 1 es ?_, fun q => go s0 0 es ?_⟩
    · rw [b2i, if_pos (b2i_z.mp q)]
    · rw [b2i, if_neg (fun t => t (b2i_nz.mp q))]
  refine t_noPost hr hp ⟨b2i_inr _, fun q => t_noColour hc ⟨b2i_inr _, fun q2 => go2 0 ?_, fun q2 => go2 1 ?_⟩, fun q => go2 1 ?_⟩
  · rw [b2i, if_neg (fun t => t ⟨Decidable.not_not.mp (b2i_z.mp q), Decidable.not_not.mp (b2i_z.mp q2)⟩)]
  · rw [b2i, if_pos (fun t => b2i_nz.mp q2 t.2)]
  · rw [b2i, if_pos (fun t => b2i_nz.mp q t.1)]
theorem t_ifSet {a v c w : Int} (hr : RowOK f) (hf : sg.2 0 = f) (ha : InR a) (hv : InR v) (hc : InR c) (hw : InR w) (h1 : ¬ (0 ≤ c ∧ c < 4) → ∀ sg1, FrT sg sg1 → sg1.1 7 = 1 → κ 0 sg1) (h2 : (0 ≤ c ∧ c < 4) → ¬ (SetOK a v ∧ (0 ≤ w ∧ w ≤ 7)) → ∀ sg1, FrT sg sg1 → sg1.1 7 = 2 → κ 0 sg1)
    (h0 : (0 ≤ c ∧ c < 4) → SetOK a v ∧ (0 ≤ w ∧ w ≤ 7) → ∀ sg1, FrT sg sg1 → sg1.1 7 = 0 → κ (rFrom (uI f (2 + a) v) c w) sg1) : P_X5_ifSet κ sg a v c w := by
  subst hf
  have go : ∀ s1 : Int, s1 = b2i (¬ (SetOK a v ∧ (0 ≤ w ∧ w ≤ 7))) → P_X5_ifSet_29 κ sg a v c w s1 (b2i (¬ (0 ≤ c ∧ c < 4))) := fun s1 es1 => by
    subst es1
    refine t_fails (b2i_inr _) (b2i_inr _) (by decide) (fun q => ⟨by decide, pIf_neg (by decide) (h1 (b2i_nz.mp q) _ (ft7 _ _) rfl)⟩) (fun q1 q2 => ⟨by decide, pIf_neg (by decide) (h2 (Decidable.not_not.mp (b2i_z.mp q1)) (b2i_nz.mp q2) _ (ft7 _ _) rfl)⟩) (fun _ _ q => absurd rfl q) (fun q1 q2 _ => ⟨by decide, pIf_pos rfl ?_⟩)
    have g1 := Decidable.not_not.mp (b2i_z.mp q1)
    have g2 := Decidable.not_not.mp (b2i_z.mp q2)
    have k0 := h0 g1 g2
    have ha01 : a = 0 ∨ a = 1 := by rcases g2.1 with t | t <;> omega
    refine ⟨526, 526, ⟨rfl, rfl, ⟨by decide, by decide, by decide⟩, by decide, by decide⟩, ⟨by omega, by omega⟩, ?_⟩
    refine t_fromBegin (f := uI (sg.2 0) (2 + a) v) (hr.set g2.1) rfl g1 g2.2 (fun sg1 t => ?_)
    exact t_tried (sg := setS sg 7 0) (i := 2 + a) ⟨by omega, by omega⟩ t (fun sg2 t2 t3 => k0 sg2 ((ft7 sg 0).trans t2) t3)
  refine t_noColour hc (t_noSetting ha hv ⟨b2i_inr _, fun q => t_isIn hw (by decide) (by decide) ⟨b2i_inr _, fun q2 => go 1 ?_, fun q2 => go 0 ?_⟩, fun q => go 1 ?_⟩)
  · rw [b2i, if_pos (fun t => b2i_z.mp q2 t.2)]
  · rw [b2i, if_neg (fun t => t ⟨Decidable.not_not.mp (b2i_z.mp q), b2i_nz.mp q2⟩)]
  · rw [b2i, if_pos (fun t => b2i_nz.mp q t.1)]
/-- of the posts of a colour in a state the best other one: n posts left from k on; best and most so far -/
def rExt (f : Row) (c s g : Int) : Nat → Int → Int → Int → Int
  | 0, _, b, _ => b
  | n + 1, k, b, m => if rPf f k 2 = c ∧ rPf f k 4 = s then (if b = -1 ∨ m < rMet (rOther f k) c * g then rExt f c s g n (k + 1) k (rMet (rOther f k) c * g) else rExt f c s g n (k + 1) b m) else rExt f c s g n (k + 1) b m
theorem t_extreme {c s g : Int} (hr : RowOK f) (hf : sg.2 0 = f) (hc : 0 ≤ c ∧ c < 4) (hs : InR s) (hg : g = 1 ∨ g = -1) (hk : ∀ sg1, FrT sg sg1 → sg1.1 7 = sg.1 7 → κ (rExt f c s g (f 4).toNat 0 (-1) 0) sg1) : P_X5_extreme κ sg c s g := by
  have hm := hr.many
  have loop : ∀ (n : Nat) (k b m : Int) (sg1 : TS), 0 ≤ k → k + n = f 4 → FrT sg sg1 → sg1.1 7 = sg.1 7 → (-1 ≤ b ∧ b < 24) → (-24 ≤ m ∧ m ≤ 24) → (∀ sg2, FrT sg sg2 → sg2.1 7 = sg.1 7 → κ (rExt f c s g n k b m) sg2) → L_X5_extreme_9 (fun sg x4 => P_X5_extreme_98 κ sg x4) κ (n + 1) sg1 c s g b m k := by
    intro n
    induction n with
    | zero =>
      intro k b m sg1 h0 h1 t t7 hb hm9 hq
      have e : sg1.2 0 = f := t.row.trans hf
      exact ⟨⟨by omega, by omega⟩, by rw [e]; exact ⟨by omega, by omega⟩, pIf_neg (by rw [e]; omega) (hq sg1 t t7)⟩
    | succ n ih =>
      intro k b m sg1 h0 h1 t t7 hb hm9 hq
      have e : sg1.2 0 = f := t.row.trans hf
      have hkk : 0 ≤ k ∧ k < f 4 := ⟨h0, by omega⟩
      have hcl := hr.colour k hkk.1 hkk.2
      have hst := hr.state k hkk.1 hkk.2
      unfold rExt at hq
      refine ⟨⟨by omega, by omega⟩, by rw [e]; exact ⟨by omega, by omega⟩, pIf_pos (by rw [e]; omega) (t_of ⟨h0, by omega, by decide, by decide⟩ ?_)⟩
      rw [e]
      have no : ¬ (rPf f k 2 = c ∧ rPf f k 4 = s) → L_X5_extreme_9 (fun sg x4 => P_X5_extreme_98 κ sg x4) κ (n + 1) sg1 c s g b m (k + 1) := fun q => by
        simp only [if_neg q] at hq
        exact ih (k + 1) b m sg1 (by omega) (by omega) t t7 hb hm9 hq
      refine ⟨⟨by omega, by omega⟩, ⟨by omega, by omega⟩, fun q1 => t_of ⟨h0, by omega, by decide, by decide⟩ ?_, fun q1 => no (fun q => q1 q.1)⟩
      rw [e]
      refine ⟨⟨by omega, by omega⟩, hs, fun q2 => ?_, fun q2 => no (fun q => q2 q.2)⟩
      simp only [if_pos (show rPf f k 2 = c ∧ rPf f k 4 = s from ⟨q1, q2⟩)] at hq
      refine ⟨526, 526, ⟨rfl, rfl, ⟨by decide, by decide, by decide⟩, by decide, by decide⟩, ?_⟩
      refine t_of ⟨h0, by omega, by decide, by decide⟩ (t_put ⟨h0, by omega, by decide, by decide⟩ ?_)
      have hro : (uI (sg1.2 0) (406 + k * 5 + 4) (1 - rPf (sg1.2 0) k 4)) = rOther f k := by rw [e]; rfl
      have hO := rOther_OK hr hkk
      have hmet := rMet_r hO c
      refine t_metBy (f := rOther f k) hO hro ⟨by omega, by omega⟩ (fun sg2 t2 => ?_)
      refine t_tried (sg := sg1) (i := 406 + k * 5 + 4) ⟨by omega, by omega⟩ t2 (fun sg3 t3 t37 => ?_)
      have hmg : -24 ≤ rMet (rOther f k) c * g ∧ rMet (rOther f k) c * g ≤ 24 := by rcases hg with rfl | rfl <;> omega
      have t03 := t.trans t3
      have t037 := t37.trans t7
      refine ⟨⟨by omega, by omega⟩, fun q3 => ?_, fun q3 => ⟨⟨by omega, by omega⟩, ⟨by omega, by omega⟩, fun q4 => ?_, fun q4 => ?_⟩⟩
      · simp only [if_pos (show b = -1 ∨ m < rMet (rOther f k) c * g from Or.inl q3)] at hq
        exact ih (k + 1) k _ sg3 (by omega) (by omega) t03 t037 ⟨by omega, by omega⟩ hmg hq
      · simp only [if_pos (show b = -1 ∨ m < rMet (rOther f k) c * g from Or.inr q4)] at hq
        exact ih (k + 1) k _ sg3 (by omega) (by omega) t03 t037 ⟨by omega, by omega⟩ hmg hq
      · simp only [if_neg (show ¬ (b = -1 ∨ m < rMet (rOther f k) c * g) from fun q => q.elim q3 q4)] at hq
        exact ih (k + 1) b m sg3 (by omega) (by omega) t03 t037 hb hm9 hq
  exact ⟨(f 4).toNat + 1, loop (f 4).toNat 0 (-1) 0 sg (by decide) (by omega) (FrT.refl sg) rfl (by decide) (by decide) hk⟩
theorem t_bestMend {c : Int} (hr : RowOK f) (hf : sg.2 0 = f) (hc : InR c) (h1 : ¬ (0 ≤ c ∧ c < 4) → ∀ sg1, FrT sg sg1 → sg1.1 7 = 1 → κ 0 sg1) (h0 : (0 ≤ c ∧ c < 4) → ∀ sg1, FrT sg sg1 → sg1.1 7 = 0 → κ (rExt f c 1 1 (f 4).toNat 0 (-1) 0) sg1) : P_X5_bestMend κ sg c :=
  t_noColour hc (t_fails (b2i_inr _) (by decide) (by decide) (fun q => ⟨by decide, pIf_neg (by decide) (h1 (b2i_nz.mp q) _ (ft7 _ _) rfl)⟩) (fun _ q => absurd rfl q) (fun _ _ q => absurd rfl q) (fun q1 _ _ => ⟨by decide, pIf_pos rfl (t_extreme (sg := setS sg 7 0) hr hf (Decidable.not_not.mp (b2i_z.mp q1)) (by decide) (Or.inl rfl) (fun sg1 t t7 => h0 (Decidable.not_not.mp (b2i_z.mp q1)) sg1 ((ft7 sg 0).trans t) t7))⟩))
theorem t_worstLoss {c : Int} (hr : RowOK f) (hf : sg.2 0 = f) (hc : InR c) (h1 : ¬ (0 ≤ c ∧ c < 4) → ∀ sg1, FrT sg sg1 → sg1.1 7 = 1 → κ 0 sg1) (h0 : (0 ≤ c ∧ c < 4) → ∀ sg1, FrT sg sg1 → sg1.1 7 = 0 → κ (rExt f c 0 (-1) (f 4).toNat 0 (-1) 0) sg1) : P_X5_worstLoss κ sg c :=
  t_noColour hc (t_fails (b2i_inr _) (by decide) (by decide) (fun q => ⟨by decide, pIf_neg (by decide) (h1 (b2i_nz.mp q) _ (ft7 _ _) rfl)⟩) (fun _ q => absurd rfl q) (fun _ _ q => absurd rfl q) (fun q1 _ _ => ⟨by decide, pIf_pos rfl (t_extreme (sg := setS sg 7 0) hr hf (Decidable.not_not.mp (b2i_z.mp q1)) (by decide) (Or.inr rfl) (fun sg1 t t7 => h0 (Decidable.not_not.mp (b2i_z.mp q1)) sg1 ((ft7 sg 0).trans t) t7))⟩))
/-- the least gap with which a colour is complete: tried from g downwards, n left; best so far -/
def rLeast (f : Row) (c : Int) : Nat → Int → Int → Int
  | 0, _, b => b
  | n + 1, g, b => rLeast f c n (g - 1) (if rCmp (uI f 2 g) c then g else b)
theorem uI_uI {α : Type} (f : Int → α) (i : Int) (v w : α) : uI (uI f i v) i w = uI f i w := by
  funext j
  unfold uI
  by_cases h : j = i
  · rw [if_pos h, if_pos h]
  · rw [if_neg h, if_neg h, if_neg h]
theorem uI_self {α : Type} (f : Int → α) (i : Int) : uI f i (f i) = f := by
  funext j
  unfold uI
  by_cases h : j = i
  · rw [if_pos h, h]
  · rw [if_neg h]
theorem t_leastGap {c : Int} (hr : RowOK f) (hf : sg.2 0 = f) (hc : InR c) (h1 : ¬ (0 ≤ c ∧ c < 4) → ∀ sg1, FrT sg sg1 → sg1.1 7 = 1 → κ 0 sg1) (h0 : (0 ≤ c ∧ c < 4) → ∀ sg1, FrT sg sg1 → sg1.1 7 = 0 → κ (rLeast f c 12 12 (-1)) sg1) : P_X5_leastGap κ sg c := by
  refine t_noColour hc (t_fails (b2i_inr _) (by decide) (by decide) (fun q => ⟨by decide, pIf_neg (by decide) (h1 (b2i_nz.mp q) _ (ft7 _ _) rfl)⟩) (fun _ q => absurd rfl q) (fun _ _ q => absurd rfl q) (fun q1 _ _ => ⟨by decide, pIf_pos rfl ?_⟩))
  have hcc := Decidable.not_not.mp (b2i_z.mp q1)
  have k0 := h0 hcc
  have hw : (setS sg 7 0).2 0 2 = f 2 := by rw [← hf]; rfl
  rw [hw]
  have loop : ∀ (n : Nat) (g b : Int) (sg1 : TS), g = n → n ≤ 12 → (∃ u, sg1.2 0 = uI f 2 u) → FrW (setS sg 7 0) (setA sg1 0 f) → (∀ sg2 : TS, (∃ u, sg2.2 0 = uI f 2 u) → FrW (setS sg 7 0) (setA sg2 0 f) → κ (rLeast f c n g b) (setA sg2 0 f)) → L_X5_leastGap_28 (fun sg x2 x3 => P_X5_leastGap_59 κ sg x2 x3) κ (n + 1) sg1 c (f 2) b g := by
    intro n
    induction n with
    | zero =>
      intro g b sg1 hg hn hu t hq
      refine ⟨⟨by omega, by omega⟩, pIf_pos (by omega) ?_⟩
      obtain ⟨u, hu'⟩ := hu
      have e : uI (sg1.2 0) 2 (f 2) = f := by rw [hu', uI_uI, uI_self]
      show κ b (setA sg1 0 (uI (sg1.2 0) 2 (f 2)))
      rw [e]; exact hq sg1 ⟨u, hu'⟩ t
    | succ n ih =>
      intro g b sg1 hg hn hu t hq
      obtain ⟨u, hu'⟩ := hu
      have e : uI (sg1.2 0) 2 g = uI f 2 g := by rw [hu', uI_uI]
      have hr' : RowOK (uI f 2 g) := hr.set (w := 0) (Or.inl ⟨rfl, by omega, by omega⟩)
      unfold rLeast at hq
      refine ⟨⟨by omega, by omega⟩, pIf_neg (by omega) ?_⟩
      rw [e]
      refine t_isComplete (sg := setA sg1 0 (uI f 2 g)) hr' rfl hc (fun sg2 t2 => ?_)
      have e0 : sg2.2 0 = uI f 2 g := t2.2 0 (by omega)
      have t3 : FrW (setS sg 7 0) (setA sg2 0 f) := ⟨fun j a1 a2 => by
          have := t2.1 j a1 a2
          have := t.1 j a1 a2
          simp only [setA] at *
          omega, fun j a => by
          have b1 := t2.2 j a
          have b2 := t.2 j a
          simp only [setA] at *
          by_cases hj : j = 0
          · rw [if_pos hj]; rw [if_pos hj] at b2; exact b2
          · rw [if_neg hj]; rw [if_neg hj] at b1 b2; exact b1.trans b2⟩
      have eg : g + -1 = g - 1 := rfl
      refine ⟨b2i_inr _, fun q => ?_, fun q => ?_⟩
      · rw [if_neg (b2i_z.mp q)] at hq
        exact ih (g - 1) b sg2 (by omega) (by omega) ⟨g, e0⟩ t3 hq
      · rw [if_pos (b2i_nz.mp q)] at hq
        exact ih (g - 1) g sg2 (by omega) (by omega) ⟨g, e0⟩ t3 hq
  refine ⟨13, loop 12 12 (-1) (setS sg 7 0) rfl (by decide) ⟨f 2, by rw [uI_self]; exact hf⟩ ⟨fun _ _ _ => rfl, fun j _ => ?_⟩ (fun sg2 hu t => k0 _ ((ft7 sg 0).trans t.ft) t.s7)⟩
  show (if j = 0 then f else sg.2 j) = sg.2 j
  by_cases hj : j = 0
  · rw [if_pos hj, hj, hf]
  · rw [if_neg hj]
end TT
