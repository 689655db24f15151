set_option maxRecDepth 100000
/-! routes from a post: the reference's commands over them; facts of routes -/
def rCell (f : Row) (a : Int) : Int := 100 * rPf f a 0 + rPf f a 1
def rR0 (c : Int) : RR := ([], [c], [], [], 0)
def rRoute (f : Row) (p : Int) : RR × Int × Int := if p = -1 ∨ ¬ rPf f p 4 = 0 then (([], [], [], [], 0), 1, -1) else rWk f 25 p (rR0 (rCell f p))
theorem rR0_inv (f : Row) (c : Int) : RInv f (rR0 c) := ⟨fun k h => (List.not_mem_nil h).elim, (by decide : cnt (fun k => k ∈ ([] : List Int)) 24 0 = 0), (by decide : 1 ≤ 1), (by decide : 1 ≤ 1 + 36 * 0), (by decide : 0 ≤ 3 * 0), (by decide : 0 ≤ 2 * 0), (by decide : (0 : Int) ≤ 0), (by decide : (0 : Int) ≤ 100)⟩
theorem t_begins_loop {κ : TS → Prop} {sg0 : TS} {p : Int} : ∀ (n : Nat) (k : Int) (sg : TS), 0 ≤ k → k + n = 24 → (∀ j, j ≠ 31 → sg.2 j = sg0.2 j) → sg.1 = sg0.1 → (∀ j, 0 ≤ j → j < k → sg.2 31 j = 0) →
    (∀ sg1 : TS, (∀ j, j ≠ 31 → sg1.2 j = sg0.2 j) → sg1.1 = sg0.1 → (∀ j, 0 ≤ j → j < 24 → sg1.2 31 j = 0) → P_X5_begins_56 κ sg1 p) → L_X5_begins_37 (fun sg x1 => P_X5_begins_56 κ sg x1) κ (n + 1) sg p k := by
  intro n
  induction n with
  | zero => intro k sg h0 h1 f1 f2 hz hk; exact ⟨⟨by omega, by omega⟩, pIf_neg (by omega) (hk sg f1 f2 (fun j a b => hz j a (by omega)))⟩
  | succ n ih =>
    intro k sg h0 h1 f1 f2 hz hk
    refine ⟨⟨by omega, by omega⟩, pIf_pos (by omega) ⟨⟨by omega, by omega⟩, ih (k + 1) _ (by omega) (by omega) (fun j hj => ?_) f2 (fun j a b => ?_) hk⟩⟩
    · show (if j = 31 then _ else sg.2 j) = _
      rw [if_neg hj]; exact f1 j hj
    · show uI (sg.2 31) k 0 j = 0
      by_cases e : j = k
      · rw [e, uIs]
      · rw [uIn e]; exact hz j a (by omega)
theorem t_walk {κ : TS → Prop} {sg : TS} {p : Int} (hr : RowOK (sg.2 0)) (hp : p = -1 ∨ (0 ≤ p ∧ p < sg.2 0 4))
    (hk : ∀ sg1, FrW sg sg1 → TwR sg1 (rRoute (sg.2 0) p).1 → sg1.1 36 = (rRoute (sg.2 0) p).2.1 → sg1.1 37 = (rRoute (sg.2 0) p).2.2 → κ sg1) : P_X5_walk κ sg p := by
  have hm := hr.many
  refine ⟨25, t_begins_loop 24 0 _ (by decide) (by decide) (fun _ _ => rfl) rfl (fun j a b => by omega) (fun sg1 f1 f2 f3 => ?_)⟩
  have s : ∀ j, j < 32 ∨ 38 < j → sg1.1 j = sg.1 j := fun j hj => by
    rw [f2]
    show (if j = 37 then _ else if j = 36 then _ else if j = 38 then _ else if j = 35 then _ else if j = 34 then _ else if j = 33 then _ else if j = 32 then _ else sg.1 j) = sg.1 j
    rw [if_neg (by omega), if_neg (by omega), if_neg (by omega), if_neg (by omega), if_neg (by omega), if_neg (by omega), if_neg (by omega)]
  have e0 : sg1.2 0 = sg.2 0 := f1 0 (by decide)
  have e32 : sg1.1 32 = 0 := by rw [f2]; rfl
  have e33 : sg1.1 33 = 0 := by rw [f2]; rfl
  have e34 : sg1.1 34 = 0 := by rw [f2]; rfl
  have e35 : sg1.1 35 = 0 := by rw [f2]; rfl
  have e36 : sg1.1 36 = 1 := by rw [f2]; rfl
  have e37 : sg1.1 37 = -1 := by rw [f2]; rfl
  have e38 : sg1.1 38 = 0 := by rw [f2]; rfl
  have fw : FrW sg sg1 := ⟨fun j _ h => s j (by omega), fun j h => f1 j (by omega)⟩
  have t0 : TwR sg1 ([], [], [], [], 0) := ⟨⟨e32, e33, e34, e35, e38⟩, LsI.nil _, LsI.nil _, LsI.nil _, LsI.nil _, LsI.nil _, LsI.nil _, fun k a b => by
    rw [f3 k a b, b2i, if_neg List.not_mem_nil]⟩
  have none : (p = -1 ∨ ¬ rPf (sg.2 0) p 4 = 0) → (InR (sg1.1 33) ∧ pIf (sg1.1 33 = 0) (κ sg1) (∃ f9 : Nat, L_X5_walk_15 (fun sg x2 => P_X5_walk_69 κ sg x2) (fun sg x2 => P_X5_walk_196 κ sg x2) κ f9 sg1 p)) := fun q => by
    refine ⟨by rw [e33]; decide, pIf_pos e33 (hk sg1 fw ?_ ?_ ?_)⟩
    · unfold rRoute; rw [if_pos q]; exact t0
    · unfold rRoute; rw [if_pos q]; exact e36
    · unfold rRoute; rw [if_pos q]; exact e37
  refine ⟨by rcases hp with rfl | t; decide; exact ⟨by omega, by omega⟩, fun q => none (Or.inl q), fun q => ?_⟩
  have hp1 := hp.resolve_left q
  have hr1 : RowOK (sg1.2 0) := by rw [e0]; exact hr
  refine t_stands hr1 (by rw [e0]; exact hp1) ⟨b2i_inr _, fun g => ?_, fun g => ?_⟩
  · rw [e0] at g
    exact none (Or.inr (b2i_z.mp g))
  · rw [e0] at g
    have g : rPf (sg.2 0) p 4 = 0 := Decidable.not_not.mp (fun t => g (b2i_z.mpr t))
    refine t_of ⟨hp1.1, by omega, by decide, by decide⟩ (t_of ⟨hp1.1, by omega, by decide, by decide⟩ ?_)
    rw [e0]
    have eR : rRoute (sg.2 0) p = rWk (sg.2 0) 25 p (rR0 (rCell (sg.2 0) p)) := by
      unfold rRoute; rw [if_neg (fun t => t.elim q (fun t => t g))]
    rw [eR] at hk
    have t1 : TwR (setS (setA sg1 26 (uI (sg1.2 26) 0 (rCell (sg.2 0) p))) 33 1) (rR0 (rCell (sg.2 0) p)) := ⟨⟨e32, rfl, e34, e35, e38⟩, LsI.nil _, (LsI.nil (sg1.2 26)).push, LsI.nil _, LsI.nil _, LsI.nil _, LsI.nil _, fun k a b => by
      show sg1.2 31 k = _
      rw [f3 k a b]
      exact (by rw [b2i, if_neg List.not_mem_nil] : b2i (k ∈ ([] : List Int)) = 0).symm⟩
    refine ⟨by show InR 1; decide, pIf_neg (by show ¬ (1 : Int) = 0; decide) ⟨25, ?_⟩⟩
    exact t_walk_loop hr 25 p (rR0 (rCell (sg.2 0) p)) _ e0 hp1 g (rR0_inv _ _) rfl t1 (fw.trans ⟨fun j _ h => by show (if j = 33 then _ else sg1.1 j) = _; rw [if_neg (by omega)], fun j h => by show (if j = 26 then _ else sg1.2 j) = _; rw [if_neg (by omega)]⟩) hk
/-! facts of a route -/
def rSum (f : Row) : List Int → Int
  | [] => 0
  | b :: t => wSum (rFind f b 0 0) + rSum f t
theorem rSum_app (f : Row) : ∀ (l m : List Int), rSum f (l ++ m) = rSum f l + rSum f m := by
  intro l
  induction l with
  | nil => intro m; show rSum f m = 0 + rSum f m; omega
  | cons b t ih => intro m; show _ + rSum f (t ++ m) = _ + rSum f t + rSum f m; rw [ih]; omega
def Chn (f : Row) : List Int → Int → Prop
  | [], _ => True
  | b :: t, e => wNext (rFind f b 0 0) = t.headD e ∧ Chn f t e
theorem Chn.snoc {f : Row} {a e : Int} (he : wNext (rFind f a 0 0) = e) : ∀ (l : List Int), Chn f l a → Chn f (l ++ [a]) e := by
  intro l
  induction l with
  | nil => intro _; exact ⟨he, trivial⟩
  | cons b t ih =>
    intro h
    refine ⟨?_, ih h.2⟩
    rw [h.1]
    cases t <;> rfl
theorem Chn.suf {f : Row} {e : Int} : ∀ (l m : List Int), Chn f (l ++ m) e → Chn f m e := by
  intro l
  induction l with
  | nil => intro m h; exact h
  | cons b t ih => intro m h; exact ih m h.2
/-- the steps of a loop: from the place of a on -/
def rLoop (f : Row) : List Int → Int → Int
  | [], _ => 0
  | b :: t, a => if b = a then rSum f (b :: t) else rLoop f t a
theorem rLoop_split (f : Row) {a : Int} : ∀ (l m : List Int), a ∉ l → rLoop f (l ++ a :: m) a = rSum f (a :: m) := by
  intro l
  induction l with
  | nil => intro m _; show (if a = a then _ else _) = _; rw [if_pos rfl]
  | cons b t ih =>
    intro m h
    show (if b = a then _ else rLoop f (t ++ a :: m) a) = _
    rw [if_neg (fun q => h (by rw [q]; exact List.mem_cons_self))]
    exact ih m (fun q => h (List.mem_cons_of_mem _ q))
/-- a cell that is on the map and no block -/
def CellOK (f : Row) (c : Int) : Prop := ∃ x y : Int, c = 100 * x + y ∧ rFree f x y
/-- two cells, one step from one another -/
def Nr (f : Row) (a b : Int) : Prop := ∃ x y x1 y1 : Int, a = 100 * x + y ∧ b = 100 * x1 + y1 ∧ rOn f x y ∧ rOn f x1 y1 ∧ ((x1 = x + 1 ∧ y1 = y) ∨ (x1 = x - 1 ∧ y1 = y) ∨ (x1 = x ∧ y1 = y + 1) ∨ (x1 = x ∧ y1 = y - 1))
def PathI (f : Row) (l : List Int) : Prop := (∀ c ∈ l, CellOK f c) ∧ ∀ i : Nat, i + 1 < l.length → Nr f (l.getD i 0) (l.getD (i + 1) 0)
theorem PathI.snoc {f : Row} {l : List Int} {b : Int} (h : PathI f l) (hl : l ≠ []) (hb : CellOK f b) (hn : Nr f (lastC l) b) : PathI f (l ++ [b]) := by
  refine ⟨fun c hc => ?_, fun i hi => ?_⟩
  · rcases List.mem_append.mp hc with t | t
    · exact h.1 c t
    · rw [List.mem_singleton.mp t]; exact hb
  · rw [List.length_append] at hi
    have hi : i + 1 < l.length + 1 := hi
    rw [getD_snoc, getD_snoc, if_pos (by omega)]
    by_cases q : i + 1 < l.length
    · rw [if_pos q]; exact h.2 i q
    · have e : i + 1 = l.length := by omega
      rw [if_neg q, if_pos e]
      have : lastC l = l.getD i 0 := by unfold lastC; congr 1; omega
      rw [← this]; exact hn
theorem dir_case {d : Int} (hd : 0 ≤ d ∧ d < 4) : (jdx d = 0 ∧ jdy d = -1) ∨ (jdx d = 1 ∧ jdy d = 0) ∨ (jdx d = 0 ∧ jdy d = 1) ∨ (jdx d = -1 ∧ jdy d = 0) := by
  have : d = 0 ∨ d = 1 ∨ d = 2 ∨ d = 3 := by omega
  rcases this with rfl | rfl | rfl | rfl <;> decide
theorem PathI.cells {f : Row} {d : Int} (hd : 0 ≤ d ∧ d < 4) : ∀ (n : Nat) (l : List Int) (x y : Int), PathI f l → l ≠ [] → lastC l = 100 * x + y → rOn f x y → rSeg f x y d n → PathI f (l ++ rCells (stp d) n (100 * x + y)) := by
  intro n
  induction n with
  | zero => intro l x y h _ _ _ _; unfold rCells; rw [List.append_nil]; exact h
  | succ n ih =>
    intro l x y h hl hc ho hs
    have e : 100 * x + y + stp d = 100 * (x + jdx d) + (y + jdy d) := by unfold stp; omega
    have h1 := hs 1 (Int.le_refl _) (by omega)
    rw [Int.one_mul, Int.one_mul] at h1
    have e2 : l ++ rCells (stp d) (n + 1) (100 * x + y) = (l ++ [100 * (x + jdx d) + (y + jdy d)]) ++ rCells (stp d) n (100 * (x + jdx d) + (y + jdy d)) := by
      show l ++ (100 * x + y + stp d) :: rCells (stp d) n (100 * x + y + stp d) = _
      rw [e]; simp
    rw [e2]
    refine ih _ _ _ (h.snoc hl ⟨_, _, rfl, h1⟩ ?_) (by simp) (lastC_snoc _ _) h1.1 (fun j j1 j2 => ?_)
    · rw [hc]
      refine ⟨x, y, x + jdx d, y + jdy d, rfl, rfl, ho, h1.1, ?_⟩
      rcases dir_case hd with ⟨q1, q2⟩ | ⟨q1, q2⟩ | ⟨q1, q2⟩ | ⟨q1, q2⟩ <;> rw [q1, q2] <;> omega
    · have := hs (j + 1) (by omega) (by omega)
      have g := mul_step x (j + 1) (jdx d)
      have g2 := mul_step y (j + 1) (jdy d)
      have e9 : j + 1 - 1 = j := by omega
      rw [e9] at g g2
      rw [g, g2]; exact this
theorem rEnd_eq (d : Int) : ∀ (n : Nat) (x y : Int), rEnd (stp d) n (100 * x + y) = 100 * (x + n * jdx d) + (y + n * jdy d) := by
  intro n
  induction n with
  | zero => intro x y; show 100 * x + y = 100 * (x + (0 : Int) * jdx d) + (y + (0 : Int) * jdy d); omega
  | succ n ih =>
    intro x y
    show rEnd (stp d) n (100 * x + y + stp d) = _
    have e : 100 * x + y + stp d = 100 * (x + jdx d) + (y + jdy d) := by unfold stp; omega
    rw [e, ih]
    have g := mul_step x (n + 1 : Int) (jdx d)
    have g2 := mul_step y (n + 1 : Int) (jdy d)
    have e9 : (n + 1 : Int) - 1 = n := by omega
    rw [e9] at g g2
    rw [g, g2]; rfl
def lSum : List (Int × Int × Int) → Int
  | [] => 0
  | q :: t => q.1 + lSum t
theorem lSum_app : ∀ (l : List (Int × Int × Int)) (q : Int × Int × Int), lSum (l ++ [q]) = lSum l + q.1 := by
  intro l
  induction l with
  | nil => intro q; show q.1 + 0 = 0 + q.1; omega
  | cons b t ih => intro q; show b.1 + lSum (t ++ [q]) = b.1 + lSum t + q.1; rw [ih]; omega
def LegOK (q : Int × Int × Int) : Prop := (0 ≤ q.1 ∧ q.1 ≤ 12) ∧ (0 ≤ q.2.1 ∧ q.2.1 < 4) ∧ (q.2.2 = 0 ∨ q.2.2 = 1)
/-- cells and legs of a route that is at (x, y) -/
def RCel (f : Row) (R : RR) (x y : Int) : Prop := PathI f R.2.1 ∧ R.2.1 ≠ [] ∧ lastC R.2.1 = 100 * x + y ∧ rOn f x y ∧ lSum R.2.2.1 = (R.2.1.length : Int) - 1 ∧ (∀ q ∈ R.2.2.1, LegOK q) ∧ ∀ c ∈ R.2.2.2.1, CellOK f c
theorem rSeg_on {f : Row} {x y d s : Int} (ho : rOn f x y) (hs : rSeg f x y d s) (h0 : 0 ≤ s) : rOn f (x + s * jdx d) (y + s * jdy d) := by
  by_cases q : s = 0
  · subst q; rw [Int.zero_mul, Int.zero_mul, Int.add_zero, Int.add_zero]; exact ho
  · exact (hs s (by omega) (Int.le_refl _)).1
theorem RCel.goes {f : Row} {R : RR} {x y s d g : Int} (h : RCel f R x y) (hd : 0 ≤ d ∧ d < 4) (hs : 0 ≤ s ∧ s ≤ 12) (hg : g = 0 ∨ (g = 1 ∧ 1 ≤ s)) (hseg : rSeg f x y d s) : RCel f (rGoes R s d g) (x + s * jdx d) (y + s * jdy d) := by
  obtain ⟨h1, h2, h3, h4, h5, h6, h7⟩ := h
  have es : ((s.toNat : Nat) : Int) = s := Int.toNat_of_nonneg hs.1
  have eE : rEnd (stp d) s.toNat (lastC R.2.1) = 100 * (x + s * jdx d) + (y + s * jdy d) := by rw [h3, rEnd_eq, es]
  have hon := rSeg_on h4 hseg hs.1
  refine ⟨?_, ?_, ?_, hon, ?_, ?_, ?_⟩
  · show PathI f (R.2.1 ++ rCells (stp d) s.toNat (lastC R.2.1))
    rw [h3]
    exact PathI.cells hd s.toNat R.2.1 x y h1 h2 h3 h4 (by rw [es]; exact hseg)
  · show R.2.1 ++ _ ≠ []
    simp [h2]
  · show lastC (R.2.1 ++ rCells (stp d) s.toNat (lastC R.2.1)) = _
    rw [lastC_cells _ _ _ _ rfl, eE]
  · show lSum (R.2.2.1 ++ [(s, d, g)]) = ((R.2.1 ++ rCells (stp d) s.toNat (lastC R.2.1)).length : Int) - 1
    rw [lSum_app, List.length_append, rCells_len, h5]
    show _ + s = _
    omega
  · intro q hq
    rcases List.mem_append.mp hq with t | t
    · exact h6 q t
    · rw [List.mem_singleton.mp t]; exact ⟨hs, hd, by rcases hg with q | q; exact Or.inl q; exact Or.inr q.1⟩
  · intro c hc
    rcases List.mem_append.mp hc with t | t
    · exact h7 c t
    · rcases hg with q | q
      · rw [if_pos q] at t; exact absurd t List.not_mem_nil
      · rw [if_neg (by omega)] at t
        rw [List.mem_singleton.mp t, eE]
        exact ⟨_, _, rfl, hseg s q.2 (Int.le_refl _)⟩
theorem rFind_k {f : Row} (hr : RowOK f) (o d1 d2 : Int) : (1 ≤ wMany (rFind f o d1 d2) → 1 ≤ wK1 (rFind f o d1 d2)) ∧ (wMany (rFind f o d1 d2) = 2 → 1 ≤ wK2 (rFind f o d1 d2)) := by
  refine rFind_ind (P := fun w => (1 ≤ wMany w → 1 ≤ wK1 w) ∧ (wMany w = 2 → 1 ≤ wK2 w)) hr ⟨fun t => absurd t (by show ¬ (1 : Int) ≤ 0; decide), fun t => absurd t (by show ¬ (0 : Int) = 2; decide)⟩ (fun _ => ⟨fun t => absurd t (by show ¬ (1 : Int) ≤ 0; decide), fun t => absurd t (by show ¬ (0 : Int) = 2; decide)⟩)
    (fun a d a1 a2 e1 e2 q => ⟨fun _ => a1, fun t => absurd t (by show ¬ (1 : Int) = 2; decide)⟩) (fun a b c d a1 a2 b1 b2 c1 c2 e1 e2 q => ⟨fun _ => a1, fun _ => c1⟩)
theorem RCel.way {f : Row} {R : RR} {a : Int} (hr : RowOK f) (ha : 0 ≤ a ∧ a < f 4) (h : RCel f R (rPf f a 0) (rPf f a 1)) (hn : wNext (rFind f a 0 0) ≠ -1) :
    RCel f (rWayR (rPf f a 3) (rFind f a 0 0) (rAdd R a)) (rPf f (wNext (rFind f a 0 0)) 0) (rPf f (wNext (rFind f a 0 0)) 1) := by
  have hG := rFind_geo hr a 0 0 hn
  have hV := rFind_V hr a 0 0
  have hK := rFind_k hr a 0 0
  have hA := rFind_arrow hn
  have har := hr.arrow a ha.1 ha.2
  generalize rFind f a 0 0 = w at *
  obtain ⟨v1, v2, v3, v4, v5, v6, v7, v8, v9⟩ := hV
  obtain ⟨g0, g1, g2, g3⟩ := hG
  have h' : RCel f (rLong (rAdd R a) (wSum w)) (rPf f a 0) (rPf f a 1) := h
  have hm : wMany w = 0 ∨ wMany w = 1 ∨ wMany w = 2 := by omega
  rcases hm with m | m | m
  · obtain ⟨s1, e1, e2⟩ := g0 m
    have e : rWayR (rPf f a 3) w (rAdd R a) = rGoes (rLong (rAdd R a) (wSum w)) (wLast w) (rPf f a 3) 0 := by
      unfold rWayR rWayR2 rWayR1 wDL
      rw [m]; rfl
    rw [e, e1, e2]
    exact h'.goes ⟨har.1, by omega⟩ v5 (Or.inl rfl) s1
  · obtain ⟨s1, e1, e2⟩ := g2 m
    have e : rWayR (rPf f a 3) w (rAdd R a) = rGoes (rGoes (rLong (rAdd R a) (wSum w)) (wK1 w) (rPf f a 3) 1) (wLast w) (wD1 w) 0 := by
      unfold rWayR rWayR2 rWayR1 wDL
      rw [m]; rfl
    rw [e, e1, e2]
    exact (h'.goes ⟨har.1, by omega⟩ v3 (Or.inr ⟨rfl, hK.1 (by omega)⟩) (g1 (by omega))).goes (v6 (by omega)) v5 (Or.inl rfl) s1
  · obtain ⟨s1, s2, e1, e2⟩ := g3 m
    have e : rWayR (rPf f a 3) w (rAdd R a) = rGoes (rGoes (rGoes (rLong (rAdd R a) (wSum w)) (wK1 w) (rPf f a 3) 1) (wK2 w) (wD1 w) 1) (wLast w) (wD2 w) 0 := by
      unfold rWayR rWayR2 rWayR1 wDL
      rw [m]; rfl
    rw [e, e1, e2]
    exact ((h'.goes ⟨har.1, by omega⟩ v3 (Or.inr ⟨rfl, hK.1 (by omega)⟩) (g1 (by omega))).goes (v6 (by omega)) v4 (Or.inr ⟨rfl, hK.2 m⟩) s1).goes (v7 m) v5 (Or.inl rfl) s2
theorem rWayR_ps (ar : Int) (w : Way7) (R : RR) : (rWayR ar w R).1 = R.1 := by
  obtain ⟨c1, -⟩ := rGoes_lens (rWayR2 ar w R) (wLast w) (wDL ar w) 0
  have c2 : (rWayR2 ar w R).1 = (rWayR1 ar w R).1 := by unfold rWayR2; split <;> rfl
  have c3 : (rWayR1 ar w R).1 = R.1 := by unfold rWayR1; split <;> rfl
  exact c1.trans (c2.trans c3)
theorem rWayR_cs {ar : Int} {w : Way7} {R : RR} {f : Row} {o : Int} (hv : WVal f o w) : ((rWayR ar w R).2.1.length : Int) = R.2.1.length + wSum w := by
  obtain ⟨v1, v2, v3, v4, v5, v6, v7, v8, v9⟩ := hv
  obtain ⟨-, c1, -⟩ := rGoes_lens (rWayR2 ar w R) (wLast w) (wDL ar w) 0
  obtain ⟨-, b1, -⟩ := rGoes_lens (rWayR1 ar w R) (wK2 w) (wD1 w) 1
  obtain ⟨-, a1, -⟩ := rGoes_lens (rLong R (wSum w)) (wK1 w) ar 1
  have a2 : (rLong R (wSum w)).2.1.length = R.2.1.length := rfl
  have c1 : (rWayR ar w R).2.1.length = (rWayR2 ar w R).2.1.length + (wLast w).toNat := c1
  have r1 : ((rWayR1 ar w R).2.1.length : Int) = R.2.1.length + wK1 w := by
    unfold rWayR1
    split
    · omega
    · have := v8 (by omega); omega
  have r2 : ((rWayR2 ar w R).2.1.length : Int) = R.2.1.length + wK1 w + wK2 w := by
    unfold rWayR2
    split
    · omega
    · have := v9 (by omega); omega
  unfold wSum
  omega
/-- a route that is at the post a -/
def RFac (f : Row) (R : RR) (a : Int) : Prop := R.1.Nodup ∧ Chn f R.1 a ∧ (∀ k ∈ R.1, 0 ≤ k ∧ k < f 4 ∧ rPf f k 4 = 0) ∧ (R.2.1.length : Int) = 1 + rSum f R.1 ∧ RCel f R (rPf f a 0) (rPf f a 1)
/-- what a whole route is -/
def REnd (f : Row) (q : RR × Int × Int) : Prop := q.1.1.Nodup ∧ (∀ k ∈ q.1.1, 0 ≤ k ∧ k < f 4 ∧ rPf f k 4 = 0) ∧ (∃ x y, RCel f q.1 x y) ∧ (q.2.1 = 0 ∨ q.2.1 = 1 ∨ q.2.1 = 2) ∧ q.2.2 ∈ q.1.1 ∧ q.1.1.length ≤ 24 ∧ (q.1.2.1.length ≤ 865 ∧ q.1.2.2.1.length ≤ 72 ∧ q.1.2.2.2.1.length ≤ 48 ∧ 0 ≤ q.1.2.2.2.2 ∧ q.1.2.2.2.2 ≤ 100) ∧
  (q.2.1 = 2 → Chn f q.1.1 q.2.2 ∧ (q.1.2.1.length : Int) = 1 + rSum f q.1.1)
theorem rWk_end {f : Row} (hr : RowOK f) : ∀ (n : Nat) (a : Int) (R : RR), (0 ≤ a ∧ a < f 4) → rPf f a 4 = 0 → RInv f R → R.1.length + n = 25 → RFac f R a → REnd f (rWk f n a R) := by
  have hm := hr.many
  intro n
  induction n with
  | zero => intro a R ha hst hi hl hf; have := hi.len; omega
  | succ n ih =>
    intro a R ha hst hi hl hf
    have hi' := hi
    obtain ⟨i1, i2, i3, i4, i5, i6, i7, i8⟩ := hi'
    have hlen := hi.len
    obtain ⟨f1, f2, f3, f4', f5⟩ := hf
    rw [rWk]
    by_cases q : a ∈ R.1
    · rw [if_pos q]
      exact ⟨f1, f3, ⟨_, _, f5⟩, Or.inr (Or.inr rfl), q, hlen, ⟨by show R.2.1.length ≤ 865; omega, by show R.2.2.1.length ≤ 72; omega, by show R.2.2.2.1.length ≤ 48; omega, i7, i8⟩, fun _ => ⟨f2, f4'⟩⟩
    · have h24 : R.1.length ≠ 24 := fun t => q (hi.full t ⟨ha.1, by omega⟩)
      have nd : (R.1 ++ [a]).Nodup := by
        rw [List.nodup_append]
        refine ⟨f1, by simp, fun x hx y hy => ?_⟩
        rw [List.mem_singleton.mp hy]
        intro e
        exact q (e ▸ hx)
      have al : ∀ k ∈ R.1 ++ [a], 0 ≤ k ∧ k < f 4 ∧ rPf f k 4 = 0 := fun k hk => by
        rcases List.mem_append.mp hk with t | t
        · exact f3 k t
        · rw [List.mem_singleton.mp t]; exact ⟨ha.1, ha.2, hst⟩
      rw [if_neg q]
      by_cases e : wNext (rFind f a 0 0) = -1
      · rw [if_pos e]
        refine ⟨nd, al, ⟨_, _, f5⟩, ?_, List.mem_append.mpr (Or.inr (List.mem_singleton.mpr rfl)), ?_, ⟨by show R.2.1.length ≤ 865; omega, by show R.2.2.1.length ≤ 72; omega, by show R.2.2.2.1.length ≤ 48; omega, i7, i8⟩, fun t => ?_⟩
        · show (if rPf f a 3 = 4 then (0 : Int) else 1) = 0 ∨ (if rPf f a 3 = 4 then (0 : Int) else 1) = 1 ∨ _
          split
          · exact Or.inl rfl
          · exact Or.inr (Or.inl rfl)
        · show (R.1 ++ [a]).length ≤ 24
          rw [List.length_append]
          show R.1.length + 1 ≤ 24
          omega
        · exfalso
          have t : (if rPf f a 3 = 4 then (0 : Int) else 1) = 2 := t
          split at t <;> omega
      · rw [if_neg e]
        have hV := rFind_V hr a 0 0
        have hO := rFind_OK hr a 0 0
        have hvn := hV.1.resolve_left e
        have ep : (rWayR (rPf f a 3) (rFind f a 0 0) (rAdd R a)).1 = R.1 ++ [a] := rWayR_ps _ _ _
        refine ih _ _ ⟨hvn.1, hvn.2.1⟩ hvn.2.2.1 (hi.way ha hm.2 q hV hO) ?_ ⟨?_, ?_, ?_, ?_, RCel.way hr ha f5 e⟩
        · rw [ep, List.length_append]
          show R.1.length + 1 + n = 25
          omega
        · rw [ep]; exact nd
        · rw [ep]; exact Chn.snoc rfl _ f2
        · rw [ep]; exact al
        · rw [rWayR_cs hV, ep, rSum_app]
          show (R.2.1.length : Int) + wSum (rFind f a 0 0) = 1 + (rSum f R.1 + (wSum (rFind f a 0 0) + 0))
          omega
theorem rRoute_end {f : Row} (hr : RowOK f) {p : Int} (hp : 0 ≤ p ∧ p < f 4) (hst : rPf f p 4 = 0) : rRoute f p = rWk f 25 p (rR0 (rCell f p)) ∧ REnd f (rRoute f p) := by
  have e : rRoute f p = rWk f 25 p (rR0 (rCell f p)) := by
    unfold rRoute
    rw [if_neg (fun t => t.elim (by omega) (fun t => t hst))]
  refine ⟨e, ?_⟩
  rw [e]
  have hon := hr.on p hp.1 hp.2
  have hfr := hr.free p hp.1 hp.2
  refine rWk_end hr 25 p _ hp hst (rR0_inv f _) rfl ⟨List.nodup_nil, trivial, fun k h => absurd h List.not_mem_nil, by show (1 : Int) = 1 + 0; rfl, ⟨⟨fun c hc => ?_, fun i hi => ?_⟩, by show [rCell f p] ≠ []; simp, rfl, hon, rfl, fun q h => absurd h List.not_mem_nil, fun q h => absurd h List.not_mem_nil⟩⟩
  · rw [List.mem_singleton.mp hc]; exact ⟨_, _, rfl, hon, by rw [hfr]; decide⟩
  · exact absurd hi (by show ¬ i + 1 < 1; omega)
