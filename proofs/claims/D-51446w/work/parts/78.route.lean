set_option maxRecDepth 100000
/-! routes: posts, cells, legs (steps, direction, 1 if inferred), inferred cells, the longest way -/
abbrev RR : Type := List Int × List Int × List (Int × Int × Int) × List Int × Int
theorem uIs {α : Type} (f : Int → α) (i : Int) (v : α) : uI f i v i = v := by unfold uI; rw [if_pos rfl]
theorem uIn {α : Type} {f : Int → α} {i j : Int} {v : α} (hj : j ≠ i) : uI f i v j = f j := by unfold uI; rw [if_neg hj]
def LsI (a : Int → Int) (l : List Int) : Prop := ∀ i : Nat, i < l.length → a (i : Int) = l.getD i 0
theorem getD_snoc (l : List Int) (v : Int) (i : Nat) : (l ++ [v]).getD i 0 = if i < l.length then l.getD i 0 else if i = l.length then v else 0 := by
  rw [List.getD_eq_getElem?_getD, List.getElem?_append]
  by_cases h : i < l.length
  · rw [if_pos h, if_pos h, ← List.getD_eq_getElem?_getD]
  · rw [if_neg h, if_neg h]
    by_cases h2 : i = l.length
    · subst h2; rw [if_pos rfl, Nat.sub_self]; rfl
    · rw [if_neg h2, List.getElem?_eq_none (by simp; omega)]; rfl
theorem LsI.push {a : Int → Int} {l : List Int} {v : Int} (h : LsI a l) : LsI (uI a (l.length : Int) v) (l ++ [v]) := by
  intro i hi
  rw [List.length_append] at hi
  rw [getD_snoc]
  by_cases q : i < l.length
  · rw [if_pos q, uIn (by omega)]; exact h i q
  · have e : i = l.length := by simp at hi; omega
    subst e
    rw [if_neg q, if_pos rfl, uIs]
theorem LsI.nil (a : Int → Int) : LsI a [] := fun i h => absurd h (Nat.not_lt_zero i)
def stp (d : Int) : Int := 100 * jdx d + jdy d
def rCells (st : Int) : Nat → Int → List Int
  | 0, _ => []
  | n + 1, c => (c + st) :: rCells st n (c + st)
def rEnd (st : Int) : Nat → Int → Int
  | 0, c => c
  | n + 1, c => rEnd st n (c + st)
theorem rCells_len (st : Int) : ∀ (n : Nat) (c : Int), (rCells st n c).length = n := by
  intro n
  induction n with
  | zero => intro c; rfl
  | succ n ih => intro c; unfold rCells; rw [List.length_cons, ih]
def lastC (l : List Int) : Int := l.getD (l.length - 1) 0
theorem lastC_snoc (l : List Int) (v : Int) : lastC (l ++ [v]) = v := by
  unfold lastC
  rw [List.length_append, getD_snoc]
  simp
theorem lastC_cells (st : Int) : ∀ (n : Nat) (l : List Int) (c : Int), lastC l = c → lastC (l ++ rCells st n c) = rEnd st n c := by
  intro n
  induction n with
  | zero => intro l c h; unfold rCells rEnd; rw [List.append_nil]; exact h
  | succ n ih =>
    intro l c h
    unfold rCells rEnd
    rw [show l ++ (c + st) :: rCells st n (c + st) = (l ++ [c + st]) ++ rCells st n (c + st) by simp]
    exact ih _ _ (lastC_snoc _ _)
def rGoes (R : RR) (s d g : Int) : RR := (R.1, R.2.1 ++ rCells (stp d) s.toNat (lastC R.2.1), R.2.2.1 ++ [(s, d, g)], R.2.2.2.1 ++ (if g = 0 then [] else [rEnd (stp d) s.toNat (lastC R.2.1)]), R.2.2.2.2)
def rAdd (R : RR) (a : Int) : RR := (R.1 ++ [a], R.2)
def rLong (R : RR) (v : Int) : RR := (R.1, R.2.1, R.2.2.1, R.2.2.2.1, jmax R.2.2.2.2 v)
def wDL (ar : Int) (w : Way7) : Int := if wMany w = 0 then ar else if wMany w = 1 then wD1 w else wD2 w
def rWayR1 (ar : Int) (w : Way7) (R : RR) : RR := if 0 < wMany w then rGoes (rLong R (wSum w)) (wK1 w) ar 1 else rLong R (wSum w)
def rWayR2 (ar : Int) (w : Way7) (R : RR) : RR := if wMany w = 2 then rGoes (rWayR1 ar w R) (wK2 w) (wD1 w) 1 else rWayR1 ar w R
def rWayR (ar : Int) (w : Way7) (R : RR) : RR := rGoes (rWayR2 ar w R) (wLast w) (wDL ar w) 0
/-- the route on: at most n posts more; its end, and the last post -/
def rWk (f : Row) : Nat → Int → RR → RR × Int × Int
  | 0, a, R => (R, 2, a)
  | n + 1, a, R => if a ∈ R.1 then (R, 2, a) else if wNext (rFind f a 0 0) = -1 then (rAdd R a, (if rPf f a 3 = 4 then 0 else 1), a) else
      rWk f n (wNext (rFind f a 0 0)) (rWayR (rPf f a 3) (rFind f a 0 0) (rAdd R a))
theorem WEq.wayR {w v : Way7} (h : WEq w v) (hm : 0 ≤ wMany w ∧ wMany w ≤ 2) (ar : Int) (R : RR) : rWayR ar w R = rWayR ar v R := by
  obtain ⟨h1, h2, h3, h4, h5, h6, h7⟩ := h
  have hs : wSum w = wSum v := by unfold wSum; rw [h3, h4, h5]
  unfold rWayR rWayR2 rWayR1 wDL
  have : wMany w = 0 ∨ wMany w = 1 ∨ wMany w = 2 := by omega
  rcases this with q | q | q
  · rw [← h2, q, hs, h5, h3, h4]; rfl
  · have := h6 (by omega)
    rw [← h2, q, hs, h5, h3, this]; rfl
  · have e1 := h6 (by omega)
    have e2 := h7 q
    rw [← h2, q, hs, h5, h3, h4, e1, e2]
/-- the reference's arrays stand for the route -/
def TwR (sg : TS) (R : RR) : Prop := (sg.1 32 = R.1.length ∧ sg.1 33 = R.2.1.length ∧ sg.1 34 = R.2.2.1.length ∧ sg.1 35 = R.2.2.2.1.length ∧ sg.1 38 = R.2.2.2.2) ∧ LsI (sg.2 25) R.1 ∧ LsI (sg.2 26) R.2.1 ∧ LsI (sg.2 27) (R.2.2.1.map (·.1)) ∧ LsI (sg.2 28) (R.2.2.1.map (·.2.1)) ∧ LsI (sg.2 30) (R.2.2.1.map (·.2.2)) ∧ LsI (sg.2 29) R.2.2.2.1 ∧
  ∀ k : Int, 0 ≤ k → k < 24 → sg.2 31 k = b2i (k ∈ R.1)
/-- what a walk leaves as it was -/
def FrW (sg sg1 : TS) : Prop := (∀ j, ¬ (15 ≤ j ∧ j ≤ 24) → ¬ (32 ≤ j ∧ j ≤ 38) → sg1.1 j = sg.1 j) ∧ (∀ j, ¬ (25 ≤ j ∧ j ≤ 31) → sg1.2 j = sg.2 j)
/-- what one leg leaves as it was -/
def FrG (sg sg1 : TS) : Prop := (∀ j, ¬ (33 ≤ j ∧ j ≤ 35) → sg1.1 j = sg.1 j) ∧ (∀ j, ¬ (26 ≤ j ∧ j ≤ 30) → sg1.2 j = sg.2 j)
theorem FrW.refl (sg : TS) : FrW sg sg := ⟨fun _ _ _ => rfl, fun _ _ => rfl⟩
theorem FrW.trans {a b c : TS} (p : FrW a b) (q : FrW b c) : FrW a c := ⟨fun j h1 h2 => (q.1 j h1 h2).trans (p.1 j h1 h2), fun j h => (q.2 j h).trans (p.2 j h)⟩
theorem FrG.fw {a b : TS} (p : FrG a b) : FrW a b := ⟨fun j _ h2 => p.1 j (by omega), fun j h => p.2 j (by omega)⟩
theorem sW_fw (sg : TS) (l : Int × Int × Int) (w : Way7) : FrW sg (sW sg l w) := ⟨fun j h _ => by
  have e : ∀ k : Nat, 15 ≤ k → k ≤ 24 → ¬ j = k := fun k h1 h2 q => h (by omega)
  show (if j = 15 then _ else if j = 16 then _ else if j = 17 then _ else if j = 18 then _ else if j = 19 then _ else if j = 20 then _ else if j = 21 then _ else if j = 22 then _ else if j = 23 then _ else if j = 24 then _ else sg.1 j) = sg.1 j
  rw [if_neg (e 15 (by decide) (by decide)), if_neg (e 16 (by decide) (by decide)), if_neg (e 17 (by decide) (by decide)), if_neg (e 18 (by decide) (by decide)), if_neg (e 19 (by decide) (by decide)), if_neg (e 20 (by decide) (by decide)), if_neg (e 21 (by decide) (by decide)), if_neg (e 22 (by decide) (by decide)), if_neg (e 23 (by decide) (by decide)), if_neg (e 24 (by decide) (by decide))], fun _ _ => rfl⟩
theorem t_goes_loop {κ : TS → Prop} {sg0 : TS} {s d g : Int} (hd : InR d) (hs : 0 ≤ s ∧ s ≤ 12) :
    ∀ (n : Nat) (k : Int) (c : Int) (l : List Int) (sg : TS), 0 ≤ k → k + n = s → sg.1 33 = l.length → LsI (sg.2 26) l → l.length + n ≤ 1000 → (∀ j, j ≠ 33 → sg.1 j = sg0.1 j) → (∀ j, j ≠ 26 → sg.2 j = sg0.2 j) →
      (∀ sg1 : TS, sg1.1 33 = (l ++ rCells (stp d) n c).length → LsI (sg1.2 26) (l ++ rCells (stp d) n c) → (∀ j, j ≠ 33 → sg1.1 j = sg0.1 j) → (∀ j, j ≠ 26 → sg1.2 j = sg0.2 j) → P_X5_goes_66 κ sg1 s d g (rEnd (stp d) n c)) →
      L_X5_goes_16 (fun sg x1 x2 x3 x4 => P_X5_goes_66 κ sg x1 x2 x3 x4) κ (n + 1) sg s d g c k := by
  intro n
  induction n with
  | zero =>
    intro k c l sg h0 h1 h33 h26 hb f1 f2 hk
    refine ⟨⟨by omega, by omega⟩, ⟨by omega, by omega⟩, pIf_neg (by omega) (hk sg ?_ ?_ f1 f2)⟩
    · unfold rCells; rw [List.append_nil]; exact h33
    · unfold rCells; rw [List.append_nil]; exact h26
  | succ n ih =>
    intro k c l sg h0 h1 h33 h26 hb f1 f2 hk
    refine ⟨⟨by omega, by omega⟩, ⟨by omega, by omega⟩, pIf_pos (by omega) (t_dxj hd (t_dyj hd ⟨⟨by omega, by omega⟩, ?_⟩))⟩
    have e : l ++ rCells (stp d) (n + 1) c = (l ++ [c + stp d]) ++ rCells (stp d) n (c + stp d) := by
      show l ++ (c + stp d) :: rCells (stp d) n (c + stp d) = _
      simp
    rw [e] at hk
    have hl : (l ++ [c + stp d]).length = l.length + 1 := by simp
    refine ih (k + 1) (c + stp d) (l ++ [c + stp d]) _ (by omega) (by omega) ?_ ?_ (by omega) (fun j hj => ?_) (fun j hj => ?_) hk
    · show sg.1 33 + 1 = _
      rw [h33, hl]; omega
    · show LsI (uI (sg.2 26) (sg.1 33) (c + stp d)) _
      rw [h33]; exact h26.push
    · show (if j = 33 then _ else sg.1 j) = _
      rw [if_neg hj]; exact f1 j hj
    · show (if j = 26 then _ else sg.2 j) = _
      rw [if_neg hj]; exact f2 j hj
theorem t_goes {κ : TS → Prop} {sg : TS} {R : RR} {s d g : Int} (hR : TwR sg R) (hd : InR d) (hs : 0 ≤ s ∧ s ≤ 12) (hg : g = 0 ∨ g = 1) (hc : 1 ≤ R.2.1.length ∧ R.2.1.length + 12 ≤ 1000) (hl : R.2.2.1.length < 100) (ht : R.2.2.2.1.length < 60)
    (hk : ∀ sg1, FrG sg sg1 → TwR sg1 (rGoes R s d g) → κ sg1) : P_X5_goes κ sg s d g := by
  obtain ⟨⟨n1, n2, n3, n4, n5⟩, a1, a2, a3, a4, a5, a6, a7⟩ := hR
  refine ⟨⟨by omega, by omega⟩, s.toNat + 1, ?_⟩
  have ec : sg.2 26 (sg.1 33 - 1) = lastC R.2.1 := by
    have h := a2 (R.2.1.length - 1) (by omega)
    have e9 : ((R.2.1.length - 1 : Nat) : Int) = (R.2.1.length : Int) - 1 := by omega
    rw [e9] at h
    rw [n2]; exact h
  rw [ec]
  refine t_goes_loop (sg0 := sg) hd hs s.toNat 0 (lastC R.2.1) R.2.1 sg (by decide) (by omega) n2 a2 (by omega) (fun _ _ => rfl) (fun _ _ => rfl) (fun sg1 g1 g2 g3 g4 => ?_)
  have e34 : sg1.1 34 = R.2.2.1.length := by rw [g3 34 (by decide)]; exact n3
  have e35 : sg1.1 35 = R.2.2.2.1.length := by rw [g3 35 (by decide)]; exact n4
  have b3 : LsI (uI (sg1.2 27) (sg1.1 34) s) ((R.2.2.1 ++ [(s, d, g)]).map (·.1)) := by
    rw [e34, g4 27 (by decide), List.map_append]
    have := a3.push (v := s)
    rw [List.length_map] at this; exact this
  have b4 : LsI (uI (sg1.2 28) (sg1.1 34) d) ((R.2.2.1 ++ [(s, d, g)]).map (·.2.1)) := by
    rw [e34, g4 28 (by decide), List.map_append]
    have := a4.push (v := d)
    rw [List.length_map] at this; exact this
  have b5 : LsI (uI (sg1.2 30) (sg1.1 34) g) ((R.2.2.1 ++ [(s, d, g)]).map (·.2.2)) := by
    rw [e34, g4 30 (by decide), List.map_append]
    have := a5.push (v := g)
    rw [List.length_map] at this; exact this
  have nl : sg1.1 34 + 1 = (R.2.2.1 ++ [(s, d, g)]).length := by rw [e34, List.length_append]; simp
  refine ⟨⟨by omega, by omega⟩, hg, by rcases hg with rfl | rfl <;> decide, fun q => ?_, fun q => ⟨⟨by show 0 ≤ sg1.1 35; omega, by show sg1.1 35 < 60; omega⟩, ?_⟩⟩
  · subst q
    refine hk _ ⟨fun j hj => ?_, fun j hj => ?_⟩ ⟨⟨?_, ?_, ?_, ?_, ?_⟩, ?_, ?_, ?_, ?_, ?_, ?_, ?_⟩
    · show (if j = 34 then _ else sg1.1 j) = sg.1 j
      rw [if_neg (by omega)]; exact g3 j (by omega)
    · show (if j = 30 then _ else if j = 28 then _ else if j = 27 then _ else sg1.2 j) = sg.2 j
      rw [if_neg (by omega), if_neg (by omega), if_neg (by omega)]; exact g4 j (by omega)
    · show sg1.1 32 = _
      rw [g3 32 (by decide)]; exact n1
    · exact g1
    · exact nl
    · show sg1.1 35 = ((R.2.2.2.1 ++ []).length : Int)
      rw [List.append_nil]; exact e35
    · show sg1.1 38 = _
      rw [g3 38 (by decide)]; exact n5
    · show LsI (sg1.2 25) _
      rw [g4 25 (by decide)]; exact a1
    · exact g2
    · exact b3
    · exact b4
    · exact b5
    · show LsI (sg1.2 29) (R.2.2.2.1 ++ [])
      rw [g4 29 (by decide), List.append_nil]; exact a6
    · intro k h0 h1
      show sg1.2 31 k = _
      rw [g4 31 (by decide)]; exact a7 k h0 h1
  · have hg1 : g = 1 := hg.resolve_left q
    have eT : (if g = 0 then [] else [rEnd (stp d) s.toNat (lastC R.2.1)]) = [rEnd (stp d) s.toNat (lastC R.2.1)] := if_neg q
    refine hk _ ⟨fun j hj => ?_, fun j hj => ?_⟩ ⟨⟨?_, ?_, ?_, ?_, ?_⟩, ?_, ?_, ?_, ?_, ?_, ?_, ?_⟩
    · show (if j = 35 then _ else if j = 34 then _ else sg1.1 j) = sg.1 j
      rw [if_neg (by omega), if_neg (by omega)]; exact g3 j (by omega)
    · show (if j = 29 then _ else if j = 30 then _ else if j = 28 then _ else if j = 27 then _ else sg1.2 j) = sg.2 j
      rw [if_neg (by omega), if_neg (by omega), if_neg (by omega), if_neg (by omega)]; exact g4 j (by omega)
    · show sg1.1 32 = _
      rw [g3 32 (by decide)]; exact n1
    · exact g1
    · exact nl
    · show sg1.1 35 + 1 = ((R.2.2.2.1 ++ (if g = 0 then [] else [rEnd (stp d) s.toNat (lastC R.2.1)])).length : Int)
      rw [eT, e35]; simp
    · show sg1.1 38 = _
      rw [g3 38 (by decide)]; exact n5
    · show LsI (sg1.2 25) _
      rw [g4 25 (by decide)]; exact a1
    · exact g2
    · exact b3
    · exact b4
    · exact b5
    · show LsI (uI (sg1.2 29) (sg1.1 35) (rEnd (stp d) s.toNat (lastC R.2.1))) (R.2.2.2.1 ++ (if g = 0 then [] else [rEnd (stp d) s.toNat (lastC R.2.1)]))
      rw [eT, e35, g4 29 (by decide)]; exact a6.push
    · intro k h0 h1
      show sg1.2 31 k = _
      rw [g4 31 (by decide)]; exact a7 k h0 h1
