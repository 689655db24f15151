set_option maxRecDepth 100000
/-! the component lays a way on its route -/
def XtH (h h1 : AH) : Prop := ∀ (q : Nat) (e : AE), h q = some e → h1 q = some e
theorem XtH.refl (h : AH) : XtH h h := fun _ _ w => w
theorem XtH.trans {a b c : AH} (p : XtH a b) (q : XtH b c) : XtH a c := fun x e w => q x e (p x e w)
theorem XtH.ks {h h1 : AH} (p : XtH h h1) (sh : AE → Bool) : Ks sh h h1 := fun a e _ w => p a e w
/-- nothing lies at n and behind it -/
def WfH (h : AH) (n : Nat) : Prop := ∀ q, n ≤ q → h q = none
theorem WfH.snoc {h : AH} {n : Nat} (w : WfH h n) (e : AE) : WfH (up h n e) (n + 1) := fun q hq => by
  rw [up_ne (by omega)]; exact w q (by omega)
theorem WfH.ext {h : AH} {n : Nat} (w : WfH h n) (e : AE) : XtH h (up h n e) := fun q e1 t => by
  by_cases hq : q = n
  · subst hq; rw [w q (Nat.le_refl _)] at t; cases t
  · rw [up_ne hq]; exact t
def LgO (q : Int × Int × Int) : AE := .inr (10, [vI q.1, vI q.2.1, vI q.2.2])
def LgsOK (h : AH) (a : Int → Option Nat) (l : List (Int × Int × Int)) : Prop := ∀ i : Nat, i < l.length → ∃ b, a (i : Int) = some b ∧ h b = some (LgO (l.getD i (0, 0, 0)))
theorem LgsOK.ext {h h1 : AH} {a : Int → Option Nat} {l : List (Int × Int × Int)} (p : LgsOK h a l) (x : XtH h h1) : LgsOK h1 a l := fun i hi => by
  obtain ⟨b, e1, e2⟩ := p i hi
  exact ⟨b, e1, x _ _ e2⟩
theorem LgsOK.push {h : AH} {a : Int → Option Nat} {l : List (Int × Int × Int)} {b : Nat} {q : Int × Int × Int} (p : LgsOK h a l) (hb : h b = some (LgO q)) : LgsOK h (uI a (l.length : Int) (some b)) (l ++ [q]) := fun i hi => by
  rw [List.length_append] at hi
  have hi : i < l.length + 1 := hi
  by_cases e : i = l.length
  · subst e
    refine ⟨b, uIs _ _ _, ?_⟩
    rw [List.getD_eq_getElem?_getD, List.getElem?_append_right (Nat.le_refl _), Nat.sub_self]
    exact hb
  · obtain ⟨b1, e1, e2⟩ := p i (by omega)
    refine ⟨b1, by rw [uIn (by omega)]; exact e1, ?_⟩
    rw [List.getD_eq_getElem?_getD, List.getElem?_append_left (by omega), ← List.getD_eq_getElem?_getD]
    exact e2
/-- the Guide's arrays stand for the route, but for the longest way -/
def GdR (h : AH) (σ : GS) (R : RR) : Prop := (σ.1 8 = R.1.length ∧ σ.1 10 = R.2.1.length ∧ σ.1 12 = R.2.2.2.1.length ∧ σ.1 14 = R.2.2.1.length) ∧ LsI (σ.2.1 7) R.1 ∧ LsI (σ.2.1 9) R.2.1 ∧ LsI (σ.2.1 11) R.2.2.2.1 ∧ LgsOK h σ.2.2 R.2.2.1
/-- what laying a way leaves as it was -/
def FrL (σ σ1 : GS) : Prop := (∀ j, j ≠ 10 → j ≠ 12 → j ≠ 14 → σ1.1 j = σ.1 j) ∧ (∀ j, j ≠ 9 → j ≠ 11 → σ1.2.1 j = σ.2.1 j)
theorem FrL.refl (σ : GS) : FrL σ σ := ⟨fun _ _ _ _ => rfl, fun _ _ _ => rfl⟩
theorem FrL.trans {a b c : GS} (p : FrL a b) (q : FrL b c) : FrL a c := ⟨fun j h1 h2 h3 => (q.1 j h1 h2 h3).trans (p.1 j h1 h2 h3), fun j h1 h2 => (q.2 j h1 h2).trans (p.2 j h1 h2)⟩
section CL
variable {K : KT} {χ : QxT} {gd tr n0 z : Nat} {h : AH}
theorem q_cells {κ : AH → Nat → Nat → Prop} {k106 : AH → Nat → Nat → Int → Int → Int → Prop} {σ0 : GS} {s d g : Int} (hz : kz K ≤ gd) (hd : InR d) (hs : 0 ≤ s ∧ s ≤ 12) (hg : 0 ≤ g ∧ g < 3) (hL : σ0.2.1 23 g = s) (hD : σ0.2.1 24 g = d) :
    ∀ (n : Nat) (k x y : Int) (l : List Int) (σ : GS), 0 ≤ k → k + n = s → σ.1 10 = l.length → LsI (σ.2.1 9) l → l.length + n ≤ 865 → (∀ j, j ≠ 10 → σ.1 j = σ0.1 j) → (∀ j, j ≠ 9 → σ.2.1 j = σ0.2.1 j) → σ.2.2 = σ0.2.2 →
      (∀ σ1 : GS, σ1.1 10 = (l ++ rCells (stp d) n (100 * x + y)).length → LsI (σ1.2.1 9) (l ++ rCells (stp d) n (100 * x + y)) → (∀ j, j ≠ 10 → σ1.1 j = σ0.1 j) → (∀ j, j ≠ 9 → σ1.2.1 j = σ0.2.1 j) → σ1.2.2 = σ0.2.2 → k106 (gv gd tr σ1 h) n0 z (x + n * jdx d) (y + n * jdy d) g) →
      L_X8_layWay_28 K gd k106 κ χ (n + 1) (gv gd tr σ h) n0 z x y g k := by
  intro n
  induction n with
  | zero =>
    intro k x y l σ h0 h1 e10 e9 hl f1 f2 f3 hk
    refine q_ref 1 (by decide) (q_wref 2 (by decide) (q_ld 23 3 (by decide) hg ?_))
    rw [f2 23 (by decide), hL]
    refine ⟨⟨by omega, by omega⟩, ⟨by omega, by omega⟩, pIf_neg (by omega) ?_⟩
    have := hk σ (by unfold rCells; rw [List.append_nil]; exact e10) (by unfold rCells; rw [List.append_nil]; exact e9) f1 f2 f3
    rw [show x + ((0 : Nat) : Int) * jdx d = x by simp, show y + ((0 : Nat) : Int) * jdy d = y by simp] at this
    exact this
  | succ n ih =>
    intro k x y l σ h0 h1 e10 e9 hl f1 f2 f3 hk
    have gd' : σ.2.1 24 g = d := by rw [f2 24 (by decide)]; exact hD
    refine q_ref 1 (by decide) (q_wref 2 (by decide) (q_ld 23 3 (by decide) hg ?_))
    rw [f2 23 (by decide), hL]
    refine ⟨⟨by omega, by omega⟩, ⟨by omega, by omega⟩, pIf_pos (by omega) ?_⟩
    refine q_ref 1 (by decide) (q_wref 3 (by decide) (q_ld 24 3 (by decide) hg ?_))
    rw [gd']
    refine c_stepX hd (q_ref 1 (by decide) (q_wref 3 (by decide) (q_ld 24 3 (by decide) hg ?_)))
    rw [gd']
    refine c_stepY hd (q_ref 7 (by decide) (q_get (by decide) (q_st 9 865 (by decide) hz (by rw [e10]; omega) (q_get (by decide) (q_put (by decide) hz ?_)))))
    have e : 100 * (x + jdx d) + (y + jdy d) = 100 * x + y + stp d := by unfold stp; omega
    have e2 : l ++ rCells (stp d) (n + 1) (100 * x + y) = (l ++ [100 * (x + jdx d) + (y + jdy d)]) ++ rCells (stp d) n (100 * (x + jdx d) + (y + jdy d)) := by
      show l ++ (100 * x + y + stp d) :: rCells (stp d) n (100 * x + y + stp d) = _
      rw [e]; simp
    rw [e2] at hk
    have hl1 : (l ++ [100 * (x + jdx d) + (y + jdy d)]).length = l.length + 1 := by simp
    refine ih (k + 1) (x + jdx d) (y + jdy d) (l ++ [100 * (x + jdx d) + (y + jdy d)]) _ (by omega) (by omega) ?_ ?_ (by omega) (fun j hj => ?_) (fun j hj => ?_) f3 (fun σ1 g1 g2 g3 g4 g5 => ?_)
    · show σ.1 10 + 1 = _
      rw [e10, hl1]; omega
    · show LsI (uI (σ.2.1 9) (σ.1 10) (100 * (x + jdx d) + (y + jdy d))) _
      rw [e10]; exact e9.push
    · show (if j = 10 then _ else σ.1 j) = _
      rw [if_neg hj]; exact f1 j hj
    · show (if j = 9 then _ else σ.2.1 j) = _
      rw [if_neg hj]; exact f2 j hj
    · have := hk σ1 g1 g2 g3 g4 g5
      have m1 := mul_step x (n + 1 : Int) (jdx d)
      have m2 := mul_step y (n + 1 : Int) (jdy d)
      have e9 : (n + 1 : Int) - 1 = n := by omega
      rw [e9] at m1 m2
      rw [m1, m2]; exact this
theorem q_leg1 {κ : AH → Nat → Nat → Prop} {k13 : AH → Nat → Nat → Int → Int → Int → Prop} {k209 : AH → Nat → Nat → Prop} {σ : GS} {R : RR} {s d g t x y : Int} (hz : kz K ≤ gd) (hwf : WfH h n0) (hgd : gd + 13 ≤ n0) (hd : InR d) (hs : 0 ≤ s ∧ s ≤ 12) (hg : 0 ≤ g ∧ g < 3) (hL : σ.2.1 23 g = s) (hD : σ.2.1 24 g = d) (ht : σ.1 22 = t) (htr : 0 ≤ t ∧ t ≤ 2)
    (hR : GdR h σ R) (hc : lastC R.2.1 = 100 * x + y) (hcl : R.2.1.length + 12 ≤ 865) (hll : R.2.2.1.length < 72) (htl : g < t → R.2.2.2.1.length < 48) (hkn : n0 + 1 ≤ kn K ∧ z + 3 ≤ kw K)
    (hk : ∀ σ1 h1, FrL σ σ1 → XtH h h1 → WfH h1 (n0 + 1) → (∀ q, q < n0 → h1 q = h q) → GdR h1 σ1 (rGoes R s d (if g < t then 1 else 0)) → k13 (gv gd tr σ1 h1) (n0 + 1) (z + 3) (x + s * jdx d) (y + s * jdy d) (g + 1)) :
    ∃ f9 : Nat, L_X8_layWay_28 K gd (fun h n z x2 x3 x4 => P_X8_layWay_106 K gd k13 k209 κ χ h n z x2 x3 x4) κ χ f9 (gv gd tr σ h) n0 z x y g 0 := by
  obtain ⟨⟨n1, n2, n3, n4⟩, a1, a2, a3, a4⟩ := hR
  have es : ((s.toNat : Nat) : Int) = s := Int.toNat_of_nonneg hs.1
  refine ⟨s.toNat + 1, q_cells (σ0 := σ) hz hd hs hg hL hD s.toNat 0 x y R.2.1 σ (by decide) (by omega) n2 a2 (by omega) (fun _ _ => rfl) (fun _ _ => rfl) rfl (fun σ1 g1 g2 g3 g4 g5 => ?_)⟩
  rw [es]
  have eE : rEnd (stp d) s.toNat (lastC R.2.1) = 100 * (x + s * jdx d) + (y + s * jdy d) := by rw [hc, rEnd_eq, es]
  rw [← hc] at g1 g2
  have e14 : σ1.1 14 = R.2.2.1.length := by rw [g3 14 (by decide)]; exact n4
  have e12 : σ1.1 12 = R.2.2.2.1.length := by rw [g3 12 (by decide)]; exact n3
  have e8 : σ1.1 8 = R.1.length := by rw [g3 8 (by decide)]; exact n1
  have key : ∀ s0 : Int, (s0 = 0 ∨ s0 = 1) → s0 = (if g < t then 1 else 0) → P_X8_layWay_123 K gd k13 k209 κ χ (gv gd tr σ1 h) n0 z (x + s * jdx d) (y + s * jdy d) g s0 := by
    intro s0 hs0 es0
    rw [← es0] at hk
    refine q_ref 9 (by decide) (q_get (by decide) ⟨hkn.1, hkn.2, ?_⟩)
    rw [gv_upo (Or.inr hgd)]
    refine q_ref 1 (by decide) (q_wref 2 (by decide) (q_ld 23 3 (by decide) hg (q_ref 1 (by decide) (q_wref 3 (by decide) (q_ld 24 3 (by decide) hg ?_)))))
    rw [g4 23 (by decide), g4 24 (by decide), hL, hD]
    have hin : ∀ e : AE, gv gd tr σ1 (up h n0 e) n0 = some e := fun e => by rw [gv_out (Or.inr hgd), up_same]
    refine pPut_i (hin _) (by omega) ?_
    rw [gv_upo (Or.inr hgd), up_up]
    refine pPut_i (hin _) (by omega) ?_
    rw [gv_upo (Or.inr hgd), up_up]
    refine ⟨hs0, pPut_i (hin _) (by omega) ?_⟩
    rw [gv_upo (Or.inr hgd), up_up]
    have hx : XtH h (up h n0 (LgO (s, d, s0))) := hwf.ext _
    have hlow : ∀ q, q < n0 → up h n0 (LgO (s, d, s0)) q = h q := fun q hq => up_ne (by omega)
    refine q_lst hz (by rw [e14]; omega) (hin (LgO (s, d, s0))) (q_get (by decide) (q_put (by decide) hz ⟨by rcases hs0 with rfl | rfl <;> decide, fun q => ?_, fun q => ?_⟩))
    · subst q
      refine hk _ (up h n0 (LgO (s, d, 0))) ⟨fun j h1 h2 h3 => ?_, fun j h1 h2 => g4 j h1⟩ hx (hwf.snoc _) hlow ⟨⟨e8, g1, ?_, ?_⟩, ?_, g2, ?_, ?_⟩
      · show (if j = 14 then _ else σ1.1 j) = σ.1 j
        rw [if_neg h3]; exact g3 j h1
      · show σ1.1 12 = ((R.2.2.2.1 ++ []).length : Int)
        rw [List.append_nil]; exact e12
      · show σ1.1 14 + 1 = ((R.2.2.1 ++ [(s, d, (0 : Int))]).length : Int)
        rw [e14, List.length_append]; rfl
      · show LsI (σ1.2.1 7) R.1
        rw [g4 7 (by decide)]; exact a1
      · show LsI (σ1.2.1 11) (R.2.2.2.1 ++ [])
        rw [g4 11 (by decide), List.append_nil]; exact a3
      · show LgsOK _ (uI σ1.2.2 (σ1.1 14) (some n0)) (R.2.2.1 ++ [(s, d, 0)])
        rw [e14, g5]
        exact (a4.ext hx).push (up_same _ _ _)
    · have q1 : s0 = 1 := hs0.resolve_left q
      have hgt : g < t := Decidable.byContradiction (fun t9 => q (by rw [es0, if_neg t9]))
      have htl := htl hgt
      have e12' : (gS (gLg σ1 (uI σ1.2.2 (σ1.1 14) (some n0))) 14 ((gLg σ1 (uI σ1.2.2 (σ1.1 14) (some n0))).1 14 + 1)).1 12 = R.2.2.2.1.length := e12
      refine q_ref 8 (by decide) (q_get (by decide) (q_st 11 48 (by decide) hz (by rw [e12']; omega) (q_get (by decide) (q_put (by decide) hz ?_))))
      have eT : (if s0 = 0 then [] else [rEnd (stp d) s.toNat (lastC R.2.1)]) = [100 * (x + s * jdx d) + (y + s * jdy d)] := by rw [if_neg q, eE]
      refine hk _ (up h n0 (LgO (s, d, s0))) ⟨fun j h1 h2 h3 => ?_, fun j h1 h2 => ?_⟩ hx (hwf.snoc _) hlow ⟨⟨e8, g1, ?_, ?_⟩, ?_, g2, ?_, ?_⟩
      · show (if j = 12 then _ else if j = 14 then _ else σ1.1 j) = σ.1 j
        rw [if_neg h2, if_neg h3]; exact g3 j h1
      · show (if j = 11 then _ else σ1.2.1 j) = σ.2.1 j
        rw [if_neg h2]; exact g4 j h1
      · show σ1.1 12 + 1 = ((R.2.2.2.1 ++ (if s0 = 0 then [] else [rEnd (stp d) s.toNat (lastC R.2.1)])).length : Int)
        rw [eT, e12]; simp
      · show σ1.1 14 + 1 = ((R.2.2.1 ++ [(s, d, s0)]).length : Int)
        rw [e14, List.length_append]; rfl
      · show LsI (σ1.2.1 7) R.1
        rw [g4 7 (by decide)]; exact a1
      · show LsI (uI (σ1.2.1 11) (σ1.1 12) (100 * (x + s * jdx d) + (y + s * jdy d))) (R.2.2.2.1 ++ (if s0 = 0 then [] else [rEnd (stp d) s.toNat (lastC R.2.1)]))
        rw [eT, e12, g4 11 (by decide)]; exact a3.push
      · show LgsOK _ (uI σ1.2.2 (σ1.1 14) (some n0)) (R.2.2.1 ++ [(s, d, s0)])
        rw [e14, g5]
        exact (a4.ext hx).push (up_same _ _ _)
  refine q_ref 1 (by decide) (q_wget (k := 2) (by decide) ?_)
  show InR g ∧ InR (σ1.1 22) ∧ pIf (g < σ1.1 22) _ _
  rw [g3 22 (by decide), ht]
  refine ⟨⟨by omega, by omega⟩, ⟨by omega, by omega⟩, fun q => key 1 (Or.inr rfl) (if_pos q).symm, fun q => key 0 (Or.inl rfl) (if_neg q).symm⟩
end CL
