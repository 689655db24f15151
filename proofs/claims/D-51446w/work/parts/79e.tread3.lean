set_option maxRecDepth 100000
/-- inferred cells at which a missing post of a colour is -/
def rMissAt (f : Row) (c u : Int) : Prop := rAt f (u.tdiv 100) (u.tmod 100) ≠ -1 ∧ rPf f (rAt f (u.tdiv 100) (u.tmod 100)) 2 = c ∧ ¬ rPf f (rAt f (u.tdiv 100) (u.tmod 100)) 4 = 0
def rRight (f : Row) (c : Int) : List Int → Int
  | [] => 0
  | u :: t => (if rAt f (u.tdiv 100) (u.tmod 100) ≠ -1 ∧ rPf f (rAt f (u.tdiv 100) (u.tmod 100)) 2 = c ∧ ¬ rPf f (rAt f (u.tdiv 100) (u.tmod 100)) 4 = 0 then 1 else 0) + rRight f c t
theorem cell_div {f : Row} (hr : RowOK f) {u : Int} (h : CellOK f u) : (0 ≤ u ∧ u < 2000) ∧ rFree f (u.tdiv 100) (u.tmod 100) ∧ (0 ≤ u.tdiv 100 ∧ u.tdiv 100 < 20) ∧ (0 ≤ u.tmod 100 ∧ u.tmod 100 < 20) ∧ u = 100 * u.tdiv 100 + u.tmod 100 := by
  have hw := hr.w; have hh := hr.h
  obtain ⟨x, y, e, hf⟩ := h
  have ho := hf.1
  unfold rOn at ho
  have h0 : 0 ≤ u := by omega
  have d1 : u.tdiv 100 = x := by rw [Int.tdiv_eq_ediv_of_nonneg h0]; omega
  have d2 : u.tmod 100 = y := by rw [Int.tmod_eq_emod_of_nonneg h0]; omega
  rw [d1, d2]
  exact ⟨⟨h0, by omega⟩, hf, ⟨by omega, by omega⟩, ⟨by omega, by omega⟩, e⟩
section TU
variable {κ : Int → TS → Prop} {f : Row} {sg : TS}
theorem t_right {c : Int} {l : List Int} (hr : RowOK f) (hf : sg.2 0 = f) (hc : InR c) (h35 : sg.1 35 = l.length) (hl : LsI (sg.2 29) l) (h60 : l.length ≤ 48) (hcl : ∀ u ∈ l, CellOK f u) (hk : κ (rRight f c l) sg) : P_X5_right κ sg c := by
  subst hf
  have hm := hr.many
  have loop : ∀ (t p : List Int) (a : Int), l = p ++ t → κ (a + rRight (sg.2 0) c t) sg → L_X5_right_4 (fun sg x2 => P_X5_right_71 κ sg x2) κ (t.length + 1) sg c a p.length := by
    intro t
    induction t with
    | nil =>
      intro p a e hq
      rw [List.append_nil] at e
      subst e
      refine ⟨⟨by omega, by omega⟩, ⟨by omega, by omega⟩, pIf_neg (by omega) ?_⟩
      rw [show a + rRight (sg.2 0) c [] = a by show a + 0 = a; omega] at hq; exact hq
    | cons u t ih =>
      intro p a e hq
      have hlen : l.length = p.length + (t.length + 1) := by rw [e, List.length_append, List.length_cons]
      have hu := hcl u (by rw [e]; exact List.mem_append.mpr (Or.inr List.mem_cons_self))
      obtain ⟨b1, b2, b3, b4, b5⟩ := cell_div hr hu
      have eu : sg.2 29 (p.length : Int) = u := by
        rw [hl p.length (by omega), e, List.getD_eq_getElem?_getD, List.getElem?_append_right (Nat.le_refl _), Nat.sub_self]; rfl
      have nx : ∀ v : Int, v = (if rAt (sg.2 0) (u.tdiv 100) (u.tmod 100) ≠ -1 ∧ rPf (sg.2 0) (rAt (sg.2 0) (u.tdiv 100) (u.tmod 100)) 2 = c ∧ ¬ rPf (sg.2 0) (rAt (sg.2 0) (u.tdiv 100) (u.tmod 100)) 4 = 0 then 1 else 0) → L_X5_right_4 (fun sg x2 => P_X5_right_71 κ sg x2) κ (t.length + 1) sg c (a + v) (p.length + 1) := fun v ev => by
        have := ih (p ++ [u]) (a + v) (by rw [e]; simp) (by
          have e9 : a + rRight (sg.2 0) c (u :: t) = a + v + rRight (sg.2 0) c t := by
            show a + ((if rAt (sg.2 0) (u.tdiv 100) (u.tmod 100) ≠ -1 ∧ rPf (sg.2 0) (rAt (sg.2 0) (u.tdiv 100) (u.tmod 100)) 2 = c ∧ ¬ rPf (sg.2 0) (rAt (sg.2 0) (u.tdiv 100) (u.tmod 100)) 4 = 0 then 1 else 0) + rRight (sg.2 0) c t) = _
            rw [← ev]; omega
          rw [e9] at hq; exact hq)
        rw [show ((p ++ [u]).length : Int) = (p.length : Int) + 1 by rw [List.length_append]; rfl] at this
        exact this
      have no : ¬ (rAt (sg.2 0) (u.tdiv 100) (u.tmod 100) ≠ -1 ∧ rPf (sg.2 0) (rAt (sg.2 0) (u.tdiv 100) (u.tmod 100)) 2 = c ∧ ¬ rPf (sg.2 0) (rAt (sg.2 0) (u.tdiv 100) (u.tmod 100)) 4 = 0) → L_X5_right_4 (fun sg x2 => P_X5_right_71 κ sg x2) κ (t.length + 1) sg c a (p.length + 1) := fun q => by
        have := nx 0 (by rw [if_neg q])
        rw [Int.add_zero] at this; exact this
      refine ⟨⟨by omega, by omega⟩, ⟨by omega, by omega⟩, pIf_pos (by omega) ⟨⟨by omega, by omega⟩, by rw [eu]; exact ⟨by omega, by omega⟩, ?_⟩⟩
      rw [eu]
      have ha := rAt_inr hr (u.tdiv 100) (u.tmod 100)
      refine t_postAt hr ⟨by omega, by omega⟩ ⟨by omega, by omega⟩ ⟨⟨by omega, by omega⟩, fun q => no (fun t => t.1 q), fun q => ?_⟩
      have hp : 0 ≤ rAt (sg.2 0) (u.tdiv 100) (u.tmod 100) ∧ rAt (sg.2 0) (u.tdiv 100) (u.tmod 100) < sg.2 0 4 := by
        rcases rAt_r hr (u.tdiv 100) (u.tmod 100) with ⟨t, -⟩ | ⟨t1, t2, -⟩
        · exact absurd t q
        · exact ⟨t1, t2⟩
      have hcol := hr.colour _ hp.1 hp.2
      refine t_of ⟨hp.1, by omega, by decide, by decide⟩ ⟨⟨by omega, by omega⟩, hc, fun q2 => t_stands hr hp ⟨b2i_inr _, fun q3 => ?_, fun q3 => no (fun t => t.2.2 (b2i_nz.mp q3))⟩, fun q2 => no (fun t => q2 t.2.1)⟩
      exact nx 1 (by rw [if_pos ⟨q, q2, b2i_z.mp q3⟩])
  exact ⟨l.length + 1, loop l [] 0 rfl (by rw [Int.zero_add]; exact hk)⟩
def rColour (f : Row) (c w : Int) : Int := if w = 0 then rPosts f c 0 else if w = 1 then rPosts f c 1 else if w = 2 then rBegin f c else if w = 3 then b2i (rCmp f c) else if w = 4 then rMet f c else if w = 5 then ((rRoute f (rBegin f c)).1.2.2.2.1.length : Int) else rRight f c (rRoute f (rBegin f c)).1.2.2.2.1
theorem rRouteB {f : Row} (hr : RowOK f) (c : Int) : (rRoute f (rBegin f c)).1.1.length ≤ 24 ∧ (rRoute f (rBegin f c)).1.2.1.length ≤ 865 ∧ (rRoute f (rBegin f c)).1.2.2.2.1.length ≤ 48 ∧ (∀ u ∈ (rRoute f (rBegin f c)).1.2.2.2.1, CellOK f u) ∧ (∀ u ∈ (rRoute f (rBegin f c)).1.2.1, CellOK f u) ∧ ∀ k ∈ (rRoute f (rBegin f c)).1.1, 0 ≤ k ∧ k < f 4 := by
  rcases rBegin_t hr c with h | ⟨h1, h2, h3, h4⟩
  · have : rRoute f (rBegin f c) = (([], [], [], [], 0), 1, -1) := by unfold rRoute; rw [if_pos (Or.inl h)]
    rw [this]; exact ⟨by decide, by decide, by decide, fun u t => absurd t List.not_mem_nil, fun u t => absurd t List.not_mem_nil, fun u t => absurd t List.not_mem_nil⟩
  · have h := (rRoute_end hr ⟨h1, h2⟩ h4).2
    have hl := rRoute_len hr ⟨h1, h2⟩
    obtain ⟨x, y, hC⟩ := h.2.2.1
    exact ⟨hl.1, hl.2.1, hl.2.2.1, hC.2.2.2.2.2.2, hC.1.1, fun k t => ⟨(h.2.1 k t).1, (h.2.1 k t).2.1⟩⟩
theorem t_walkB {κ : TS → Prop} {c : Int} (hr : RowOK f) (hf : sg.2 0 = f) (hc : InR c) (hk : ∀ sg1, FrW sg sg1 → TwR sg1 (rRoute f (rBegin f c)).1 → κ sg1) : P_X5_begin (fun r sg => P_X5_walk κ sg r) sg c := by
  subst hf
  refine t_begin hr hc (t_walk hr ?_ (fun sg1 g1 g2 _ _ => hk sg1 g1 g2))
  rcases rBegin_t hr c with h | ⟨h1, h2, -⟩
  · exact Or.inl h
  · exact Or.inr ⟨h1, h2⟩
theorem t_colour {c w : Int} (hr : RowOK f) (hf : sg.2 0 = f) (hc : InR c) (hw : InR w) (h1 : ¬ (0 ≤ c ∧ c < 4) → ∀ sg1, FrT sg sg1 → sg1.1 7 = 1 → κ 0 sg1) (h2 : (0 ≤ c ∧ c < 4) → ¬ (0 ≤ w ∧ w ≤ 6) → ∀ sg1, FrT sg sg1 → sg1.1 7 = 2 → κ 0 sg1)
    (h0 : (0 ≤ c ∧ c < 4) → (0 ≤ w ∧ w ≤ 6) → ∀ sg1, FrT sg sg1 → sg1.1 7 = 0 → κ (rColour f c w) sg1) : P_X5_colour κ sg c w := by
  have go : ∀ s0 : Int, s0 = b2i (¬ (0 ≤ w ∧ w ≤ 6)) → P_X5_colour_20 κ sg c w s0 (b2i (¬ (0 ≤ c ∧ c < 4))) := fun s0 es => by
    subst es
    refine t_fails (b2i_inr _) (b2i_inr _) (by decide) (fun q => ⟨by decide, pIf_neg (by decide) (h1 (b2i_nz.mp q) _ (ft7 _ _) rfl)⟩) (fun q1 q2 => ⟨by decide, pIf_neg (by decide) (h2 (Decidable.not_not.mp (b2i_z.mp q1)) (b2i_nz.mp q2) _ (ft7 _ _) rfl)⟩) (fun _ _ q => absurd rfl q) (fun q1 q2 _ => ⟨by decide, pIf_pos rfl ?_⟩)
    have g1 := Decidable.not_not.mp (b2i_z.mp q1)
    have g2 := Decidable.not_not.mp (b2i_z.mp q2)
    have hB := rRouteB hr c
    refine t_walkB (sg := setS sg 7 0) hr hf hc (fun sg1 t t2 => ?_)
    have e0 : sg1.2 0 = f := (t.2 0 (by omega)).trans hf
    have hr1 : RowOK (sg1.2 0) := by rw [e0]; exact hr
    have k1 : ∀ sg2, FrW sg1 sg2 → κ (rColour f c w) sg2 := fun sg2 u => h0 g1 g2 sg2 ((ft7 sg 0).trans (t.ft.trans u.ft)) (u.s7.trans t.s7)
    have k0 := k1 sg1 (FrW.refl _)
    unfold rColour at k0 k1
    refine ⟨hw, fun e => ?_, fun e00 => ⟨fun e => ?_, fun e1 => ⟨fun e => ?_, fun e2 => ⟨fun e => ?_, fun e3 => ⟨fun e => ?_, fun e4 => ⟨fun e => ?_, fun e5 => ?_⟩⟩⟩⟩⟩⟩
    · rw [if_pos e] at k0
      exact t_posts hr1 hc (by decide) (by rw [e0]; exact k0)
    · rw [if_neg e00, if_pos e] at k0
      exact t_posts hr1 hc (by decide) (by rw [e0]; exact k0)
    · rw [if_neg e00, if_neg e1, if_pos e] at k0
      exact t_begin hr1 hc (by rw [e0]; exact k0)
    · simp only [if_neg e00, if_neg e1, if_neg e2, if_pos e] at k1
      refine t_isComplete hr e0 hc (fun sg2 u => ?_)
      have := k1 sg2 u
      refine ⟨b2i_inr _, fun q => by rw [q] at this; exact this, fun q => ?_⟩
      have e1 : b2i (rCmp f c) = 1 := by rcases b2i_cases (rCmp f c) with t | t; exact absurd t q; exact t
      rw [e1] at this; exact this
    · rw [if_neg e00, if_neg e1, if_neg e2, if_neg e3, if_pos e] at k0
      rw [t2.1.1]; exact k0
    · rw [if_neg e00, if_neg e1, if_neg e2, if_neg e3, if_neg e4, if_pos e] at k0
      rw [t2.1.2.2.2.1]; exact k0
    · rw [if_neg e00, if_neg e1, if_neg e2, if_neg e3, if_neg e4, if_neg e5] at k0
      exact t_right hr e0 hc t2.1.2.2.2.1 t2.2.2.2.2.2.2.1 hB.2.2.1 hB.2.2.2.1 k0
  refine t_noColour hc (t_isIn hw (by decide) (by decide) ⟨b2i_inr _, fun q => go 1 ?_, fun q => go 0 ?_⟩)
  · rw [b2i, if_pos (b2i_z.mp q)]
  · rw [b2i, if_neg (fun t => t (b2i_nz.mp q))]
/-- the bits of the posts met: n from k on -/
def rBits (ps : List Int) : Nat → Int → Int64 → Int64
  | 0, _, b => b
  | n + 1, k, b => rBits ps n (k + 1) (if k ∈ ps then b + lshl 1 k else b)
theorem t_met {κ : Int64 → TS → Prop} {c : Int} (hr : RowOK f) (hf : sg.2 0 = f) (hc : InR c) (h1 : ¬ (0 ≤ c ∧ c < 4) → ∀ sg1, FrT sg sg1 → sg1.1 7 = 1 → κ 0 sg1) (h0 : (0 ≤ c ∧ c < 4) → ∀ sg1, FrT sg sg1 → sg1.1 7 = 0 → κ (rBits (rRoute f (rBegin f c)).1.1 24 0 0) sg1) : P_X5_met κ sg c := by
  refine t_noColour hc (t_fails (b2i_inr _) (by decide) (by decide) (fun q => ⟨by decide, pIf_neg (by decide) (h1 (b2i_nz.mp q) _ (ft7 _ _) rfl)⟩) (fun _ q => absurd rfl q) (fun _ _ q => absurd rfl q) (fun q1 _ _ => ⟨by decide, pIf_pos rfl ?_⟩))
  have g1 := Decidable.not_not.mp (b2i_z.mp q1)
  refine t_walkB (sg := setS sg 7 0) hr hf hc (fun sg1 t t2 => ?_)
  have k0 := h0 g1 sg1 ((ft7 sg 0).trans t.ft) t.s7
  have a7 := t2.2.2.2.2.2.2.2
  generalize (rRoute f (rBegin f c)).1.1 = ps at *
  have loop : ∀ (n : Nat) (k : Int) (b : Int64), 0 ≤ k → k + n = 24 → κ (rBits ps n k b) sg1 → L_X5_met_29 (fun sg x2 => P_X5_met_59 κ sg x2) κ (n + 1) sg1 b k := by
    intro n
    induction n with
    | zero => intro k b h0 h1 hq; exact ⟨⟨by omega, by omega⟩, pIf_neg (by omega) hq⟩
    | succ n ih =>
      intro k b h0 h1 hq
      have ak := a7 k h0 (by omega)
      unfold rBits at hq
      refine ⟨⟨by omega, by omega⟩, pIf_pos (by omega) ⟨⟨h0, by omega⟩, by rw [ak]; exact b2i_inr _, fun q => ?_, fun q => ?_⟩⟩
      · rw [ak] at q
        rw [if_neg (b2i_z.mp q)] at hq
        exact ih (k + 1) b (by omega) (by omega) hq
      · rw [ak] at q
        rw [if_pos (b2i_nz.mp q)] at hq
        exact ih (k + 1) _ (by omega) (by omega) hq
  exact ⟨25, loop 24 0 0 (by decide) (by decide) k0⟩
def rStop (f : Row) (x y d s : Int) : Int := if ¬ rOn f (x + s * jdx d) (y + s * jdy d) then 1 else if rBlk f (x + s * jdx d) (y + s * jdy d) = 1 then 2 else 3
/-- what stops the walk along a post's arrow -/
def rWhyV (f : Row) (p w : Int) : Int :=
  if ¬ rPf f p 4 = 0 then (if w = 0 then 5 else -1) else if rPf f p 3 = 4 then (if w = 0 then 3 else -1) else
  if wNext (rFind f p 0 0) = -1 then (if w = 0 then 4 else if w = 1 then rStop f (rPf f p 0) (rPf f p 1) (rPf f p 3) ((rLegO f p).1 + 1) else (rLegO f p).1) else
  if w = 0 then wMany (rFind f p 0 0) else if w = 1 then wNext (rFind f p 0 0) else if wMany (rFind f p 0 0) = 0 then wLast (rFind f p 0 0) else rCell f p + wK1 (rFind f p 0 0) * (100 * jdx (rPf f p 3) + jdy (rPf f p 3))
theorem t_stopped {p r : Int} (hr : RowOK f) (hf : sg.2 0 = f) (hp : 0 ≤ p ∧ p < f 4) (hrr : r = 0 ∨ r = 1) (hk : ∀ sg1, FrW sg sg1 → κ (if r = 0 then (rLegO f p).1 else rStop f (rPf f p 0) (rPf f p 1) (rPf f p 3) ((rLegO f p).1 + 1)) sg1) : P_X5_stopped κ sg p r := by
  subst hf
  have hm := hr.many
  have hon := hr.on p hp.1 hp.2; have hW := hr.w; have hH := hr.h; have har := hr.arrow p hp.1 hp.2
  unfold rOn at hon
  have hb := rLeg0_b hr (rPf (sg.2 0) p 0) (rPf (sg.2 0) p 1) (rPf (sg.2 0) p 3) p
  refine t_of ⟨hp.1, by omega, by decide, by decide⟩ (t_of ⟨hp.1, by omega, by decide, by decide⟩ (t_of ⟨hp.1, by omega, by decide, by decide⟩ (t_leg hr ⟨by omega, by omega⟩ hp ⟨by omega, by omega⟩ ⟨by omega, by omega⟩ ?_)))
  have fw : ∀ a b c : Int, FrW sg (sL sg a b c) := fun a b c => ⟨fun j h _ => by
    show (if j = 15 then a else if j = 16 then b else if j = 17 then c else sg.1 j) = sg.1 j
    rw [if_neg (by omega), if_neg (by omega), if_neg (by omega)], fun _ _ => rfl⟩
  have k0 := hk _ (fw (rLeg0 (sg.2 0) (rPf (sg.2 0) p 0) (rPf (sg.2 0) p 1) (rPf (sg.2 0) p 3) p).1 (rLeg0 (sg.2 0) (rPf (sg.2 0) p 0) (rPf (sg.2 0) p 1) (rPf (sg.2 0) p 3) p).2.1 (rLeg0 (sg.2 0) (rPf (sg.2 0) p 0) (rPf (sg.2 0) p 1) (rPf (sg.2 0) p 3) p).2.2)
  refine ⟨by rcases hrr with rfl | rfl <;> decide, fun q => by rw [if_pos q] at k0; exact k0, fun q => ?_⟩
  rw [if_neg q] at k0
  unfold rStop at k0
  refine t_of ⟨hp.1, by omega, by decide, by decide⟩ (t_dxj ⟨by omega, by omega⟩ (t_of ⟨hp.1, by omega, by decide, by decide⟩ (t_dyj ⟨by omega, by omega⟩ ?_)))
  have m1 := mul_b (a := (rLegO (sg.2 0) p).1) (d := jdx (rPf (sg.2 0) p 3)) ⟨hb.1, hb.2.1⟩ (jdx_r _)
  have m2 := mul_b (a := (rLegO (sg.2 0) p).1) (d := jdy (rPf (sg.2 0) p 3)) ⟨hb.1, hb.2.1⟩ (jdy_r _)
  have d1 := jdx_r (rPf (sg.2 0) p 3)
  have d2 := jdy_r (rPf (sg.2 0) p 3)
  have e1 : ((rLegO (sg.2 0) p).1 + 1) * jdx (rPf (sg.2 0) p 3) = (rLegO (sg.2 0) p).1 * jdx (rPf (sg.2 0) p 3) + jdx (rPf (sg.2 0) p 3) := by rw [Int.add_mul, Int.one_mul]
  have e2 : ((rLegO (sg.2 0) p).1 + 1) * jdy (rPf (sg.2 0) p 3) = (rLegO (sg.2 0) p).1 * jdy (rPf (sg.2 0) p 3) + jdy (rPf (sg.2 0) p 3) := by rw [Int.add_mul, Int.one_mul]
  have ix : InR (rPf (sg.2 0) p 0 + ((rLegO (sg.2 0) p).1 + 1) * jdx (rPf (sg.2 0) p 3)) := by rw [e1]; exact ⟨by omega, by omega⟩
  have iy : InR (rPf (sg.2 0) p 1 + ((rLegO (sg.2 0) p).1 + 1) * jdy (rPf (sg.2 0) p 3)) := by rw [e2]; exact ⟨by omega, by omega⟩
  refine t_isOn (sg := sL sg _ _ _) hr ix iy ⟨b2i_inr _, fun q1 => ?_, fun q1 => ?_⟩
  · have q1 : ¬ rOn (sg.2 0) (rPf (sg.2 0) p 0 + ((rLegO (sg.2 0) p).1 + 1) * jdx (rPf (sg.2 0) p 3)) (rPf (sg.2 0) p 1 + ((rLegO (sg.2 0) p).1 + 1) * jdy (rPf (sg.2 0) p 3)) := b2i_z.mp q1
    rw [if_pos q1] at k0; exact k0
  · have q1 : rOn (sg.2 0) (rPf (sg.2 0) p 0 + ((rLegO (sg.2 0) p).1 + 1) * jdx (rPf (sg.2 0) p 3)) (rPf (sg.2 0) p 1 + ((rLegO (sg.2 0) p).1 + 1) * jdy (rPf (sg.2 0) p 3)) := b2i_nz.mp q1
    rw [if_neg (fun t => t q1)] at k0
    have q20 : 0 ≤ rPf (sg.2 0) p 0 + ((rLegO (sg.2 0) p).1 + 1) * jdx (rPf (sg.2 0) p 3) ∧ rPf (sg.2 0) p 0 + ((rLegO (sg.2 0) p).1 + 1) * jdx (rPf (sg.2 0) p 3) < 20 ∧ 0 ≤ rPf (sg.2 0) p 1 + ((rLegO (sg.2 0) p).1 + 1) * jdy (rPf (sg.2 0) p 3) ∧ rPf (sg.2 0) p 1 + ((rLegO (sg.2 0) p).1 + 1) * jdy (rPf (sg.2 0) p 3) < 20 := by
      have h1 := q1.1; have h2 := q1.2.1; have h3 := q1.2.2.1; have h4 := q1.2.2.2
      exact ⟨h1, by omega, h3, by omega⟩
    have hb9 := hr.blk _ _ q20.1 q20.2.1 q20.2.2.1 q20.2.2.2
    refine t_isBlock (sg := sL sg _ _ _) hr q20 ⟨?_, fun q2 => ?_, fun q2 => ?_⟩
    · show InR (rBlk (sg.2 0) _ _)
      rcases hb9 with t | t
      · exact (by rw [t]; decide : InR (rBlk (sg.2 0) (rPf (sg.2 0) p 0 + ((rLegO (sg.2 0) p).1 + 1) * jdx (rPf (sg.2 0) p 3)) (rPf (sg.2 0) p 1 + ((rLegO (sg.2 0) p).1 + 1) * jdy (rPf (sg.2 0) p 3))))
      · exact (by rw [t]; decide : InR (rBlk (sg.2 0) (rPf (sg.2 0) p 0 + ((rLegO (sg.2 0) p).1 + 1) * jdx (rPf (sg.2 0) p 3)) (rPf (sg.2 0) p 1 + ((rLegO (sg.2 0) p).1 + 1) * jdy (rPf (sg.2 0) p 3))))
    · have q2 : rBlk (sg.2 0) (rPf (sg.2 0) p 0 + ((rLegO (sg.2 0) p).1 + 1) * jdx (rPf (sg.2 0) p 3)) (rPf (sg.2 0) p 1 + ((rLegO (sg.2 0) p).1 + 1) * jdy (rPf (sg.2 0) p 3)) = 0 := q2
      rw [if_neg (by rw [q2]; decide)] at k0; exact k0
    · have q2 : rBlk (sg.2 0) (rPf (sg.2 0) p 0 + ((rLegO (sg.2 0) p).1 + 1) * jdx (rPf (sg.2 0) p 3)) (rPf (sg.2 0) p 1 + ((rLegO (sg.2 0) p).1 + 1) * jdy (rPf (sg.2 0) p 3)) = 1 := hb9.resolve_left q2
      rw [if_pos q2] at k0; exact k0
theorem t_why {p w : Int} (hr : RowOK f) (hf : sg.2 0 = f) (hp : InR p) (hw : InR w) (h1 : ¬ (0 ≤ p ∧ p < f 4) → ∀ sg1, FrT sg sg1 → sg1.1 7 = 1 → κ 0 sg1) (h2 : (0 ≤ p ∧ p < f 4) → ¬ (0 ≤ w ∧ w ≤ 2) → ∀ sg1, FrT sg sg1 → sg1.1 7 = 2 → κ 0 sg1)
    (h0 : (0 ≤ p ∧ p < f 4) → (0 ≤ w ∧ w ≤ 2) → ∀ sg1, FrT sg sg1 → sg1.1 7 = 0 → κ (rWhyV f p w) sg1) : P_X5_why κ sg p w := by
  subst hf
  have hm := hr.many
  have go : ∀ s0 : Int, s0 = b2i (¬ (0 ≤ w ∧ w ≤ 2)) → P_X5_why_20 κ sg p w s0 (b2i (¬ (0 ≤ p ∧ p < sg.2 0 4))) := fun s0 es => by
    subst es
    refine t_fails (b2i_inr _) (b2i_inr _) (by decide) (fun q => ⟨by decide, pIf_neg (by decide) (h1 (b2i_nz.mp q) _ (ft7 _ _) rfl)⟩) (fun q1 q2 => ⟨by decide, pIf_neg (by decide) (h2 (Decidable.not_not.mp (b2i_z.mp q1)) (b2i_nz.mp q2) _ (ft7 _ _) rfl)⟩) (fun _ _ q => absurd rfl q) (fun q1 q2 _ => ⟨by decide, pIf_pos rfl ?_⟩)
    have g1 := Decidable.not_not.mp (b2i_z.mp q1)
    have g2 := Decidable.not_not.mp (b2i_z.mp q2)
    have k1 := h0 g1 g2
    have k0 := k1 (setS sg 7 0) (ft7 sg 0) rfl
    have har := hr.arrow p g1.1 g1.2
    unfold rWhyV at k0 k1
    refine t_stands (sg := setS sg 7 0) hr g1 ⟨b2i_inr _, fun q => ?_, fun q => ?_⟩
    · have q : ¬ rPf (sg.2 0) p 4 = 0 := b2i_z.mp q
      rw [if_pos q] at k0
      exact ⟨hw, fun e => by rw [if_pos e] at k0; exact k0, fun e => by rw [if_neg e] at k0; exact k0⟩
    · have q : rPf (sg.2 0) p 4 = 0 := b2i_nz.mp q
      rw [if_neg (fun t => t q)] at k0
      simp only [if_neg (show ¬ ¬ rPf (sg.2 0) p 4 = 0 from fun t => t q)] at k1
      refine t_of ⟨g1.1, by omega, by decide, by decide⟩ ⟨by show InR (rPf (sg.2 0) p 3); exact ⟨by omega, by omega⟩, fun e4 => ?_, fun e4 => ?_⟩
      · have e4 : rPf (sg.2 0) p 3 = 4 := e4
        rw [if_pos e4] at k0
        exact ⟨hw, fun e => by rw [if_pos e] at k0; exact k0, fun e => by rw [if_neg e] at k0; exact k0⟩
      · have e4 : ¬ rPf (sg.2 0) p 3 = 4 := e4
        simp only [if_neg e4] at k1
        refine t_find (sg := setS sg 7 0) hr g1 (fun l => ?_)
        have hE := rFind_E (sg.2 0) p ((setS sg 7 0).1 21) ((setS sg 7 0).1 23) 0 0
        have hO := rFind_OK hr p ((setS sg 7 0).1 21) ((setS sg 7 0).1 23)
        have hV := rFind_V hr p ((setS sg 7 0).1 21) ((setS sg 7 0).1 23)
        have hf9 : (setS sg 7 0).2 0 = sg.2 0 := rfl
        rw [hf9]
        generalize rFind (sg.2 0) p ((setS sg 7 0).1 21) ((setS sg 7 0).1 23) = w9 at *
        rw [← hE.1, ← hE.2.1, ← hE.2.2.1, ← hE.2.2.2.2.1] at k1
        have k2 := k1 (sW (setS sg 7 0) l w9) ((ft7 sg 0).trans (sW_fw _ _ _).ft) rfl
        have hm2 := hV.2.1
        refine ⟨by show -2147483648 ≤ wNext w9 ∧ wNext w9 < _; have := hO.1; omega, fun q3 => ?_, fun q3 => ?_⟩
        · have q3 : wNext w9 = -1 := q3
          rw [if_pos q3] at k2
          simp only [if_pos q3] at k1
          refine ⟨hw, fun e => by rw [if_pos e] at k2; exact k2, fun e => ?_⟩
          simp only [if_neg e] at k1
          refine ⟨fun e1 => ?_, fun e1 => ?_⟩
          · simp only [if_pos e1] at k1
            exact t_stopped (sg := sW (setS sg 7 0) l w9) hr rfl g1 (Or.inr rfl) (fun sg1 u => k1 sg1 ((ft7 sg 0).trans ((sW_fw _ _ _).ft.trans u.ft)) u.s7)
          · simp only [if_neg e1] at k1
            exact t_stopped (sg := sW (setS sg 7 0) l w9) hr rfl g1 (Or.inl rfl) (fun sg1 u => k1 sg1 ((ft7 sg 0).trans ((sW_fw _ _ _).ft.trans u.ft)) u.s7)
        · have q3 : ¬ wNext w9 = -1 := q3
          rw [if_neg q3] at k2
          refine ⟨hw, fun e => by rw [if_pos e] at k2; exact k2, fun e => ?_⟩
          rw [if_neg e] at k2
          refine ⟨fun e1 => by rw [if_pos e1] at k2; exact k2, fun e1 => ?_⟩
          rw [if_neg e1] at k2
          refine ⟨by show -2147483648 ≤ wMany w9 ∧ wMany w9 < _; omega, fun e2 => ?_, fun e2 => ?_⟩
          · have e2 : wMany w9 = 0 := e2
            rw [if_pos e2] at k2; exact k2
          · have e2 : ¬ wMany w9 = 0 := e2
            rw [if_neg e2] at k2
            have hi : InR (rPf (sg.2 0) p 3) := ⟨by omega, by omega⟩
            exact t_of ⟨g1.1, by omega, by decide, by decide⟩ (t_of ⟨g1.1, by omega, by decide, by decide⟩ (t_of ⟨g1.1, by omega, by decide, by decide⟩ (t_dxj hi (t_of ⟨g1.1, by omega, by decide, by decide⟩ (t_dyj hi k2)))))
  refine t_noPost hr hp (t_isIn hw (by decide) (by decide) ⟨b2i_inr _, fun q => go 1 ?_, fun q => go 0 ?_⟩)
  · rw [b2i, if_pos (b2i_z.mp q)]
  · rw [b2i, if_neg (fun t => t (b2i_nz.mp q))]
theorem t_outputByte {i : Int} {l : List Int} (hi : InR i) (h11 : sg.1 11 = l.length) (hl : LsI (sg.2 9) l) (hb : l.length ≤ 1000) (hk : ∀ sg1, FrT sg sg1 → κ (rTold l i) sg1) : P_X5_outputByte κ sg i := by
  have k0 := hk _ (ft7 sg 0)
  unfold rTold at k0
  refine t_isIn hi (by decide) ⟨by omega, by omega⟩ ⟨b2i_inr _, fun q => ?_, fun q => ?_⟩
  · have q := b2i_z.mp q
    rw [if_neg (by omega)] at k0; exact k0
  · have q := b2i_nz.mp q
    rw [if_pos (by omega)] at k0
    refine ⟨⟨by omega, by omega⟩, ?_⟩
    have := hl i.toNat (by omega)
    rw [Int.toNat_of_nonneg q.1] at this
    show κ (sg.2 9 i) _
    rw [this]; exact k0
end TU
