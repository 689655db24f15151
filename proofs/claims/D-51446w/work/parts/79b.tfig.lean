set_option maxRecDepth 100000
/-! the reference's figures of routes -/
theorem t_fails {κ : Int → TS → Prop} {sg : TS} {a b c : Int} (ha : InR a) (hb : InR b) (hc : InR c) (h1 : ¬ a = 0 → κ 1 (setS sg 7 1)) (h2 : a = 0 → ¬ b = 0 → κ 1 (setS sg 7 2)) (h3 : a = 0 → b = 0 → ¬ c = 0 → κ 1 (setS sg 7 3)) (h0 : a = 0 → b = 0 → c = 0 → κ 0 (setS sg 7 0)) : P_X5_fails κ sg a b c := by
  refine ⟨ha, fun qa => ⟨hb, fun qb => ⟨hc, fun qc => ?_, fun qc => ?_⟩, fun qb => ?_⟩, fun qa => ?_⟩
  · exact ⟨by show InR 0; decide, pIf_neg (by show ¬ (0 : Int) < 0; decide) (h0 qa qb qc)⟩
  · exact ⟨by show InR 3; decide, pIf_pos (by show (0 : Int) < 3; decide) (h3 qa qb qc)⟩
  · exact ⟨by show InR 2; decide, pIf_pos (by show (0 : Int) < 2; decide) (h2 qa qb)⟩
  · exact ⟨by show InR 1; decide, pIf_pos (by show (0 : Int) < 1; decide) (h1 qa)⟩
theorem b2i_nz {c : Prop} [Decidable c] : ¬ b2i c = 0 ↔ c := ⟨fun h => Decidable.byContradiction (fun t => h (b2i_z.mpr t)), fun h t => (b2i_z.mp t) h⟩
theorem t_noPost {κ : Int → TS → Prop} {sg : TS} {p : Int} (hr : RowOK (sg.2 0)) (hp : InR p) (hk : κ (b2i (¬ (0 ≤ p ∧ p < sg.2 0 4))) sg) : P_X5_noPost κ sg p := by
  have hm := hr.many
  refine t_isIn hp (by decide) ⟨by omega, by omega⟩ ⟨b2i_inr _, fun q => ?_, fun q => ?_⟩
  · have q := b2i_z.mp q
    rw [b2i, if_pos (by omega)] at hk; exact hk
  · have q := b2i_nz.mp q
    rw [b2i, if_neg (by omega)] at hk; exact hk
theorem t_noColour {κ : Int → Prop} {c : Int} (hc : InR c) (hk : κ (b2i (¬ (0 ≤ c ∧ c < 4)))) : P_X5_noColour κ c := by
  refine t_isIn hc (by decide) (by decide) ⟨b2i_inr _, fun q => ?_, fun q => ?_⟩
  · have q := b2i_z.mp q
    rw [b2i, if_pos (by omega)] at hk; exact hk
  · have q := b2i_nz.mp q
    rw [b2i, if_neg (by omega)] at hk; exact hk
abbrev SetOK (w v : Int) : Prop := (w = 0 ∧ 1 ≤ v ∧ v ≤ 12) ∨ (w = 1 ∧ 0 ≤ v ∧ v ≤ 2)
theorem t_noSetting {κ : Int → Prop} {w v : Int} (hw : InR w) (hv : InR v) (hk : κ (b2i (¬ SetOK w v))) : P_X5_noSetting κ w v := by
  have yes : ¬ SetOK w v → κ 1 := fun t => by rw [b2i, if_pos t] at hk; exact hk
  have no : SetOK w v → κ 0 := fun t => by rw [b2i, if_neg (fun t2 => t2 t)] at hk; exact hk
  refine t_isIn hw (by decide) (by decide) ⟨b2i_inr _, fun q => yes ?_, fun q => ⟨hw, fun e => ?_, fun e => ?_⟩⟩
  · have q := b2i_z.mp q
    intro t
    rcases t with t | t <;> omega
  · refine t_isIn hv (by decide) (by decide) ⟨b2i_inr _, fun q2 => yes ?_, fun q2 => no ?_⟩
    · have q2 := b2i_z.mp q2
      intro t
      rcases t with t | t <;> omega
    · have q2 := b2i_nz.mp q2
      exact Or.inl ⟨e, q2⟩
  · have q := b2i_nz.mp q
    refine t_isIn hv (by decide) (by decide) ⟨b2i_inr _, fun q2 => yes ?_, fun q2 => no ?_⟩
    · have q2 := b2i_z.mp q2
      intro t
      rcases t with t | t <;> omega
    · have q2 := b2i_nz.mp q2
      exact Or.inr ⟨by omega, q2⟩
theorem fr7 (sg : TS) (v : Int) : FrW (setS sg 7 v) (setS sg 7 v) := FrW.refl _
/-- what a number of a route is -/
def rFig (f : Row) (q : RR × Int × Int) (w : Int) : Int :=
  if w = 0 then q.1.1.length else if w = 1 then (q.1.2.1.length : Int) - 1 else if w = 2 then q.2.1 else if w = 3 then q.2.2 else if w = 4 then q.1.2.2.2.1.length else if w = 5 then rPosts f (rPf f q.2.2 2) 1 - q.1.1.length else if w = 6 then (if q.2.1 = 2 then rLoop f q.1.1 q.2.2 else 0) else q.1.2.2.2.2
theorem t_loop9 {κ : Int → TS → Prop} {f : Row} {sg0 : TS} {a : Int} (hr : RowOK f) (ha : 0 ≤ a ∧ a < f 4) : ∀ (t : List Int) (acc : Int) (sg : TS), sg.2 0 = f → sg.1 37 = a → sg.1 18 = t.headD a → Chn f t a → a ∉ t → (∀ k ∈ t, 0 ≤ k ∧ k < f 4) → FrW sg0 sg → (∀ sg1, FrW sg0 sg1 → κ (acc + rSum f t) sg1) →
    L_X5_loopSteps_29 (fun sg x1 => P_X5_loopSteps_60 κ sg x1) κ (t.length + 1) sg acc := by
  have hm := hr.many
  intro t
  induction t with
  | nil =>
    intro acc sg hf h37 h18 hc hn hv hfr hk
    have h18 : sg.1 18 = a := h18
    refine ⟨⟨by omega, by omega⟩, ⟨by omega, by omega⟩, pIf_pos (by omega) ?_⟩
    have := hk sg hfr
    rw [show acc + rSum f [] = acc by show acc + 0 = acc; omega] at this; exact this
  | cons b t ih =>
    intro acc sg hf h37 h18 hc hn hv hfr hk
    have h18 : sg.1 18 = b := h18
    have hb := hv b List.mem_cons_self
    have hba : ¬ b = a := fun e => hn (by rw [e]; exact List.mem_cons_self)
    refine ⟨⟨by omega, by omega⟩, ⟨by omega, by omega⟩, pIf_neg (by omega) (t_find (by rw [hf]; exact hr) (by rw [hf, h18]; exact hb) (fun l => ?_))⟩
    rw [h18, hf]
    have hE := rFind_E f b (sg.1 21) (sg.1 23) 0 0
    generalize rFind f b (sg.1 21) (sg.1 23) = w at *
    refine ih _ (sW sg l w) hf h37 ?_ hc.2 (fun q => hn (List.mem_cons_of_mem _ q)) (fun k q => hv k (List.mem_cons_of_mem _ q)) (hfr.trans (sW_fw sg l w)) (fun sg1 g => ?_)
    · show wNext w = _
      rw [hE.1]; exact hc.1
    · have := hk sg1 g
      have e : acc + (wK1 w + wK2 w + wLast w) + rSum f t = acc + rSum f (b :: t) := by
        show acc + wSum w + rSum f t = acc + (wSum (rFind f b 0 0) + rSum f t)
        rw [hE.sum]; omega
      show κ (acc + (wK1 w + wK2 w + wLast w) + rSum f t) sg1
      rw [e]; exact this
theorem t_loopSteps {κ : Int → TS → Prop} {f : Row} {sg : TS} {q : RR × Int × Int} (hr : RowOK f) (hf : sg.2 0 = f) (hq : REnd f q) (h36 : sg.1 36 = q.2.1) (h37 : sg.1 37 = q.2.2) (hk : ∀ sg1, FrW sg sg1 → κ (if q.2.1 = 2 then rLoop f q.1.1 q.2.2 else 0) sg1) : P_X5_loopSteps κ sg := by
  obtain ⟨q1, q2, q3, q4, q5, q6, q7, q8⟩ := hq
  refine ⟨by rw [h36]; rcases q4 with t | t | t <;> rw [t] <;> decide, fun e => ?_, fun e => ?_⟩
  · rw [h36] at e
    rw [if_pos e] at hk
    obtain ⟨l1, l2, el⟩ := List.append_of_mem q5
    have ha := q2 _ q5
    have nd := q1
    rw [el, List.nodup_append] at nd
    have n2 : q.2.2 ∉ l2 := (List.nodup_cons.mp nd.2.1).1
    have n1 : q.2.2 ∉ l1 := fun t => nd.2.2 _ t _ List.mem_cons_self rfl
    have hch := (q8 e).1
    rw [el] at hch
    have hch := Chn.suf _ _ hch
    refine t_find (by rw [hf]; exact hr) (by rw [hf, h37]; exact ⟨ha.1, ha.2.1⟩) (fun l => ?_)
    rw [h37, hf]
    have hE := rFind_E f q.2.2 (sg.1 21) (sg.1 23) 0 0
    generalize rFind f q.2.2 (sg.1 21) (sg.1 23) = w at *
    refine ⟨l2.length + 1, t_loop9 (sg0 := sg) hr ⟨ha.1, ha.2.1⟩ l2 _ (sW sg l w) hf h37 ?_ hch.2 n2 (fun k t => ?_) (sW_fw sg l w) (fun sg1 g => ?_)⟩
    · show wNext w = _
      rw [hE.1]; exact hch.1
    · have := q2 k (by rw [el]; exact List.mem_append.mpr (Or.inr (List.mem_cons_of_mem _ t)))
      exact ⟨this.1, this.2.1⟩
    · have := hk sg1 g
      have e9 : rLoop f q.1.1 q.2.2 = 0 + (wK1 w + wK2 w + wLast w) + rSum f l2 := by
        rw [el, rLoop_split f l1 l2 n1]
        show wSum (rFind f q.2.2 0 0) + rSum f l2 = 0 + wSum w + rSum f l2
        rw [hE.sum]; omega
      rw [e9] at this; exact this
  · rw [h36] at e
    rw [if_neg e] at hk
    exact hk sg (FrW.refl sg)
theorem rWk_col {f : Row} (hr : RowOK f) {c : Int} : ∀ (n : Nat) (a : Int) (R : RR), rPf f a 2 = c → (∀ k ∈ R.1, rPf f k 2 = c) → ∀ k ∈ (rWk f n a R).1.1, rPf f k 2 = c := by
  intro n
  induction n with
  | zero => intro a R ha h; exact h
  | succ n ih =>
    intro a R ha h
    have h1 : ∀ k ∈ R.1 ++ [a], rPf f k 2 = c := fun k t => by
      rcases List.mem_append.mp t with t | t
      · exact h k t
      · rw [List.mem_singleton.mp t]; exact ha
    rw [rWk]
    split
    · exact h
    · split
      · exact h1
      · rename_i e
        have hV := (rFind_V hr a 0 0).1.resolve_left e
        refine ih _ _ (hV.2.2.2.trans ha) (fun k t => ?_)
        rw [rWayR_ps] at t
        exact h1 k t
theorem rRoute_col {f : Row} (hr : RowOK f) {p : Int} (hp : 0 ≤ p ∧ p < f 4) (hst : rPf f p 4 = 0) : ∀ k ∈ (rRoute f p).1.1, rPf f k 2 = rPf f p 2 := by
  rw [(rRoute_end hr hp hst).1]
  exact rWk_col hr 25 p _ rfl (fun k t => absurd t List.not_mem_nil)
theorem t_ofRoute {κ : Int → TS → Prop} {f : Row} {sg : TS} {q : RR × Int × Int} {w : Int} (hr : RowOK f) (hf : sg.2 0 = f) (hq : REnd f q) (hR : TwR sg q.1) (h36 : sg.1 36 = q.2.1) (h37 : sg.1 37 = q.2.2) (hw : 0 ≤ w ∧ w ≤ 7) (hk : ∀ sg1, FrW sg sg1 → κ (rFig f q w) sg1) : P_X5_ofRoute κ sg w := by
  have hm := hr.many
  obtain ⟨⟨n1, n2, n3, n4, n5⟩, -⟩ := id hR
  have hl := hq.2.1 _ hq.2.2.2.2.1
  have k0 := hk sg (FrW.refl sg)
  unfold rFig at hk k0
  refine ⟨⟨by omega, by omega⟩, fun e => ?_, fun e0 => ⟨fun e => ?_, fun e1 => ⟨fun e => ?_, fun e2 => ⟨fun e => ?_, fun e3 => ⟨fun e => ?_, fun e4 => ⟨fun e => ?_, fun e5 => ⟨fun e => ?_, fun e6 => ?_⟩⟩⟩⟩⟩⟩⟩
  · rw [if_pos e] at k0; rw [n1]; exact k0
  · rw [if_neg e0, if_pos e] at k0; rw [n2]; exact k0
  · rw [if_neg e0, if_neg e1, if_pos e] at k0; rw [h36]; exact k0
  · rw [if_neg e0, if_neg e1, if_neg e2, if_pos e] at k0; rw [h37]; exact k0
  · rw [if_neg e0, if_neg e1, if_neg e2, if_neg e3, if_pos e] at k0; rw [n4]; exact k0
  · rw [if_neg e0, if_neg e1, if_neg e2, if_neg e3, if_neg e4, if_pos e] at k0
    have hc := hr.colour _ hl.1 hl.2.1
    refine t_of ⟨by omega, by omega, by decide, by decide⟩ (t_posts (by rw [hf]; exact hr) (by rw [hf, h37]; exact ⟨by omega, by omega⟩) (by decide) ?_)
    rw [hf, h37, n1]; exact k0
  · simp only [if_neg e0, if_neg e1, if_neg e2, if_neg e3, if_neg e4, if_neg e5, if_pos e] at hk
    exact t_loopSteps hr hf hq h36 h37 hk
  · rw [if_neg e0, if_neg e1, if_neg e2, if_neg e3, if_neg e4, if_neg e5, if_neg e6] at k0; rw [n5]; exact k0
/-- a number of the route from a post; -1 if it is missing -/
def rRouteOf (f : Row) (p w : Int) : Int := if rPf f p 4 = 0 then rFig f (rRoute f p) w else -1
theorem t_routeOf {κ : Int → TS → Prop} {f : Row} {sg : TS} {p w : Int} (hr : RowOK f) (hf : sg.2 0 = f) (hp : 0 ≤ p ∧ p < f 4) (hw : 0 ≤ w ∧ w ≤ 7) (hk : ∀ sg1, FrW sg sg1 → κ (rRouteOf f p w) sg1) : P_X5_routeOf κ sg p w := by
  subst hf
  refine t_walk hr (Or.inr hp) (fun sg1 g1 g2 g3 g4 => ?_)
  have n2 := g2.1.2.1
  unfold rRouteOf at hk
  have e0 : sg1.2 0 = sg.2 0 := g1.2 0 (by omega)
  by_cases hst : rPf (sg.2 0) p 4 = 0
  · rw [if_pos hst] at hk
    obtain ⟨-, hE⟩ := rRoute_end hr hp hst
    obtain ⟨x, y, hC⟩ := hE.2.2.1
    have hne : (rRoute (sg.2 0) p).1.2.1.length ≠ 0 := fun t => hC.2.1 (List.eq_nil_of_length_eq_zero t)
    have hle := hE.2.2.2.2.2.2.1.1
    refine ⟨⟨by omega, by omega⟩, pIf_neg (by omega) (t_ofRoute hr e0 hE g2 g3 g4 hw (fun sg2 t => hk sg2 (g1.trans t)))⟩
  · rw [if_neg hst] at hk
    have eR : rRoute (sg.2 0) p = (([], [], [], [], 0), 1, -1) := by unfold rRoute; rw [if_pos (Or.inr hst)]
    rw [eR] at n2
    have n2 : sg1.1 33 = 0 := n2
    exact ⟨by rw [n2]; decide, pIf_pos n2 (hk sg1 g1)⟩
/-- the posts that the route from the beginning of a colour meets -/
def rMet (f : Row) (c : Int) : Int := ((rRoute f (rBegin f c)).1.1.length : Int)
theorem rBegin_t {f : Row} (hr : RowOK f) (c : Int) : rBegin f c = -1 ∨ (0 ≤ rBegin f c ∧ rBegin f c < f 4 ∧ rPf f (rBegin f c) 2 = c ∧ rPf f (rBegin f c) 4 = 0) := by
  have hm := hr.many
  have e : ((f 4).toNat : Int) = f 4 := Int.toNat_of_nonneg hm.1
  rcases fnd_spec (fun k => rPf f k 2 = c ∧ rPf f k 4 = 0) (f 4).toNat 0 with ⟨h1, -⟩ | ⟨h1, h2, h3, -⟩
  · exact Or.inl h1
  · exact Or.inr ⟨h1, by unfold rBegin; omega, h3⟩
theorem rMet_r {f : Row} (hr : RowOK f) (c : Int) : 0 ≤ rMet f c ∧ rMet f c ≤ 24 := by
  unfold rMet
  rcases rBegin_t hr c with h | ⟨h1, h2, h3, h4⟩
  · have : rRoute f (rBegin f c) = (([], [], [], [], 0), 1, -1) := by unfold rRoute; rw [if_pos (Or.inl h)]
    rw [this]; exact ⟨by decide, by decide⟩
  · have := (rRoute_end hr ⟨h1, h2⟩ h4).2.2.2.2.2.2.1
    omega
theorem t_metBy {κ : Int → TS → Prop} {f : Row} {sg : TS} {c : Int} (hr : RowOK f) (hf : sg.2 0 = f) (hc : InR c) (hk : ∀ sg1, FrW sg sg1 → κ (rMet f c) sg1) : P_X5_metBy κ sg c := by
  subst hf
  refine t_begin hr hc (t_walk hr ?_ (fun sg1 g1 g2 g3 g4 => ?_))
  · rcases rBegin_t hr c with h | ⟨h1, h2, -⟩
    · exact Or.inl h
    · exact Or.inr ⟨h1, h2⟩
  · rw [g2.1.1]; exact hk sg1 g1
/-- is a colour's route complete -/
abbrev rCmp (f : Row) (c : Int) : Prop := 0 < rPosts f c 1 ∧ rMet f c = rPosts f c 1
theorem rPosts_b {f : Row} (hr : RowOK f) (c s : Int) : 0 ≤ rPosts f c s ∧ rPosts f c s ≤ 24 := by
  have hm := hr.many
  have e : ((f 4).toNat : Int) = f 4 := Int.toNat_of_nonneg hm.1
  have := cnt_r (fun k => (c = -1 ∨ rPf f k 2 = c) ∧ (s = 0 ∨ rPf f k 4 = 0)) (f 4).toNat 0
  unfold rPosts
  omega
theorem t_isComplete {κ : Int → TS → Prop} {f : Row} {sg : TS} {c : Int} (hr : RowOK f) (hf : sg.2 0 = f) (hc : InR c) (hk : ∀ sg1, FrW sg sg1 → κ (b2i (rCmp f c)) sg1) : P_X5_isComplete κ sg c := by
  subst hf
  have hb := rPosts_b hr c 1
  have hm := rMet_r hr c
  refine t_posts hr hc (by decide) ⟨⟨by omega, by omega⟩, fun q => t_metBy hr rfl hc (fun sg1 g => ⟨⟨by omega, by omega⟩, fun e => ?_, fun e => ?_⟩), fun q => ?_⟩
  · have := hk sg1 g
    rw [b2i, if_pos ⟨q, e⟩] at this; exact this
  · have := hk sg1 g
    rw [b2i, if_neg (fun t => e t.2)] at this; exact this
  · have := hk sg (FrW.refl sg)
    rw [b2i, if_neg (fun t => q t.1)] at this; exact this
def rCmps (f : Row) : Int := cnt (fun c => rCmp f c) 4 0
theorem t_completeOnes {κ : Int → TS → Prop} {f : Row} {sg : TS} (hr : RowOK f) (hf : sg.2 0 = f) (hk : ∀ sg1, FrW sg sg1 → κ (rCmps f) sg1) : P_X5_completeOnes κ sg := by
  have loop : ∀ (n : Nat) (c a : Int) (sg1 : TS), 0 ≤ c → c + n = 4 → FrW sg sg1 → (∀ sg2, FrW sg sg2 → κ (a + cnt (fun c => rCmp f c) n c) sg2) → L_X5_completeOnes_4 (fun sg x1 => P_X5_completeOnes_26 κ sg x1) κ (n + 1) sg1 a c := by
    intro n
    induction n with
    | zero =>
      intro c a sg1 h0 h1 g hq
      refine ⟨⟨by omega, by omega⟩, pIf_neg (by omega) ?_⟩
      have := hq sg1 g
      unfold cnt at this
      rw [Int.add_zero] at this; exact this
    | succ n ih =>
      intro c a sg1 h0 h1 g hq
      unfold cnt at hq
      refine ⟨⟨by omega, by omega⟩, pIf_pos (by omega) (t_isComplete hr ((g.2 0 (by omega)).trans hf) ⟨by omega, by omega⟩ (fun sg2 g2 => ⟨b2i_inr _, fun e => ?_, fun e => ?_⟩))⟩
      · rw [e] at hq
        simp only [Int.zero_add] at hq
        exact ih (c + 1) a sg2 (by omega) (by omega) (g.trans g2) hq
      · have e1 : b2i (rCmp f c) = 1 := by rcases b2i_cases (rCmp f c) with t | t; exact absurd t e; exact t
        rw [e1] at hq
        refine ih (c + 1) (a + 1) sg2 (by omega) (by omega) (g.trans g2) (fun sg3 t => ?_)
        have := hq sg3 t
        rw [Int.add_assoc]; exact this
  exact ⟨5, loop 4 0 0 sg (by decide) (by decide) (FrW.refl sg) (fun sg1 g => by rw [Int.zero_add]; exact hk sg1 g)⟩
