set_option maxRecDepth 100000
theorem Nr_abs {f : Row} (hr : RowOK f) {a b : Int} (h : Nr f a b) : jabs (b.tdiv 100 - a.tdiv 100) + jabs (b.tmod 100 - a.tmod 100) = 1 ∧ (jabs (b - a) = 1 ∨ jabs (b - a) = 100) := by
  have hw := hr.w; have hh := hr.h
  obtain ⟨x, y, x1, y1, ea, eb, o1, o2, hd⟩ := h
  unfold rOn at o1 o2
  have a0 : 0 ≤ a := by omega
  have b0 : 0 ≤ b := by omega
  have d1 : a.tdiv 100 = x := by rw [Int.tdiv_eq_ediv_of_nonneg a0]; omega
  have d2 : a.tmod 100 = y := by rw [Int.tmod_eq_emod_of_nonneg a0]; omega
  have d3 : b.tdiv 100 = x1 := by rw [Int.tdiv_eq_ediv_of_nonneg b0]; omega
  have d4 : b.tmod 100 = y1 := by rw [Int.tmod_eq_emod_of_nonneg b0]; omega
  rw [d1, d2, d3, d4]
  unfold jabs
  rcases hd with ⟨h1, h2⟩ | ⟨h1, h2⟩ | ⟨h1, h2⟩ | ⟨h1, h2⟩
  · rw [if_pos (by omega), if_pos (by omega), if_pos (by omega)]; omega
  · rw [if_neg (by omega), if_pos (by omega), if_neg (by omega)]; omega
  · rw [if_pos (by omega), if_pos (by omega), if_pos (by omega)]; omega
  · rw [if_pos (by omega), if_neg (by omega), if_neg (by omega)]; omega
theorem lSum_b : ∀ (l : List (Int × Int × Int)), (∀ q ∈ l, LegOK q) → 0 ≤ lSum l ∧ lSum l ≤ 12 * l.length := by
  intro l
  induction l with
  | nil => intro _; exact ⟨Int.le_refl _, Int.le_refl _⟩
  | cons b t ih =>
    intro h
    have hb := (h b List.mem_cons_self).1
    have := ih (fun q hq => h q (List.mem_cons_of_mem _ hq))
    unfold lSum
    rw [List.length_cons]
    omega
theorem getD_app {α : Type} (p : List α) (q : α) (t : List α) (d : α) : (p ++ q :: t).getD p.length d = q := by
  rw [List.getD_eq_getElem?_getD, List.getElem?_append_right (Nat.le_refl _), Nat.sub_self]; rfl
section TV
variable {κ : Int → TS → Prop} {f : Row} {sg : TS}
theorem t_gap_one {k9 : TS → Int → Int → Prop} {k189 : TS → Int → Prop} {p : Int} {R : RR} {x y : Int} (hr : RowOK f) (hf : sg.2 0 = f) (hR : TwR sg R) (hC : RCel f R x y) (hl : R.2.1.length ≤ 865) (hl2 : R.2.2.1.length ≤ 72) (hk : k9 sg 0 (p + 1)) : ∃ f9 : Nat, L_X5_gap_39 (fun sg x1 x2 x3 => P_X5_gap_64 k9 k189 κ sg x1 x2 x3) κ f9 sg 0 p 0 0 := by
  subst hf
  obtain ⟨⟨n1, n2, n3, n4, n5⟩, a1, a2, a3, -⟩ := hR
  obtain ⟨c1, c2, c3, c4, c5, c6, c7⟩ := hC
  have hlb := lSum_b R.2.2.1 c6
  have cells : ∀ (t q : List Int), R.2.1 = q ++ t → L_X5_gap_81 (fun sg x1 x2 => P_X5_gap_183 k9 k189 κ sg x1 x2) κ (t.length + 1) sg 0 p q.length := by
    intro t
    induction t with
    | nil =>
      intro q e
      rw [List.append_nil] at e
      refine ⟨⟨by omega, by rw [e] at hl; omega⟩, ⟨by omega, by omega⟩, pIf_neg (by rw [n2, e]; omega) hk⟩
    | cons u t ih =>
      intro q e
      have hlen : R.2.1.length = q.length + (t.length + 1) := by rw [e, List.length_append, List.length_cons]
      have hu := c1.1 u (by rw [e]; exact List.mem_append.mpr (Or.inr List.mem_cons_self))
      obtain ⟨b1, b2, b3, b4, b5⟩ := cell_div hr hu
      have eu : sg.2 26 (q.length : Int) = u := by rw [a2 q.length (by omega), e, getD_app]
      have nx : L_X5_gap_81 (fun sg x1 x2 => P_X5_gap_183 k9 k189 κ sg x1 x2) κ (t.length + 1) sg 0 p (q.length + 1) := by
        have := ih (q ++ [u]) (by rw [e]; simp)
        rw [show ((q ++ [u]).length : Int) = (q.length : Int) + 1 by rw [List.length_append]; rfl] at this
        exact this
      refine ⟨⟨by omega, by omega⟩, ⟨by omega, by omega⟩, pIf_pos (by omega) ⟨⟨by omega, by omega⟩, by rw [eu]; exact ⟨by omega, by omega⟩, ?_⟩⟩
      rw [eu]
      refine t_isFree hr ⟨by omega, by omega⟩ ⟨by omega, by omega⟩ (fun _ => ⟨by decide, pIf_neg (by decide) ⟨⟨by omega, by omega⟩, fun h0 => ?_, fun _ => nx⟩⟩) (fun q => absurd b2 q)
      obtain ⟨m, hm⟩ : ∃ m, q.length = m + 1 := ⟨q.length - 1, by omega⟩
      have ev : sg.2 26 ((q.length : Int) - 1) = R.2.1.getD m 0 := by
        rw [show (q.length : Int) - 1 = (m : Int) by omega]; exact a2 m (by omega)
      have hN := c1.2 m (by omega)
      have eu2 : R.2.1.getD (m + 1) 0 = u := by rw [← hm, e, getD_app]
      rw [eu2] at hN
      have hv := c1.1 (R.2.1.getD m 0) (by rw [List.getD_eq_getElem?_getD, List.getElem?_eq_getElem (by omega)]; exact List.getElem_mem _)
      obtain ⟨v1, v2, v3, v4, v5⟩ := cell_div hr hv
      have hA := (Nr_abs hr hN).1
      refine ⟨⟨by omega, by omega⟩, ?_⟩
      rw [ev]
      refine ⟨⟨by omega, by omega⟩, ⟨by omega, by omega⟩, ⟨by omega, by omega⟩, ?_, pIf_pos hA nx⟩
      rw [hA]; decide
  have legs : ∀ (t q : List (Int × Int × Int)) (s : Int), R.2.2.1 = q ++ t → s + lSum t = lSum R.2.2.1 → L_X5_gap_39 (fun sg x1 x2 x3 => P_X5_gap_64 k9 k189 κ sg x1 x2 x3) κ (t.length + 1) sg 0 p s q.length := by
    intro t
    induction t with
    | nil =>
      intro q s e hs
      rw [List.append_nil] at e
      have hs : s + 0 = lSum R.2.2.1 := hs
      refine ⟨⟨by omega, by rw [e] at hl2; omega⟩, ⟨by omega, by omega⟩, pIf_neg (by rw [n3, e]; omega) ?_⟩
      have e0 : (s + 1) - sg.1 33 = 0 := by rw [n2]; omega
      refine ⟨by rw [e0]; decide, R.2.1.length + 1, ?_⟩
      rw [e0]
      exact cells R.2.1 [] rfl
    | cons u t ih =>
      intro q s e hs
      have hlen : R.2.2.1.length = q.length + (t.length + 1) := by rw [e, List.length_append, List.length_cons]
      have eu : sg.2 27 (q.length : Int) = u.1 := by
        rw [a3 q.length (by rw [List.length_map]; omega), e, List.map_append, List.map_cons]
        have := getD_app (q.map (·.1)) u.1 (t.map (·.1)) 0
        rw [List.length_map] at this; exact this
      refine ⟨⟨by omega, by omega⟩, ⟨by omega, by omega⟩, pIf_pos (by omega) ⟨⟨by omega, by omega⟩, ?_⟩⟩
      rw [eu]
      have := ih (q ++ [u]) (s + u.1) (by rw [e]; simp) (by rw [← hs]; show s + u.1 + lSum t = s + (u.1 + lSum t); omega)
      rw [show ((q ++ [u]).length : Int) = (q.length : Int) + 1 by rw [List.length_append]; rfl] at this
      exact this
  exact ⟨R.2.2.1.length + 1, legs R.2.2.1 [] 0 rfl (by omega)⟩
theorem t_gap (hr : RowOK f) (hf : sg.2 0 = f) (hk : ∀ sg1, FrT sg sg1 → κ 0 sg1) : P_X5_gap κ sg := by
  have hm := hr.many
  have loop : ∀ (n : Nat) (k : Int) (sg1 : TS), 0 ≤ k → k + n = f 4 → FrT sg sg1 → L_X5_gap_9 (fun sg x1 => P_X5_gap_189 κ sg x1) κ (n + 1) sg1 0 k := by
    intro n
    induction n with
    | zero =>
      intro k sg1 h0 h1 t
      have e : sg1.2 0 = f := t.row.trans hf
      exact ⟨⟨by omega, by omega⟩, by rw [e]; exact ⟨by omega, by omega⟩, pIf_neg (by rw [e]; omega) (hk sg1 t)⟩
    | succ n ih =>
      intro k sg1 h0 h1 t
      have e : sg1.2 0 = f := t.row.trans hf
      have hkk : 0 ≤ k ∧ k < f 4 := ⟨h0, by omega⟩
      refine ⟨⟨by omega, by omega⟩, by rw [e]; exact ⟨by omega, by omega⟩, pIf_pos (by rw [e]; omega) (t_walk (by rw [e]; exact hr) (by rw [e]; exact Or.inr hkk) (fun sg2 g1 g2 g3 g4 => ?_))⟩
      rw [e] at g2
      have e2 : sg2.2 0 = f := (g1.2 0 (by omega)).trans e
      have nx := ih (k + 1) sg2 (by omega) (by omega) (t.trans g1.ft)
      have n2 := g2.1.2.1
      by_cases hst : rPf f k 4 = 0
      · have hE := (rRoute_end hr hkk hst).2
        obtain ⟨x, y, hC⟩ := hE.2.2.1
        have hne : (rRoute f k).1.2.1.length ≠ 0 := fun t => hC.2.1 (List.eq_nil_of_length_eq_zero t)
        have hl := hE.2.2.2.2.2.2.1
        exact ⟨⟨by omega, by omega⟩, pIf_neg (by omega) (t_gap_one hr e2 g2 hC hl.1 hl.2.1 nx)⟩
      · have eR : rRoute f k = (([], [], [], [], 0), 1, -1) := by unfold rRoute; rw [if_pos (Or.inr hst)]
        rw [eR] at n2
        have n2 : sg2.1 33 = 0 := n2
        exact ⟨by rw [n2]; decide, pIf_pos n2 nx⟩
  exact ⟨(f 4).toNat + 1, loop (f 4).toNat 0 _ (by decide) (by omega) (ft7 sg 0)⟩
def rMets (f : Row) : Int := rMet f 0 + rMet f 1 + rMet f 2 + rMet f 3
def rReach (f : Row) : UInt64 := if rPosts f (-1) 1 = 0 then 0x3ff0000000000000 else FP.ddiv (i2d (rMets f)) (i2d (rPosts f (-1) 1))
theorem t_reached {κ : UInt64 → TS → Prop} (hr : RowOK f) (hf : sg.2 0 = f) (hN : ¬ rPosts f (-1) 1 = 0 → vf_n64 (FP.ddiv (i2d (rMets f)) (i2d (rPosts f (-1) 1)))) (hk : ∀ sg1, FrT sg sg1 → κ (rReach f) sg1) : P_X5_reached κ sg := by
  have hb := rPosts_b hr (-1) 1
  refine t_posts (sg := setS sg 7 0) (by show RowOK (sg.2 0); rw [hf]; exact hr) (by decide) (by decide) ?_
  have e9 : (setS sg 7 0).2 0 = f := hf
  rw [e9]
  have st : ∀ (n : Nat) (a c : Int) (sg1 : TS), FrT sg sg1 → (0 ≤ c ∧ c < 4) → (∀ sg2, FrT sg sg2 → L_X5_reached_16 (fun sg x1 x2 => P_X5_reached_35 κ sg x1 x2) κ n sg2 (rPosts f (-1) 1) (a + rMet f c) (c + 1)) → L_X5_reached_16 (fun sg x1 x2 => P_X5_reached_35 κ sg x1 x2) κ (n + 1) sg1 (rPosts f (-1) 1) a c := by
    intro n a c sg1 t hc hq
    refine ⟨⟨by omega, by omega⟩, pIf_pos (by omega) (t_metBy hr (t.row.trans hf) ⟨by omega, by omega⟩ (fun sg2 u => hq sg2 (t.trans u.ft)))⟩
  refine ⟨5, st 4 0 0 _ (ft7 sg 0) (by decide) (fun s1 t1 => st 3 _ _ s1 t1 (by decide) (fun s2 t2 => st 2 _ _ s2 t2 (by decide) (fun s3 t3 => st 1 _ _ s3 t3 (by decide) (fun s4 t4 => ?_))))⟩
  refine ⟨by decide, pIf_neg (by decide) ?_⟩
  have k0 := hk s4 t4
  unfold rReach at k0
  have em : 0 + rMet f 0 + rMet f (0 + 1) + rMet f (0 + 1 + 1) + rMet f (0 + 1 + 1 + 1) = rMets f := by
    unfold rMets
    rw [Int.zero_add]; rfl
  show P_X5_reached_35 κ s4 (rPosts f (-1) 1) (0 + rMet f 0 + rMet f (0 + 1) + rMet f (0 + 1 + 1) + rMet f (0 + 1 + 1 + 1))
  rw [em]
  refine ⟨⟨by omega, by omega⟩, fun q => by rw [if_pos q] at k0; exact k0, fun q => ?_⟩
  rw [if_neg q] at k0
  exact ⟨hN q, k0⟩
/-- a float as bits -/
def fBits (x : UInt32) : Int := if ci32 (Op.cmpValue (FP.fcmp x x) .l) = 0 then f2r x else 2143289344
theorem ci32_r (x : Int32) : InR (ci32 x) := by
  have h1 := Int32.le_toInt x
  have h2 := Int32.toInt_lt x
  unfold ci32
  constructor
  · have : -2 ^ 31 ≤ x.toInt := h1
    omega
  · have : x.toInt < 2 ^ 31 := h2
    omega
theorem t_bits {κ : Int → Prop} {x : UInt32} (hk : κ (fBits x)) : P_J26_floatToIntBits κ x := by
  unfold fBits at hk
  exact ⟨ci32_r _, fun q => ⟨by decide, pIf_pos rfl (by rw [if_pos q] at hk; exact hk)⟩, fun q => ⟨by decide, pIf_neg (by decide) (by rw [if_neg q] at hk; exact hk)⟩⟩
/-- mean steps of a route's ways, as bits -/
def rWays (q : RR × Int × Int) : Int := if q.2.1 = 2 then q.1.1.length else (q.1.1.length : Int) - 1
def rMean (f : Row) (p : Int) : Int := if rPf f p 4 = 0 ∧ ¬ rWays (rRoute f p) = 0 then fBits (FP.fdiv (i2f (((rRoute f p).1.2.1.length : Int) - 1)) (i2f (rWays (rRoute f p)))) else fBits 0
theorem t_meanBits {p : Int} (hr : RowOK f) (hf : sg.2 0 = f) (hp : InR p) (hN : ∀ p, (0 ≤ p ∧ p < f 4) → rPf f p 4 = 0 → ¬ rWays (rRoute f p) = 0 → vf_n32 (FP.fdiv (i2f (((rRoute f p).1.2.1.length : Int) - 1)) (i2f (rWays (rRoute f p))))) (h1 : ¬ (0 ≤ p ∧ p < f 4) → ∀ sg1, FrT sg sg1 → sg1.1 7 = 1 → κ 0 sg1) (h0 : (0 ≤ p ∧ p < f 4) → ∀ sg1, FrT sg sg1 → sg1.1 7 = 0 → κ (rMean f p) sg1) : P_X5_meanBits κ sg p := by
  subst hf
  refine t_noPost hr hp (t_fails (b2i_inr _) (by decide) (by decide) (fun q => ⟨by decide, pIf_neg (by decide) (h1 (b2i_nz.mp q) _ (ft7 _ _) rfl)⟩) (fun _ q => absurd rfl q) (fun _ _ q => absurd rfl q) (fun q1 _ _ => ⟨by decide, pIf_pos rfl ?_⟩))
  have g1 := Decidable.not_not.mp (b2i_z.mp q1)
  refine t_walk (sg := setS sg 7 0) hr (Or.inr g1) (fun sg1 t1 t2 t3 t4 => ?_)
  have k0 := h0 g1 sg1 ((ft7 sg 0).trans t1.ft) t1.s7
  have ef : (setS sg 7 0).2 0 = sg.2 0 := rfl
  rw [ef] at t2 t3 t4
  have hL := rRoute_len hr g1
  unfold rMean at k0
  have n1 := t2.1.1
  have n2 := t2.1.2.1
  by_cases hst : rPf (sg.2 0) p 4 = 0
  · have hE := (rRoute_end hr g1 hst).2
    obtain ⟨x, y, hC⟩ := hE.2.2.1
    have hne : (rRoute (sg.2 0) p).1.2.1.length ≠ 0 := fun t => hC.2.1 (List.eq_nil_of_length_eq_zero t)
    have fin : ∀ s0 : Int, s0 = rWays (rRoute (sg.2 0) p) → P_X5_meanBits_42 κ sg1 s0 := fun s0 es => by
      subst es
      have hwb : InR (rWays (rRoute (sg.2 0) p)) := by unfold rWays; split <;> exact ⟨by omega, by omega⟩
      refine ⟨⟨by omega, by omega⟩, pIf_neg (by omega) ⟨hwb, fun q => t_bits ?_, fun q => ?_⟩⟩
      · rw [if_neg (fun t => t.2 q)] at k0; exact k0
      · rw [if_pos ⟨hst, q⟩] at k0
        rw [n2]
        exact ⟨hN p g1 hst q, t_bits k0⟩
    refine ⟨by rw [t3]; rcases hE.2.2.2.1 with t | t | t <;> rw [t] <;> decide, fun q => ?_, fun q => ?_⟩
    · rw [t3] at q
      rw [n1]; exact fin _ (by unfold rWays; rw [if_pos q])
    · rw [t3] at q
      rw [n1]; exact fin _ (by unfold rWays; rw [if_neg q])
  · rw [if_neg (fun t => hst t.1)] at k0
    have eR : rRoute (sg.2 0) p = (([], [], [], [], 0), 1, -1) := by unfold rRoute; rw [if_pos (Or.inr hst)]
    rw [eR] at n2 t3
    have n2 : sg1.1 33 = 0 := n2
    have t3 : sg1.1 36 = 1 := t3
    refine ⟨by rw [t3]; decide, fun q => absurd (t3.symm.trans q) (by decide), fun _ => ⟨by rw [n2]; decide, pIf_pos n2 (t_bits k0)⟩⟩
/-- cells that two routes share -/
def rShare (f : Row) (c d : Int) : Int := cnt (fun k => k ∈ (rRoute f (rBegin f c)).1.2.1 ∧ k ∈ (rRoute f (rBegin f d)).1.2.1) 2000 0
theorem t_marks {κ : TS → Prop} {a : Nat} {c : Int} (hr : RowOK f) (hf : sg.2 0 = f) (hc : InR c) (ha : a = 51 ∨ a = 52) (hk : ∀ sg1, FrT sg sg1 → sg1.1 7 = sg.1 7 → (∀ j, j = 51 ∨ j = 52 → j ≠ a → sg1.2 j = sg.2 j) → (∀ k, 0 ≤ k → k < 2000 → sg1.2 a k = b2i (k ∈ (rRoute f (rBegin f c)).1.2.1)) → κ sg1) : P_X5_marks κ sg a c := by
  have hB := rRouteB hr c
  have hao : twOK a 2 2000 := by rcases ha with rfl | rfl <;> rfl
  refine t_walkB hr hf hc (fun sg1 g1 g2 => ?_)
  generalize (rRoute f (rBegin f c)).1 = R at *
  have loop2 : ∀ (t q : List Int) (sg2 : TS), R.2.1 = q ++ t → (∀ j, j ≠ a → sg2.2 j = sg1.2 j) → sg2.1 = sg1.1 → (∀ k, 0 ≤ k → k < 2000 → sg2.2 a k = b2i (k ∈ q)) → L_X5_marks_30 (fun sg => P_X5_marks_53 κ sg) κ (t.length + 1) sg2 a q.length := by
    intro t
    induction t with
    | nil =>
      intro q sg2 e f1 f2 h
      rw [List.append_nil] at e
      have n2 : sg2.1 33 = R.2.1.length := by rw [f2]; exact g2.1.2.1
      refine ⟨⟨by omega, by rw [e] at hB; omega⟩, ⟨by omega, by omega⟩, pIf_neg (by rw [n2, e]; omega) (hk sg2 ⟨fun j h1 h2 h3 => by rw [f2]; exact g1.1 j h2 h3, fun j h1 h2 h3 h4 => by rw [f1 j (by rcases ha with rfl | rfl <;> assumption)]; exact g1.2 j h2⟩ (by rw [f2]; exact g1.s7) (fun j hj hja => by rw [f1 j hja]; exact g1.2 j (by omega)) (by rw [e]; exact h))⟩
    | cons u t ih =>
      intro q sg2 e f1 f2 h
      have n2 : sg2.1 33 = R.2.1.length := by rw [f2]; exact g2.1.2.1
      have hlen : R.2.1.length = q.length + (t.length + 1) := by rw [e, List.length_append, List.length_cons]
      have hu := hB.2.2.2.2.1 u (by rw [e]; exact List.mem_append.mpr (Or.inr List.mem_cons_self))
      obtain ⟨b1, -⟩ := cell_div hr hu
      have hB1 := hB.2.1
      have eu : sg2.2 26 (q.length : Int) = u := by rw [f1 26 (by rcases ha with rfl | rfl <;> decide), g2.2.2.1 q.length (by omega), e, getD_app]
      refine ⟨⟨by omega, by omega⟩, ⟨by omega, by omega⟩, pIf_pos (by omega) ⟨⟨by omega, by omega⟩, 2000, ⟨hao, by rw [eu]; exact b1.1, by rw [eu]; exact b1.2⟩, ?_⟩⟩
      rw [eu]
      have := ih (q ++ [u]) (setA sg2 a (uI (sg2.2 a) u 1)) (by rw [e]; simp) (fun j hj => by show (if j = a then _ else sg2.2 j) = _; rw [if_neg hj]; exact f1 j hj) f2 (fun k k0 k1 => by
        show (if a = a then uI (sg2.2 a) u 1 else sg2.2 a) k = _
        rw [if_pos rfl]
        by_cases hku : k = u
        · rw [hku, uIs, b2i, if_pos (List.mem_append.mpr (Or.inr (List.mem_singleton.mpr rfl)))]
        · rw [uIn hku, h k k0 k1]
          exact b2i_congr ⟨fun t => List.mem_append.mpr (Or.inl t), fun t => (List.mem_append.mp t).resolve_right (fun t2 => hku (List.mem_singleton.mp t2))⟩)
      rw [show ((q ++ [u]).length : Int) = (q.length : Int) + 1 by rw [List.length_append]; rfl] at this
      exact this
  have loop1 : ∀ (n : Nat) (k : Int) (sg2 : TS), 0 ≤ k → k + n = 2000 → (∀ j, j ≠ a → sg2.2 j = sg1.2 j) → sg2.1 = sg1.1 → (∀ j, 0 ≤ j → j < k → sg2.2 a j = 0) → L_X5_marks_11 (fun sg x1 => P_X5_marks_28 κ sg x1) κ (n + 1) sg2 a k := by
    intro n
    induction n with
    | zero =>
      intro k sg2 h0 h1 f1 f2 h
      refine ⟨⟨by omega, by omega⟩, pIf_neg (by omega) ⟨R.2.1.length + 1, loop2 R.2.1 [] sg2 rfl f1 f2 (fun k k0 k1 => ?_)⟩⟩
      rw [h k k0 (by omega), b2i, if_neg List.not_mem_nil]
    | succ n ih =>
      intro k sg2 h0 h1 f1 f2 h
      refine ⟨⟨by omega, by omega⟩, pIf_pos (by omega) ⟨2000, ⟨hao, h0, by omega⟩, ih (k + 1) _ (by omega) (by omega) (fun j hj => by show (if j = a then _ else sg2.2 j) = _; rw [if_neg hj]; exact f1 j hj) f2 (fun j j0 j1 => ?_)⟩⟩
      show (if a = a then uI (sg2.2 a) k 0 else sg2.2 a) j = 0
      rw [if_pos rfl]
      by_cases e : j = k
      · rw [e, uIs]
      · rw [uIn e]; exact h j j0 (by omega)
  exact ⟨2001, loop1 2000 0 sg1 (by decide) (by decide) (fun _ _ => rfl) rfl (fun j a b => by omega)⟩
theorem t_shared {c d : Int} (hr : RowOK f) (hf : sg.2 0 = f) (hc : InR c) (hd : InR d) (h1 : ¬ ((0 ≤ c ∧ c < 4) ∧ (0 ≤ d ∧ d < 4)) → ∀ sg1, FrT sg sg1 → sg1.1 7 = 1 → κ 0 sg1) (h0 : (0 ≤ c ∧ c < 4) ∧ (0 ≤ d ∧ d < 4) → ∀ sg1, FrT sg sg1 → sg1.1 7 = 0 → κ (rShare f c d) sg1) : P_X5_shared κ sg c d := by
  have go : ∀ s0 : Int, s0 = b2i (¬ ((0 ≤ c ∧ c < 4) ∧ (0 ≤ d ∧ d < 4))) → P_X5_shared_20 κ sg c d s0 := fun s0 es => by
    subst es
    refine t_fails (b2i_inr _) (by decide) (by decide) (fun q => ⟨by decide, pIf_neg (by decide) (h1 (b2i_nz.mp q) _ (ft7 _ _) rfl)⟩) (fun _ q => absurd rfl q) (fun _ _ q => absurd rfl q) (fun q1 _ _ => ⟨by decide, pIf_pos rfl ?_⟩)
    have g1 := Decidable.not_not.mp (b2i_z.mp q1)
    refine t_marks (sg := setS sg 7 0) hr hf hc (Or.inl rfl) (fun sg1 t1 t17 _ m1 => t_marks hr (t1.row.trans hf) hd (Or.inr rfl) (fun sg2 t2 t27 keep m2 => ?_))
    have m1' : ∀ k, 0 ≤ k → k < 2000 → sg2.2 51 k = b2i (k ∈ (rRoute f (rBegin f c)).1.2.1) := fun k a b => by rw [keep 51 (Or.inl rfl) (by decide)]; exact m1 k a b
    have k0 := h0 g1 sg2 ((ft7 sg 0).trans (t1.trans t2)) (t27.trans t17)
    unfold rShare at k0
    have loop : ∀ (n : Nat) (k a : Int), 0 ≤ k → k + n = 2000 → κ (a + cnt (fun k => k ∈ (rRoute f (rBegin f c)).1.2.1 ∧ k ∈ (rRoute f (rBegin f d)).1.2.1) n k) sg2 → L_X5_shared_53 (fun sg x3 => P_X5_shared_90 κ sg x3) κ (n + 1) sg2 a k := by
      intro n
      induction n with
      | zero =>
        intro k a h0 h1 hq
        unfold cnt at hq
        rw [Int.add_zero] at hq
        exact ⟨⟨by omega, by omega⟩, pIf_neg (by omega) hq⟩
      | succ n ih =>
        intro k a h0 h1 hq
        unfold cnt at hq
        have no : ¬ (k ∈ (rRoute f (rBegin f c)).1.2.1 ∧ k ∈ (rRoute f (rBegin f d)).1.2.1) → L_X5_shared_53 (fun sg x3 => P_X5_shared_90 κ sg x3) κ (n + 1) sg2 a (k + 1) := fun t => by
          rw [b2i, if_neg t, Int.zero_add] at hq
          exact ih (k + 1) a (by omega) (by omega) hq
        have a1 := m1' k h0 (by omega)
        have a2 := m2 k h0 (by omega)
        refine ⟨⟨by omega, by omega⟩, pIf_pos (by omega) ⟨⟨h0, by omega⟩, by rw [a1]; exact b2i_inr _, fun q => no (fun t => ?_), fun q => ⟨by rw [a2]; exact b2i_inr _, fun q2 => no (fun t => ?_), fun q2 => ?_⟩⟩⟩
        · rw [a1] at q; exact b2i_z.mp q t.1
        · rw [a2] at q2; exact b2i_z.mp q2 t.2
        · rw [a1] at q; rw [a2] at q2
          rw [b2i, if_pos ⟨b2i_nz.mp q, b2i_nz.mp q2⟩] at hq
          refine ih (k + 1) (a + 1) (by omega) (by omega) ?_
          rw [Int.add_assoc]; exact hq
    exact ⟨2001, loop 2000 0 0 (by decide) (by decide) (by rw [Int.zero_add]; exact k0)⟩
  refine t_noColour hc ⟨b2i_inr _, fun q => t_noColour hd ⟨b2i_inr _, fun q2 => go 0 ?_, fun q2 => go 1 ?_⟩, fun q => go 1 ?_⟩
  · rw [b2i, if_neg (fun t => t ⟨Decidable.not_not.mp (b2i_z.mp q), Decidable.not_not.mp (b2i_z.mp q2)⟩)]
  · rw [b2i, if_pos (fun t => b2i_nz.mp q2 t.2)]
  · rw [b2i, if_pos (fun t => b2i_nz.mp q t.1)]
end TV
