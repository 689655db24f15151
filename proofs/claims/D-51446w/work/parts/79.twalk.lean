set_option maxRecDepth 100000
/-! the reference's walk of a route -/
theorem b2i_congr {p q : Prop} [Decidable p] [Decidable q] (h : p ↔ q) : b2i p = b2i q := by
  unfold b2i
  by_cases hp : p
  · rw [if_pos hp, if_pos (h.mp hp)]
  · rw [if_neg hp, if_neg (fun t => hp (h.mpr t))]
theorem cnt_one (p q : Int → Prop) [DecidablePred p] [DecidablePred q] (a : Int) (hq : ∀ k, q k ↔ p k ∨ k = a) (hp : ¬ p a) : ∀ (n : Nat) (k : Int), cnt q n k = cnt p n k + (if k ≤ a ∧ a < k + n then 1 else 0) := by
  intro n
  induction n with
  | zero => intro k; unfold cnt; rw [if_neg (by omega)]; rfl
  | succ n ih =>
    intro k
    unfold cnt
    rw [ih (k + 1)]
    by_cases e : k = a
    · subst e
      have e1 : b2i (q k) = 1 := by rw [b2i, if_pos ((hq k).mpr (Or.inr rfl))]
      have e2 : b2i (p k) = 0 := by rw [b2i, if_neg hp]
      rw [e1, e2, if_neg (by omega), if_pos (by omega)]; omega
    · have e1 : b2i (q k) = b2i (p k) := b2i_congr ⟨fun t => ((hq k).mp t).resolve_right e, fun t => (hq k).mpr (Or.inl t)⟩
      rw [e1]
      by_cases g : k + 1 ≤ a ∧ a < k + 1 + n
      · rw [if_pos g, if_pos (by omega)]; omega
      · rw [if_neg g, if_neg (by omega)]; omega
theorem cnt_all (p : Int → Prop) [DecidablePred p] : ∀ (n : Nat) (k : Int), cnt p n k = n → ∀ j, k ≤ j → j < k + n → p j := by
  intro n
  induction n with
  | zero => intro k _ j h1 h2; omega
  | succ n ih =>
    intro k h j h1 h2
    unfold cnt at h
    have r := cnt_r p n (k + 1)
    have b := b2i_cases (p k)
    by_cases e : j = k
    · subst e
      by_cases t : p j
      · exact t
      · rw [b2i, if_neg t] at h; omega
    · exact ih (k + 1) (by omega) j (by omega) (by omega)
def RInv (f : Row) (R : RR) : Prop := (∀ k ∈ R.1, 0 ≤ k ∧ k < f 4) ∧ cnt (fun k => k ∈ R.1) 24 0 = R.1.length ∧ 1 ≤ R.2.1.length ∧ R.2.1.length ≤ 1 + 36 * R.1.length ∧ R.2.2.1.length ≤ 3 * R.1.length ∧ R.2.2.2.1.length ≤ 2 * R.1.length ∧ 0 ≤ R.2.2.2.2 ∧ R.2.2.2.2 ≤ 100
theorem RInv.len {f : Row} {R : RR} (h : RInv f R) : R.1.length ≤ 24 := by
  have := cnt_r (fun k => k ∈ R.1) 24 0
  have := h.2.1
  omega
theorem RInv.full {f : Row} {R : RR} {a : Int} (h : RInv f R) (h24 : R.1.length = 24) (ha : 0 ≤ a ∧ a < 24) : a ∈ R.1 := cnt_all (fun k => k ∈ R.1) 24 0 (by rw [h.2.1, h24]) a ha.1 (by omega)
theorem rGoes_lens (R : RR) (s d g : Int) : (rGoes R s d g).1 = R.1 ∧ (rGoes R s d g).2.1.length = R.2.1.length + s.toNat ∧ (rGoes R s d g).2.2.1.length = R.2.2.1.length + 1 ∧ (rGoes R s d g).2.2.2.1.length = R.2.2.2.1.length + (if g = 0 then 0 else 1) ∧ (rGoes R s d g).2.2.2.2 = R.2.2.2.2 := by
  refine ⟨rfl, ?_, ?_, ?_, rfl⟩
  · show (R.2.1 ++ _).length = _
    rw [List.length_append, rCells_len]
  · show (R.2.2.1 ++ _).length = _
    rw [List.length_append]; rfl
  · show (R.2.2.2.1 ++ _).length = _
    rw [List.length_append]
    split <;> rfl
theorem RInv.way {f : Row} {R : RR} {a ar : Int} {w : Way7} {o : Int} (h : RInv f R) (ha : 0 ≤ a ∧ a < f 4) (h24 : f 4 ≤ 24) (hn : a ∉ R.1) (hw : WVal f o w) (hs : WOK w) : RInv f (rWayR ar w (rAdd R a)) := by
  obtain ⟨i1, i2, i3, i4, i5, i6, i7, i8⟩ := h
  obtain ⟨v1, v2, v3, v4, v5, v6, v7, v8, v9⟩ := hw
  obtain ⟨s1, s2, s3⟩ := hs
  have hL : (rAdd R a).1.length = R.1.length + 1 := by show (R.1 ++ [a]).length = _; rw [List.length_append]; rfl
  have j1 : ∀ k ∈ (rAdd R a).1, 0 ≤ k ∧ k < f 4 := fun k hk => by
    rcases List.mem_append.mp hk with t | t
    · exact i1 k t
    · rw [List.mem_singleton.mp t]; exact ha
  have j2 : cnt (fun k => k ∈ (rAdd R a).1) 24 0 = (rAdd R a).1.length := by
    rw [cnt_one (fun k => k ∈ R.1) (fun k => k ∈ (rAdd R a).1) a (fun k => by show k ∈ R.1 ++ [a] ↔ _; rw [List.mem_append, List.mem_singleton]) hn 24 0, i2, if_pos (by omega), hL]; omega
  obtain ⟨a1, a2, a3, a4, a5⟩ := rGoes_lens (rWayR2 ar w (rAdd R a)) (wLast w) (wDL ar w) 0
  obtain ⟨b1, b2, b3, b4, b5⟩ := rGoes_lens (rWayR1 ar w (rAdd R a)) (wK2 w) (wD1 w) 1
  obtain ⟨c1, c2, c3, c4, c5⟩ := rGoes_lens (rLong (rAdd R a) (wSum w)) (wK1 w) ar 1
  rw [if_pos rfl] at a4
  rw [if_neg (by decide)] at b4 c4
  have l1 : (rLong (rAdd R a) (wSum w)).1 = (rAdd R a).1 ∧ (rLong (rAdd R a) (wSum w)).2.1.length = R.2.1.length ∧ (rLong (rAdd R a) (wSum w)).2.2.1.length = R.2.2.1.length ∧ (rLong (rAdd R a) (wSum w)).2.2.2.1.length = R.2.2.2.1.length ∧ 0 ≤ (rLong (rAdd R a) (wSum w)).2.2.2.2 ∧ (rLong (rAdd R a) (wSum w)).2.2.2.2 ≤ 100 := by
    refine ⟨rfl, rfl, rfl, rfl, ?_, ?_⟩
    · show 0 ≤ jmax R.2.2.2.2 (wSum w)
      unfold jmax; split <;> omega
    · show jmax R.2.2.2.2 (wSum w) ≤ 100
      unfold jmax; split <;> omega
  have r1 : (rWayR1 ar w (rAdd R a)).1 = (rAdd R a).1 ∧ R.2.1.length ≤ (rWayR1 ar w (rAdd R a)).2.1.length ∧ (rWayR1 ar w (rAdd R a)).2.1.length ≤ R.2.1.length + 12 ∧ (rWayR1 ar w (rAdd R a)).2.2.1.length ≤ R.2.2.1.length + 1 ∧ (rWayR1 ar w (rAdd R a)).2.2.2.1.length ≤ R.2.2.2.1.length + 1 ∧ (rWayR1 ar w (rAdd R a)).2.2.2.2 = (rLong (rAdd R a) (wSum w)).2.2.2.2 := by
    unfold rWayR1
    split
    · exact ⟨c1.trans l1.1, by omega, by omega, by omega, by omega, c5⟩
    · exact ⟨l1.1, by omega, by omega, by omega, by omega, rfl⟩
  have r2 : (rWayR2 ar w (rAdd R a)).1 = (rAdd R a).1 ∧ R.2.1.length ≤ (rWayR2 ar w (rAdd R a)).2.1.length ∧ (rWayR2 ar w (rAdd R a)).2.1.length ≤ R.2.1.length + 24 ∧ (rWayR2 ar w (rAdd R a)).2.2.1.length ≤ R.2.2.1.length + 2 ∧ (rWayR2 ar w (rAdd R a)).2.2.2.1.length ≤ R.2.2.2.1.length + 2 ∧ (rWayR2 ar w (rAdd R a)).2.2.2.2 = (rLong (rAdd R a) (wSum w)).2.2.2.2 := by
    unfold rWayR2
    split
    · exact ⟨b1.trans r1.1, by omega, by omega, by omega, by omega, b5.trans r1.2.2.2.2.2⟩
    · exact ⟨r1.1, by omega, by omega, by omega, by omega, r1.2.2.2.2.2⟩
  have e1 : (rWayR ar w (rAdd R a)).1 = (rAdd R a).1 := a1.trans r2.1
  have e2 : (rWayR ar w (rAdd R a)).1.length = R.1.length + 1 := by rw [e1]; exact hL
  have g1 : (rWayR ar w (rAdd R a)).2.1.length = (rWayR2 ar w (rAdd R a)).2.1.length + (wLast w).toNat := a2
  have g2 : (rWayR ar w (rAdd R a)).2.2.1.length = (rWayR2 ar w (rAdd R a)).2.2.1.length + 1 := a3
  have g3 : (rWayR ar w (rAdd R a)).2.2.2.1.length = (rWayR2 ar w (rAdd R a)).2.2.2.1.length + 0 := a4
  have g4 : (rWayR ar w (rAdd R a)).2.2.2.2 = (rWayR2 ar w (rAdd R a)).2.2.2.2 := a5
  refine ⟨fun k hk => j1 k (by rw [← e1]; exact hk), ?_, by omega, by omega, by omega, by omega, ?_, ?_⟩
  · rw [e2]
    have : cnt (fun k => k ∈ (rWayR ar w (rAdd R a)).1) 24 0 = cnt (fun k => k ∈ (rAdd R a).1) 24 0 := by simp only [e1]
    rw [this, j2, hL]
  · rw [g4, r2.2.2.2.2.2]; exact l1.2.2.2.2.1
  · rw [g4, r2.2.2.2.2.2]; exact l1.2.2.2.2.2
theorem TwR.sW {sg : TS} {R : RR} (h : TwR sg R) (l : Int × Int × Int) (w : Way7) : TwR (sW sg l w) R := h
theorem TwR.mark {sg : TS} {R : RR} {a : Int} (h : TwR sg R) (ha : 0 ≤ a ∧ a < 24) : TwR (setS (setS (setA (setA sg 31 (uI (sg.2 31) a 1)) 25 (uI ((setA sg 31 (uI (sg.2 31) a 1)).2 25) (sg.1 32) a)) 32 ((sg.1 32) + 1)) 37 a) (rAdd R a) := by
  obtain ⟨⟨n1, n2, n3, n4, n5⟩, a1, a2, a3, a4, a5, a6, a7⟩ := h
  refine ⟨⟨?_, n2, n3, n4, n5⟩, ?_, a2, a3, a4, a5, a6, fun k h0 h1 => ?_⟩
  · show sg.1 32 + 1 = ((R.1 ++ [a]).length : Int)
    rw [n1, List.length_append]; rfl
  · show LsI (uI (sg.2 25) (sg.1 32) a) (R.1 ++ [a])
    rw [n1]; exact a1.push
  · show uI (sg.2 31) a 1 k = b2i (k ∈ R.1 ++ [a])
    by_cases e : k = a
    · rw [e, uIs, b2i, if_pos (List.mem_append.mpr (Or.inr (List.mem_singleton.mpr rfl)))]
    · rw [uIn e, a7 k h0 h1]
      exact b2i_congr ⟨fun t => List.mem_append.mpr (Or.inl t), fun t => (List.mem_append.mp t).resolve_right (fun t2 => e (List.mem_singleton.mp t2))⟩
theorem TwR.long {sg : TS} {R : RR} (h : TwR sg R) (v : Int) : TwR (setS sg 38 (jmax (sg.1 38) v)) (rLong R v) := by
  obtain ⟨⟨n1, n2, n3, n4, n5⟩, a1, a2, a3, a4, a5, a6, a7⟩ := h
  exact ⟨⟨n1, n2, n3, n4, by show jmax (sg.1 38) v = jmax R.2.2.2.2 v; rw [n5]⟩, a1, a2, a3, a4, a5, a6, a7⟩
def WSc (sg : TS) (w : Way7) : Prop := sg.1 18 = wNext w ∧ sg.1 19 = wMany w ∧ sg.1 20 = wK1 w ∧ sg.1 21 = wD1 w ∧ sg.1 22 = wK2 w ∧ sg.1 23 = wD2 w ∧ sg.1 24 = wLast w
theorem WSc.fg {sg sg1 : TS} {w : Way7} (h : WSc sg w) (q : FrG sg sg1) : WSc sg1 w := ⟨(q.1 18 (by omega)).trans h.1, (q.1 19 (by omega)).trans h.2.1, (q.1 20 (by omega)).trans h.2.2.1, (q.1 21 (by omega)).trans h.2.2.2.1, (q.1 22 (by omega)).trans h.2.2.2.2.1, (q.1 23 (by omega)).trans h.2.2.2.2.2.1, (q.1 24 (by omega)).trans h.2.2.2.2.2.2⟩
/-- the legs of a way -/
theorem t_wayR {κ : TS → Prop} {k15 k69 k196 : TS → Int → Prop} {sg : TS} {w : Way7} {R : RR} {ar o : Int} {f : Row} (hw : WSc sg w) (hR : TwR sg (rLong R (wSum w))) (hv : WVal f o w) (har : 0 ≤ ar ∧ ar ≤ 4) (hc : 1 ≤ R.2.1.length ∧ R.2.1.length + 36 ≤ 1000) (hl : R.2.2.1.length + 3 ≤ 100) (ht : R.2.2.2.1.length + 3 ≤ 60)
    (hk : ∀ sg1, FrW sg sg1 → TwR sg1 (rWayR ar w R) → k15 sg1 (wNext w)) : InR (sg.1 19) ∧ pIf (0 < sg.1 19) (P_X5_goes (fun sg53 => P_X5_walk_128 k15 k69 k196 κ sg53 ar) sg (sg.1 20) ar 1) (P_X5_walk_128 k15 k69 k196 κ sg ar) := by
  obtain ⟨v1, v2, v3, v4, v5, v6, v7, v8, v9⟩ := hv
  have last : ∀ (sg1 : TS), FrW sg sg1 → WSc sg1 w → TwR sg1 (rWayR2 ar w R) → (rWayR2 ar w R).2.1.length + 12 ≤ 1000 → 1 ≤ (rWayR2 ar w R).2.1.length → (rWayR2 ar w R).2.2.1.length < 100 → (rWayR2 ar w R).2.2.2.1.length < 60 → P_X5_walk_149 k15 k69 k196 κ sg1 ar := by
    intro sg1 g1 g2 g3 b1 b2 b3 b4
    obtain ⟨s18, s19, s20, s21, s22, s23, s24⟩ := g2
    have fin : ∀ d : Int, d = wDL ar w → (0 ≤ d ∧ d ≤ 4) → P_X5_walk_184 k15 k69 k196 κ sg1 d (sg1.1 24) := fun d e hd => by
      rw [s24]
      refine t_goes g3 ⟨by omega, by omega⟩ v5 (Or.inl rfl) ⟨b2, b1⟩ b3 b4 (fun sg2 f1 f2 => ?_)
      have e18 : sg2.1 18 = wNext w := (f1.1 18 (by omega)).trans s18
      rw [e18]
      subst e
      exact hk sg2 (g1.trans f1.fw) f2
    refine ⟨by rw [s19]; exact ⟨by omega, by omega⟩, fun q => ?_, fun q => ⟨fun q2 => ?_, fun q2 => ?_⟩⟩
    · rw [s19] at q
      exact fin ar (by unfold wDL; rw [if_pos q]) har
    · rw [s19] at q q2
      rw [s21]
      have := v6 (by omega)
      exact fin _ (by unfold wDL; rw [if_neg q, if_pos q2]) (by omega)
    · rw [s19] at q q2
      rw [s23]
      have := v7 (by omega)
      exact fin _ (by unfold wDL; rw [if_neg q, if_neg q2]) (by omega)
  have mid : ∀ (sg1 : TS), FrW sg sg1 → WSc sg1 w → TwR sg1 (rWayR1 ar w R) → (rWayR1 ar w R).2.1.length + 24 ≤ 1000 → 1 ≤ (rWayR1 ar w R).2.1.length → (rWayR1 ar w R).2.2.1.length + 2 ≤ 100 → (rWayR1 ar w R).2.2.2.1.length + 2 ≤ 60 → P_X5_walk_128 k15 k69 k196 κ sg1 ar := by
    intro sg1 g1 g2 g3 b1 b2 b3 b4
    have g2' := g2
    obtain ⟨s18, s19, s20, s21, s22, s23, s24⟩ := g2
    refine ⟨by rw [s19]; exact ⟨by omega, by omega⟩, fun q => ?_, fun q => ?_⟩
    · rw [s19] at q
      rw [s22, s21]
      have hd1 := v6 (by omega)
      have e2 : rWayR2 ar w R = rGoes (rWayR1 ar w R) (wK2 w) (wD1 w) 1 := by unfold rWayR2; rw [if_pos q]
      obtain ⟨c1, c2, c3, c4, c5⟩ := rGoes_lens (rWayR1 ar w R) (wK2 w) (wD1 w) 1
      rw [if_neg (by decide)] at c4
      refine t_goes g3 ⟨by omega, by omega⟩ v4 (Or.inr rfl) ⟨b2, by omega⟩ (by omega) (by omega) (fun sg2 f1 f2 => ?_)
      refine last sg2 (g1.trans f1.fw) (g2'.fg f1) (by rw [e2]; exact f2) ?_ ?_ ?_ ?_ <;> rw [e2]
      · omega
      · omega
      · omega
      · omega
    · rw [s19] at q
      have e2 : rWayR2 ar w R = rWayR1 ar w R := by unfold rWayR2; rw [if_neg q]
      refine last sg1 g1 g2' (by rw [e2]; exact g3) ?_ ?_ ?_ ?_ <;> rw [e2]
      · omega
      · omega
      · omega
      · omega
  obtain ⟨s18, s19, s20, s21, s22, s23, s24⟩ := hw
  have hw' : WSc sg w := ⟨s18, s19, s20, s21, s22, s23, s24⟩
  refine ⟨by rw [s19]; exact ⟨by omega, by omega⟩, fun q => ?_, fun q => ?_⟩
  · rw [s19] at q
    rw [s20]
    have e1 : rWayR1 ar w R = rGoes (rLong R (wSum w)) (wK1 w) ar 1 := by unfold rWayR1; rw [if_pos q]
    obtain ⟨c1, c2, c3, c4, c5⟩ := rGoes_lens (rLong R (wSum w)) (wK1 w) ar 1
    rw [if_neg (by decide)] at c4
    have d2 : (rLong R (wSum w)).2.1.length = R.2.1.length := rfl
    have d3 : (rLong R (wSum w)).2.2.1.length = R.2.2.1.length := rfl
    have d4 : (rLong R (wSum w)).2.2.2.1.length = R.2.2.2.1.length := rfl
    refine t_goes hR ⟨by omega, by omega⟩ v3 (Or.inr rfl) ⟨by omega, by omega⟩ (by omega) (by omega) (fun sg2 f1 f2 => ?_)
    refine mid sg2 f1.fw (hw'.fg f1) (by rw [e1]; exact f2) ?_ ?_ ?_ ?_ <;> rw [e1]
    · omega
    · omega
    · omega
    · omega
  · rw [s19] at q
    have e1 : rWayR1 ar w R = rLong R (wSum w) := by unfold rWayR1; rw [if_neg q]
    have d2 : (rLong R (wSum w)).2.1.length = R.2.1.length := rfl
    have d3 : (rLong R (wSum w)).2.2.1.length = R.2.2.1.length := rfl
    have d4 : (rLong R (wSum w)).2.2.2.1.length = R.2.2.2.1.length := rfl
    refine mid sg (FrW.refl sg) hw' (by rw [e1]; exact hR) ?_ ?_ ?_ ?_ <;> rw [e1] <;> omega
theorem t_walk_loop {κ : TS → Prop} {f : Row} {sg0 : TS} (hr : RowOK f) : ∀ (n : Nat) (a : Int) (R : RR) (sg : TS), sg.2 0 = f → (0 ≤ a ∧ a < f 4) → rPf f a 4 = 0 → RInv f R → R.1.length + n = 25 → TwR sg R → FrW sg0 sg →
    (∀ sg1, FrW sg0 sg1 → TwR sg1 (rWk f n a R).1 → sg1.1 36 = (rWk f n a R).2.1 → sg1.1 37 = (rWk f n a R).2.2 → κ sg1) → L_X5_walk_15 (fun sg x2 => P_X5_walk_69 κ sg x2) (fun sg x2 => P_X5_walk_196 κ sg x2) κ n sg a := by
  have hm := hr.many
  intro n
  induction n with
  | zero =>
    intro a R sg hf ha hst hi hl hR hfr hk
    have := hi.len
    omega
  | succ n ih =>
    intro a R sg hf ha hst hi hl hR hfr hk
    have a31 := hR.2.2.2.2.2.2.2 a ha.1 (by omega)
    have n1 := hR.1.1
    have hlen := hi.len
    refine ⟨⟨ha.1, by omega⟩, by rw [a31]; exact b2i_inr _, fun q => ?_, fun q => ?_⟩
    · rw [a31] at q
      have hn : a ∉ R.1 := b2i_z.mp q
      have hl24 : R.1.length ≠ 24 := fun t => hn (hi.full t ⟨ha.1, by omega⟩)
      have eU : rWk f (n + 1) a R = if wNext (rFind f a 0 0) = -1 then (rAdd R a, (if rPf f a 3 = 4 then 0 else 1), a) else rWk f n (wNext (rFind f a 0 0)) (rWayR (rPf f a 3) (rFind f a 0 0) (rAdd R a)) := by
        rw [rWk, if_neg hn]
      rw [eU] at hk
      refine ⟨⟨by omega, by omega⟩, ?_⟩
      have hM := hR.mark (a := a) ⟨ha.1, by omega⟩
      refine t_find (by show RowOK (sg.2 0); rw [hf]; exact hr) (by show 0 ≤ a ∧ a < sg.2 0 4; rw [hf]; exact ha) (fun l => ?_)
      have hrow : (setS (setS (setA (setA sg 31 (uI (sg.2 31) a 1)) 25 (uI ((setA sg 31 (uI (sg.2 31) a 1)).2 25) (sg.1 32) a)) 32 ((sg.1 32) + 1)) 37 a).2 0 = f := hf
      rw [hrow]
      have hfr1 : FrW sg0 (setS (setS (setA (setA sg 31 (uI (sg.2 31) a 1)) 25 (uI ((setA sg 31 (uI (sg.2 31) a 1)).2 25) (sg.1 32) a)) 32 ((sg.1 32) + 1)) 37 a) := hfr.trans ⟨fun j _ h2 => by
          show (if j = 37 then _ else if j = 32 then _ else sg.1 j) = sg.1 j
          rw [if_neg (by omega), if_neg (by omega)], fun j h => by
          show (if j = 25 then _ else if j = 31 then _ else sg.2 j) = sg.2 j
          rw [if_neg (by omega), if_neg (by omega)]⟩
      have h37 : (setS (setS (setA (setA sg 31 (uI (sg.2 31) a 1)) 25 (uI ((setA sg 31 (uI (sg.2 31) a 1)).2 25) (sg.1 32) a)) 32 ((sg.1 32) + 1)) 37 a).1 37 = a := rfl
      generalize setS (setS (setA (setA sg 31 (uI (sg.2 31) a 1)) 25 (uI ((setA sg 31 (uI (sg.2 31) a 1)).2 25) (sg.1 32) a)) 32 ((sg.1 32) + 1)) 37 a = sg3 at *
      have hE := rFind_E f a (sg3.1 21) (sg3.1 23) 0 0
      have hV := rFind_V hr a (sg3.1 21) (sg3.1 23)
      have hO := rFind_OK hr a (sg3.1 21) (sg3.1 23)
      have hAr := @rFind_arrow f a (sg3.1 21) (sg3.1 23)
      rw [← hE.1] at hk
      rw [← hE.wayR hV.2.1] at hk
      generalize rFind f a (sg3.1 21) (sg3.1 23) = w at *
      have har := hr.arrow a ha.1 ha.2
      have rw9 : ∀ sgx : TS, FrW sg0 sgx → sgx.2 0 = f := fun sgx hx => (hx.2 0 (by omega)).trans ((hfr.2 0 (by omega)).symm.trans hf)
      refine ⟨⟨by show -2147483648 ≤ wNext w; have := hO.1; omega, by show wNext w < _; have := hO.1; omega⟩, fun e => ?_, fun e => ?_⟩
      · have e : wNext w = -1 := e
        rw [if_pos e] at hk
        have hrw : (sW sg3 l w).2 0 = f := hrow
        refine t_of ⟨ha.1, by omega, by decide, by decide⟩ ?_
        rw [hrw]
        refine ⟨⟨by omega, by omega⟩, fun q4 => ?_, fun q4 => ?_⟩
        · refine hk _ (((hfr1.trans (sW_fw sg3 l w))).trans ⟨fun j _ h2 => by show (if j = 36 then _ else (sW sg3 l w).1 j) = _; rw [if_neg (by omega)], fun _ _ => rfl⟩) hM ?_ ?_
          · rw [if_pos q4]; rfl
          · exact h37
        · refine hk _ (((hfr1.trans (sW_fw sg3 l w))).trans ⟨fun j _ h2 => by show (if j = 36 then _ else (sW sg3 l w).1 j) = _; rw [if_neg (by omega)], fun _ _ => rfl⟩) hM ?_ ?_
          · rw [if_neg q4]; rfl
          · exact h37
      · have e : ¬ wNext w = -1 := e
        rw [if_neg e] at hk
        have hvn := hV.1.resolve_left e
        have i4 : InR ((sW sg3 l w).1 38) := by
          have h1 : (sW sg3 l w).1 38 = (rAdd R a).2.2.2.2 := hM.1.2.2.2.2
          have h2 : (rAdd R a).2.2.2.2 = R.2.2.2.2 := rfl
          rw [h1, h2]
          have := hi.2.2.2.2.2.2
          exact ⟨by omega, by omega⟩
        have i5 : InR (wSum w) := ⟨by have := hO.2; omega, by have := hO.2; omega⟩
        refine ⟨i4, i5, t_of ⟨ha.1, by omega, by decide, by decide⟩ ?_⟩
        have hrw : (setS (sW sg3 l w) 38 (jmax ((sW sg3 l w).1 38) (wSum w))).2 0 = f := hrow
        show InR ((setS (sW sg3 l w) 38 (jmax ((sW sg3 l w).1 38) (wSum w))).1 19) ∧ pIf _ (P_X5_goes (fun sg53 => P_X5_walk_128 _ _ _ κ sg53 (rPf ((setS (sW sg3 l w) 38 (jmax ((sW sg3 l w).1 38) (wSum w))).2 0) a 3)) _ _ (rPf ((setS (sW sg3 l w) 38 (jmax ((sW sg3 l w).1 38) (wSum w))).2 0) a 3) 1) (P_X5_walk_128 _ _ _ κ _ (rPf ((setS (sW sg3 l w) 38 (jmax ((sW sg3 l w).1 38) (wSum w))).2 0) a 3))
        rw [hrw]
        have hfr2 : FrW sg0 (setS (sW sg3 l w) 38 (jmax ((sW sg3 l w).1 38) (wSum w))) := (hfr1.trans (sW_fw sg3 l w)).trans ⟨fun j _ h2 => by show (if j = 38 then _ else (sW sg3 l w).1 j) = _; rw [if_neg (by omega)], fun _ _ => rfl⟩
        obtain ⟨i1, i2, i3, i4', i5', i6', i7', i8'⟩ := hi
        have hi : RInv f R := ⟨i1, i2, i3, i4', i5', i6', i7', i8'⟩
        have l2 : (rAdd R a).2.1.length = R.2.1.length := rfl
        have l3 : (rAdd R a).2.2.1.length = R.2.2.1.length := rfl
        have l4 : (rAdd R a).2.2.2.1.length = R.2.2.2.1.length := rfl
        have hi2 := hi.way (ar := rPf f a 3) ha hm.2 hn hV hO
        refine t_wayR (w := w) (R := rAdd R a) (f := f) (o := a) ⟨rfl, rfl, rfl, rfl, rfl, rfl, rfl⟩ ((hM.sW l w).long (wSum w)) hV har ⟨by omega, by omega⟩ (by omega) (by omega) (fun sg5 g1 g2 => ?_)
        have e5 : (rWayR (rPf f a 3) w (rAdd R a)).1 = R.1 ++ [a] := by
          obtain ⟨c1, -⟩ := rGoes_lens (rWayR2 (rPf f a 3) w (rAdd R a)) (wLast w) (wDL (rPf f a 3) w) 0
          have c2 : (rWayR2 (rPf f a 3) w (rAdd R a)).1 = (rWayR1 (rPf f a 3) w (rAdd R a)).1 := by unfold rWayR2; split <;> rfl
          have c3 : (rWayR1 (rPf f a 3) w (rAdd R a)).1 = (rAdd R a).1 := by unfold rWayR1; split <;> rfl
          exact c1.trans (c2.trans c3)
        have el : (rWayR (rPf f a 3) w (rAdd R a)).1.length = R.1.length + 1 := by rw [e5, List.length_append]; rfl
        exact ih (wNext w) _ sg5 ((rw9 sg5 (hfr2.trans g1))) ⟨hvn.1, hvn.2.1⟩ hvn.2.2.1 hi2 (by omega) g2 (hfr2.trans g1) hk
    · rw [a31] at q
      have hin : a ∈ R.1 := Decidable.not_not.mp (fun t => q (b2i_z.mpr t))
      have eU : rWk f (n + 1) a R = (R, 2, a) := by rw [rWk, if_pos hin]
      rw [eU] at hk
      refine hk _ (hfr.trans ⟨fun j _ h2 => by show (if j = 37 then _ else if j = 36 then _ else sg.1 j) = _; rw [if_neg (by omega), if_neg (by omega)], fun _ _ => rfl⟩) hR rfl rfl
