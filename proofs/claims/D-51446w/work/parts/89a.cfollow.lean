set_option maxRecDepth 100000
theorem LsI.get {a : Int → Int} {l : List Int} (h : LsI a l) {p q : List Int} {b : Int} (e : l = p ++ b :: q) : a (p.length : Int) = b := by
  subst e
  rw [h p.length (by rw [List.length_append]; simp), List.getD_eq_getElem?_getD, List.getElem?_append_right (Nat.le_refl _), Nat.sub_self]
  rfl
def SaOK (f : Row) (sa : Int → Int) (ps : List Int) : Prop := ∀ l b m, ps = l ++ b :: m → sa (l.length : Int) = rSum f l
/-- what follows of a whole route is in the Guide -/
def GdE (f : Row) (h : AH) (σ : GS) (q : RR × Int × Int) : Prop := GdR h σ q.1 ∧ σ.1 15 = q.2.1 ∧ σ.1 16 = q.2.2 ∧ σ.1 17 = q.1.2.2.2.2 ∧ σ.1 18 = (if q.2.1 = 2 then rLoop f q.1.1 q.2.2 else 0)
section CN
variable {K : KT} {χ : QxT} {gd tr : Nat}
theorem q_place {κ : Int → AH → Nat → Nat → Prop} {σ : GS} {ps : List Int} {a : Int} {h : AH} {n0 z : Nat} (h8 : σ.1 8 = ps.length) (h7 : LsI (σ.2.1 7) ps) (hl : ps.length ≤ 24) (hb : ∀ k ∈ ps, 0 ≤ k ∧ k < 24) (ha : 0 ≤ a ∧ a < 24)
    (h1 : a ∉ ps → κ (-1) (gv gd tr σ h) n0 z) (h2 : ∀ l m, ps = l ++ a :: m → a ∉ l → κ (l.length : Int) (gv gd tr σ h) n0 z) : P_X8_place K gd κ χ (gv gd tr σ h) n0 z a := by
  have loop : ∀ (r l : List Int), ps = l ++ r → a ∉ l → L_X8_place_2 K gd (fun h n z x2 => P_X8_place_20 K gd κ χ h n z x2) (fun h n z => P_X8_place_28 K gd κ χ h n z) κ χ (r.length + 1) (gv gd tr σ h) n0 z a (l.length : Int) := by
    intro r
    induction r with
    | nil =>
      intro l e hn
      rw [List.append_nil] at e
      refine q_get (by decide) ?_
      rw [h8, e]
      refine ⟨⟨by omega, by rw [e] at hl; omega⟩, ⟨by omega, by rw [e] at hl; omega⟩, pIf_neg (by omega) (h1 (by rw [e]; exact hn))⟩
    | cons b r ih =>
      intro l e hn
      have hlen : ps.length = l.length + (r.length + 1) := by rw [e, List.length_append, List.length_cons]
      have hbb := hb b (by rw [e]; exact List.mem_append.mpr (Or.inr List.mem_cons_self))
      refine q_get (by decide) ?_
      rw [h8]
      refine ⟨⟨by omega, by omega⟩, ⟨by omega, by omega⟩, pIf_pos (by omega) (q_ref 6 (by decide) (q_ld 7 25 (by decide) ⟨by omega, by omega⟩ ?_))⟩
      rw [h7.get e]
      refine ⟨⟨by omega, by omega⟩, ⟨by omega, by omega⟩, fun q => ?_, fun q => ?_⟩
      · subst q; exact h2 l r e hn
      · have := ih (l ++ [b]) (by rw [e]; simp) (fun t => by
          rcases List.mem_append.mp t with t | t
          · exact hn t
          · exact q (List.mem_singleton.mp t).symm)
        have el : ((l ++ [b]).length : Int) = (l.length : Int) + 1 := by rw [List.length_append]; rfl
        rw [el] at this
        exact this
  exact ⟨ps.length + 1, loop ps [] rfl List.not_mem_nil⟩
theorem LgsOK.put {h : AH} {a : Int → Option Nat} {l : List (Int × Int × Int)} {q t N : Nat} {c : AC} {e : AE} (p : LgsOK h a l) (hq : h q = some (.inl (t, N, c))) : LgsOK (up h q e) a l := fun i hi => by
  obtain ⟨b, e1, e2⟩ := p i hi
  refine ⟨b, e1, ?_⟩
  rw [up_ne (fun t9 => by rw [t9, hq] at e2; cases e2)]; exact e2
theorem q_follow_loop {κ : Option Nat → AH → Nat → Nat → Prop} {f : Row} {h0 : AH} {n00 z00 sA : Nat} {σ00 : GS} (hr : RowOK f) (hz : kz K ≤ gd) (hgd : gd + 13 ≤ n00) (hsA : n00 = sA) (hkn : n00 + 73 ≤ kn K ∧ z00 + 240 ≤ kw K) (h018 : σ00.1 18 = 0) :
    ∀ (n : Nat) (a : Int) (R : RR) (σ : GS) (h : AH) (sa : Int → Int) (n0 z : Nat), (0 ≤ a ∧ a < f 4) → rPf f a 4 = 0 → RInv f R → R.1.length + n = 25 → RFac f R a → TrP h tr f → Hol h gd → WfH h n0 → h sA = some (.inl (0, 24, .inl sa)) → SaOK f sa R.1 → GdR h σ R → σ.1 17 = R.2.2.2.2 → σ.1 18 = 0 →
      (∀ q, q < n00 → h q = h0 q) → sA < n0 → n0 ≤ n00 + 1 + 3 * R.1.length → z ≤ z00 + 24 + 9 * R.1.length →
      (∀ σ1 h1 n1 z1, GdE f h1 σ1 (rWk f n a R) → TrP h1 tr f → Hol h1 gd → WfH h1 n1 → (∀ q, q < n00 → h1 q = h0 q) → n00 ≤ n1 → n1 ≤ n00 + 73 → z1 ≤ z00 + 240 → κ (some gd) (gv gd tr σ1 h1) n1 z1) →
      L_X8_follow_60 K gd (fun h n z x3 => P_X8_follow_121 K gd κ χ h n z x3) (fun h n z x2 x3 => P_X8_follow_172 K gd κ χ h n z x2 x3) κ χ n (gv gd tr σ h) n0 z (some sA) a := by
  have hm := hr.many
  intro n
  induction n with
  | zero =>
    intro a R σ h sa n0 z ha hst hi hl
    have := hi.len
    omega
  | succ n ih =>
    intro a R σ h sa n0 z ha hst hi hl hf hT hh hwf hsa hsaok hR h17 h18 hlow hsn hn0 hz0 hk
    have hlen := hi.len
    obtain ⟨i1, i2, i3, i4, i5, i6, i7, i8⟩ := id hi
    obtain ⟨f1, f2, f3, f4', f5⟩ := id hf
    obtain ⟨⟨g8, g10, g12, g14⟩, g7, g9, g11, gl⟩ := id hR
    have hps : ∀ k ∈ R.1, 0 ≤ k ∧ k < 24 := fun k t => ⟨(i1 k t).1, by have := (i1 k t).2; omega⟩
    refine pRecv_i (gv_0 _ _ _ _) (q_place g8 g7 hlen hps ⟨ha.1, by omega⟩ (fun q => ?_) (fun l m el ql => ?_))
    · -- a new post
      have hl24 : R.1.length ≠ 24 := fun t => q (hi.full t ⟨ha.1, by omega⟩)
      have eU : rWk f (n + 1) a R = if wNext (rFind f a 0 0) = -1 then (rAdd R a, (if rPf f a 3 = 4 then 0 else 1), a) else rWk f n (wNext (rFind f a 0 0)) (rWayR (rPf f a 3) (rFind f a 0 0) (rAdd R a)) := by
        rw [rWk, if_neg q]
      rw [eU] at hk
      have hsg : gv gd tr σ h sA = some (.inl (0, 24, .inl sa)) := by rw [gv_out (Or.inr (by omega))]; exact hsa
      refine ⟨by decide, pIf_pos rfl (q_get (by decide) (pRecv_i (gv_0 _ _ _ _) (q_get (by decide) (pSI_i hsg (by omega) (by rw [g8]; omega) ?_))))⟩
      rw [gv_upo (Or.inr (by omega)), g8, g10]
      have hT1 : TrP (up h sA (.inl (0, 24, .inl (uI sa (R.1.length : Int) ((R.2.1.length : Int) - 1))))) tr f := hT.keep ((Ks.refl _ h).put hsa rfl)
      have hh1 : Hol (up h sA (.inl (0, 24, .inl (uI sa (R.1.length : Int) ((R.2.1.length : Int) - 1))))) gd := fun q q1 q2 => by rw [up_ne (by omega)]; exact hh q q1 q2
      have hwf1 : WfH (up h sA (.inl (0, 24, .inl (uI sa (R.1.length : Int) ((R.2.1.length : Int) - 1))))) n0 := fun q hq => by rw [up_ne (by omega)]; exact hwf q hq
      have hlow1 : ∀ q, q < n00 → up h sA (.inl (0, 24, .inl (uI sa (R.1.length : Int) ((R.2.1.length : Int) - 1)))) q = h0 q := fun q hq => by rw [up_ne (by omega)]; exact hlow q hq
      have gl1 : LgsOK (up h sA (.inl (0, 24, .inl (uI sa (R.1.length : Int) ((R.2.1.length : Int) - 1))))) σ.2.2 R.2.2.1 := gl.put hsa
      have hsa1 : up h sA (.inl (0, 24, .inl (uI sa (R.1.length : Int) ((R.2.1.length : Int) - 1)))) sA = some (.inl (0, 24, .inl (uI sa (R.1.length : Int) ((R.2.1.length : Int) - 1)))) := up_same _ _ _
      have hsaok1 : SaOK f (uI sa (R.1.length : Int) ((R.2.1.length : Int) - 1)) (R.1 ++ [a]) := by
        intro l b m e
        by_cases t : l.length = R.1.length
        · have e1 : l = R.1 := by
            have := congrArg (List.take l.length) e
            rw [List.take_left, t, List.take_left] at this
            exact this.symm
          rw [t, uIs, e1]; omega
        · rw [uIn (by omega)]
          have hb1 : l.length < R.1.length := by
            have := congrArg List.length e
            rw [List.length_append, List.length_append, List.length_cons] at this
            have : R.1.length + 1 = l.length + (m.length + 1) := this
            omega
          obtain ⟨m1, hm1⟩ : ∃ m1, R.1 = l ++ b :: m1 := by
            have h2 := congrArg (List.take R.1.length) e
            rw [List.take_left, List.take_append] at h2
            rw [List.take_of_length_le (by omega)] at h2
            obtain ⟨c, hc⟩ : ∃ c, R.1.length - l.length = c + 1 := ⟨R.1.length - l.length - 1, by omega⟩
            rw [hc, List.take_succ_cons] at h2
            exact ⟨_, h2⟩
          exact hsaok l b m1 hm1
      generalize up h sA (.inl (0, 24, .inl (uI sa (R.1.length : Int) ((R.2.1.length : Int) - 1)))) = h1 at *
      refine q_ref 6 (by decide) (q_get (by decide) (q_st 7 25 (by decide) hz (by rw [g8]; omega) (q_get (by decide) (q_put (by decide) hz (q_put (by decide) hz (pRecv_i (gv_0 _ _ _ _) ?_))))))
      have hs2 : GdR h1 (gS (gS (gA σ 7 (uI (σ.2.1 7) (σ.1 8) a)) 8 ((gA σ 7 (uI (σ.2.1 7) (σ.1 8) a)).1 8 + 1)) 16 a) (rAdd R a) := by
        refine ⟨⟨?_, g10, g12, g14⟩, ?_, g9, g11, gl1⟩
        · show σ.1 8 + 1 = ((R.1 ++ [a]).length : Int)
          rw [g8, List.length_append]; rfl
        · show LsI (uI (σ.2.1 7) (σ.1 8) a) (R.1 ++ [a])
          rw [g8]; exact g7.push
      have e17 : (gS (gS (gA σ 7 (uI (σ.2.1 7) (σ.1 8) a)) 8 ((gA σ 7 (uI (σ.2.1 7) (σ.1 8) a)).1 8 + 1)) 16 a).1 17 = R.2.2.2.2 := h17
      have e18 : (gS (gS (gA σ 7 (uI (σ.2.1 7) (σ.1 8) a)) 8 ((gA σ 7 (uI (σ.2.1 7) (σ.1 8) a)).1 8 + 1)) 16 a).1 18 = 0 := h18
      have e16 : (gS (gS (gA σ 7 (uI (σ.2.1 7) (σ.1 8) a)) 8 ((gA σ 7 (uI (σ.2.1 7) (σ.1 8) a)).1 8 + 1)) 16 a).1 16 = a := rfl
      generalize gS (gS (gA σ 7 (uI (σ.2.1 7) (σ.1 8) a)) 8 ((gA σ 7 (uI (σ.2.1 7) (σ.1 8) a)).1 8 + 1)) 16 a = σ2 at *
      refine q_find 0 0 hr hT1 hh1 hz ha hst (fun σ3 r1 r2 => ?_)
      have hV := rFind_V hr a 0 0
      have hO := rFind_OK hr a 0 0
      have har := hr.arrow a ha.1 ha.2
      have hps2 : (rAdd R a).1 = R.1 ++ [a] := rfl
      have hRR : GdR h1 σ3 (rAdd R a) := by
        obtain ⟨⟨b1, b2, b3, b4⟩, b5, b6, b7, b8⟩ := hs2
        refine ⟨⟨?_, ?_, ?_, ?_⟩, ?_, ?_, ?_, ?_⟩
        · rw [r1.1 8 (by decide)]; exact b1
        · rw [r1.1 10 (by decide)]; exact b2
        · rw [r1.1 12 (by decide)]; exact b3
        · rw [r1.1 14 (by decide)]; exact b4
        · rw [r1.2.1 7 (by decide) (by decide) (by decide) (by decide)]; exact b5
        · rw [r1.2.1 9 (by decide) (by decide) (by decide) (by decide)]; exact b6
        · rw [r1.2.1 11 (by decide) (by decide) (by decide) (by decide)]; exact b7
        · rw [r1.2.2]; exact b8
      have q17 : σ3.1 17 = R.2.2.2.2 := by rw [r1.1 17 (by decide)]; exact e17
      have q18 : σ3.1 18 = 0 := by rw [r1.1 18 (by decide)]; exact e18
      have q16 : σ3.1 16 = a := by rw [r1.1 16 (by decide)]; exact e16
      refine q_ref 1 (by decide) (q_wget (k := 0) (by decide) ?_)
      show InR (σ3.1 20) ∧ pIf (σ3.1 20 = -1) _ _
      rw [r2.1]
      refine ⟨⟨by have := hO.1; omega, by have := hO.1; omega⟩, fun e => ?_, fun e => ?_⟩
      · rw [if_pos e] at hk
        have fin : ∀ v : Int, v = (if rPf f a 3 = 4 then 0 else 1) → κ (some gd) (gv gd tr (gS σ3 15 v) h1) n0 z := fun v ev => by
          refine hk _ h1 n0 z ⟨hRR, ev, q16, q17, ?_⟩ hT1 hh1 hwf1 hlow1 (by omega) (by omega) (by omega)
          show σ3.1 18 = _
          rw [q18, if_neg]
          show ¬ (if rPf f a 3 = 4 then (0 : Int) else 1) = 2
          split <;> decide
        refine q_tr (q_post hr hT1 hh1 ha fun b hb => pGI_i (gv_post hh1 hb) rfl ⟨⟨by omega, by omega⟩, fun q4 => q_put (by decide) hz (fin 0 (if_pos q4).symm), fun q4 => q_put (by decide) hz (fin 1 (if_neg q4).symm)⟩)
      · rw [if_neg e] at hk
        have hvn := hV.1.resolve_left e
        have m2 : (rAdd R a).2.1 = R.2.1 := rfl
        have m3 : (rAdd R a).2.2.1 = R.2.2.1 := rfl
        have m4 : (rAdd R a).2.2.2.1 = R.2.2.2.1 := rfl
        have m5 : (rAdd R a).1.length = R.1.length + 1 := by show (R.1 ++ [a]).length = _; rw [List.length_append]; rfl
        refine q_tr (q_post hr hT1 hh1 ha fun b hb => pRecv_i (gv_0 _ _ _ _) ?_)
        refine q_layWay (w := rFind f a 0 0) (R := rAdd R a) (f := f) (a := a) (o := a) hz hwf1 hh1 (by omega) hb rfl rfl har r2 e hV hO hRR f5.2.2.1 (by rw [m2]; omega) (by rw [m3]; omega) (by rw [m4]; omega) (by rw [q17]; exact ⟨i7, i8⟩) ⟨by omega, by omega⟩ (fun σ4 h2 n1 z1 c1 c2 c3 c4 c5 c6 c7 c8 c9 => ?_)
        have ep : (rWayR (rPf f a 3) (rFind f a 0 0) (rAdd R a)).1 = R.1 ++ [a] := rWayR_ps _ _ _
        have epl : (rWayR (rPf f a 3) (rFind f a 0 0) (rAdd R a)).1.length = R.1.length + 1 := by rw [ep]; exact m5
        have eg : (rWayR (rPf f a 3) (rFind f a 0 0) (rAdd R a)).2.2.2.2 = jmax R.2.2.2.2 (wSum (rFind f a 0 0)) := by
          obtain ⟨-, -, -, -, x1⟩ := rGoes_lens (rWayR2 (rPf f a 3) (rFind f a 0 0) (rAdd R a)) (wLast (rFind f a 0 0)) (wDL (rPf f a 3) (rFind f a 0 0)) 0
          have x2 : (rWayR2 (rPf f a 3) (rFind f a 0 0) (rAdd R a)).2.2.2.2 = (rWayR1 (rPf f a 3) (rFind f a 0 0) (rAdd R a)).2.2.2.2 := by unfold rWayR2; split <;> rfl
          have x3 : (rWayR1 (rPf f a 3) (rFind f a 0 0) (rAdd R a)).2.2.2.2 = (rLong (rAdd R a) (wSum (rFind f a 0 0))).2.2.2.2 := by unfold rWayR1; split <;> rfl
          exact x1.trans (x2.trans x3)
        have nd : (R.1 ++ [a]).Nodup := by
          rw [List.nodup_append]
          refine ⟨f1, by simp, fun x hx y hy => ?_⟩
          rw [List.mem_singleton.mp hy]
          intro t
          exact q (t ▸ hx)
        have al : ∀ k ∈ R.1 ++ [a], 0 ≤ k ∧ k < f 4 ∧ rPf f k 4 = 0 := fun k hk => by
          rcases List.mem_append.mp hk with t | t
          · exact f3 k t
          · rw [List.mem_singleton.mp t]; exact ⟨ha.1, ha.2, hst⟩
        refine q_ref 1 (by decide) (q_wget (k := 0) (by decide) ?_)
        show L_X8_follow_60 K gd _ _ κ χ n (gv gd tr σ4 h2) n1 z1 (some sA) (σ4.1 20)
        rw [c1.1 20 (by decide) (by decide) (by decide) (by decide), r2.1]
        refine ih (wNext (rFind f a 0 0)) _ σ4 h2 _ n1 z1 ⟨hvn.1, hvn.2.1⟩ hvn.2.2.1 (hi.way ha hm.2 q hV hO) (by omega) ⟨by rw [ep]; exact nd, by rw [ep]; exact Chn.snoc rfl _ f2, by rw [ep]; exact al, ?_, RCel.way hr ha f5 e⟩ (hT1.keep (c2.ks _)) ?_ c3 (c2 _ _ hsa1) (by rw [ep]; exact hsaok1) c8 ?_ ?_ (fun q hq => (c4 q (by omega)).trans (hlow1 q hq)) (by omega) (by omega) (by omega) hk
        · rw [rWayR_cs hV, ep, rSum_app]
          show (R.2.1.length : Int) + wSum (rFind f a 0 0) = 1 + (rSum f R.1 + (wSum (rFind f a 0 0) + 0))
          omega
        · intro q q1 q2
          rw [c4 q (by omega)]; exact hh1 q q1 q2
        · rw [c9, q17, eg]
        · rw [c1.1 18 (by decide) (by decide) (by decide) (by decide)]; exact q18
    · -- a loop
      have hin : a ∈ R.1 := by rw [el]; exact List.mem_append.mpr (Or.inr List.mem_cons_self)
      have eU : rWk f (n + 1) a R = (R, 2, a) := by rw [rWk, if_pos hin]
      rw [eU] at hk
      have hll : R.1.length = l.length + (m.length + 1) := by rw [el, List.length_append, List.length_cons]
      refine ⟨⟨by omega, by omega⟩, pIf_neg (by omega) (q_put (by decide) hz (q_put (by decide) hz (pRecv_i (gv_0 _ _ _ _) (q_get (by decide) (pRecv_i (gv_0 _ _ _ _) ?_)))))⟩
      have hE : ∀ v : Int, v = rLoop f R.1 a → κ (some gd) (gv gd tr (gS (gS (gS σ 15 2) 16 a) 18 v) h) n0 z := fun v ev =>
        hk _ h n0 z ⟨⟨⟨g8, g10, g12, g14⟩, g7, g9, g11, gl⟩, rfl, rfl, h17, by show v = _; rw [if_pos rfl]; exact ev⟩ hT hh hwf hlow (by omega) (by omega) (by omega)
      refine q_place (ps := R.1) g8 g7 hlen hps ⟨ha.1, by omega⟩ (fun t => absurd hin t) (fun l1 m1 el1 ql1 => ?_)
      have hsg : gv gd tr (gS (gS σ 15 2) 16 a) h sA = some (.inl (0, 24, .inl sa)) := by rw [gv_out (Or.inr (by omega))]; exact hsa
      have hll1 : R.1.length = l1.length + (m1.length + 1) := by rw [el1, List.length_append, List.length_cons]
      refine pAI_i hsg ⟨by omega, by omega⟩ (q_put (by decide) hz (hE _ ?_))
      show σ.1 10 - 1 - sa (l1.length : Int) = _
      rw [hsaok l1 a m1 el1, g10, f4']
      have e9 : rLoop f R.1 a = rSum f (a :: m1) := by rw [el1]; exact rLoop_split f l1 m1 ql1
      have e8 : rSum f R.1 = rSum f l1 + rSum f (a :: m1) := by rw [el1]; exact rSum_app f l1 (a :: m1)
      rw [e9, e8]; omega
end CN
