set_option maxRecDepth 100000
/-! the component's commands that ask -/
def ExtH (h : AH) (n z : Nat) (h1 : AH) (n1 z1 : Nat) : Prop := XtH h h1 ∧ WfH h1 n1 ∧ n ≤ n1 ∧ n1 ≤ n + 50000 ∧ z1 ≤ z + 228978
theorem ExtH.refl {h : AH} {n z : Nat} (hw : WfH h n) : ExtH h n z h n z := ⟨XtH.refl h, hw, Nat.le_refl _, by omega, by omega⟩
theorem ExtH.new {h : AH} {n z sl : Nat} {e : AE} (hw : WfH h n) (hs : sl ≤ 1000) : ExtH h n z (up h n e) (n + 1) (z + sl) := ⟨hw.ext e, hw.snoc e, by omega, by omega, by omega⟩
theorem ExtH.gst {f : Row} {gd tr n1 z z1 : Nat} {h0 h : AH} (g : GSt f gd tr h0 h n1) (hw : WfH h0 gd) (σ : GS) (h1 : n1 ≤ gd + 50000) (h2 : z1 ≤ z + 228978) : ExtH h0 gd z (gv gd tr σ h) n1 z1 := ⟨g.xt hw σ, g.wf σ, by have := g.2.2.2.1; omega, h1, h2⟩
section CR
variable {K : KT} {χ : QxT} {h : AH} {n z x tr ia os dq sv : Nat} {S : SS} {f : Row}
theorem c_needPost {κ : Option Nat → AH → Nat → Nat → Prop} {p : Int} (hx : h x = some (TmO tr ia os dq sv S)) (hT : TrP h tr f) (hr : RowOK f) (hw : WfH h n) (hz : kz K ≤ n) (hkn : n + 1 ≤ kn K ∧ z + 6 ≤ kw K) (hp : InR p)
    (ok : (0 ≤ p ∧ p < f 4) → ∀ b, h b = some (PoO f p) → κ (some b) h n z) (no : ¬ (0 ≤ p ∧ p < f 4) → χ 23 n (up h n (ExO K n 23 [])) (n + 1) (z + 6)) : P_X1_needPost K x κ χ h n z p := by
  have hm := hr.many
  obtain ⟨pc, gc, sc, h1, -⟩ := id hT
  refine ⟨hp, fun c => x_ioo hw hz hkn (no (by omega)), fun c => pGR_i hx rfl (pGI_i h1 rfl ⟨⟨by omega, by omega⟩, fun d => pGR_i hx rfl (c_post (K := K) hr hT ⟨by omega, d⟩ (fun b hb => ok ⟨by omega, d⟩ b hb)), fun d => x_ioo hw hz hkn (no (by omega))⟩)⟩
theorem c_needColour {κ : AH → Nat → Nat → Prop} {c : Int} (hw : WfH h n) (hz : kz K ≤ n) (hkn : n + 1 ≤ kn K ∧ z + 6 ≤ kw K) (hc : InR c) (ok : (0 ≤ c ∧ c < 4) → κ h n z) (no : ¬ (0 ≤ c ∧ c < 4) → χ 23 n (up h n (ExO K n 23 [])) (n + 1) (z + 6)) : P_X1_needColour K x κ χ h n z c :=
  ⟨hc, fun q => x_ioo hw hz hkn (no (by omega)), fun q => ⟨fun q2 => ok (by omega), fun q2 => x_ioo hw hz hkn (no (by omega))⟩⟩
theorem c_needCell {κ : AH → Nat → Nat → Prop} {a b : Int} (hx : h x = some (TmO tr ia os dq sv S)) (hT : TrP h tr f) (hr : RowOK f) (hw : WfH h n) (hz : kz K ≤ n) (hkn : n + 1 ≤ kn K ∧ z + 6 ≤ kw K) (ha : InR a) (hb : InR b)
    (ok : rOn f a b → κ h n z) (no : ¬ rOn f a b → χ 21 n (up h n (ExO K n 21 [])) (n + 1) (z + 6)) : P_X1_needCell K x κ χ h n z a b := by
  have hW := hr.w; have hH := hr.h
  obtain ⟨pc, gc, sc, h1, -⟩ := id hT
  refine pGR_i hx rfl (pGI_i h1 rfl (pRecv_i hx (c_need hw hz hkn ha (by decide) ⟨by omega, by omega⟩ (fun q => pGR_i hx rfl (pGI_i h1 rfl (pRecv_i hx (c_need hw hz hkn hb (by decide) ⟨by omega, by omega⟩ (fun q2 => ok (by unfold rOn; omega)) (fun q2 => no (by unfold rOn; omega)))))) (fun q => no (by unfold rOn; omega)))))
/-- the route from a post -/
theorem c_routeFrom {κ : Option Nat → AH → Nat → Nat → Prop} {p : Int} (hx : h x = some (TmO tr ia os dq sv S)) (hT : TrP h tr f) (hr : RowOK f) (hw : WfH h n) (hz : kz K ≤ n) (hkn : n + 50000 ≤ kn K ∧ z + 228978 ≤ kw K) (hp : InR p)
    (no : ¬ (0 ≤ p ∧ p < f 4) → ∀ q h1 n1 z1, ExtH h n z h1 n1 z1 → χ 23 q h1 n1 z1) (nl : (0 ≤ p ∧ p < f 4) → ¬ rPf f p 4 = 0 → κ none h n z)
    (ok : (0 ≤ p ∧ p < f 4) → rPf f p 4 = 0 → ∀ σ1 h1 n1 z1, GdE f h1 σ1 (rRoute f p) → GSt f n tr h h1 n1 → n1 ≤ n + 86 → z1 ≤ z + 1304 → κ (some n) (gv n tr σ1 h1) n1 z1) : P_X1_routeFrom K x κ χ h n z p := by
  refine pRecv_i hx (c_needPost hx hT hr hw hz ⟨by omega, by omega⟩ hp (fun g b hb => ?_) (fun g => no g _ _ _ _ (ExtH.new hw (by decide))))
  have hst := hr.state p g.1 g.2
  refine pGI_i hb rfl ⟨by rcases hst with t | t <;> rw [t] <;> decide, fun q => ?_, fun q => nl g q⟩
  refine g_new hx rfl rfl hw hz ⟨by omega, by omega⟩ (fun z1 e1 => pRecv_i (gv_0 _ _ _ _) (g_follow hr (GSt.zero hT hw) hz g q ⟨by omega, by omega⟩ (fun σ1 h1 n1 z2 a1 a2 a3 a4 a5 => ok g q σ1 h1 n1 z2 a1 a2 (by omega) (by omega))))
theorem gx {gd n1 : Nat} {h1 : AH} (g : GSt f gd tr h h1 n1) (hx : h x = some (TmO tr ia os dq sv S)) (hw : WfH h gd) (σ : GS) : gv gd tr σ h1 x = some (TmO tr ia os dq sv S) := g.xt hw σ _ _ hx
theorem c_route {κ : Int → AH → Nat → Nat → Prop} {p w : Int} (hx : h x = some (TmO tr ia os dq sv S)) (hT : TrP h tr f) (hr : RowOK f) (hw : WfH h n) (hz : kz K ≤ n) (hkn : n + 50000 ≤ kn K ∧ z + 228978 ≤ kw K) (hp : InR p) (hw9 : InR w)
    (no : ¬ (0 ≤ p ∧ p < f 4) → ∀ q h1 n1 z1, ExtH h n z h1 n1 z1 → χ 23 q h1 n1 z1) (no2 : (0 ≤ p ∧ p < f 4) → ¬ (0 ≤ w ∧ w ≤ 7) → ∀ q h1 n1 z1, ExtH h n z h1 n1 z1 → χ 21 q h1 n1 z1)
    (ok : (0 ≤ p ∧ p < f 4) → (0 ≤ w ∧ w ≤ 7) → ∀ h1 n1 z1, ExtH h n z h1 n1 z1 → κ (rRouteOf f p w) h1 n1 z1) : P_X1_route K x κ χ h n z p w := by
  unfold rRouteOf at ok
  refine pRecv_i hx (c_routeFrom hx hT hr hw hz hkn hp no (fun g q => ?_) (fun g q σ1 h1 n1 z1 a1 a2 a3 a4 => ?_))
  · refine pRecv_i hx (c_need hw hz ⟨by omega, by omega⟩ hw9 (by decide) (by decide) (fun g2 => pIf_pos rfl ?_) (fun g2 => no2 g g2 _ _ _ _ (ExtH.new hw (by decide))))
    have := ok g g2 h n z (ExtH.refl hw)
    rw [if_neg q] at this; exact this
  · have hE := ExtH.gst (z := z) (z1 := z1) a2 hw σ1 (by omega) (by omega)
    have hle := hE.2.2.1
    refine pRecv_i (gx a2 hx hw σ1) (c_need hE.2.1 (by omega) ⟨by omega, by omega⟩ hw9 (by decide) (by decide) (fun g2 => pIf_neg (fun t => by cases t) (pRecv_i (gv_0 _ _ _ _) (g_figure hr a2 g q a1 g2 ?_))) (fun g2 => no2 g g2 _ _ _ _ ⟨hE.1.trans (hE.2.1.ext _), hE.2.1.snoc _, by omega, by omega, by omega⟩))
    have := ok g g2 _ _ _ hE
    rw [if_pos q] at this; exact this
theorem rTold_none (i : Int) : rTold [] i = -1 := by
  unfold rTold
  rw [if_neg]
  intro t
  have := t.2
  have e : ([] : List Int).length = 0 := rfl
  omega
theorem rRoute_miss {p : Int} (q : ¬ rPf f p 4 = 0) : rRoute f p = (([], [], [], [], 0), 1, -1) := by unfold rRoute; rw [if_pos (Or.inr q)]
theorem c_told {κ : Int → AH → Nat → Nat → Prop} {d k j N : Nat} {i : Int} {gd n1 z1 : Nat} {σ : GS} {h1 : AH} {l : List Int} (hk : k ∈ [8, 10, 12]) (hkd : ∃ k2, (k2, d) ∈ [(7, 6), (9, 7), (11, 8)] ∧ k2 + 1 = k ∨ (k, d) ∈ [(8, 6), (10, 7), (12, 8)]) (hd : (d, j, N) ∈ gArr) (hi : InR i) (hn : σ.1 k = l.length) (hl : LsI (σ.2.1 j) l) (hN : l.length ≤ N ∧ l.length ≤ 2000) (hq : κ (rTold l i) (gv gd tr σ h1) n1 z1) :
    InR i ∧ pIf (i < 0) (κ (-1) (gv gd tr σ h1) n1 z1) (pGI (gv gd tr σ h1) (some gd) 7 k (fun y18 => InR y18 ∧ pIf (i < y18) (pAI (gv gd tr σ h1) (some (gd + d)) 0 i (fun y22 => κ y22 (gv gd tr σ h1) n1 z1)) (κ (-1) (gv gd tr σ h1) n1 z1))) := by
  unfold rTold at hq
  refine ⟨hi, fun q => by rw [if_neg (by omega)] at hq; exact hq, fun q => q_get (by simp only [List.mem_cons, List.not_mem_nil, or_false] at hk ⊢; omega) ?_⟩
  rw [hn]
  refine ⟨⟨by omega, by omega⟩, fun q2 => q_ld j N hd ⟨by omega, by omega⟩ ?_, fun q2 => by rw [if_neg (by omega)] at hq; exact hq⟩
  rw [if_pos (by omega)] at hq
  have := hl i.toNat (by omega)
  rw [Int.toNat_of_nonneg (by omega)] at this
  rw [this]; exact hq
theorem c_routePost {κ : Int → AH → Nat → Nat → Prop} {p i : Int} (hx : h x = some (TmO tr ia os dq sv S)) (hT : TrP h tr f) (hr : RowOK f) (hw : WfH h n) (hz : kz K ≤ n) (hkn : n + 50000 ≤ kn K ∧ z + 228978 ≤ kw K) (hp : InR p) (hi : InR i)
    (no : ¬ (0 ≤ p ∧ p < f 4) → ∀ q h1 n1 z1, ExtH h n z h1 n1 z1 → χ 23 q h1 n1 z1) (ok : (0 ≤ p ∧ p < f 4) → ∀ h1 n1 z1, ExtH h n z h1 n1 z1 → κ (rTold (rRoute f p).1.1 i) h1 n1 z1) : P_X1_routePost K x κ χ h n z p i := by
  refine pRecv_i hx (c_routeFrom hx hT hr hw hz hkn hp no (fun g q => pIf_pos rfl ?_) (fun g q σ1 h1 n1 z1 a1 a2 a3 a4 => pIf_neg (fun t => by cases t) ?_))
  · have := ok g h n z (ExtH.refl hw)
    rw [rRoute_miss q, rTold_none] at this; exact this
  · have hL := rRoute_len hr g
    have k0 := ok g _ _ _ (ExtH.gst (z := z) (z1 := z1) a2 hw σ1 (by omega) (by omega))
    have hc := c_told (κ := κ) (gd := n) (tr := tr) (σ := σ1) (h1 := h1) (n1 := n1) (z1 := z1) (d := 6) (k := 8) (j := 7) (N := 25) (by decide) ⟨7, Or.inr (by decide)⟩ (by decide) hi a1.1.1.1 a1.1.2.1 ⟨by omega, by omega⟩ k0
    refine ⟨hc.1, hc.2.1, fun t => ?_⟩
    obtain ⟨a, fs, v, e1, e2, e3, e4, e5⟩ := hc.2.2 t
    exact ⟨a, fs, v, e1, e2, e3, e4, fun t2 => q_ref 6 (by decide) (e5.1 t2), e5.2⟩
theorem c_routeCell {κ : Int → AH → Nat → Nat → Prop} {p i : Int} (hx : h x = some (TmO tr ia os dq sv S)) (hT : TrP h tr f) (hr : RowOK f) (hw : WfH h n) (hz : kz K ≤ n) (hkn : n + 50000 ≤ kn K ∧ z + 228978 ≤ kw K) (hp : InR p) (hi : InR i)
    (no : ¬ (0 ≤ p ∧ p < f 4) → ∀ q h1 n1 z1, ExtH h n z h1 n1 z1 → χ 23 q h1 n1 z1) (ok : (0 ≤ p ∧ p < f 4) → ∀ h1 n1 z1, ExtH h n z h1 n1 z1 → κ (rTold (rRoute f p).1.2.1 i) h1 n1 z1) : P_X1_routeCell K x κ χ h n z p i := by
  refine pRecv_i hx (c_routeFrom hx hT hr hw hz hkn hp no (fun g q => pIf_pos rfl ?_) (fun g q σ1 h1 n1 z1 a1 a2 a3 a4 => pIf_neg (fun t => by cases t) ?_))
  · have := ok g h n z (ExtH.refl hw)
    rw [rRoute_miss q, rTold_none] at this; exact this
  · have hL := rRoute_len hr g
    have k0 := ok g _ _ _ (ExtH.gst (z := z) (z1 := z1) a2 hw σ1 (by omega) (by omega))
    have hc := c_told (κ := κ) (gd := n) (tr := tr) (σ := σ1) (h1 := h1) (n1 := n1) (z1 := z1) (d := 7) (k := 10) (j := 9) (N := 865) (by decide) ⟨7, Or.inr (by decide)⟩ (by decide) hi a1.1.1.2.1 a1.1.2.2.1 ⟨by omega, by omega⟩ k0
    refine ⟨hc.1, hc.2.1, fun t => ?_⟩
    obtain ⟨a, fs, v, e1, e2, e3, e4, e5⟩ := hc.2.2 t
    exact ⟨a, fs, v, e1, e2, e3, e4, fun t2 => q_ref 7 (by decide) (e5.1 t2), e5.2⟩
theorem c_inferred {κ : Int → AH → Nat → Nat → Prop} {p i : Int} (hx : h x = some (TmO tr ia os dq sv S)) (hT : TrP h tr f) (hr : RowOK f) (hw : WfH h n) (hz : kz K ≤ n) (hkn : n + 50000 ≤ kn K ∧ z + 228978 ≤ kw K) (hp : InR p) (hi : InR i)
    (no : ¬ (0 ≤ p ∧ p < f 4) → ∀ q h1 n1 z1, ExtH h n z h1 n1 z1 → χ 23 q h1 n1 z1) (ok : (0 ≤ p ∧ p < f 4) → ∀ h1 n1 z1, ExtH h n z h1 n1 z1 → κ (rTold (rRoute f p).1.2.2.2.1 i) h1 n1 z1) : P_X1_inferred K x κ χ h n z p i := by
  refine pRecv_i hx (c_routeFrom hx hT hr hw hz hkn hp no (fun g q => pIf_pos rfl ?_) (fun g q σ1 h1 n1 z1 a1 a2 a3 a4 => pIf_neg (fun t => by cases t) ?_))
  · have := ok g h n z (ExtH.refl hw)
    rw [rRoute_miss q, rTold_none] at this; exact this
  · have hL := rRoute_len hr g
    have k0 := ok g _ _ _ (ExtH.gst (z := z) (z1 := z1) a2 hw σ1 (by omega) (by omega))
    have hc := c_told (κ := κ) (gd := n) (tr := tr) (σ := σ1) (h1 := h1) (n1 := n1) (z1 := z1) (d := 8) (k := 12) (j := 11) (N := 48) (by decide) ⟨7, Or.inr (by decide)⟩ (by decide) hi a1.1.1.2.2.1 a1.1.2.2.2.1 ⟨by omega, by omega⟩ k0
    refine ⟨hc.1, hc.2.1, fun t => ?_⟩
    obtain ⟨a, fs, v, e1, e2, e3, e4, e5⟩ := hc.2.2 t
    exact ⟨a, fs, v, e1, e2, e3, e4, fun t2 => q_ref 8 (by decide) (e5.1 t2), e5.2⟩
end CR
