set_option maxRecDepth 100000
/-! the Guide at work over a heap h0 that it leaves as it was -/
def GSt (f : Row) (gd tr : Nat) (h0 h : AH) (n : Nat) : Prop := TrP h tr f ∧ Hol h gd ∧ WfH h n ∧ gd + 13 ≤ n ∧ ∀ q, q < gd → h q = h0 q
theorem GSt.zero {f : Row} {gd tr : Nat} {h0 : AH} (hT : TrP h0 tr f) (hw : WfH h0 gd) : GSt f gd tr h0 h0 (gd + 13) := ⟨hT, fun q a _ => hw q a, fun q a => hw q (by omega), Nat.le_refl _, fun _ _ => rfl⟩
theorem GSt.xt {f : Row} {gd tr n : Nat} {h0 h : AH} (g : GSt f gd tr h0 h n) (hw : WfH h0 gd) (σ : GS) : XtH h0 (gv gd tr σ h) := fun q e w => by
  have hq : q < gd := by
    by_cases t : q < gd
    · exact t
    · rw [hw q (by omega)] at w; cases w
  rw [gv_out (Or.inl hq), g.2.2.2.2 q hq]; exact w
theorem GSt.wf {f : Row} {gd tr n : Nat} {h0 h : AH} (g : GSt f gd tr h0 h n) (σ : GS) : WfH (gv gd tr σ h) n := fun q hq => by
  have := g.2.2.2.1
  rw [gv_out (Or.inr (by omega))]; exact g.2.2.1 q hq
def GuO : AE := .inr (7, [vR none, vR none, vR none, vR none, vR none, vR none, vR none, vR none, vI 0, vR none, vI 0, vR none, vI 0, vR none, vI 0, vI 0, vI 0, vI 0, vI 0])
section CGs
variable {K : KT} {χ : QxT} {gd tr n z : Nat} {h0 h : AH} {f : Row}
theorem g_new {κ : AH → Nat → Nat → Prop} {x : Nat} {ci : Nat} {fs : List AV} (hx : h0 x = some (.inr (ci, fs))) (hf : fs[0]? = some (vR (some tr))) (hci : ci = 0) (hw : WfH h0 gd) (hz : kz K ≤ gd) (hkn : gd + 13 ≤ kn K ∧ z + 1064 ≤ kw K) (hk : ∀ z1, z1 = z + 1064 → κ (gv gd tr gZ h0) (gd + 13) z1) :
    pNew K h0 gd z (.inr (7, [vR none, vR none, vR none, vR none, vR none, vR none, vR none, vR none, vI 0, vR none, vI 0, vR none, vI 0, vR none, vI 0, vI 0, vI 0, vI 0, vI 0])) 19 (fun h1 => pGR h1 (some x) 0 0 (fun y => P_X8_init K gd κ χ h1 (gd + 1) (z + 19) y)) := by
  subst hci
  refine ⟨by omega, by omega, pGR_i (by rw [up_ne (fun t => by rw [t, hw gd (Nat.le_refl _)] at hx; cases hx)]; exact hx) hf ?_⟩
  exact q_init hz hkn rfl hk
theorem g_newT {κ : AH → Nat → Nat → Prop} (hz : kz K ≤ gd) (hkn : gd + 13 ≤ kn K ∧ z + 1064 ≤ kw K) (hk : ∀ z1, z1 = z + 1064 → κ (gv gd tr gZ h0) (gd + 13) z1) :
    pNew K h0 gd z (.inr (7, [vR none, vR none, vR none, vR none, vR none, vR none, vR none, vR none, vI 0, vR none, vI 0, vR none, vI 0, vR none, vI 0, vI 0, vI 0, vI 0, vI 0])) 19 (fun h1 => P_X8_init K gd κ χ h1 (gd + 1) (z + 19) (some tr)) := by
  refine ⟨by omega, by omega, ?_⟩
  exact q_init hz hkn rfl hk
theorem g_follow {κ : Option Nat → AH → Nat → Nat → Prop} {σ : GS} {p : Int} (hr : RowOK f) (g : GSt f gd tr h0 h n) (hz : kz K ≤ gd) (hp : 0 ≤ p ∧ p < f 4) (hst : rPf f p 4 = 0) (hkn : n + 73 ≤ kn K ∧ z + 240 ≤ kw K)
    (hk : ∀ σ1 h1 n1 z1, GdE f h1 σ1 (rRoute f p) → GSt f gd tr h0 h1 n1 → n ≤ n1 → n1 ≤ n + 73 → z1 ≤ z + 240 → κ (some gd) (gv gd tr σ1 h1) n1 z1) : P_X8_follow K gd κ χ (gv gd tr σ h) n z p := by
  obtain ⟨g1, g2, g3, g4, g5⟩ := g
  exact q_follow hr g1 g2 g3 hz g4 hp hst hkn (fun σ1 h1 n1 z1 a1 a2 a3 a4 a5 a6 a7 a8 => hk σ1 h1 n1 z1 a1 ⟨a2, a3, a4, by omega, fun q hq => (a5 q (by omega)).trans (g5 q hq)⟩ a6 a7 a8)
theorem g_tr {σ : GS} (g : GSt f gd tr h0 h n) : TrP (gv gd tr σ h) tr f := g.1.keep (gv_ks _ g.2.1)
theorem g_hTr {σ : GS} (g : GSt f gd tr h0 h n) : gv gd tr σ h tr = some (TrO f tr) := (g_tr (σ := σ) g).choose_spec.choose_spec.choose_spec.1
theorem g_metOf {κ : Int → AH → Nat → Nat → Prop} {σ : GS} {c : Int} (hr : RowOK f) (g : GSt f gd tr h0 h n) (hz : kz K ≤ gd) (hc : 0 ≤ c ∧ c < 4) (hkn : n + 73 ≤ kn K ∧ z + 240 ≤ kw K)
    (hk : ∀ σ1 h1 n1 z1, (GdR h σ ([], [], [], [], 0) → GdR h1 σ1 (rRoute f (rBegin f c)).1) → GSt f gd tr h0 h1 n1 → n ≤ n1 → n1 ≤ n + 73 → z1 ≤ z + 240 → κ (rMet f c) (gv gd tr σ1 h1) n1 z1) : P_X8_metOf K gd κ χ (gv gd tr σ h) n z c := by
  have hb := rBegin_r hr c
  have hm := hr.many
  refine q_tr (pRecv_i (g_hTr g) (c_begin hr (g_tr g) hc ⟨by rcases hb with t | t <;> omega, fun q => ?_, fun q => ?_⟩))
  · have e : rRoute f (rBegin f c) = (([], [], [], [], 0), 1, -1) := by unfold rRoute; rw [if_pos (Or.inl q)]
    have em : rMet f c = 0 := by unfold rMet; rw [e]; rfl
    have := hk σ h n z (fun t => by rw [e]; exact t) g (Nat.le_refl _) (by omega) (by omega)
    rw [em] at this; exact this
  · have hb := hb.resolve_left q
    refine pRecv_i (gv_0 _ _ _ _) (g_follow hr g hz ⟨hb.1, hb.2.1⟩ hb.2.2.2 hkn (fun σ1 h1 n1 z1 a1 a2 a3 a4 a5 => q_get (by decide) ?_))
    have e8 : σ1.1 8 = rMet f c := a1.1.1.1
    rw [e8]; exact hk σ1 h1 n1 z1 (fun _ => a1.1) a2 a3 a4 a5
theorem g_isComplete {κ : Int → AH → Nat → Nat → Prop} {σ : GS} {c : Int} (hr : RowOK f) (g : GSt f gd tr h0 h n) (hz : kz K ≤ gd) (hc : 0 ≤ c ∧ c < 4) (hkn : n + 73 ≤ kn K ∧ z + 240 ≤ kw K)
    (hk : ∀ σ1 h1 n1 z1, GSt f gd tr h0 h1 n1 → n ≤ n1 → n1 ≤ n + 73 → z1 ≤ z + 240 → κ (b2i (rCmp f c)) (gv gd tr σ1 h1) n1 z1) : P_X8_isComplete K gd κ χ (gv gd tr σ h) n z c := by
  have hm := rMet_r hr c
  have hp := rPosts_r hr c 1
  refine pRecv_i (gv_0 _ _ _ _) (g_metOf hr g hz hc hkn (fun σ1 h1 n1 z1 _ a2 a3 a4 a5 => ⟨⟨by omega, by omega⟩, fun q => ?_, fun q => ?_⟩))
  · refine q_tr (pRecv_i (g_hTr a2) (c_standing hr (g_tr a2) hc ⟨⟨by omega, by omega⟩, fun e => ?_, fun e => ?_⟩))
    · have := hk σ1 h1 n1 z1 a2 a3 a4 a5
      rw [b2i, if_pos ⟨by omega, e⟩] at this; exact this
    · have := hk σ1 h1 n1 z1 a2 a3 a4 a5
      rw [b2i, if_neg (fun t => e t.2)] at this; exact this
  · have := hk σ1 h1 n1 z1 a2 a3 a4 a5
    rw [b2i, if_neg (fun t => q (by omega))] at this; exact this
theorem g_figure {κ : Int → AH → Nat → Nat → Prop} {σ : GS} {p w : Int} (hr : RowOK f) (g : GSt f gd tr h0 h n) (hp : 0 ≤ p ∧ p < f 4) (hst : rPf f p 4 = 0) (hE : GdE f h σ (rRoute f p)) (hw : 0 ≤ w ∧ w ≤ 7) (hk : κ (rFig f (rRoute f p) w) (gv gd tr σ h) n z) : P_X8_figure K gd κ χ (gv gd tr σ h) n z w := by
  have hm := hr.many
  obtain ⟨⟨⟨n8, n10, n12, n14⟩, n7, -⟩, e15, e16, e17, e18⟩ := hE
  have hq := (rRoute_end hr hp hst).2
  have hcol := rRoute_col hr hp hst
  unfold rFig at hk
  refine ⟨⟨by omega, by omega⟩, fun e => q_get (by decide) ?_, fun e0 => ⟨fun e => pRecv_i (gv_0 _ _ _ _) (q_get (by decide) ?_), fun e1 => ⟨fun e => q_get (by decide) ?_, fun e2 => ⟨fun e => q_get (by decide) ?_, fun e3 => ⟨fun e => q_get (by decide) ?_, fun e4 => ⟨fun e => ?_, fun e5 => ⟨fun e => q_get (by decide) ?_, fun e6 => q_get (by decide) ?_⟩⟩⟩⟩⟩⟩⟩
  · rw [if_pos e] at hk; rw [n8]; exact hk
  · rw [if_neg e0, if_pos e] at hk; rw [n10]; exact hk
  · rw [if_neg e0, if_neg e1, if_pos e] at hk; rw [e15]; exact hk
  · rw [if_neg e0, if_neg e1, if_neg e2, if_pos e] at hk; rw [e16]; exact hk
  · rw [if_neg e0, if_neg e1, if_neg e2, if_neg e3, if_pos e] at hk; rw [n12]; exact hk
  · rw [if_neg e0, if_neg e1, if_neg e2, if_neg e3, if_neg e4, if_pos e] at hk
    have hne : 0 < (rRoute f p).1.1.length := List.length_pos_of_mem hq.2.2.2.2.1
    obtain ⟨b, t, eb⟩ : ∃ b t, (rRoute f p).1.1 = b :: t := by
      cases hps : (rRoute f p).1.1 with
      | nil => rw [hps] at hne; exact absurd hne (by decide)
      | cons b t => exact ⟨b, t, rfl⟩
    have e0' : σ.2.1 7 0 = b := n7.get (p := []) eb
    have hb := hq.2.1 b (by rw [eb]; exact List.mem_cons_self)
    have hcb := hcol b (by rw [eb]; exact List.mem_cons_self)
    have hcl := hcol _ hq.2.2.2.2.1
    have hc := hr.colour p hp.1 hp.2
    obtain ⟨pc, gc, sc, h1, h2, h3, h4, h5, h6, h7, h8⟩ := g_tr (σ := σ) g
    obtain ⟨bb, x1, x2⟩ := h7 b hb.1 hb.2.1
    refine q_tr (q_tr (pGR_i h1 rfl (q_ref 6 (by decide) (q_ld 7 25 (by decide) (by decide) ?_))))
    rw [e0']
    refine pAR_i h2 ⟨hb.1, by omega⟩ ?_
    rw [x1]
    refine pGI_i x2 rfl (pRecv_i h1 ?_)
    rw [hcb]
    refine c_standing hr (g_tr g) hc (q_get (by decide) ?_)
    rw [n8]
    rw [hcl] at hk; exact hk
  · rw [if_neg e0, if_neg e1, if_neg e2, if_neg e3, if_neg e4, if_neg e5, if_pos e] at hk; rw [e18]; exact hk
  · rw [if_neg e0, if_neg e1, if_neg e2, if_neg e3, if_neg e4, if_neg e5, if_neg e6] at hk; rw [e17]; exact hk
end CGs
