set_option maxRecDepth 100000
/-- what a whole search leaves as it was -/
def FrF (σ σ1 : GS) : Prop := (∀ j, j < 20 → σ1.1 j = σ.1 j) ∧ (∀ j, j ≠ 5 → j ≠ 6 → j ≠ 23 → j ≠ 24 → σ1.2.1 j = σ.2.1 j) ∧ σ1.2.2 = σ.2.2
theorem FrF.of {a b c : GS} (p : FrF a b) (q : FrD b c) : FrF a c := ⟨fun j h => (q.1 j (by omega) (by omega)).trans (p.1 j h), fun j h1 h2 h3 h4 => (q.2.1 j h1 h2 h3 h4).trans (p.2.1 j h1 h2 h3 h4), q.2.2.trans p.2.2⟩
section CI
variable {K : KT} {χ : QxT} {gd tr n0 z : Nat} {h : AH} {f : Row}
theorem q_post {σ : GS} {k : Int} {Q : Option Nat → Prop} (hr : RowOK f) (hT : TrP h tr f) (hh : Hol h gd) (h0 : 0 ≤ k ∧ k < f 4) (q : ∀ b, h b = some (PoO f k) → Q (some b)) : pGR (gv gd tr σ h) (some tr) 1 2 (fun y => pAR (gv gd tr σ h) y 5 k Q) := by
  have kk := gv_ks (tr := tr) (σ := σ) TrSh hh
  obtain ⟨pc, gc, sc, h1, h2, h3, h4, h5, h6, h7, h8⟩ := hT
  have hm := hr.many
  obtain ⟨b, e1, e2⟩ := h7 k h0.1 h0.2
  refine pGR_i (kk _ _ rfl h1) rfl (pAR_i (kk _ _ rfl h2) ⟨h0.1, by omega⟩ ?_)
  rw [e1]; exact q b e2
theorem q_set {σ : GS} {j : Int} {Q : Int → Prop} (hT : TrP h tr f) (hh : Hol h gd) (hj : (j = 0 ∧ Q (f 2)) ∨ (j = 1 ∧ Q (f 3))) : pGR (gv gd tr σ h) (some tr) 1 6 (fun y => pAI (gv gd tr σ h) y 0 j Q) := by
  have kk := gv_ks (tr := tr) (σ := σ) TrSh hh
  obtain ⟨pc, gc, sc, h1, h2, h3, h4, h5, h6, h7, h8⟩ := hT
  refine pGR_i (kk _ _ rfl h1) rfl ?_
  rcases hj with ⟨rfl, q⟩ | ⟨rfl, q⟩
  · exact pAI_i (kk _ _ rfl h4) (by decide) (by rw [h5]; exact q)
  · exact pAI_i (kk _ _ rfl h4) (by decide) (by rw [h6]; exact q)
theorem q_plain {κ : Option Nat → AH → Nat → Nat → Prop} {σ : GS} {o : Int} (hr : RowOK f) (hT : TrP h tr f) (hh : Hol h gd) (hz : kz K ≤ gd) (ho : 0 ≤ o ∧ o < f 4)
    (hk : κ (some (gd + 10)) (gv gd tr (gW σ 30 (gG0 f (rPf f o 0) (rPf f o 1) (rPf f o 3) o)) h) n0 z) : P_X8_plainFrom K gd κ χ (gv gd tr σ h) n0 z o := by
  have hm := hr.many; have har := hr.arrow o ho.1 ho.2; have hon := hr.on o ho.1 ho.2; have hW := hr.w; have hH := hr.h; have hcl := hr.colour o ho.1 ho.2
  unfold rOn at hon
  refine q_tr (q_post hr hT hh ho fun b hb => q_ref 10 (by decide) (pGI_i (gv_post hh hb) rfl (pGI_i (gv_post hh hb) rfl (pGI_i (gv_post hh hb) rfl (pGI_i (gv_post hh hb) rfl (pRecv_i (gv_at _ _ _ _ 10 (by decide)) ?_))))))
  exact q_go (b := 30) (by decide) hr hT hh hz ⟨by omega, by omega⟩ ⟨by omega, by omega⟩ rfl ⟨by omega, by omega⟩ ⟨by omega, by omega⟩ ⟨by omega, by omega⟩ hk
theorem q_f95 {κ : Option Nat → AH → Nat → Nat → Prop} {b : Nat} {o : Int} {σ0 : GS} {d1 d2 : Int} (hr : RowOK f) (hT : TrP h tr f) (hh : Hol h gd) (hz : kz K ≤ gd) (hb : h b = some (PoO f o)) (ho : 0 ≤ o ∧ o < f 4) (hst : rPf f o 4 = 0) (h4 : ¬ rPf f o 3 = 4)
    (hk : ∀ σ1, FrF σ0 σ1 → WyIs σ1 (rPf f o 3) (rFind f o d1 d2) → κ (some (gd + 1)) (gv gd tr σ1 h) n0 z) {σ : GS} {w : Way7} (hf : FrF σ0 σ) (hw : WyIs σ (rPf f o 3) w) (hwo : WOK w) (h6 : σ.2.1 6 0 = rPf f o 3) (h33 : (rLegO f o).2.1 = -1 → σ.1 33 = (rLegO f o).1) (hcase : ((rLegO f o).2.1 = -1 ∧ w = rW0 d1 d2) ∨ (¬ (rLegO f o).2.1 = -1 ∧ w = rFind f o d1 d2)) :
    ∃ f9 : Nat, L_X8_find_95 K gd (fun h n z => P_X8_find_132 K gd κ χ h n z) κ χ f9 (gv gd tr σ h) n0 z o (some b) 1 := by
  have hms := hr.miss
  have hL := rLeg0_b hr (rPf f o 0) (rPf f o 1) (rPf f o 3) o
  have hfar : 0 ≤ (rLegO f o).1 ∧ (rLegO f o).1 ≤ 12 := ⟨hL.1, hL.2.1⟩
  have fin : ∀ σ1, FrF σ0 σ1 → WyIs σ1 (rPf f o 3) (rFind f o d1 d2) → P_X8_find_132 K gd κ χ (gv gd tr σ1 h) n0 z := fun σ1 g1 g2 => q_ref 1 (by decide) (hk σ1 g1 g2)
  have eF : (rLegO f o).2.1 = -1 → rFind f o d1 d2 = (if wNext (rW1 f o d1 d2) = -1 ∧ ¬ f 3 < 2 then rTwo f o (rPf f o 3) (rPf f o 0) (rPf f o 1) (rLegO f o).1.toNat 1 (rW1 f o d1 d2) else rW1 f o d1 d2) := fun e => by
    unfold rFind
    rw [if_pos ⟨hst, h4⟩, if_pos e]
  refine ⟨4, q_tr (q_set hT hh (Or.inr ⟨rfl, ⟨by decide, ⟨by omega, by omega⟩, fun q => ?_, fun q => ?_⟩⟩))⟩
  · refine fin σ hf ?_
    rcases hcase with ⟨e, rfl⟩ | ⟨e, rfl⟩
    · rw [eF e, if_neg (fun t => t.2 (by omega))]
      unfold rW1
      rw [if_neg (by omega)]; exact hw
    · exact hw
  · refine q_ref 1 (by decide) (q_wget (k := 0) (by decide) ?_)
    show InR (σ.1 20) ∧ pIf (σ.1 20 = -1) _ _
    rw [hw.1]
    have hn := hwo.1
    refine ⟨⟨by omega, by omega⟩, fun q1 => ?_, fun q1 => ?_⟩
    · have hc : (rLegO f o).2.1 = -1 ∧ w = rW0 d1 d2 := by
        rcases hcase with t | ⟨t, rfl⟩
        · exact t
        · exfalso
          unfold rFind at q1
          rw [if_pos ⟨hst, h4⟩, if_neg t] at q1
          exact t q1
      obtain ⟨e, rfl⟩ := hc
      refine pRecv_i (gv_0 _ _ _ _) (q_ref 10 (by decide) (q_wk 30 (by decide) (by decide) ?_))
      show ∃ f9 : Nat, L_X8_guess_12 K gd _ _ χ f9 _ n0 z (some b) o 1 (σ.1 33) 1
      rw [h33 e]
      refine ⟨(rLegO f o).1.toNat + 1, q_g12a hr hT hh hz hb ho hfar _ 1 σ (rW0 d1 d2) (by decide) (by omega) hw hwo h6 (fun σ1 g1 g2 g3 => ?_)⟩
      have e1 : rW1 f o d1 d2 = rOne f o (rPf f o 3) (rPf f o 0) (rPf f o 1) (rLegO f o).1.toNat 1 (rW0 d1 d2) := by unfold rW1; rw [if_pos (by omega)]
      rw [← e1] at g2
      have hwo1 := rW1_OK hr o d1 d2
      have hn1 := hwo1.1
      refine q_tr (q_set hT hh (Or.inr ⟨rfl, ⟨by decide, ⟨by omega, by omega⟩, fun q => ?_, fun q => ?_⟩⟩))
      · refine fin σ1 (hf.of g1) ?_
        rw [eF e, if_neg (fun t => t.2 (by omega))]; exact g2
      · refine q_ref 1 (by decide) (q_wget (k := 0) (by decide) ?_)
        show InR (σ1.1 20) ∧ pIf (σ1.1 20 = -1) _ _
        rw [g2.1]
        refine ⟨⟨by omega, by omega⟩, fun q2 => ?_, fun q2 => ?_⟩
        · refine pRecv_i (gv_0 _ _ _ _) (q_ref 10 (by decide) (q_wk 30 (by decide) (by decide) ?_))
          show ∃ f9 : Nat, L_X8_guess_12 K gd _ _ χ f9 _ n0 z (some b) o 2 (σ1.1 33) 1
          rw [g1.1 33 (by decide) (by decide), h33 e]
          have q3 := q2
          rw [e1] at q3
          obtain ⟨-, hnn⟩ := rOne_none _ 1 _ q3
          refine ⟨(rLegO f o).1.toNat + 1, q_g12b hr hT hh hz hb ho hfar (fun a a1 a2 => hnn a a1 (by omega)) _ 1 σ1 (rW1 f o d1 d2) (by decide) (by omega) g2 hwo1 g3 (fun σ2 t1 t2 t3 => ?_)⟩
          refine q_tr (q_set hT hh (Or.inr ⟨rfl, ⟨by decide, ⟨by omega, by omega⟩, fun q => ?_, fun q => absurd (by omega : f 3 < 1 + 1 + 1) q⟩⟩))
          refine fin σ2 ((hf.of g1).of t1) ?_
          rw [eF e, if_pos ⟨q2, by omega⟩]; exact t2
        · refine fin σ1 (hf.of g1) ?_
          rw [eF e, if_neg (fun t => q2 t.1)]; exact g2
    · refine fin σ hf ?_
      rcases hcase with ⟨e, rfl⟩ | ⟨e, rfl⟩
      · exact absurd rfl q1
      · exact hw
theorem q_find {κ : Option Nat → AH → Nat → Nat → Prop} {σ : GS} {o : Int} (d1 d2 : Int) (hr : RowOK f) (hT : TrP h tr f) (hh : Hol h gd) (hz : kz K ≤ gd) (ho : 0 ≤ o ∧ o < f 4) (hst : rPf f o 4 = 0)
    (hk : ∀ σ1, FrF σ σ1 → WyIs σ1 (rPf f o 3) (rFind f o d1 d2) → κ (some (gd + 1)) (gv gd tr σ1 h) n0 z) : P_X8_find K gd κ χ (gv gd tr σ h) n0 z o := by
  have hm := hr.many; have har := hr.arrow o ho.1 ho.2
  have hL := rLeg0_b hr (rPf f o 0) (rPf f o 1) (rPf f o 3) o
  refine q_ref 1 (by decide) (pRecv_i (gv_1 _ _ _ _) (q_wput (k := 0) (by decide) hz (q_wput (k := 1) (by decide) hz (q_wput (k := 2) (by decide) hz ?_))))
  have f0 : FrF σ (gS (gS (gS σ (20 + 0) (-1)) (20 + 1) 0) (20 + 2) 0) := ⟨fun j hj => by
    show (if j = 22 then (0 : Int) else if j = 21 then 0 else if j = 20 then -1 else σ.1 j) = σ.1 j
    rw [if_neg (by omega), if_neg (by omega), if_neg (by omega)], fun _ _ _ _ _ => rfl, rfl⟩
  have w0 : WyIs (gS (gS (gS σ (20 + 0) (-1)) (20 + 1) 0) (20 + 2) 0) (rPf f o 3) (rW0 d1 d2) := ⟨rfl, fun q => absurd rfl q⟩
  refine q_tr (q_post hr hT hh ho fun b hb => pGI_i (gv_post hh hb) rfl ⟨⟨by omega, by omega⟩, fun q => ?_, fun q => ?_⟩)
  · refine q_ref 1 (by decide) (hk _ f0 ?_)
    unfold rFind
    rw [if_neg (fun t => t.2 q)]; exact w0
  · refine pRecv_i (gv_0 _ _ _ _) (q_plain hr hT hh hz ho (q_ref 5 (by decide) (pGI_i (gv_post hh hb) rfl (q_st 6 3 (by decide) hz (by decide) (q_ref 4 (by decide) (q_ref 10 (by decide) (q_wk 30 (by decide) (by decide) (q_st 5 3 (by decide) hz (by decide) (q_ref 10 (by decide) (q_wk 30 (by decide) (by decide) ?_))))))))))
    show InR (gG0 f (rPf f o 0) (rPf f o 1) (rPf f o 3) o).2.2.2.2 ∧ pIf ((gG0 f (rPf f o 0) (rPf f o 1) (rPf f o 3) o).2.2.2.2 = -1) _ _
    rw [gG0_m]
    have f1 : ∀ (σ : GS) (g : Go5) (a a1 : Int → Int), FrF σ (gA (gA (gW σ 30 g) 6 a) 5 a1) := fun σ g a a1 => ⟨fun j hj => by
      show (if j = 30 + 1 then _ else if j = 30 + 2 then _ else if j = 30 + 3 then _ else if j = 30 + 4 then _ else if j = 30 + 5 then _ else σ.1 j) = σ.1 j
      rw [if_neg (by omega), if_neg (by omega), if_neg (by omega), if_neg (by omega), if_neg (by omega)], fun j h5 h6 _ _ => by
      show (if j = 5 then a1 else if j = 6 then a else σ.2.1 j) = σ.2.1 j
      rw [if_neg h5, if_neg h6], rfl⟩
    have f2 : ∀ {a b c : GS}, FrF a b → FrF b c → FrF a c := fun p q => ⟨fun j h => (q.1 j h).trans (p.1 j h), fun j h1 h2 h3 h4 => (q.2.1 j h1 h2 h3 h4).trans (p.2.1 j h1 h2 h3 h4), q.2.2.trans p.2.2⟩
    have w1 : ∀ {σ : GS} {g : Go5} {a a1 : Int → Int} {w : Way7}, WyIs σ (rPf f o 3) w → WyIs (gA (gA (gW σ 30 g) 6 a) 5 a1) (rPf f o 3) w := fun p => ((p.W (by decide)).A (Or.inr rfl)).A (Or.inl rfl)
    refine ⟨⟨by omega, by omega⟩, fun e => ?_, fun e => ?_⟩
    · refine q_f95 (σ0 := σ) (d1 := d1) (d2 := d2) (w := rW0 d1 d2) hr hT hh hz hb ho hst q hk (f2 f0 (f1 _ _ _ _)) (w1 w0) (rW0_OK _ _) rfl (fun _ => ?_) (Or.inl ⟨e, rfl⟩)
      show (gG0 f (rPf f o 0) (rPf f o 1) (rPf f o 3) o).2.2.1 = _
      rw [gG0_none e]; rfl
    · have e : ¬ (rLegO f o).2.1 = -1 := e
      have eF : rFind f o d1 d2 = ((rLegO f o).2.1, 0, 0, d1, 0, d2, (rLegO f o).2.2) := by
        unfold rFind
        rw [if_pos ⟨hst, q⟩, if_neg e]
      refine q_ref 1 (by decide) (q_ref 10 (by decide) (q_wk 30 (by decide) (by decide) ?_))
      show pGR _ _ _ _ (fun y => pGR _ _ _ _ (fun y1 => pRecv _ _ _ (fun o9 => P_X9_offer K o9 _ χ _ n0 z (gG0 f (rPf f o 0) (rPf f o 1) (rPf f o 3) o).2.2.2.2 0 y y1)))
      rw [gG0_m]
      refine q_ref 4 (by decide) (q_ref 5 (by decide) (pRecv_i (gv_1 _ _ _ _) ?_))
      have hwo : WOK (rFind f o d1 d2) := rFind_OK hr o d1 d2
      refine q_offer (ar := rPf f o 3) (w := rW0 d1 d2) (c := rFind f o d1 d2) hz (w1 w0) (rW0_OK _ _) hwo (by rw [eF]; rfl) e (by rw [eF]; rfl) (Or.inl rfl) ⟨fun _ => by rw [eF]; rfl, fun _ => by rw [eF]; rfl⟩ (fun k k0 k1 => ?_) (fun σ1 g1 g2 => ?_)
      · have : k = 0 := by omega
        subst this
        refine ⟨?_, rfl⟩
        rw [eF]
        show (gG0 f (rPf f o 0) (rPf f o 1) (rPf f o 3) o).2.2.1 = (rLegO f o).2.2
        rw [gG0_met e]; rfl
      · have ew : wOffer (rW0 d1 d2) (rFind f o d1 d2) = rFind f o d1 d2 := by unfold wOffer; exact if_pos (Or.inl rfl)
        rw [ew] at g2
        refine q_f95 (σ0 := σ) (d1 := d1) (d2 := d2) (w := rFind f o d1 d2) hr hT hh hz hb ho hst q hk ((f2 f0 (f1 _ _ _ _)).of g1.fd) g2 hwo ?_ (fun t => absurd t e) (Or.inr ⟨e, rfl⟩)
        rw [g1.2.1 6 (by decide) (by decide)]
        rfl
end CI
