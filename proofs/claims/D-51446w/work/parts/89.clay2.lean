set_option maxRecDepth 100000
/-- what laying a whole way leaves as it was -/
def FrA (σ σ1 : GS) : Prop := (∀ j, j ≠ 10 → j ≠ 12 → j ≠ 14 → j ≠ 17 → σ1.1 j = σ.1 j) ∧ (∀ j, j ≠ 9 → j ≠ 11 → σ1.2.1 j = σ.2.1 j)
section CM
variable {K : KT} {χ : QxT} {gd tr n0 z : Nat} {h : AH}
theorem q_layWay {κ : AH → Nat → Nat → Prop} {σ : GS} {R : RR} {w : Way7} {ar x y o : Int} {f : Row} {b : Nat} {a : Int} (hz : kz K ≤ gd) (hwf : WfH h n0) (hh : Hol h gd) (hgd : gd + 13 ≤ n0) (hb : h b = some (PoO f a)) (hx : rPf f a 0 = x) (hy : rPf f a 1 = y) (har : 0 ≤ ar ∧ ar ≤ 4) (hw : WyIs σ ar w) (hn : wNext w ≠ -1) (hv : WVal f o w) (hwo : WOK w)
    (hR : GdR h σ R) (hc : lastC R.2.1 = 100 * x + y) (hcl : R.2.1.length + 36 ≤ 865) (hll : R.2.2.1.length + 3 ≤ 72) (htl : R.2.2.2.1.length + 2 ≤ 48) (h17 : 0 ≤ σ.1 17 ∧ σ.1 17 ≤ 100) (hkn : n0 + 3 ≤ kn K ∧ z + 9 ≤ kw K)
    (hk : ∀ σ1 h1 n1 z1, FrA σ σ1 → XtH h h1 → WfH h1 n1 → (∀ q, q < n0 → h1 q = h q) → n0 ≤ n1 → n1 ≤ n0 + 3 → z1 ≤ z + 9 → GdR h1 σ1 (rWayR ar w R) → σ1.1 17 = jmax (σ.1 17) (wSum w) → κ (gv gd tr σ1 h1) n1 z1) : P_X8_layWay K gd κ χ (gv gd tr σ h) n0 z (some b) := by
  obtain ⟨v1, v2, v3, v4, v5, v6, v7, v8, v9⟩ := hv
  obtain ⟨w20, w21, w22, wr, wl⟩ := And.intro hw.1 (hw.2 hn)
  have hR' : GdR h σ (rLong R (wSum w)) := hR
  have l1 : (rLong R (wSum w)).2.1 = R.2.1 := rfl
  have l2 : (rLong R (wSum w)).2.2.1 = R.2.2.1 := rfl
  have l3 : (rLong R (wSum w)).2.2.2.1 = R.2.2.2.1 := rfl
  have fin : ∀ (fu : Nat) (σ1 : GS) (h1 : AH) (n1 z1 : Nat) (x1 y1 : Int), FrL σ σ1 → XtH h h1 → WfH h1 n1 → (∀ q, q < n0 → h1 q = h q) → n0 ≤ n1 → n1 ≤ n0 + 3 → z1 ≤ z + 9 → GdR h1 σ1 (rWayR ar w R) → L_X8_layWay_13 K gd (fun h n z => P_X8_layWay_209 K gd κ χ h n z) κ χ (fu + 1) (gv gd tr σ1 h1) n1 z1 x1 y1 (wMany w + 1) := by
    intro fu σ1 h1 n1 z1 x1 y1 f1 f2 f3 f4 f5 f6 f7 f8
    refine q_ref 1 (by decide) (q_wget (k := 2) (by decide) ?_)
    show InR (wMany w + 1) ∧ InR (σ1.1 22) ∧ pIf (σ1.1 22 < wMany w + 1) _ _
    rw [f1.1 22 (by decide) (by decide) (by decide), w22]
    refine ⟨⟨by omega, by omega⟩, ⟨by omega, by omega⟩, pIf_pos (by omega) ?_⟩
    refine q_get (by decide) (q_ref 1 (by decide) (q_wget (k := 1) (by decide) ?_))
    show InR (σ1.1 17) ∧ InR (σ1.1 21) ∧ pPut K _ _ 7 17 (vI (jmax (σ1.1 17) (σ1.1 21))) _
    rw [f1.1 17 (by decide) (by decide) (by decide), f1.1 21 (by decide) (by decide) (by decide), w21]
    refine ⟨⟨by omega, by omega⟩, ⟨by have := hwo.2; omega, by have := hwo.2; omega⟩, q_put (by decide) hz ?_⟩
    obtain ⟨⟨e1, e2, e3, e4⟩, e5⟩ := f8
    exact hk _ h1 n1 z1 ⟨fun j j1 j2 j3 j4 => by show (if j = 17 then _ else σ1.1 j) = _; rw [if_neg j4]; exact f1.1 j j1 j2 j3, f1.2⟩ f2 f3 f4 f5 f6 f7 ⟨⟨e1, e2, e3, e4⟩, e5⟩ rfl
  have head : ∀ (fu : Nat) (σ1 : GS) (h1 : AH) (n1 z1 : Nat) (x1 y1 g : Int), FrL σ σ1 → (0 ≤ g ∧ g ≤ wMany w) → (∃ f9 : Nat, L_X8_layWay_28 K gd (fun h n z x2 x3 x4 => P_X8_layWay_106 K gd (fun h n z x2 x3 x4 => L_X8_layWay_13 K gd (fun h n z => P_X8_layWay_209 K gd κ χ h n z) κ χ fu h n z x2 x3 x4) (fun h n z => P_X8_layWay_209 K gd κ χ h n z) κ χ h n z x2 x3 x4) κ χ f9 (gv gd tr σ1 h1) n1 z1 x1 y1 g 0) →
      L_X8_layWay_13 K gd (fun h n z => P_X8_layWay_209 K gd κ χ h n z) κ χ (fu + 1) (gv gd tr σ1 h1) n1 z1 x1 y1 g := by
    intro fu σ1 h1 n1 z1 x1 y1 g f1 hg hq
    refine q_ref 1 (by decide) (q_wget (k := 2) (by decide) ?_)
    show InR g ∧ InR (σ1.1 22) ∧ pIf (σ1.1 22 < g) _ _
    rw [f1.1 22 (by decide) (by decide) (by decide), w22]
    exact ⟨⟨by omega, by omega⟩, ⟨by omega, by omega⟩, pIf_neg (by omega) hq⟩
  have hm : wMany w = 0 ∨ wMany w = 1 ∨ wMany w = 2 := by omega
  refine pGI_i (gv_post hh hb) rfl (pGI_i (gv_post hh hb) rfl ⟨4, ?_⟩)
  rw [hx, hy]
  refine head 3 σ h n0 z x y 0 (FrL.refl σ) ⟨by decide, by omega⟩ ?_
  have k0 := wl 0 (by decide) (by omega)
  have dA : wDir ar w 0 = ar := rfl
  rcases hm with m | m | m
  · have eL : wLen w 0 = wLast w := by unfold wLen; rw [m]; rfl
    have e : rWayR ar w R = rGoes (rLong R (wSum w)) (wLast w) ar 0 := by
      unfold rWayR rWayR2 rWayR1 wDL
      rw [m]; rfl
    refine q_leg1 (t := wMany w) hz hwf hgd ⟨by omega, by omega⟩ v5 (by decide) (k0.1.trans eL) (k0.2.trans dA) w22 v2 hR' hc (by rw [l1]; omega) (by rw [l2]; omega) (fun _ => by rw [l3]; omega) ⟨by omega, by omega⟩ (fun σ1 h1 f1 f2 f3 f4 f5 => ?_)
    rw [m] at f5
    have := fin 2 σ1 h1 (n0 + 1) (z + 3) (x + wLast w * jdx ar) (y + wLast w * jdy ar) f1 f2 f3 f4 (by omega) (by omega) (by omega) (by rw [e]; exact f5)
    rw [m] at this; exact this
  · have eL : wLen w 0 = wK1 w := by unfold wLen; rw [m]; rfl
    have eL1 : wLen w 1 = wLast w := by unfold wLen; rw [m]; rfl
    have k1 := wl 1 (by decide) (by omega)
    have d1 : wDir ar w 1 = wD1 w := rfl
    have hd1 := v6 (by omega)
    have e : rWayR ar w R = rGoes (rGoes (rLong R (wSum w)) (wK1 w) ar 1) (wLast w) (wD1 w) 0 := by
      unfold rWayR rWayR2 rWayR1 wDL
      rw [m]; rfl
    obtain ⟨c1, c2, c3, c4, c5⟩ := rGoes_lens (rLong R (wSum w)) (wK1 w) ar 1
    rw [if_neg (by decide)] at c4
    refine q_leg1 (t := wMany w) hz hwf hgd ⟨by omega, by omega⟩ v3 (by decide) (k0.1.trans eL) (k0.2.trans dA) w22 v2 hR' hc (by rw [l1]; omega) (by rw [l2]; omega) (fun _ => by rw [l3]; omega) ⟨by omega, by omega⟩ (fun σ1 h1 f1 f2 f3 f4 f5 => ?_)
    rw [m] at f5
    refine head 2 σ1 h1 _ _ _ _ _ f1 ⟨by decide, by rw [m]; decide⟩ ?_
    refine q_leg1 (t := wMany w) (s := wLast w) (d := wD1 w) (R := rGoes (rLong R (wSum w)) (wK1 w) ar 1) hz f3 (by omega) ⟨by omega, by omega⟩ v5 (by decide) ?_ ?_ ?_ v2 f5 ?_ (by rw [c2, l1]; omega) (by rw [c3, l2]; omega) (fun _ => by rw [c4, l3]; omega) ⟨by omega, by omega⟩ (fun σ2 h2 g1 g2 g3 g4 g5 => ?_)
    · rw [f1.2 23 (by decide) (by decide)]; exact k1.1.trans eL1
    · rw [f1.2 24 (by decide) (by decide)]; exact k1.2.trans d1
    · rw [f1.1 22 (by decide) (by decide) (by decide)]; exact w22
    · show lastC (R.2.1 ++ rCells (stp ar) (wK1 w).toNat (lastC R.2.1)) = _
      rw [lastC_cells _ _ _ _ rfl, hc, rEnd_eq, Int.toNat_of_nonneg v3.1]
    · rw [m] at g5
      have := fin 1 σ2 h2 (n0 + 1 + 1) (z + 3 + 3) (x + wK1 w * jdx ar + wLast w * jdx (wD1 w)) (y + wK1 w * jdy ar + wLast w * jdy (wD1 w)) (f1.trans g1) (f2.trans g2) g3 (fun q hq => (g4 q (by omega)).trans (f4 q hq)) (by omega) (by omega) (by omega) (by rw [e]; exact g5)
      rw [m] at this; exact this
  · have eL : wLen w 0 = wK1 w := by unfold wLen; rw [m]; rfl
    have eL1 : wLen w 1 = wK2 w := by unfold wLen; rw [m]; rfl
    have eL2 : wLen w 2 = wLast w := by unfold wLen; rw [m]; rfl
    have k1 := wl 1 (by decide) (by omega)
    have k2 := wl 2 (by decide) (by omega)
    have d1 : wDir ar w 1 = wD1 w := rfl
    have d2 : wDir ar w 2 = wD2 w := rfl
    have hd1 := v6 (by omega)
    have hd2 := v7 m
    have e : rWayR ar w R = rGoes (rGoes (rGoes (rLong R (wSum w)) (wK1 w) ar 1) (wK2 w) (wD1 w) 1) (wLast w) (wD2 w) 0 := by
      unfold rWayR rWayR2 rWayR1 wDL
      rw [m]; rfl
    obtain ⟨c1, c2, c3, c4, c5⟩ := rGoes_lens (rLong R (wSum w)) (wK1 w) ar 1
    rw [if_neg (by decide)] at c4
    obtain ⟨b1, b2, b3, b4, b5⟩ := rGoes_lens (rGoes (rLong R (wSum w)) (wK1 w) ar 1) (wK2 w) (wD1 w) 1
    rw [if_neg (by decide)] at b4
    refine q_leg1 (t := wMany w) hz hwf hgd ⟨by omega, by omega⟩ v3 (by decide) (k0.1.trans eL) (k0.2.trans dA) w22 v2 hR' hc (by rw [l1]; omega) (by rw [l2]; omega) (fun _ => by rw [l3]; omega) ⟨by omega, by omega⟩ (fun σ1 h1 f1 f2 f3 f4 f5 => ?_)
    rw [m] at f5
    refine head 2 σ1 h1 _ _ _ _ _ f1 ⟨by decide, by rw [m]; decide⟩ ?_
    refine q_leg1 (t := wMany w) (s := wK2 w) (d := wD1 w) (R := rGoes (rLong R (wSum w)) (wK1 w) ar 1) hz f3 (by omega) ⟨by omega, by omega⟩ v4 (by decide) ?_ ?_ ?_ v2 f5 ?_ (by rw [c2, l1]; omega) (by rw [c3, l2]; omega) (fun _ => by rw [c4, l3]; omega) ⟨by omega, by omega⟩ (fun σ2 h2 g1 g2 g3 g4 g5 => ?_)
    · rw [f1.2 23 (by decide) (by decide)]; exact k1.1.trans eL1
    · rw [f1.2 24 (by decide) (by decide)]; exact k1.2.trans d1
    · rw [f1.1 22 (by decide) (by decide) (by decide)]; exact w22
    · show lastC (R.2.1 ++ rCells (stp ar) (wK1 w).toNat (lastC R.2.1)) = _
      rw [lastC_cells _ _ _ _ rfl, hc, rEnd_eq, Int.toNat_of_nonneg v3.1]
    · rw [m] at g5
      have f12 := f1.trans g1
      refine head 1 σ2 h2 _ _ _ _ _ f12 ⟨by decide, by rw [m]; decide⟩ ?_
      refine q_leg1 (t := wMany w) (s := wLast w) (d := wD2 w) (R := rGoes (rGoes (rLong R (wSum w)) (wK1 w) ar 1) (wK2 w) (wD1 w) 1) hz g3 (by omega) ⟨by omega, by omega⟩ v5 (by decide) ?_ ?_ ?_ v2 g5 ?_ (by rw [b2, c2, l1]; omega) (by rw [b3, c3, l2]; omega) (fun t9 => absurd t9 (by rw [m]; decide)) ⟨by omega, by omega⟩ (fun σ3 h3 t1 t2 t3 t4 t5 => ?_)
      · rw [f12.2 23 (by decide) (by decide)]; exact k2.1.trans eL2
      · rw [f12.2 24 (by decide) (by decide)]; exact k2.2.trans d2
      · rw [f12.1 22 (by decide) (by decide) (by decide)]; exact w22
      · show lastC ((R.2.1 ++ rCells (stp ar) (wK1 w).toNat (lastC R.2.1)) ++ rCells (stp (wD1 w)) (wK2 w).toNat (lastC (R.2.1 ++ rCells (stp ar) (wK1 w).toNat (lastC R.2.1)))) = _
        rw [lastC_cells _ _ _ _ rfl, lastC_cells _ _ _ _ rfl, hc, rEnd_eq, rEnd_eq, Int.toNat_of_nonneg v3.1, Int.toNat_of_nonneg v4.1]
      · rw [m] at t5
        have := fin 0 σ3 h3 (n0 + 1 + 1 + 1) (z + 3 + 3 + 3) (x + wK1 w * jdx ar + wK2 w * jdx (wD1 w) + wLast w * jdx (wD2 w)) (y + wK1 w * jdy ar + wK2 w * jdy (wD1 w) + wLast w * jdy (wD2 w)) (f12.trans t1) ((f2.trans g2).trans t2) t3 (fun q hq => (t4 q (by omega)).trans ((g4 q (by omega)).trans (f4 q hq))) (by omega) (by omega) (by omega) (by rw [e]; exact t5)
        rw [m] at this; exact this
end CM
