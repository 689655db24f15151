set_option maxRecDepth 100000
section CH
variable {K : KT} {χ : QxT} {gd tr n0 z : Nat} {h : AH} {f : Row}
theorem q_g56a {κ : AH → Nat → Nat → Prop} {k145 : AH → Nat → Nat → Option Nat → Int → Int → Int → Int → Prop} {b : Nat} {o a x y far : Int} (hr : RowOK f) (hT : TrP h tr f) (hh : Hol h gd) (hz : kz K ≤ gd) (hb : h b = some (PoO f o)) (ho : 0 ≤ o ∧ o < f 4) (ha : 0 ≤ a ∧ a ≤ 12) (hx : -500 ≤ x ∧ x ≤ 500) (hy : -500 ≤ y ∧ y ≤ 500) :
    ∀ (n : Nat) (e : Int) (σ : GS) (w : Way7), 0 ≤ e → e + n = 4 → WyIs σ (rPf f o 3) w → WOK w → σ.2.1 6 0 = rPf f o 3 →
      (∀ σ1, FrD σ σ1 → WyIs σ1 (rPf f o 3) (rTw f o 1 a (-1) x y 0 (rPf f o 3) n e w) → σ1.2.1 6 0 = rPf f o 3 → k145 (gv gd tr σ1 h) n0 z (some b) o 1 far a) → L_X8_guess_56 K gd k145 κ χ (n + 1) (gv gd tr σ h) n0 z (some b) o 1 far a x y e := by
  have hm := hr.many
  have hcl := hr.colour o ho.1 ho.2
  have har := hr.arrow o ho.1 ho.2
  intro n
  induction n with
  | zero => intro e σ w h0 h1 hw hwo hi hk; exact ⟨⟨by omega, by omega⟩, pIf_neg (by omega) (hk σ (FrD.refl σ) hw hi)⟩
  | succ n ih =>
    intro e σ w h0 h1 hw hwo hi hk
    unfold rTw at hk
    have hL := rLeg0_b hr x y e o
    refine ⟨⟨by omega, by omega⟩, pIf_pos (by omega) (pGI_i (gv_post hh hb) rfl (pRecv_i (gv_0 _ _ _ _) (q_turn har ⟨h0, by omega⟩ ⟨b2i_inr _, fun q => ?_, fun q => ?_⟩)))⟩
    · have q : e.tmod 2 = (rPf f o 3).tmod 2 := Decidable.not_not.mp (b2i_z.mp q)
      rw [if_pos (Or.inl q)] at hk
      exact ih (e + 1) σ w (by omega) (by omega) hw hwo hi hk
    · have q : ¬ e.tmod 2 = (rPf f o 3).tmod 2 := fun t => q (b2i_z.mpr (fun t2 => t2 t))
      refine q_ref 4 (by decide) (q_st 5 3 (by decide) hz (by decide) (q_ref 5 (by decide) (q_st 6 3 (by decide) hz (by decide) (q_ref 11 (by decide) (pGI_i (gv_post hh hb) rfl (pRecv_i (gv_at _ _ _ _ 11 (by decide)) ?_))))))
      refine q_go (b := 40) (by decide) hr hT hh hz ⟨by omega, by omega⟩ ⟨by omega, by omega⟩ rfl ⟨by omega, by omega⟩ ⟨by omega, by omega⟩ ⟨by omega, by omega⟩ ⟨by decide, pIf_pos rfl ?_⟩
      refine q_ref 11 (by decide) (pRecv_i (gv_0 _ _ _ _) ?_)
      have hco : WOK (tCand 1 a (-1) 0 e (rLeg0 f x y e o)) := tCand_OK hr ha (by decide)
      refine q_oim (b := 40) (w := w) (ar := rPf f o 3) (L := rLeg0 f x y e o) (c := tCand 1 a (-1) 0 e (rLeg0 f x y e o)) (by decide) hz (((hw.A (Or.inl rfl)).A (Or.inr rfl)).W (by decide)) hwo hco (gG0_m _ _ _ _) (fun t => ?_) ⟨hL.2.2.1, hL.2.2.2.1⟩ rfl rfl rfl (Or.inr (Or.inl rfl)) ⟨fun t => absurd t (by decide), fun t => rfl⟩ (fun k k0 k1 => ?_) (fun k k0 k1 => ?_) (fun σ1 hf h5 hw1 => ?_)
      · show (gG0 f x y e o).2.2.1 = _
        rw [gG0_met t]
      · have : k = 0 := by omega
        subst this
        rfl
      · have : k = 0 ∨ k = 1 := by omega
        rcases this with rfl | rfl
        · exact hi
        · rfl
      · have hfd : FrD σ σ1 := (((((FrD.refl σ).A (Or.inl rfl)).A (Or.inr rfl)).W (by decide)).A (Or.inl rfl)).trans hf.fd
        have hi1 : σ1.2.1 6 0 = rPf f o 3 := by
          rw [hf.2.1 6 (by decide) (by decide)]
          exact hi
        by_cases t : (rLeg0 f x y e o).2.1 = -1
        · rw [if_pos (Or.inr t)] at hk
          rw [if_pos t] at hw1
          exact ih (e + 1) σ1 w (by omega) (by omega) hw1 hwo hi1 (fun σ2 g1 g2 g3 => hk σ2 (hfd.trans g1) g2 g3)
        · rw [if_neg (show ¬ (e.tmod 2 = (rPf f o 3).tmod 2 ∨ (rLeg0 f x y e o).2.1 = -1) from fun t2 => t2.elim q t)] at hk
          rw [if_neg t] at hw1
          exact ih (e + 1) σ1 _ (by omega) (by omega) hw1 (hwo.offer hco) hi1 (fun σ2 g1 g2 g3 => hk σ2 (hfd.trans g1) g2 g3)
theorem q_g56b {κ : AH → Nat → Nat → Prop} {k145 : AH → Nat → Nat → Option Nat → Int → Int → Int → Int → Prop} {b : Nat} {o a px py far : Int} (hr : RowOK f) (hT : TrP h tr f) (hh : Hol h gd) (hz : kz K ≤ gd) (hb : h b = some (PoO f o)) (ho : 0 ≤ o ∧ o < f 4) (ha : 0 ≤ a ∧ a ≤ 12) (hx : -100 ≤ px ∧ px ≤ 100) (hy : -100 ≤ py ∧ py ≤ 100)
    (hn : ∀ e, 0 ≤ e → e < 4 → ¬ e.tmod 2 = (rPf f o 3).tmod 2 → (rLeg0 f (px + a * jdx (rPf f o 3)) (py + a * jdy (rPf f o 3)) e o).2.1 = -1) :
    ∀ (n : Nat) (e : Int) (σ : GS) (w : Way7), 0 ≤ e → e + n = 4 → WyIs σ (rPf f o 3) w → WOK w → σ.2.1 6 0 = rPf f o 3 →
      (∀ σ1, FrD σ σ1 → WyIs σ1 (rPf f o 3) (rTd f o (rPf f o 3) a px py n e w) → σ1.2.1 6 0 = rPf f o 3 → k145 (gv gd tr σ1 h) n0 z (some b) o 2 far a) → L_X8_guess_56 K gd k145 κ χ (n + 1) (gv gd tr σ h) n0 z (some b) o 2 far a (px + a * jdx (rPf f o 3)) (py + a * jdy (rPf f o 3)) e := by
  have hm := hr.many
  have hcl := hr.colour o ho.1 ho.2
  have har := hr.arrow o ho.1 ho.2
  have m1 := mul_b (a := a) (d := jdx (rPf f o 3)) ha (jdx_r _)
  have m2 := mul_b (a := a) (d := jdy (rPf f o 3)) ha (jdy_r _)
  intro n
  induction n with
  | zero => intro e σ w h0 h1 hw hwo hi hk; exact ⟨⟨by omega, by omega⟩, pIf_neg (by omega) (hk σ (FrD.refl σ) hw hi)⟩
  | succ n ih =>
    intro e σ w h0 h1 hw hwo hi hk
    unfold rTd at hk
    refine ⟨⟨by omega, by omega⟩, pIf_pos (by omega) (pGI_i (gv_post hh hb) rfl (pRecv_i (gv_0 _ _ _ _) (q_turn har ⟨h0, by omega⟩ ⟨b2i_inr _, fun q => ?_, fun q => ?_⟩)))⟩
    · have q : e.tmod 2 = (rPf f o 3).tmod 2 := Decidable.not_not.mp (b2i_z.mp q)
      rw [if_pos q] at hk
      exact ih (e + 1) σ w (by omega) (by omega) hw hwo hi hk
    · have q : ¬ e.tmod 2 = (rPf f o 3).tmod 2 := fun t => q (b2i_z.mpr (fun t2 => t2 t))
      rw [if_neg q] at hk
      refine q_ref 4 (by decide) (q_st 5 3 (by decide) hz (by decide) (q_ref 5 (by decide) (q_st 6 3 (by decide) hz (by decide) (q_ref 11 (by decide) (pGI_i (gv_post hh hb) rfl (pRecv_i (gv_at _ _ _ _ 11 (by decide)) ?_))))))
      refine q_go (b := 40) (by decide) hr hT hh hz ⟨by omega, by omega⟩ ⟨by omega, by omega⟩ rfl ⟨by omega, by omega⟩ ⟨by omega, by omega⟩ ⟨by omega, by omega⟩ ⟨by decide, pIf_neg (by decide) ?_⟩
      refine pRecv_i (gv_0 _ _ _ _) ?_
      refine q_ga (ar := rPf f o 3) (a := a) (w := w) hr hT hh hz hb ho ha ⟨h0, by omega⟩ ⟨by omega, by omega⟩ ⟨by omega, by omega⟩ ?_ (((hw.A (Or.inl rfl)).A (Or.inr rfl)).W (by decide)) hwo ⟨rfl, hi, rfl⟩ (fun σ1 g1 g2 g3 => ?_)
      · show (gG0 f (px + a * jdx (rPf f o 3)) (py + a * jdy (rPf f o 3)) e o).2.2.1 = _
        rw [gG0_none (hn e h0 (by omega) q)]
      · have hfd : FrD σ σ1 := ((((FrD.refl σ).A (Or.inl rfl)).A (Or.inr rfl)).W (by decide)).trans g1
        exact ih (e + 1) σ1 _ (by omega) (by omega) g2 (rTwice_OK hr ha hwo) g3.2.1 (fun σ2 t1 t2 t3 => hk σ2 (hfd.trans t1) t2 t3)
theorem q_g12a {κ : AH → Nat → Nat → Prop} {b : Nat} {o far : Int} (hr : RowOK f) (hT : TrP h tr f) (hh : Hol h gd) (hz : kz K ≤ gd) (hb : h b = some (PoO f o)) (ho : 0 ≤ o ∧ o < f 4) (hfar : 0 ≤ far ∧ far ≤ 12) :
    ∀ (n : Nat) (a : Int) (σ : GS) (w : Way7), 1 ≤ a → a + n = far + 1 → WyIs σ (rPf f o 3) w → WOK w → σ.2.1 6 0 = rPf f o 3 →
      (∀ σ1, FrD σ σ1 → WyIs σ1 (rPf f o 3) (rOne f o (rPf f o 3) (rPf f o 0) (rPf f o 1) n a w) → σ1.2.1 6 0 = rPf f o 3 → κ (gv gd tr σ1 h) n0 z) → L_X8_guess_12 K gd (fun h n z => P_X8_guess_151 K gd κ χ h n z) κ χ (n + 1) (gv gd tr σ h) n0 z (some b) o 1 far a := by
  have har := hr.arrow o ho.1 ho.2
  have hon := hr.on o ho.1 ho.2; have hW := hr.w; have hH := hr.h
  intro n
  induction n with
  | zero => intro a σ w h0 h1 hw hwo hi hk; exact ⟨⟨by omega, by omega⟩, ⟨by omega, by omega⟩, pIf_pos (by omega) (hk σ (FrD.refl σ) hw hi)⟩
  | succ n ih =>
    intro a σ w h0 h1 hw hwo hi hk
    have m1 := mul_b (a := a) (d := jdx (rPf f o 3)) ⟨by omega, by omega⟩ (jdx_r _)
    have m2 := mul_b (a := a) (d := jdy (rPf f o 3)) ⟨by omega, by omega⟩ (jdy_r _)
    refine ⟨⟨by omega, by omega⟩, ⟨by omega, by omega⟩, pIf_neg (by omega) (pGI_i (gv_post hh hb) rfl (pGI_i (gv_post hh hb) rfl (c_stepX ⟨by omega, by omega⟩ (pGI_i (gv_post hh hb) rfl (pGI_i (gv_post hh hb) rfl (c_stepY ⟨by omega, by omega⟩ ?_))))))⟩
    unfold rOn at hon
    refine ⟨5, q_g56a hr hT hh hz hb ho ⟨by omega, by omega⟩ ⟨by omega, by omega⟩ ⟨by omega, by omega⟩ 4 0 σ w (by decide) (by decide) hw hwo hi (fun σ1 g1 g2 g3 => ?_)⟩
    exact ih (a + 1) σ1 _ (by omega) (by omega) g2 (rTw_OK hr ⟨by omega, by omega⟩ (by decide) 4 0 w hwo) g3 (fun σ2 t1 t2 t3 => hk σ2 (g1.trans t1) t2 t3)
theorem q_g12b {κ : AH → Nat → Nat → Prop} {b : Nat} {o far : Int} (hr : RowOK f) (hT : TrP h tr f) (hh : Hol h gd) (hz : kz K ≤ gd) (hb : h b = some (PoO f o)) (ho : 0 ≤ o ∧ o < f 4) (hfar : 0 ≤ far ∧ far ≤ 12)
    (hn : ∀ a, 1 ≤ a → a ≤ far → ∀ e, 0 ≤ e → e < 4 → ¬ e.tmod 2 = (rPf f o 3).tmod 2 → (rLeg0 f (rPf f o 0 + a * jdx (rPf f o 3)) (rPf f o 1 + a * jdy (rPf f o 3)) e o).2.1 = -1) :
    ∀ (n : Nat) (a : Int) (σ : GS) (w : Way7), 1 ≤ a → a + n = far + 1 → WyIs σ (rPf f o 3) w → WOK w → σ.2.1 6 0 = rPf f o 3 →
      (∀ σ1, FrD σ σ1 → WyIs σ1 (rPf f o 3) (rTwo f o (rPf f o 3) (rPf f o 0) (rPf f o 1) n a w) → σ1.2.1 6 0 = rPf f o 3 → κ (gv gd tr σ1 h) n0 z) → L_X8_guess_12 K gd (fun h n z => P_X8_guess_151 K gd κ χ h n z) κ χ (n + 1) (gv gd tr σ h) n0 z (some b) o 2 far a := by
  have har := hr.arrow o ho.1 ho.2
  have hon := hr.on o ho.1 ho.2; have hW := hr.w; have hH := hr.h
  intro n
  induction n with
  | zero => intro a σ w h0 h1 hw hwo hi hk; exact ⟨⟨by omega, by omega⟩, ⟨by omega, by omega⟩, pIf_pos (by omega) (hk σ (FrD.refl σ) hw hi)⟩
  | succ n ih =>
    intro a σ w h0 h1 hw hwo hi hk
    refine ⟨⟨by omega, by omega⟩, ⟨by omega, by omega⟩, pIf_neg (by omega) (pGI_i (gv_post hh hb) rfl (pGI_i (gv_post hh hb) rfl (c_stepX ⟨by omega, by omega⟩ (pGI_i (gv_post hh hb) rfl (pGI_i (gv_post hh hb) rfl (c_stepY ⟨by omega, by omega⟩ ?_))))))⟩
    unfold rOn at hon
    refine ⟨5, q_g56b hr hT hh hz hb ho ⟨by omega, by omega⟩ ⟨by omega, by omega⟩ ⟨by omega, by omega⟩ (hn a (by omega) (by omega)) 4 0 σ w (by decide) (by decide) hw hwo hi (fun σ1 g1 g2 g3 => ?_)⟩
    exact ih (a + 1) σ1 _ (by omega) (by omega) g2 (rTd_OK hr ⟨by omega, by omega⟩ 4 0 w hwo) g3 (fun σ2 t1 t2 t3 => hk σ2 (g1.trans t1) t2 t3)
end CH
theorem wOffer_ne {w c : Way7} (h : wNext c ≠ -1) : wNext (wOffer w c) ≠ -1 := by
  unfold wOffer
  by_cases q : wNext w = -1 ∨ wSum c < wSum w
  · rw [if_pos q]; exact h
  · rw [if_neg q]; exact fun t => q (Or.inl t)
theorem tCand_next (m a b c d : Int) (L : Leg3) : wNext (tCand m a b c d L) = L.2.1 := by
  unfold tCand
  split <;> rfl
theorem rTw_none {f : Row} {o m a b x y c al : Int} : ∀ (n : Nat) (d : Int) (w : Way7), wNext (rTw f o m a b x y c al n d w) = -1 → wNext w = -1 ∧ ∀ e, d ≤ e → e < d + n → ¬ e.tmod 2 = al.tmod 2 → (rLeg0 f x y e o).2.1 = -1 := by
  intro n
  induction n with
  | zero => intro d w h; exact ⟨h, fun e h1 h2 => by omega⟩
  | succ n ih =>
    intro d w h
    unfold rTw at h
    obtain ⟨g1, g2⟩ := ih _ _ h
    by_cases q : d.tmod 2 = al.tmod 2 ∨ (rLeg0 f x y d o).2.1 = -1
    · rw [if_pos q] at g1
      refine ⟨g1, fun e h1 h2 h3 => ?_⟩
      by_cases he : e = d
      · subst he; exact q.resolve_left h3
      · exact g2 e (by omega) (by omega) h3
    · rw [if_neg q] at g1
      exact absurd g1 (wOffer_ne (by rw [tCand_next]; exact fun t => q (Or.inr t)))
theorem rOne_none {f : Row} {o ar x y : Int} : ∀ (n : Nat) (a : Int) (w : Way7), wNext (rOne f o ar x y n a w) = -1 → wNext w = -1 ∧ ∀ j, a ≤ j → j < a + n → ∀ e, 0 ≤ e → e < 4 → ¬ e.tmod 2 = ar.tmod 2 → (rLeg0 f (x + j * jdx ar) (y + j * jdy ar) e o).2.1 = -1 := by
  intro n
  induction n with
  | zero => intro a w h; exact ⟨h, fun e h1 h2 => by omega⟩
  | succ n ih =>
    intro a w h
    unfold rOne at h
    obtain ⟨g1, g2⟩ := ih _ _ h
    obtain ⟨g3, g4⟩ := rTw_none 4 0 w g1
    refine ⟨g3, fun j h1 h2 e e0 e1 e2 => ?_⟩
    by_cases hj : j = a
    · subst hj; exact g4 e e0 (by omega) e2
    · exact g2 j (by omega) (by omega) e e0 e1 e2
