set_option maxRecDepth 100000
def GaI (σ : GS) (a ar d : Int) : Prop := σ.2.1 5 0 = a ∧ σ.2.1 6 0 = ar ∧ σ.2.1 6 1 = d
section CG
variable {K : KT} {χ : QxT} {gd tr n0 z : Nat} {h : AH} {f : Row}
theorem q_turn {κ : Int → AH → Nat → Nat → Prop} {h1 : AH} {d e : Int} (hd : 0 ≤ d ∧ d ≤ 4) (he : 0 ≤ e ∧ e < 4) (hk : κ (b2i (¬ e.tmod 2 = d.tmod 2)) h1 n0 z) : P_X8_isTurn K gd κ χ h1 n0 z d e := by
  have t1 : e.tmod 2 = e % 2 := Int.tmod_eq_emod_of_nonneg he.1
  have t2 : d.tmod 2 = d % 2 := Int.tmod_eq_emod_of_nonneg hd.1
  have t3 : (d + e).tmod 2 = (d + e) % 2 := Int.tmod_eq_emod_of_nonneg (by omega)
  rw [t1, t2] at hk
  refine ⟨⟨by omega, by omega⟩, ⟨by rw [t3]; omega, by rw [t3]; omega⟩, fun q => ?_, fun q => ?_⟩
  · rw [t3] at q
    rw [b2i, if_pos (by omega)] at hk; exact hk
  · rw [t3] at q
    rw [b2i, if_neg (by omega)] at hk; exact hk
theorem gv_post {σ : GS} {b : Nat} {k : Int} (hh : Hol h gd) (hb : h b = some (PoO f k)) : gv gd tr σ h b = some (PoO f k) := gv_ks (fun _ => true) hh b _ rfl hb
theorem q_ga22 {κ : AH → Nat → Nat → Prop} {k106 : AH → Nat → Nat → Option Nat → Int → Int → Int → Int → Int → Int → Prop} {b : Nat} {o ar a d c x y far : Int} (hr : RowOK f) (hT : TrP h tr f) (hh : Hol h gd) (hz : kz K ≤ gd) (hb : h b = some (PoO f o)) (ho : 0 ≤ o ∧ o < f 4) (ha : 0 ≤ a ∧ a ≤ 12) (hd : 0 ≤ d ∧ d < 4) (hc : 0 ≤ c ∧ c ≤ 12) (hx : -500 ≤ x ∧ x ≤ 500) (hy : -500 ≤ y ∧ y ≤ 500) :
    ∀ (n : Nat) (e : Int) (σ : GS) (w : Way7), 0 ≤ e → e + n = 4 → WyIs σ ar w → WOK w → GaI σ a ar d →
      (∀ σ1, FrD σ σ1 → WyIs σ1 ar (rTw f o 2 a d (x + c * jdx d) (y + c * jdy d) c d n e w) → GaI σ1 a ar d → k106 (gv gd tr σ1 h) n0 z (some b) o x y d far c) → L_X8_guessAgain_22 K gd k106 κ χ (n + 1) (gv gd tr σ h) n0 z (some b) o x y d far c e := by
  have hm := hr.many
  have hcl := hr.colour o ho.1 ho.2
  have m1 := mul_b (a := c) (d := jdx d) hc (jdx_r d)
  have m2 := mul_b (a := c) (d := jdy d) hc (jdy_r d)
  intro n
  induction n with
  | zero => intro e σ w h0 h1 hw hwo hi hk; exact ⟨⟨by omega, by omega⟩, pIf_neg (by omega) (hk σ (FrD.refl σ) hw hi)⟩
  | succ n ih =>
    intro e σ w h0 h1 hw hwo hi hk
    unfold rTw at hk
    have hL := rLeg0_b hr (x + c * jdx d) (y + c * jdy d) e o
    refine ⟨⟨by omega, by omega⟩, pIf_pos (by omega) (pRecv_i (gv_0 _ _ _ _) (q_turn ⟨hd.1, by omega⟩ ⟨h0, by omega⟩ ⟨b2i_inr _, fun q => ?_, fun q => ?_⟩))⟩
    · have q : e.tmod 2 = d.tmod 2 := Decidable.not_not.mp (b2i_z.mp q)
      rw [if_pos (Or.inl q)] at hk
      exact ih (e + 1) σ w (by omega) (by omega) hw hwo hi hk
    · have q : ¬ e.tmod 2 = d.tmod 2 := fun t => q (b2i_z.mpr (fun t2 => t2 t))
      refine q_ref 4 (by decide) (q_st 5 3 (by decide) hz (by decide) (q_ref 5 (by decide) (q_st 6 3 (by decide) hz (by decide) (q_ref 12 (by decide) (c_stepX ⟨by omega, by omega⟩ (c_stepY ⟨by omega, by omega⟩ (pGI_i (gv_post hh hb) rfl (pRecv_i (gv_at _ _ _ _ 12 (by decide)) ?_))))))))
      refine q_go (b := 50) (by decide) hr hT hh hz ⟨by omega, by omega⟩ ⟨by omega, by omega⟩ rfl ⟨by omega, by omega⟩ ⟨by omega, by omega⟩ ⟨by omega, by omega⟩ ?_
      refine q_ref 12 (by decide) (pRecv_i (gv_0 _ _ _ _) ?_)
      have hco : WOK (tCand 2 a d c e (rLeg0 f (x + c * jdx d) (y + c * jdy d) e o)) := tCand_OK hr ha hc
      refine q_oim (b := 50) (w := w) (ar := ar) (L := rLeg0 f (x + c * jdx d) (y + c * jdy d) e o) (c := tCand 2 a d c e (rLeg0 f (x + c * jdx d) (y + c * jdy d) e o)) (by decide) hz (((hw.A (Or.inl rfl)).A (Or.inr rfl)).W (by decide)) hwo hco (gG0_m _ _ _ _) (fun t => ?_) ⟨hL.2.2.1, hL.2.2.2.1⟩ rfl rfl rfl (Or.inr (Or.inr rfl)) ⟨fun t => absurd t (by decide), fun t => absurd t (by decide)⟩ (fun k k0 k1 => ?_) (fun k k0 k1 => ?_) (fun σ1 hf h5 hw1 => ?_)
      · show (gG0 f (x + c * jdx d) (y + c * jdy d) e o).2.2.1 = _
        rw [gG0_met t]
      · have : k = 0 ∨ k = 1 := by omega
        rcases this with rfl | rfl
        · exact hi.1
        · rfl
      · have : k = 0 ∨ k = 1 ∨ k = 2 := by omega
        rcases this with rfl | rfl | rfl
        · exact hi.2.1
        · exact hi.2.2
        · rfl
      · have hfd : FrD σ σ1 := (((((FrD.refl σ).A (Or.inl rfl)).A (Or.inr rfl)).W (by decide)).A (Or.inl rfl)).trans hf.fd
        have e6 : ∀ k : Int, k ≠ 2 → σ1.2.1 6 k = σ.2.1 6 k := fun k hk2 => by
          rw [hf.2.1 6 (by decide) (by decide)]
          show uI (σ.2.1 6) 2 e k = _
          rw [uI_n hk2]
        have hi1 : GaI σ1 a ar d := by
          refine ⟨?_, ?_, ?_⟩
          · rw [h5 0 (by decide)]
            exact hi.1
          · rw [e6 0 (by decide)]; exact hi.2.1
          · rw [e6 1 (by decide)]; exact hi.2.2
        by_cases t : (rLeg0 f (x + c * jdx d) (y + c * jdy d) e o).2.1 = -1
        · rw [if_pos (Or.inr t)] at hk
          rw [if_pos t] at hw1
          exact ih (e + 1) σ1 w (by omega) (by omega) hw1 hwo hi1 (fun σ2 g1 g2 g3 => hk σ2 (hfd.trans g1) g2 g3)
        · rw [if_neg (show ¬ (e.tmod 2 = d.tmod 2 ∨ (rLeg0 f (x + c * jdx d) (y + c * jdy d) e o).2.1 = -1) from fun t2 => t2.elim q t)] at hk
          rw [if_neg t] at hw1
          exact ih (e + 1) σ1 _ (by omega) (by omega) hw1 (hwo.offer hco) hi1 (fun σ2 g1 g2 g3 => hk σ2 (hfd.trans g1) g2 g3)
theorem q_ga12 {κ : AH → Nat → Nat → Prop} {b : Nat} {o ar a d x y far : Int} (hr : RowOK f) (hT : TrP h tr f) (hh : Hol h gd) (hz : kz K ≤ gd) (hb : h b = some (PoO f o)) (ho : 0 ≤ o ∧ o < f 4) (ha : 0 ≤ a ∧ a ≤ 12) (hd : 0 ≤ d ∧ d < 4) (hx : -500 ≤ x ∧ x ≤ 500) (hy : -500 ≤ y ∧ y ≤ 500) (hfar : 0 ≤ far ∧ far ≤ 12) :
    ∀ (n : Nat) (c : Int) (σ : GS) (w : Way7), 1 ≤ c → c + n = far + 1 → WyIs σ ar w → WOK w → GaI σ a ar d →
      (∀ σ1, FrD σ σ1 → WyIs σ1 ar (rTc f o a d x y n c w) → GaI σ1 a ar d → κ (gv gd tr σ1 h) n0 z) → L_X8_guessAgain_12 K gd (fun h n z => P_X8_guessAgain_112 K gd κ χ h n z) κ χ (n + 1) (gv gd tr σ h) n0 z (some b) o x y d far c := by
  intro n
  induction n with
  | zero => intro c σ w h0 h1 hw hwo hi hk; exact ⟨⟨by omega, by omega⟩, ⟨by omega, by omega⟩, pIf_pos (by omega) (hk σ (FrD.refl σ) hw hi)⟩
  | succ n ih =>
    intro c σ w h0 h1 hw hwo hi hk
    refine ⟨⟨by omega, by omega⟩, ⟨by omega, by omega⟩, pIf_neg (by omega) ⟨5, q_ga22 hr hT hh hz hb ho ha hd ⟨by omega, by omega⟩ hx hy 4 0 σ w (by decide) (by decide) hw hwo hi (fun σ1 g1 g2 g3 => ?_)⟩⟩
    exact ih (c + 1) σ1 _ (by omega) (by omega) g2 (rTw_OK hr ha ⟨by omega, by omega⟩ 4 0 w hwo) g3 (fun σ2 t1 t2 t3 => hk σ2 (g1.trans t1) t2 t3)
theorem q_ga {κ : AH → Nat → Nat → Prop} {b : Nat} {o ar a d x y : Int} {σ : GS} {w : Way7} (hr : RowOK f) (hT : TrP h tr f) (hh : Hol h gd) (hz : kz K ≤ gd) (hb : h b = some (PoO f o)) (ho : 0 ≤ o ∧ o < f 4) (ha : 0 ≤ a ∧ a ≤ 12) (hd : 0 ≤ d ∧ d < 4) (hx : -500 ≤ x ∧ x ≤ 500) (hy : -500 ≤ y ∧ y ≤ 500) (hst : σ.1 43 = (rLeg0 f x y d o).1)
    (hw : WyIs σ ar w) (hwo : WOK w) (hi : GaI σ a ar d) (hk : ∀ σ1, FrD σ σ1 → WyIs σ1 ar (rTwice f o a d x y w) → GaI σ1 a ar d → κ (gv gd tr σ1 h) n0 z) : P_X8_guessAgain K gd κ χ (gv gd tr σ h) n0 z (some b) o x y d := by
  have hL := rLeg0_b hr x y d o
  refine q_ref 11 (by decide) (q_wk 40 (by decide) (by decide) ?_)
  show ∃ f9 : Nat, L_X8_guessAgain_12 K gd _ κ χ f9 _ n0 z (some b) o x y d (σ.1 43) 1
  rw [hst]
  exact ⟨(rLeg0 f x y d o).1.toNat + 1, q_ga12 hr hT hh hz hb ho ha hd hx hy ⟨hL.1, hL.2.1⟩ _ 1 σ w (by decide) (by omega) hw hwo hi hk⟩
end CG
