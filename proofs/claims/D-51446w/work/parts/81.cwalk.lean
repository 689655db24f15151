set_option maxRecDepth 100000
/-! the component's walk along a leg -/
def WkO (tr : Nat) (x y s st m : Int) : AE := .inr (9, [vR (some tr), vI x, vI y, vI s, vI st, vI m])
theorem c_post {K : KT} {h : AH} {a : Nat} {f : Row} {k : Int} {Q : Option Nat → Prop} (hr : RowOK f) (hT : TrP h a f) (h0 : 0 ≤ k ∧ k < f 4) (q : ∀ b, h b = some (PoO f k) → Q (some b)) : pGR h (some a) 1 2 (fun y => pAR h y 5 k Q) := by
  obtain ⟨pc, gc, sc, h1, h2, h3, h4, h5, h6, h7, h8⟩ := hT
  have hm := hr.many
  obtain ⟨b, e1, e2⟩ := h7 k h0.1 h0.2
  refine pGR_i h1 rfl (pAR_i h2 ⟨h0.1, by omega⟩ ?_)
  rw [e1]; exact q b e2
theorem c_stepX {κ : Int → Prop} {d : Int} (h : InR d) (hk : κ (jdx d)) : P_X1_stepX κ d := by
  refine ⟨h, fun c => ?_, fun c => ⟨fun e => ?_, fun e => ?_⟩⟩
  · rw [jdx, if_pos c] at hk; exact hk
  · rw [jdx, if_neg c, if_pos e] at hk; exact hk
  · rw [jdx, if_neg c, if_neg e] at hk; exact hk
theorem c_stepY {κ : Int → Prop} {d : Int} (h : InR d) (hk : κ (jdy d)) : P_X1_stepY κ d := by
  refine ⟨h, fun c => ?_, fun c => ⟨fun e => ?_, fun e => ?_⟩⟩
  · rw [jdy, if_neg (by omega), if_pos c] at hk; exact hk
  · rw [jdy, if_pos e] at hk; exact hk
  · rw [jdy, if_neg e, if_neg c] at hk; exact hk
abbrev Go5 : Type := Int × Int × Int × Int × Int
/-- the walk: cell, steps, what stops it, what is met -/
def gGo (f : Row) (d o c : Int) : Nat → Int → Int → Int → Go5
  | 0, x, y, s => if ¬ rOn f (x + jdx d) (y + jdy d) then (x, y, s, 1, -1) else if rBlk f (x + jdx d) (y + jdy d) = 1 then (x, y, s, 2, -1) else (x, y, s, 3, -1)
  | n + 1, x, y, s => if ¬ rOn f (x + jdx d) (y + jdy d) then (x, y, s, 1, -1) else if rBlk f (x + jdx d) (y + jdy d) = 1 then (x, y, s, 2, -1) else
      if rAt f (x + jdx d) (y + jdy d) ≠ -1 ∧ rAt f (x + jdx d) (y + jdy d) ≠ o ∧ rPf f (rAt f (x + jdx d) (y + jdy d)) 4 = 0 ∧ rPf f (rAt f (x + jdx d) (y + jdy d)) 2 = c then (x + jdx d, y + jdy d, s + 1, 0, rAt f (x + jdx d) (y + jdy d)) else gGo f d o c n (x + jdx d) (y + jdy d) (s + 1)
def WkG (tr : Nat) (g : Go5) : AE := WkO tr g.1 g.2.1 g.2.2.1 g.2.2.2.1 g.2.2.2.2
theorem c_go_loop {K : KT} {χ : QxT} {κ : Option Nat → AH → Nat → Nat → Prop} {h : AH} {n0 z tr w : Nat} {f : Row} {d o c : Int} {e0 : AE} (hr : RowOK f) (hT : TrP h tr f) (hw : h w = some e0) (hs : TrSh e0 = false) (hz : kz K ≤ w) (hd : InR d) (ho : InR o) (hc : InR c) :
    ∀ (n : Nat) (x y s : Int), (-1000 ≤ x ∧ x ≤ 1000) → (-1000 ≤ y ∧ y ≤ 1000) → (0 ≤ s ∧ s + n = f 2) → κ (some w) (up h w (WkG tr (gGo f d o c n x y s))) n0 z →
      L_X10_go_25 K w (fun h n z => P_X10_go_209 K w κ χ h n z) κ χ (n + 2) (up h w (WkO tr x y s 0 (-1))) n0 z d c o := by
  have hW := hr.w; have hH := hr.h; have hg := hr.gap; have hm := hr.many
  have hdx := jdx_r d; have hdy := jdy_r d
  have hu : ∀ e, up h w e w = some e := fun e => up_same h w e
  have hTu : ∀ e, TrP (up h w e) tr f := fun e => hT.keep ((Ks.refl _ h).put hw hs)
  have hend : ∀ (fu : Nat) (x y s st m : Int), (InR st) → (InR m) → (¬ st = 0 ∨ ¬ m = -1) → κ (some w) (up h w (WkO tr x y s st m)) n0 z → L_X10_go_25 K w (fun h n z => P_X10_go_209 K w κ χ h n z) κ χ (fu + 1) (up h w (WkO tr x y s st m)) n0 z d c o := by
    intro fu x y s st m i1 i2 q hk
    refine pGI_i (hu _) rfl ⟨i1, fun e => pGI_i (hu _) rfl ⟨i2, fun e2 => ?_, fun _ => hk⟩, fun _ => hk⟩
    exact absurd e2 (q.resolve_left (fun t => t e))
  have body : ∀ (n : Nat) (x y s : Int), (-1000 ≤ x ∧ x ≤ 1000) → (-1000 ≤ y ∧ y ≤ 1000) → (0 ≤ s ∧ s + n = f 2) → κ (some w) (up h w (WkG tr (gGo f d o c n x y s))) n0 z →
      (∀ m, n = m + 1 → ∀ x y s, (-1000 ≤ x ∧ x ≤ 1000) → (-1000 ≤ y ∧ y ≤ 1000) → (0 ≤ s ∧ s + m = f 2) → κ (some w) (up h w (WkG tr (gGo f d o c m x y s))) n0 z → L_X10_go_25 K w (fun h n z => P_X10_go_209 K w κ χ h n z) κ χ (m + 2) (up h w (WkO tr x y s 0 (-1))) n0 z d c o) →
      L_X10_go_25 K w (fun h n z => P_X10_go_209 K w κ χ h n z) κ χ (n + 2) (up h w (WkO tr x y s 0 (-1))) n0 z d c o := by
    intro n x y s hx hy hsn hk ih
    refine pGI_i (hu _) rfl ⟨by decide, pIf_pos rfl (pGI_i (hu _) rfl ⟨by decide, pIf_pos rfl ?_⟩)⟩
    refine pGI_i (hu _) rfl (c_stepX hd (pGI_i (hu _) rfl (c_stepY hd (pGR_i (hu _) rfl (pRecv_i (hTu _).choose_spec.choose_spec.choose_spec.1 ?_)))))
    refine c_isOnMap hr (hTu _) ⟨by omega, by omega⟩ ⟨by omega, by omega⟩ ⟨b2i_inr _, fun q => ?_, fun q => ?_⟩
    · have q := b2i_z.mp q
      refine pPut_i (hu _) hz ?_
      rw [up_up]
      refine hend _ x y s 1 (-1) (by decide) (by decide) (Or.inl (by decide)) ?_
      have e : gGo f d o c n x y s = (x, y, s, 1, -1) := by cases n <;> (unfold gGo; rw [if_pos q])
      rw [e] at hk; exact hk
    · have q : rOn f (x + jdx d) (y + jdy d) := Decidable.not_not.mp (fun t => q (b2i_z.mpr t))
      have q20 : (0 ≤ x + jdx d ∧ x + jdx d < 20) ∧ (0 ≤ y + jdy d ∧ y + jdy d < 20) := by unfold rOn at q; omega
      have hb := hr.blk _ _ q20.1.1 q20.1.2 q20.2.1 q20.2.2
      refine pGR_i (hu _) rfl (pRecv_i (hTu _).choose_spec.choose_spec.choose_spec.1 (c_isBlock hr (hTu _) q20.1 q20.2 ⟨by rcases hb with t | t <;> rw [t] <;> decide, fun q2 => ?_, fun q2 => ?_⟩))
      · obtain ⟨pc, gc, sc, h1, h2, h3, h4, h5, h6, h7, h8⟩ := hTu (WkO tr x y s 0 (-1))
        refine pGI_i (hu _) rfl (pGR_i (hu _) rfl (pGR_i h1 rfl (pAI_i h4 (by decide) ⟨⟨by omega, by omega⟩, by rw [h5]; exact ⟨by omega, by omega⟩, fun q3 => ?_, fun q3 => ?_⟩)))
        · rw [h5] at q3
          have n0 : n = 0 := by omega
          subst n0
          refine pPut_i (hu _) hz ?_
          rw [up_up]
          refine hend _ x y s 3 (-1) (by decide) (by decide) (Or.inl (by decide)) ?_
          have e : gGo f d o c 0 x y s = (x, y, s, 3, -1) := by unfold gGo; rw [if_neg (fun t => t q), if_neg (by rw [q2]; decide)]
          rw [e] at hk; exact hk
        · rw [h5] at q3
          obtain ⟨m, rfl⟩ : ∃ m, n = m + 1 := ⟨n - 1, by omega⟩
          have hk9 : κ (some w) (up h w (WkG tr (if rAt f (x + jdx d) (y + jdy d) ≠ -1 ∧ rAt f (x + jdx d) (y + jdy d) ≠ o ∧ rPf f (rAt f (x + jdx d) (y + jdy d)) 4 = 0 ∧ rPf f (rAt f (x + jdx d) (y + jdy d)) 2 = c then (x + jdx d, y + jdy d, s + 1, 0, rAt f (x + jdx d) (y + jdy d)) else gGo f d o c m (x + jdx d) (y + jdy d) (s + 1)))) n0 z := by
            unfold gGo at hk
            rw [if_neg (fun t => t q), if_neg (by rw [q2]; decide)] at hk; exact hk
          have ihm := ih m rfl (x + jdx d) (y + jdy d) (s + 1) ⟨by omega, by omega⟩ ⟨by omega, by omega⟩ ⟨by omega, by omega⟩
          have no : ¬ (rAt f (x + jdx d) (y + jdy d) ≠ -1 ∧ rAt f (x + jdx d) (y + jdy d) ≠ o ∧ rPf f (rAt f (x + jdx d) (y + jdy d)) 4 = 0 ∧ rPf f (rAt f (x + jdx d) (y + jdy d)) 2 = c) → L_X10_go_25 K w (fun h n z => P_X10_go_209 K w κ χ h n z) κ χ (m + 2) (up h w (WkO tr (x + jdx d) (y + jdy d) (s + 1) 0 (-1))) n0 z d c o := fun t => by
            rw [if_neg t] at hk9
            exact ihm hk9
          refine pPut_i (hu _) hz ?_
          rw [up_up]
          refine pPut_i (hu _) hz ?_
          rw [up_up]
          refine pGI_i (hu _) rfl (pPut_i (hu _) hz ?_)
          rw [up_up]
          refine pGR_i (hu _) rfl (pGI_i (hu _) rfl (pGI_i (hu _) rfl ?_))
          have hT9 := hTu (WkO tr (x + jdx d) (y + jdy d) (s + 1) 0 (-1))
          have ha := rAt_inr hr (x + jdx d) (y + jdy d)
          refine pRecv_i hT9.choose_spec.choose_spec.choose_spec.1 (c_postAt (a := tr) hr hT9 q20.1 q20.2 ⟨⟨by omega, by omega⟩, fun g => no (fun t => t.1 g), fun g => ⟨ho, fun g2 => no (fun t => t.2.1 g2), fun g2 => ?_⟩⟩)
          have hp : 0 ≤ rAt f (x + jdx d) (y + jdy d) ∧ rAt f (x + jdx d) (y + jdy d) < f 4 := by
            rcases rAt_r hr (x + jdx d) (y + jdy d) with ⟨t, -⟩ | ⟨t, t2, -⟩
            · exact absurd t g
            · exact ⟨t, t2⟩
          refine pGR_i (hu _) rfl (c_post (K := K) hr hT9 hp fun b hb9 => pRecv_i hb9 (c_standsFor hr hb9 hp hc ⟨b2i_inr _, fun t => no (fun t2 => (b2i_z.mp t) t2.2.2), fun t => ?_⟩))
          have t := Decidable.not_not.mp (fun t2 => t (b2i_z.mpr t2))
          rw [if_pos ⟨g, g2, t⟩] at hk9
          refine pPut_i (hu _) hz ?_
          rw [up_up]
          exact hend _ _ _ _ _ _ (by decide) ⟨by omega, by omega⟩ (Or.inr g) hk9
      · refine pPut_i (hu _) hz ?_
        rw [up_up]
        refine hend _ x y s 2 (-1) (by decide) (by decide) (Or.inl (by decide)) ?_
        have e : gGo f d o c n x y s = (x, y, s, 2, -1) := by
          have q3 : rBlk f (x + jdx d) (y + jdy d) = 1 := hb.resolve_left q2
          cases n <;> (unfold gGo; rw [if_neg (fun t => t q), if_pos q3])
        rw [e] at hk; exact hk
  intro n
  induction n with
  | zero => intro x y s hx hy hsn hk; exact body 0 x y s hx hy hsn hk (fun m e => absurd e (Nat.succ_ne_zero m).symm)
  | succ n ih => intro x y s hx hy hsn hk; exact body (n + 1) x y s hx hy hsn hk (fun m e => by cases e; exact ih)
theorem c_go {K : KT} {χ : QxT} {κ : Option Nat → AH → Nat → Nat → Prop} {h : AH} {n0 z tr w : Nat} {f : Row} {x y d o c a1 a2 a3 a4 a5 : Int} (hr : RowOK f) (hT : TrP h tr f) (hw : h w = some (WkO tr a1 a2 a3 a4 a5)) (hz : kz K ≤ w) (hd : InR d) (ho : InR o) (hc : InR c) (hx : -1000 ≤ x ∧ x ≤ 1000) (hy : -1000 ≤ y ∧ y ≤ 1000)
    (hk : κ (some w) (up h w (WkG tr (gGo f d o c (f 2).toNat x y 0))) n0 z) : P_X10_go K w κ χ h n0 z x y d c o := by
  have hg := hr.gap
  have hu : ∀ e, up h w e w = some e := fun e => up_same h w e
  refine pPut_i hw hz (pPut_i (hu _) hz ?_)
  rw [up_up]
  refine pPut_i (hu _) hz ?_
  rw [up_up]
  refine pPut_i (hu _) hz ?_
  rw [up_up]
  refine pPut_i (hu _) hz ?_
  rw [up_up]
  exact ⟨(f 2).toNat + 2, c_go_loop hr hT hw rfl hz hd ho hc _ x y 0 hx hy ⟨by decide, by omega⟩ hk⟩
