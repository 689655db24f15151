set_option maxRecDepth 100000
/-! the component's search of the way -/
def wLen (w : Way7) (k : Int) : Int := if k = wMany w then wLast w else if k = 0 then wK1 w else wK2 w
def wDir (ar : Int) (w : Way7) (k : Int) : Int := if k = 0 then ar else if k = 1 then wD1 w else wD2 w
/-- the Way object stands for w -/
def WyIs (σ : GS) (ar : Int) (w : Way7) : Prop := σ.1 20 = wNext w ∧ (wNext w ≠ -1 → σ.1 21 = wSum w ∧ σ.1 22 = wMany w ∧ (0 ≤ wMany w ∧ wMany w ≤ 2) ∧ ∀ k : Int, 0 ≤ k → k ≤ wMany w → σ.2.1 23 k = wLen w k ∧ σ.2.1 24 k = wDir ar w k)
/-- what a search leaves as it was -/
def FrD (σ σ1 : GS) : Prop := (∀ j, j < 40 → ¬ (20 ≤ j ∧ j ≤ 22) → σ1.1 j = σ.1 j) ∧ (∀ j, j ≠ 5 → j ≠ 6 → j ≠ 23 → j ≠ 24 → σ1.2.1 j = σ.2.1 j) ∧ σ1.2.2 = σ.2.2
/-- what an offer leaves as it was -/
def FrO (σ σ1 : GS) : Prop := (∀ j, ¬ (20 ≤ j ∧ j ≤ 22) → σ1.1 j = σ.1 j) ∧ (∀ j, j ≠ 23 → j ≠ 24 → σ1.2.1 j = σ.2.1 j) ∧ σ1.2.2 = σ.2.2
theorem FrD.refl (σ : GS) : FrD σ σ := ⟨fun _ _ _ => rfl, fun _ _ _ _ _ => rfl, rfl⟩
theorem FrD.trans {a b c : GS} (p : FrD a b) (q : FrD b c) : FrD a c := ⟨fun j h g => (q.1 j h g).trans (p.1 j h g), fun j h1 h2 h3 h4 => (q.2.1 j h1 h2 h3 h4).trans (p.2.1 j h1 h2 h3 h4), q.2.2.trans p.2.2⟩
theorem FrO.fd {a b : GS} (p : FrO a b) : FrD a b := ⟨fun j _ h => p.1 j h, fun j _ _ h3 h4 => p.2.1 j h3 h4, p.2.2⟩
theorem FrD.A {σ σ1 : GS} {j : Nat} {a : Int → Int} (p : FrD σ σ1) (hj : j = 5 ∨ j = 6) : FrD σ (gA σ1 j a) := ⟨p.1, fun i h1 h2 h3 h4 => by
  show (if i = j then a else σ1.2.1 i) = _
  rw [if_neg (by rcases hj with rfl | rfl; exact h1; exact h2)]; exact p.2.1 i h1 h2 h3 h4, p.2.2⟩
theorem FrD.W {σ σ1 : GS} {b : Nat} {g : Go5} (p : FrD σ σ1) (hb : 40 ≤ b) : FrD σ (gW σ1 b g) := ⟨fun j h h9 => by
  show (if j = b + 1 then _ else if j = b + 2 then _ else if j = b + 3 then _ else if j = b + 4 then _ else if j = b + 5 then _ else σ1.1 j) = _
  rw [if_neg (by omega), if_neg (by omega), if_neg (by omega), if_neg (by omega), if_neg (by omega)]; exact p.1 j h h9, p.2.1, p.2.2⟩
theorem WyIs.A {σ : GS} {ar : Int} {w : Way7} {j : Nat} {a : Int → Int} (p : WyIs σ ar w) (hj : j = 5 ∨ j = 6) : WyIs (gA σ j a) ar w := by
  refine ⟨p.1, fun h => ⟨(p.2 h).1, (p.2 h).2.1, (p.2 h).2.2.1, fun k h1 h2 => ?_⟩⟩
  have := (p.2 h).2.2.2 k h1 h2
  rcases hj with rfl | rfl <;> exact this
theorem WyIs.W {σ : GS} {ar : Int} {w : Way7} {b : Nat} {g : Go5} (p : WyIs σ ar w) (hb : 30 ≤ b) : WyIs (gW σ b g) ar w := by
  have e : ∀ j, j < 30 → (gW σ b g).1 j = σ.1 j := fun j h => by
    show (if j = b + 1 then _ else if j = b + 2 then _ else if j = b + 3 then _ else if j = b + 4 then _ else if j = b + 5 then _ else σ.1 j) = _
    rw [if_neg (by omega), if_neg (by omega), if_neg (by omega), if_neg (by omega), if_neg (by omega)]
  refine ⟨by rw [e 20 (by decide)]; exact p.1, fun h => ⟨by rw [e 21 (by decide)]; exact (p.2 h).1, by rw [e 22 (by decide)]; exact (p.2 h).2.1, (p.2 h).2.2.1, (p.2 h).2.2.2⟩⟩
def sumF (a : Int → Int) : Nat → Int → Int → Int
  | 0, _, s => s
  | n + 1, k, s => sumF a n (k + 1) (s + a k)
section CF
variable {K : KT} {χ : QxT} {gd tr n0 z : Nat} {h : AH}
theorem q_sum {κ : AH → Nat → Nat → Prop} {k27 : AH → Nat → Nat → Int → Int → Option Nat → Option Nat → Int → Prop} {σ : GS} {p t : Int} {o4 : Option Nat} (ht : 0 ≤ t ∧ t ≤ 2) : ∀ (n : Nat) (k s : Int), 0 ≤ k → k + n = t + 1 →
    k27 (gv gd tr σ h) n0 z p t (some (gd + 4)) o4 (sumF (σ.2.1 5) n k s) → L_X9_offer_6 K (gd + 1) k27 κ χ (n + 1) (gv gd tr σ h) n0 z p t (some (gd + 4)) o4 s k := by
  intro n
  induction n with
  | zero => intro k s h0 h1 hk; exact ⟨⟨by omega, by omega⟩, ⟨by omega, by omega⟩, pIf_pos (by omega) hk⟩
  | succ n ih =>
    intro k s h0 h1 hk
    exact ⟨⟨by omega, by omega⟩, ⟨by omega, by omega⟩, pIf_neg (by omega) (q_ld 5 3 (by decide) ⟨h0, by omega⟩ (ih (k + 1) _ (by omega) (by omega) hk))⟩
theorem q_offer {κ : AH → Nat → Nat → Prop} {σ : GS} {ar t p : Int} {w c : Way7} (hz : kz K ≤ gd) (hw : WyIs σ ar w) (hwo : WOK w) (hco : WOK c) (hp : wNext c = p) (hpn : p ≠ -1) (ht : wMany c = t) (ht2 : t = 0 ∨ t = 1 ∨ t = 2) (hs : (t = 0 → wK1 c = 0) ∧ (t ≤ 1 → wK2 c = 0))
    (hl : ∀ k : Int, 0 ≤ k → k ≤ t → σ.2.1 5 k = wLen c k ∧ σ.2.1 6 k = wDir ar c k) (hk : ∀ σ1, FrO σ σ1 → WyIs σ1 ar (wOffer w c) → κ (gv gd tr σ1 h) n0 z) : P_X9_offer K (gd + 1) κ χ (gv gd tr σ h) n0 z p t (some (gd + 4)) (some (gd + 5)) := by
  have hsum : sumF (σ.2.1 5) (t + 1).toNat 0 0 = wSum c := by
    rcases ht2 with rfl | rfl | rfl
    · show (0 : Int) + σ.2.1 5 0 = wSum c
      rw [(hl 0 (by decide) (by decide)).1, wLen, if_pos ht.symm, wSum, hs.1 rfl, hs.2 (by decide)]; omega
    · show (0 : Int) + σ.2.1 5 0 + σ.2.1 5 (0 + 1) = wSum c
      rw [(hl 0 (by decide) (by decide)).1, (hl (0 + 1) (by decide) (by decide)).1, wLen, wLen, ht, if_neg (by decide), if_pos rfl, if_pos (by decide), wSum, hs.2 (by decide)]; omega
    · show (0 : Int) + σ.2.1 5 0 + σ.2.1 5 (0 + 1) + σ.2.1 5 (0 + 1 + 1) = wSum c
      rw [(hl 0 (by decide) (by decide)).1, (hl (0 + 1) (by decide) (by decide)).1, (hl (0 + 1 + 1) (by decide) (by decide)).1, wLen, wLen, wLen, ht, if_neg (by decide), if_pos rfl, if_neg (by decide), if_neg (by decide), if_pos (by decide), wSum]; omega
  have hn := hwo.1
  have hws := hwo.2
  have hcs := hco.2
  have take : wOffer w c = c → P_X9_offer_45 K (gd + 1) κ χ (gv gd tr σ h) n0 z p t (some (gd + 4)) (some (gd + 5)) (wSum c) := fun e => by
    rw [e] at hk
    refine q_wput (k := 0) (by decide) hz (q_wput (k := 1) (by decide) hz (q_wput (k := 2) (by decide) hz (q_wref 2 (by decide) (q_wref 2 (by decide) (q_len 23 3 (by decide) (q_copy 5 3 23 3 (by decide) (by decide) hz (by decide) (by decide) (by decide) (q_wref 3 (by decide) (q_wref 3 (by decide) (q_len 24 3 (by decide) (q_copy 6 3 24 3 (by decide) (by decide) hz (by decide) (by decide) (by decide) ?_))))))))))
    refine hk _ ⟨fun j hj => ?_, fun j h1 h2 => ?_, rfl⟩ ⟨hp.symm, fun _ => ⟨rfl, ht.symm, by omega, fun k h0 h1 => ?_⟩⟩
    · show (if j = 22 then t else if j = 21 then wSum c else if j = 20 then p else σ.1 j) = σ.1 j
      rw [if_neg (by omega), if_neg (by omega), if_neg (by omega)]
    · show (if j = 24 then _ else if j = 23 then _ else σ.2.1 j) = σ.2.1 j
      rw [if_neg h2, if_neg h1]
    · rw [ht] at h1
      have := hl k h0 h1
      constructor
      · show cpI (σ.2.1 5) (σ.2.1 23) 0 0 3 k = _
        unfold cpI
        rw [if_pos (by omega), Int.sub_zero, Int.zero_add]; exact this.1
      · show cpI (σ.2.1 6) (σ.2.1 24) 0 0 3 k = _
        unfold cpI
        rw [if_pos (by omega), Int.sub_zero, Int.zero_add]; exact this.2
  refine ⟨(t + 1).toNat + 1, q_sum (by omega) (t + 1).toNat 0 0 (by decide) (by omega) ?_⟩
  rw [hsum]
  refine q_wget (k := 0) (by decide) ?_
  show InR (σ.1 20) ∧ pIf (σ.1 20 = -1) _ _
  rw [hw.1]
  refine ⟨⟨by omega, by omega⟩, fun q => take (by unfold wOffer; rw [if_pos (Or.inl q)]), fun q => q_wget (k := 1) (by decide) ?_⟩
  show InR (wSum c) ∧ InR (σ.1 21) ∧ pIf (wSum c < σ.1 21) _ _
  rw [(hw.2 q).1]
  refine ⟨⟨by omega, by omega⟩, ⟨by omega, by omega⟩, fun q2 => take (by unfold wOffer; rw [if_pos (Or.inr q2)]), fun q2 => ?_⟩
  have e : wOffer w c = w := by unfold wOffer; rw [if_neg (fun q3 => q3.elim q q2)]
  rw [e] at hk
  exact hk σ ⟨fun _ _ => rfl, fun _ _ _ => rfl, rfl⟩ hw
/-- offer what a walk met -/
theorem q_oim {κ : AH → Nat → Nat → Prop} {σ : GS} {ar t : Int} {w c : Way7} {L : Leg3} {d b : Nat} (hd : (d, b) ∈ [(10, 30), (11, 40), (12, 50)]) (hz : kz K ≤ gd) (hw : WyIs σ ar w) (hwo : WOK w) (hco : WOK c) (h5 : σ.1 (b + 5) = L.2.1) (h3 : ¬ L.2.1 = -1 → σ.1 (b + 3) = L.2.2) (hLb : -1 ≤ L.2.1 ∧ L.2.1 < 24)
    (hp : wNext c = L.2.1) (hla : wLast c = L.2.2) (ht : wMany c = t) (ht2 : t = 0 ∨ t = 1 ∨ t = 2) (hs : (t = 0 → wK1 c = 0) ∧ (t ≤ 1 → wK2 c = 0))
    (hl : ∀ k : Int, 0 ≤ k → k < t → σ.2.1 5 k = wLen c k) (hl6 : ∀ k : Int, 0 ≤ k → k ≤ t → σ.2.1 6 k = wDir ar c k) (hk : ∀ σ1, FrO (gA σ 5 (σ1.2.1 5)) σ1 → (∀ k : Int, k ≠ t → σ1.2.1 5 k = σ.2.1 5 k) → WyIs σ1 ar (if L.2.1 = -1 then w else wOffer w c) → κ (gv gd tr σ1 h) n0 z) : P_X8_offerIfMet K gd κ χ (gv gd tr σ h) n0 z (some (gd + d)) t := by
  refine q_wk b hd (by decide) ?_
  rw [h5]
  refine ⟨⟨by omega, by omega⟩, fun q => ?_, fun q => ?_⟩
  · rw [if_pos q] at hk
    refine hk σ ⟨fun _ _ => rfl, fun j _ _ => ?_, rfl⟩ (fun _ _ => rfl) hw
    show σ.2.1 j = if j = 5 then σ.2.1 5 else σ.2.1 j
    by_cases hj : j = 5
    · rw [if_pos hj, hj]
    · rw [if_neg hj]
  · rw [if_neg q] at hk
    refine q_ref 4 (by decide) (q_wk b hd (by decide) (q_st 5 3 (by decide) hz (by omega) ?_))
    rw [h3 q]
    refine q_ref 1 (by decide) (q_wk b hd (by decide) ?_)
    show pGR _ _ _ _ (fun y => pGR _ _ _ _ (fun y1 => pRecv _ _ _ (fun o => P_X9_offer K o _ χ _ n0 z (σ.1 (b + 5)) t y y1)))
    rw [h5]
    refine q_ref 4 (by decide) (q_ref 5 (by decide) (pRecv_i (gv_1 _ _ _ _) ?_))
    refine q_offer (c := c) (w := w) (ar := ar) hz (hw.A (Or.inl rfl)) hwo hco hp q ht ht2 hs (fun k h0 h1 => ?_) (fun σ1 hf hw1 => ?_)
    · refine ⟨?_, hl6 k h0 h1⟩
      show uI (σ.2.1 5) t L.2.2 k = _
      by_cases hkt : k = t
      · rw [hkt, uI_s, wLen, if_pos ht.symm, hla]
      · rw [uI_n hkt]; exact hl k h0 (by omega)
    · have e5 : σ1.2.1 5 = uI (σ.2.1 5) t L.2.2 := hf.2.1 5 (by decide) (by decide)
      refine hk σ1 ⟨hf.1, fun j h1 h2 => ?_, hf.2.2⟩ (fun k hkt => by rw [e5, uI_n hkt]) hw1
      rw [hf.2.1 j h1 h2, e5]
end CF
