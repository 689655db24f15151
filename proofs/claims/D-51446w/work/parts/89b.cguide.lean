set_option maxRecDepth 100000
section CP
variable {K : KT} {χ : QxT} {h : AH} {n0 z tr gd : Nat} {f : Row}
theorem c_standing_loop {κ : Int → AH → Nat → Nat → Prop} {c : Int} (hr : RowOK f) (hT : TrP h tr f) (hc : 0 ≤ c ∧ c < 4) : ∀ (n : Nat) (k a : Int), 0 ≤ k → k + n = f 4 → κ (a + cnt (fun k => (c = -1 ∨ rPf f k 2 = c) ∧ ((1 : Int) = 0 ∨ rPf f k 4 = 0)) n k) h n0 z →
    L_X2_standing_4 K tr (fun h n z x2 => P_X2_standing_34 K tr κ χ h n z x2) κ χ (n + 1) h n0 z c a k := by
  have hm := hr.many
  obtain ⟨pc, gc, sc, h1, h2, h3, h4, h5, h6, h7, h8⟩ := id hT
  intro n
  induction n with
  | zero =>
    intro k a h0 hk hq
    refine pGI_i h1 rfl ⟨⟨by omega, by omega⟩, ⟨by omega, by omega⟩, pIf_neg (by omega) ?_⟩
    unfold cnt at hq
    rw [Int.add_zero] at hq; exact hq
  | succ n ih =>
    intro k a h0 hk hq
    unfold cnt at hq
    refine pGI_i h1 rfl ⟨⟨by omega, by omega⟩, ⟨by omega, by omega⟩, pIf_pos (by omega) (c_post (K := K) hr hT ⟨h0, by omega⟩ fun b hb => pRecv_i hb (c_standsFor hr hb ⟨h0, by omega⟩ ⟨by omega, by omega⟩ ⟨b2i_inr _, fun q => ?_, fun q => ?_⟩))⟩
    · have q := b2i_z.mp q
      refine ih (k + 1) a (by omega) (by omega) ?_
      rw [b2i, if_neg (fun t => q ⟨t.2.resolve_left (by decide), t.1.resolve_left (by omega)⟩), Int.zero_add] at hq; exact hq
    · have q := Decidable.not_not.mp (fun t => q (b2i_z.mpr t))
      refine ih (k + 1) (a + 1) (by omega) (by omega) ?_
      rw [b2i, if_pos ⟨Or.inr q.2, Or.inr q.1⟩] at hq
      rw [Int.add_assoc]; exact hq
theorem c_standing {κ : Int → AH → Nat → Nat → Prop} {c : Int} (hr : RowOK f) (hT : TrP h tr f) (hc : 0 ≤ c ∧ c < 4) (hk : κ (rPosts f c 1) h n0 z) : P_X2_standing K tr κ χ h n0 z c := by
  have hm := hr.many
  exact ⟨(f 4).toNat + 1, c_standing_loop hr hT hc (f 4).toNat 0 0 (by decide) (by omega) (by rw [Int.zero_add]; exact hk)⟩
theorem c_begin_loop {κ : Int → AH → Nat → Nat → Prop} {c : Int} (hr : RowOK f) (hT : TrP h tr f) (hc : 0 ≤ c ∧ c < 4) : ∀ (n : Nat) (k : Int), 0 ≤ k → k + n = f 4 → κ (fnd (fun k => rPf f k 2 = c ∧ rPf f k 4 = 0) n k) h n0 z →
    L_X2_begin_2 K tr (fun h n z x2 => P_X2_begin_23 K tr κ χ h n z x2) (fun h n z => P_X2_begin_31 K tr κ χ h n z) κ χ (n + 1) h n0 z c k := by
  have hm := hr.many
  obtain ⟨pc, gc, sc, h1, h2, h3, h4, h5, h6, h7, h8⟩ := id hT
  intro n
  induction n with
  | zero =>
    intro k h0 hk hq
    exact pGI_i h1 rfl ⟨⟨by omega, by omega⟩, ⟨by omega, by omega⟩, pIf_neg (by omega) hq⟩
  | succ n ih =>
    intro k h0 hk hq
    unfold fnd at hq
    refine pGI_i h1 rfl ⟨⟨by omega, by omega⟩, ⟨by omega, by omega⟩, pIf_pos (by omega) (c_post (K := K) hr hT ⟨h0, by omega⟩ fun b hb => pRecv_i hb (c_standsFor hr hb ⟨h0, by omega⟩ ⟨by omega, by omega⟩ ⟨b2i_inr _, fun q => ?_, fun q => ?_⟩))⟩
    · have q := b2i_z.mp q
      refine ih (k + 1) (by omega) (by omega) ?_
      rw [if_neg (fun t => q ⟨t.2, t.1⟩)] at hq; exact hq
    · have q := Decidable.not_not.mp (fun t => q (b2i_z.mpr t))
      rw [if_pos ⟨q.2, q.1⟩] at hq; exact hq
theorem c_begin {κ : Int → AH → Nat → Nat → Prop} {c : Int} (hr : RowOK f) (hT : TrP h tr f) (hc : 0 ≤ c ∧ c < 4) (hk : κ (rBegin f c) h n0 z) : P_X2_begin K tr κ χ h n0 z c := by
  have hm := hr.many
  exact ⟨(f 4).toNat + 1, c_begin_loop hr hT hc (f 4).toNat 0 (by decide) (by omega) hk⟩
theorem rBegin_r (hr : RowOK f) (c : Int) : rBegin f c = -1 ∨ (0 ≤ rBegin f c ∧ rBegin f c < f 4 ∧ rPf f (rBegin f c) 2 = c ∧ rPf f (rBegin f c) 4 = 0) := by
  have hm := hr.many
  have e : ((f 4).toNat : Int) = f 4 := Int.toNat_of_nonneg hm.1
  rcases fnd_spec (fun k => rPf f k 2 = c ∧ rPf f k 4 = 0) (f 4).toNat 0 with ⟨h1, -⟩ | ⟨h1, h2, h3, -⟩
  · exact Or.inl h1
  · exact Or.inr ⟨h1, by unfold rBegin; omega, h3⟩
theorem rPosts_r (hr : RowOK f) (c s : Int) : 0 ≤ rPosts f c s ∧ rPosts f c s ≤ 24 := by
  have hm := hr.many
  have e : ((f 4).toNat : Int) = f 4 := Int.toNat_of_nonneg hm.1
  have := cnt_r (fun k => (c = -1 ∨ rPf f k 2 = c) ∧ (s = 0 ∨ rPf f k 4 = 0)) (f 4).toNat 0
  unfold rPosts
  omega
theorem q_follow {κ : Option Nat → AH → Nat → Nat → Prop} {σ : GS} {p : Int} (hr : RowOK f) (hT : TrP h tr f) (hh : Hol h gd) (hwf : WfH h n0) (hz : kz K ≤ gd) (hgd : gd + 13 ≤ n0) (hp : 0 ≤ p ∧ p < f 4) (hst : rPf f p 4 = 0) (hkn : n0 + 73 ≤ kn K ∧ z + 240 ≤ kw K)
    (hk : ∀ σ1 h1 n1 z1, GdE f h1 σ1 (rRoute f p) → TrP h1 tr f → Hol h1 gd → WfH h1 n1 → (∀ q, q < n0 → h1 q = h q) → n0 ≤ n1 → n1 ≤ n0 + 73 → z1 ≤ z + 240 → κ (some gd) (gv gd tr σ1 h1) n1 z1) : P_X8_follow K gd κ χ (gv gd tr σ h) n0 z p := by
  have hm := hr.many
  have hon := hr.on p hp.1 hp.2
  have hfr := hr.free p hp.1 hp.2
  obtain ⟨eR, -⟩ := rRoute_end hr hp hst
  rw [eR] at hk
  refine q_put (by decide) hz (q_put (by decide) hz (q_put (by decide) hz (q_put (by decide) hz (q_put (by decide) hz (q_put (by decide) hz ⟨by decide, by omega, by show z + 24 ≤ kw K; omega, ?_⟩)))))
  rw [gv_upo (Or.inr hgd)]
  have hx := hwf.ext (.inl (0, 24, .inl fun _ => 0))
  have hT1 : TrP (up h n0 (.inl (0, 24, .inl fun _ => 0))) tr f := hT.keep (hx.ks _)
  have hh1 : Hol (up h n0 (.inl (0, 24, .inl fun _ => 0))) gd := fun q q1 q2 => by rw [up_ne (by omega)]; exact hh q q1 q2
  have hlow : ∀ q, q < n0 → up h n0 (.inl (0, 24, .inl fun _ => 0)) q = h q := fun q hq => up_ne (by omega)
  refine q_ref 7 (by decide) (q_tr (q_post hr hT1 hh1 hp fun b hb => pRecv_i (gv_post hh1 hb) (pGI_i (gv_post hh1 hb) rfl (pGI_i (gv_post hh1 hb) rfl (q_st 9 865 (by decide) hz (by decide) (q_put (by decide) hz ?_))))))
  refine ⟨25, q_follow_loop (f := f) (h0 := h) (n00 := n0) (z00 := z) (sA := n0) (σ00 := gS σ 18 0) hr hz hgd rfl hkn rfl 25 p (rR0 (rCell f p)) _ _ (fun _ => 0) (n0 + 1) (z + 24) hp hst (rR0_inv f _) rfl ⟨List.nodup_nil, trivial, fun k h => absurd h List.not_mem_nil, by show (1 : Int) = 1 + 0; rfl, ⟨⟨fun c hc => ?_, fun i hi => ?_⟩, by show [rCell f p] ≠ []; simp, rfl, hon, rfl, fun q h => absurd h List.not_mem_nil, fun q h => absurd h List.not_mem_nil⟩⟩ hT1 hh1 (hwf.snoc _) (up_same _ _ _) (fun l b m e => ?_) ⟨⟨rfl, rfl, rfl, rfl⟩, LsI.nil _, ?_, LsI.nil _, fun i hi => absurd hi (Nat.not_lt_zero i)⟩ rfl rfl hlow (by omega) (by show n0 + 1 ≤ n0 + 1 + 3 * 0; omega) (by show z + 24 ≤ z + 24 + 9 * 0; omega) hk⟩
  · rw [List.mem_singleton.mp hc]; exact ⟨_, _, rfl, hon, by rw [hfr]; decide⟩
  · exact absurd hi (by show ¬ i + 1 < 1; omega)
  · have := congrArg List.length e
    rw [List.length_append, List.length_cons] at this
    have : 0 = l.length + (m.length + 1) := this
    omega
  · exact (LsI.nil (σ.2.1 9)).push
/-- the Guide of a new object: 13 things -/
def gZ : GS := (fun _ => 0, fun _ _ => 0, fun _ => none)
theorem q_init {κ : AH → Nat → Nat → Prop} (hz : kz K ≤ gd) (hkn : gd + 13 ≤ kn K ∧ z + 1064 ≤ kw K) {e0 : AE} (he : e0 = .inr (7, [vR none, vR none, vR none, vR none, vR none, vR none, vR none, vR none, vI 0, vR none, vI 0, vR none, vI 0, vR none, vI 0, vI 0, vI 0, vI 0, vI 0]))
    (hk : ∀ z1, z1 = z + 1064 → κ (gv gd tr gZ h) (gd + 13) z1) : P_X8_init K gd κ χ (up h gd e0) (gd + 1) (z + 19) (some tr) := by
  have e1 : up h gd e0 = ovl gd [e0] h := by
    have := ovl_new (a := gd) (L := []) (h := h) (e := e0)
    rw [ovl_nil] at this; exact this
  rw [e1, he]
  refine o_newX [.inr (7, [vR none, vR none, vR none, vR none, vR none, vR none, vR none, vR none, vI 0, vR none, vI 0, vR none, vI 0, vR none, vI 0, vI 0, vI 0, vI 0, vI 0]), .inr (8, [vI 0, vI 0, vI 0, vR none, vR none])] rfl rfl ⟨by show gd + 1 + 1 ≤ kn K; omega, by show z + 19 + 5 ≤ kw K; omega⟩ ?_
  refine o_newAX [.inr (7, [vR none, vR none, vR none, vR none, vR none, vR none, vR none, vR none, vI 0, vR none, vI 0, vR none, vI 0, vR none, vI 0, vI 0, vI 0, vI 0, vI 0]), .inr (8, [vI 0, vI 0, vI 0, vR none, vR none]), .inl (0, 3, .inl fun _ => 0)] rfl rfl (by decide) ⟨by show gd + 2 + 1 ≤ kn K; omega, by show z + 24 + 3 ≤ kw K; omega⟩ ?_
  refine o_putX (i := 1) [.inr (7, [vR none, vR none, vR none, vR none, vR none, vR none, vR none, vR none, vI 0, vR none, vI 0, vR none, vI 0, vR none, vI 0, vI 0, vI 0, vI 0, vI 0]), .inr (8, [vI 0, vI 0, vI 0, vR (some (gd + 2)), vR none]), .inl (0, 3, .inl fun _ => 0)] rfl rfl hz ?_
  refine o_newAX [.inr (7, [vR none, vR none, vR none, vR none, vR none, vR none, vR none, vR none, vI 0, vR none, vI 0, vR none, vI 0, vR none, vI 0, vI 0, vI 0, vI 0, vI 0]), .inr (8, [vI 0, vI 0, vI 0, vR (some (gd + 2)), vR none]), .inl (0, 3, .inl fun _ => 0), .inl (0, 3, .inl fun _ => 0)] rfl rfl (by decide) ⟨by show gd + 3 + 1 ≤ kn K; omega, by show z + 27 + 3 ≤ kw K; omega⟩ ?_
  refine o_putX (i := 1) [.inr (7, [vR none, vR none, vR none, vR none, vR none, vR none, vR none, vR none, vI 0, vR none, vI 0, vR none, vI 0, vR none, vI 0, vI 0, vI 0, vI 0, vI 0]), .inr (8, [vI 0, vI 0, vI 0, vR (some (gd + 2)), vR (some (gd + 3))]), .inl (0, 3, .inl fun _ => 0), .inl (0, 3, .inl fun _ => 0)] rfl rfl hz ?_
  refine o_putX (i := 0) [.inr (7, [vR none, vR (some (gd + 1)), vR none, vR none, vR none, vR none, vR none, vR none, vI 0, vR none, vI 0, vR none, vI 0, vR none, vI 0, vI 0, vI 0, vI 0, vI 0]), .inr (8, [vI 0, vI 0, vI 0, vR (some (gd + 2)), vR (some (gd + 3))]), .inl (0, 3, .inl fun _ => 0), .inl (0, 3, .inl fun _ => 0)] rfl rfl hz ?_
  refine o_newAX [.inr (7, [vR none, vR (some (gd + 1)), vR none, vR none, vR none, vR none, vR none, vR none, vI 0, vR none, vI 0, vR none, vI 0, vR none, vI 0, vI 0, vI 0, vI 0, vI 0]), .inr (8, [vI 0, vI 0, vI 0, vR (some (gd + 2)), vR (some (gd + 3))]), .inl (0, 3, .inl fun _ => 0), .inl (0, 3, .inl fun _ => 0), .inl (0, 3, .inl fun _ => 0)] rfl rfl (by decide) ⟨by show gd + 4 + 1 ≤ kn K; omega, by show z + 30 + 3 ≤ kw K; omega⟩ ?_
  refine o_putX (i := 0) [.inr (7, [vR none, vR (some (gd + 1)), vR none, vR none, vR none, vR (some (gd + 4)), vR none, vR none, vI 0, vR none, vI 0, vR none, vI 0, vR none, vI 0, vI 0, vI 0, vI 0, vI 0]), .inr (8, [vI 0, vI 0, vI 0, vR (some (gd + 2)), vR (some (gd + 3))]), .inl (0, 3, .inl fun _ => 0), .inl (0, 3, .inl fun _ => 0), .inl (0, 3, .inl fun _ => 0)] rfl rfl hz ?_
  refine o_newAX [.inr (7, [vR none, vR (some (gd + 1)), vR none, vR none, vR none, vR (some (gd + 4)), vR none, vR none, vI 0, vR none, vI 0, vR none, vI 0, vR none, vI 0, vI 0, vI 0, vI 0, vI 0]), .inr (8, [vI 0, vI 0, vI 0, vR (some (gd + 2)), vR (some (gd + 3))]), .inl (0, 3, .inl fun _ => 0), .inl (0, 3, .inl fun _ => 0), .inl (0, 3, .inl fun _ => 0), .inl (0, 3, .inl fun _ => 0)] rfl rfl (by decide) ⟨by show gd + 5 + 1 ≤ kn K; omega, by show z + 33 + 3 ≤ kw K; omega⟩ ?_
  refine o_putX (i := 0) [.inr (7, [vR none, vR (some (gd + 1)), vR none, vR none, vR none, vR (some (gd + 4)), vR (some (gd + 5)), vR none, vI 0, vR none, vI 0, vR none, vI 0, vR none, vI 0, vI 0, vI 0, vI 0, vI 0]), .inr (8, [vI 0, vI 0, vI 0, vR (some (gd + 2)), vR (some (gd + 3))]), .inl (0, 3, .inl fun _ => 0), .inl (0, 3, .inl fun _ => 0), .inl (0, 3, .inl fun _ => 0), .inl (0, 3, .inl fun _ => 0)] rfl rfl hz ?_
  refine o_newAX [.inr (7, [vR none, vR (some (gd + 1)), vR none, vR none, vR none, vR (some (gd + 4)), vR (some (gd + 5)), vR none, vI 0, vR none, vI 0, vR none, vI 0, vR none, vI 0, vI 0, vI 0, vI 0, vI 0]), .inr (8, [vI 0, vI 0, vI 0, vR (some (gd + 2)), vR (some (gd + 3))]), .inl (0, 3, .inl fun _ => 0), .inl (0, 3, .inl fun _ => 0), .inl (0, 3, .inl fun _ => 0), .inl (0, 3, .inl fun _ => 0), .inl (0, 25, .inl fun _ => 0)] rfl rfl (by decide) ⟨by show gd + 6 + 1 ≤ kn K; omega, by show z + 36 + 25 ≤ kw K; omega⟩ ?_
  refine o_putX (i := 0) [.inr (7, [vR none, vR (some (gd + 1)), vR none, vR none, vR none, vR (some (gd + 4)), vR (some (gd + 5)), vR (some (gd + 6)), vI 0, vR none, vI 0, vR none, vI 0, vR none, vI 0, vI 0, vI 0, vI 0, vI 0]), .inr (8, [vI 0, vI 0, vI 0, vR (some (gd + 2)), vR (some (gd + 3))]), .inl (0, 3, .inl fun _ => 0), .inl (0, 3, .inl fun _ => 0), .inl (0, 3, .inl fun _ => 0), .inl (0, 3, .inl fun _ => 0), .inl (0, 25, .inl fun _ => 0)] rfl rfl hz ?_
  refine o_newAX [.inr (7, [vR none, vR (some (gd + 1)), vR none, vR none, vR none, vR (some (gd + 4)), vR (some (gd + 5)), vR (some (gd + 6)), vI 0, vR none, vI 0, vR none, vI 0, vR none, vI 0, vI 0, vI 0, vI 0, vI 0]), .inr (8, [vI 0, vI 0, vI 0, vR (some (gd + 2)), vR (some (gd + 3))]), .inl (0, 3, .inl fun _ => 0), .inl (0, 3, .inl fun _ => 0), .inl (0, 3, .inl fun _ => 0), .inl (0, 3, .inl fun _ => 0), .inl (0, 25, .inl fun _ => 0), .inl (0, 865, .inl fun _ => 0)] rfl rfl (by decide) ⟨by show gd + 7 + 1 ≤ kn K; omega, by show z + 61 + 865 ≤ kw K; omega⟩ ?_
  refine o_putX (i := 0) [.inr (7, [vR none, vR (some (gd + 1)), vR none, vR none, vR none, vR (some (gd + 4)), vR (some (gd + 5)), vR (some (gd + 6)), vI 0, vR (some (gd + 7)), vI 0, vR none, vI 0, vR none, vI 0, vI 0, vI 0, vI 0, vI 0]), .inr (8, [vI 0, vI 0, vI 0, vR (some (gd + 2)), vR (some (gd + 3))]), .inl (0, 3, .inl fun _ => 0), .inl (0, 3, .inl fun _ => 0), .inl (0, 3, .inl fun _ => 0), .inl (0, 3, .inl fun _ => 0), .inl (0, 25, .inl fun _ => 0), .inl (0, 865, .inl fun _ => 0)] rfl rfl hz ?_
  refine o_newAX [.inr (7, [vR none, vR (some (gd + 1)), vR none, vR none, vR none, vR (some (gd + 4)), vR (some (gd + 5)), vR (some (gd + 6)), vI 0, vR (some (gd + 7)), vI 0, vR none, vI 0, vR none, vI 0, vI 0, vI 0, vI 0, vI 0]), .inr (8, [vI 0, vI 0, vI 0, vR (some (gd + 2)), vR (some (gd + 3))]), .inl (0, 3, .inl fun _ => 0), .inl (0, 3, .inl fun _ => 0), .inl (0, 3, .inl fun _ => 0), .inl (0, 3, .inl fun _ => 0), .inl (0, 25, .inl fun _ => 0), .inl (0, 865, .inl fun _ => 0), .inl (0, 48, .inl fun _ => 0)] rfl rfl (by decide) ⟨by show gd + 8 + 1 ≤ kn K; omega, by show z + 926 + 48 ≤ kw K; omega⟩ ?_
  refine o_putX (i := 0) [.inr (7, [vR none, vR (some (gd + 1)), vR none, vR none, vR none, vR (some (gd + 4)), vR (some (gd + 5)), vR (some (gd + 6)), vI 0, vR (some (gd + 7)), vI 0, vR (some (gd + 8)), vI 0, vR none, vI 0, vI 0, vI 0, vI 0, vI 0]), .inr (8, [vI 0, vI 0, vI 0, vR (some (gd + 2)), vR (some (gd + 3))]), .inl (0, 3, .inl fun _ => 0), .inl (0, 3, .inl fun _ => 0), .inl (0, 3, .inl fun _ => 0), .inl (0, 3, .inl fun _ => 0), .inl (0, 25, .inl fun _ => 0), .inl (0, 865, .inl fun _ => 0), .inl (0, 48, .inl fun _ => 0)] rfl rfl hz ?_
  refine o_newAX [.inr (7, [vR none, vR (some (gd + 1)), vR none, vR none, vR none, vR (some (gd + 4)), vR (some (gd + 5)), vR (some (gd + 6)), vI 0, vR (some (gd + 7)), vI 0, vR (some (gd + 8)), vI 0, vR none, vI 0, vI 0, vI 0, vI 0, vI 0]), .inr (8, [vI 0, vI 0, vI 0, vR (some (gd + 2)), vR (some (gd + 3))]), .inl (0, 3, .inl fun _ => 0), .inl (0, 3, .inl fun _ => 0), .inl (0, 3, .inl fun _ => 0), .inl (0, 3, .inl fun _ => 0), .inl (0, 25, .inl fun _ => 0), .inl (0, 865, .inl fun _ => 0), .inl (0, 48, .inl fun _ => 0), .inl (7, 72, .inr (.inl fun _ => none))] rfl rfl (by decide) ⟨by show gd + 9 + 1 ≤ kn K; omega, by show z + 974 + 72 ≤ kw K; omega⟩ ?_
  refine o_putX (i := 0) [.inr (7, [vR none, vR (some (gd + 1)), vR none, vR none, vR none, vR (some (gd + 4)), vR (some (gd + 5)), vR (some (gd + 6)), vI 0, vR (some (gd + 7)), vI 0, vR (some (gd + 8)), vI 0, vR (some (gd + 9)), vI 0, vI 0, vI 0, vI 0, vI 0]), .inr (8, [vI 0, vI 0, vI 0, vR (some (gd + 2)), vR (some (gd + 3))]), .inl (0, 3, .inl fun _ => 0), .inl (0, 3, .inl fun _ => 0), .inl (0, 3, .inl fun _ => 0), .inl (0, 3, .inl fun _ => 0), .inl (0, 25, .inl fun _ => 0), .inl (0, 865, .inl fun _ => 0), .inl (0, 48, .inl fun _ => 0), .inl (7, 72, .inr (.inl fun _ => none))] rfl rfl hz ?_
  refine o_putX (i := 0) [.inr (7, [vR (some tr), vR (some (gd + 1)), vR none, vR none, vR none, vR (some (gd + 4)), vR (some (gd + 5)), vR (some (gd + 6)), vI 0, vR (some (gd + 7)), vI 0, vR (some (gd + 8)), vI 0, vR (some (gd + 9)), vI 0, vI 0, vI 0, vI 0, vI 0]), .inr (8, [vI 0, vI 0, vI 0, vR (some (gd + 2)), vR (some (gd + 3))]), .inl (0, 3, .inl fun _ => 0), .inl (0, 3, .inl fun _ => 0), .inl (0, 3, .inl fun _ => 0), .inl (0, 3, .inl fun _ => 0), .inl (0, 25, .inl fun _ => 0), .inl (0, 865, .inl fun _ => 0), .inl (0, 48, .inl fun _ => 0), .inl (7, 72, .inr (.inl fun _ => none))] rfl rfl hz ?_
  refine o_newX [.inr (7, [vR (some tr), vR (some (gd + 1)), vR none, vR none, vR none, vR (some (gd + 4)), vR (some (gd + 5)), vR (some (gd + 6)), vI 0, vR (some (gd + 7)), vI 0, vR (some (gd + 8)), vI 0, vR (some (gd + 9)), vI 0, vI 0, vI 0, vI 0, vI 0]), .inr (8, [vI 0, vI 0, vI 0, vR (some (gd + 2)), vR (some (gd + 3))]), .inl (0, 3, .inl fun _ => 0), .inl (0, 3, .inl fun _ => 0), .inl (0, 3, .inl fun _ => 0), .inl (0, 3, .inl fun _ => 0), .inl (0, 25, .inl fun _ => 0), .inl (0, 865, .inl fun _ => 0), .inl (0, 48, .inl fun _ => 0), .inl (7, 72, .inr (.inl fun _ => none)), .inr (9, [vR none, vI 0, vI 0, vI 0, vI 0, vI 0])] rfl rfl ⟨by show gd + 10 + 1 ≤ kn K; omega, by show z + 1046 + 6 ≤ kw K; omega⟩ ?_
  refine o_putX (i := 10) [.inr (7, [vR (some tr), vR (some (gd + 1)), vR none, vR none, vR none, vR (some (gd + 4)), vR (some (gd + 5)), vR (some (gd + 6)), vI 0, vR (some (gd + 7)), vI 0, vR (some (gd + 8)), vI 0, vR (some (gd + 9)), vI 0, vI 0, vI 0, vI 0, vI 0]), .inr (8, [vI 0, vI 0, vI 0, vR (some (gd + 2)), vR (some (gd + 3))]), .inl (0, 3, .inl fun _ => 0), .inl (0, 3, .inl fun _ => 0), .inl (0, 3, .inl fun _ => 0), .inl (0, 3, .inl fun _ => 0), .inl (0, 25, .inl fun _ => 0), .inl (0, 865, .inl fun _ => 0), .inl (0, 48, .inl fun _ => 0), .inl (7, 72, .inr (.inl fun _ => none)), .inr (9, [vR (some tr), vI 0, vI 0, vI 0, vI 0, vI 0])] rfl rfl hz ?_
  refine o_putX (i := 0) [.inr (7, [vR (some tr), vR (some (gd + 1)), vR (some (gd + 10)), vR none, vR none, vR (some (gd + 4)), vR (some (gd + 5)), vR (some (gd + 6)), vI 0, vR (some (gd + 7)), vI 0, vR (some (gd + 8)), vI 0, vR (some (gd + 9)), vI 0, vI 0, vI 0, vI 0, vI 0]), .inr (8, [vI 0, vI 0, vI 0, vR (some (gd + 2)), vR (some (gd + 3))]), .inl (0, 3, .inl fun _ => 0), .inl (0, 3, .inl fun _ => 0), .inl (0, 3, .inl fun _ => 0), .inl (0, 3, .inl fun _ => 0), .inl (0, 25, .inl fun _ => 0), .inl (0, 865, .inl fun _ => 0), .inl (0, 48, .inl fun _ => 0), .inl (7, 72, .inr (.inl fun _ => none)), .inr (9, [vR (some tr), vI 0, vI 0, vI 0, vI 0, vI 0])] rfl rfl hz ?_
  refine o_newX [.inr (7, [vR (some tr), vR (some (gd + 1)), vR (some (gd + 10)), vR none, vR none, vR (some (gd + 4)), vR (some (gd + 5)), vR (some (gd + 6)), vI 0, vR (some (gd + 7)), vI 0, vR (some (gd + 8)), vI 0, vR (some (gd + 9)), vI 0, vI 0, vI 0, vI 0, vI 0]), .inr (8, [vI 0, vI 0, vI 0, vR (some (gd + 2)), vR (some (gd + 3))]), .inl (0, 3, .inl fun _ => 0), .inl (0, 3, .inl fun _ => 0), .inl (0, 3, .inl fun _ => 0), .inl (0, 3, .inl fun _ => 0), .inl (0, 25, .inl fun _ => 0), .inl (0, 865, .inl fun _ => 0), .inl (0, 48, .inl fun _ => 0), .inl (7, 72, .inr (.inl fun _ => none)), .inr (9, [vR (some tr), vI 0, vI 0, vI 0, vI 0, vI 0]), .inr (9, [vR none, vI 0, vI 0, vI 0, vI 0, vI 0])] rfl rfl ⟨by show gd + 11 + 1 ≤ kn K; omega, by show z + 1052 + 6 ≤ kw K; omega⟩ ?_
  refine o_putX (i := 11) [.inr (7, [vR (some tr), vR (some (gd + 1)), vR (some (gd + 10)), vR none, vR none, vR (some (gd + 4)), vR (some (gd + 5)), vR (some (gd + 6)), vI 0, vR (some (gd + 7)), vI 0, vR (some (gd + 8)), vI 0, vR (some (gd + 9)), vI 0, vI 0, vI 0, vI 0, vI 0]), .inr (8, [vI 0, vI 0, vI 0, vR (some (gd + 2)), vR (some (gd + 3))]), .inl (0, 3, .inl fun _ => 0), .inl (0, 3, .inl fun _ => 0), .inl (0, 3, .inl fun _ => 0), .inl (0, 3, .inl fun _ => 0), .inl (0, 25, .inl fun _ => 0), .inl (0, 865, .inl fun _ => 0), .inl (0, 48, .inl fun _ => 0), .inl (7, 72, .inr (.inl fun _ => none)), .inr (9, [vR (some tr), vI 0, vI 0, vI 0, vI 0, vI 0]), .inr (9, [vR (some tr), vI 0, vI 0, vI 0, vI 0, vI 0])] rfl rfl hz ?_
  refine o_putX (i := 0) [.inr (7, [vR (some tr), vR (some (gd + 1)), vR (some (gd + 10)), vR (some (gd + 11)), vR none, vR (some (gd + 4)), vR (some (gd + 5)), vR (some (gd + 6)), vI 0, vR (some (gd + 7)), vI 0, vR (some (gd + 8)), vI 0, vR (some (gd + 9)), vI 0, vI 0, vI 0, vI 0, vI 0]), .inr (8, [vI 0, vI 0, vI 0, vR (some (gd + 2)), vR (some (gd + 3))]), .inl (0, 3, .inl fun _ => 0), .inl (0, 3, .inl fun _ => 0), .inl (0, 3, .inl fun _ => 0), .inl (0, 3, .inl fun _ => 0), .inl (0, 25, .inl fun _ => 0), .inl (0, 865, .inl fun _ => 0), .inl (0, 48, .inl fun _ => 0), .inl (7, 72, .inr (.inl fun _ => none)), .inr (9, [vR (some tr), vI 0, vI 0, vI 0, vI 0, vI 0]), .inr (9, [vR (some tr), vI 0, vI 0, vI 0, vI 0, vI 0])] rfl rfl hz ?_
  refine o_newX [.inr (7, [vR (some tr), vR (some (gd + 1)), vR (some (gd + 10)), vR (some (gd + 11)), vR none, vR (some (gd + 4)), vR (some (gd + 5)), vR (some (gd + 6)), vI 0, vR (some (gd + 7)), vI 0, vR (some (gd + 8)), vI 0, vR (some (gd + 9)), vI 0, vI 0, vI 0, vI 0, vI 0]), .inr (8, [vI 0, vI 0, vI 0, vR (some (gd + 2)), vR (some (gd + 3))]), .inl (0, 3, .inl fun _ => 0), .inl (0, 3, .inl fun _ => 0), .inl (0, 3, .inl fun _ => 0), .inl (0, 3, .inl fun _ => 0), .inl (0, 25, .inl fun _ => 0), .inl (0, 865, .inl fun _ => 0), .inl (0, 48, .inl fun _ => 0), .inl (7, 72, .inr (.inl fun _ => none)), .inr (9, [vR (some tr), vI 0, vI 0, vI 0, vI 0, vI 0]), .inr (9, [vR (some tr), vI 0, vI 0, vI 0, vI 0, vI 0]), .inr (9, [vR none, vI 0, vI 0, vI 0, vI 0, vI 0])] rfl rfl ⟨by show gd + 12 + 1 ≤ kn K; omega, by show z + 1058 + 6 ≤ kw K; omega⟩ ?_
  refine o_putX (i := 12) [.inr (7, [vR (some tr), vR (some (gd + 1)), vR (some (gd + 10)), vR (some (gd + 11)), vR none, vR (some (gd + 4)), vR (some (gd + 5)), vR (some (gd + 6)), vI 0, vR (some (gd + 7)), vI 0, vR (some (gd + 8)), vI 0, vR (some (gd + 9)), vI 0, vI 0, vI 0, vI 0, vI 0]), .inr (8, [vI 0, vI 0, vI 0, vR (some (gd + 2)), vR (some (gd + 3))]), .inl (0, 3, .inl fun _ => 0), .inl (0, 3, .inl fun _ => 0), .inl (0, 3, .inl fun _ => 0), .inl (0, 3, .inl fun _ => 0), .inl (0, 25, .inl fun _ => 0), .inl (0, 865, .inl fun _ => 0), .inl (0, 48, .inl fun _ => 0), .inl (7, 72, .inr (.inl fun _ => none)), .inr (9, [vR (some tr), vI 0, vI 0, vI 0, vI 0, vI 0]), .inr (9, [vR (some tr), vI 0, vI 0, vI 0, vI 0, vI 0]), .inr (9, [vR (some tr), vI 0, vI 0, vI 0, vI 0, vI 0])] rfl rfl hz ?_
  refine o_putX (i := 0) [.inr (7, [vR (some tr), vR (some (gd + 1)), vR (some (gd + 10)), vR (some (gd + 11)), vR (some (gd + 12)), vR (some (gd + 4)), vR (some (gd + 5)), vR (some (gd + 6)), vI 0, vR (some (gd + 7)), vI 0, vR (some (gd + 8)), vI 0, vR (some (gd + 9)), vI 0, vI 0, vI 0, vI 0, vI 0]), .inr (8, [vI 0, vI 0, vI 0, vR (some (gd + 2)), vR (some (gd + 3))]), .inl (0, 3, .inl fun _ => 0), .inl (0, 3, .inl fun _ => 0), .inl (0, 3, .inl fun _ => 0), .inl (0, 3, .inl fun _ => 0), .inl (0, 25, .inl fun _ => 0), .inl (0, 865, .inl fun _ => 0), .inl (0, 48, .inl fun _ => 0), .inl (7, 72, .inr (.inl fun _ => none)), .inr (9, [vR (some tr), vI 0, vI 0, vI 0, vI 0, vI 0]), .inr (9, [vR (some tr), vI 0, vI 0, vI 0, vI 0, vI 0]), .inr (9, [vR (some tr), vI 0, vI 0, vI 0, vI 0, vI 0])] rfl rfl hz ?_
  exact hk _ rfl
end CP
