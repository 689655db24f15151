set_option maxRecDepth 100000
/-! copies of maps, and changes of a new map -/
theorem rAt_congr {f g : Row} (h4 : g 4 = f 4) (hp : ∀ k, 0 ≤ k → k < f 4 → rPf g k 0 = rPf f k 0 ∧ rPf g k 1 = rPf f k 1) (x y : Int) : rAt g x y = rAt f x y := by
  unfold rAt
  rw [h4]
  have : ∀ (n : Nat) (k : Int), 0 ≤ k → k + n ≤ f 4 ∨ n = 0 → fnd (fun k => rPf g k 0 = x ∧ rPf g k 1 = y) n k = fnd (fun k => rPf f k 0 = x ∧ rPf f k 1 = y) n k := by
    intro n
    induction n with
    | zero => intro k _ _; rfl
    | succ n ih =>
      intro k h0 h1
      obtain ⟨e1, e2⟩ := hp k h0 (by omega)
      unfold fnd
      simp only [e1, e2]
      rw [ih (k + 1) (by omega) (by omega)]
  exact this (f 4).toNat 0 (Int.le_refl _) (by omega)
theorem PoO_put {f : Row} {k w v j : Int} (hw : 0 ≤ w ∧ w < 5) (hj : j ≠ k) : PoO (uI f (406 + k * 5 + w) v) j = PoO f j := by
  unfold PoO
  rw [rPf_put hw (by decide), rPf_put hw (by decide), rPf_put hw (by decide), rPf_put hw (by decide), rPf_put hw (by decide), if_neg (fun t => hj t.1), if_neg (fun t => hj t.1), if_neg (fun t => hj t.1), if_neg (fun t => hj t.1), if_neg (fun t => hj t.1)]
section CC
variable {K : KT} {χ : QxT} {h : AH} {n z tr : Nat} {f : Row}
theorem c_initT {κ : AH → Nat → Nat → Prop} {a b c d : Int} (hz : kz K ≤ n) (hkn : n + 4 ≤ kn K ∧ z + 433 ≤ kw K)
    (hk : ∀ z1, z1 = z + 433 → κ (ovl n [.inr (1, [vI a, vI b, vR (some (n + 1)), vI 0, vR (some (n + 2)), vI 0, vR (some (n + 3))]), .inl (5, 24, .inr (.inl fun _ => none)), .inl (1, 400, .inl fun _ => 0), .inl (0, 2, .inl (uI (uI (fun _ => 0) 0 c) 1 d))] h) (n + 4) z1) : P_X2_init K n κ χ (ovl n [.inr (1, [vI 0, vI 0, vR none, vI 0, vR none, vI 0, vR none])] h) (n + 1) (z + 7) a b c d := by
  refine o_newAX [.inr (1, [vI 0, vI 0, vR none, vI 0, vR none, vI 0, vR none]), .inl (5, 24, .inr (.inl fun _ => none))] rfl rfl (by decide) ⟨by omega, by show z + 7 + 24 ≤ kw K; omega⟩ ?_
  refine o_putX (i := 0) [.inr (1, [vI 0, vI 0, vR (some (n + 1)), vI 0, vR none, vI 0, vR none]), .inl (5, 24, .inr (.inl fun _ => none))] rfl rfl hz ?_
  refine o_newAX [.inr (1, [vI 0, vI 0, vR (some (n + 1)), vI 0, vR none, vI 0, vR none]), .inl (5, 24, .inr (.inl fun _ => none)), .inl (1, 400, .inl fun _ => 0)] rfl rfl (by decide) ⟨by omega, by show z + 7 + 24 + 400 ≤ kw K; omega⟩ ?_
  refine o_putX (i := 0) [.inr (1, [vI 0, vI 0, vR (some (n + 1)), vI 0, vR (some (n + 2)), vI 0, vR none]), .inl (5, 24, .inr (.inl fun _ => none)), .inl (1, 400, .inl fun _ => 0)] rfl rfl hz ?_
  refine o_newAX [.inr (1, [vI 0, vI 0, vR (some (n + 1)), vI 0, vR (some (n + 2)), vI 0, vR none]), .inl (5, 24, .inr (.inl fun _ => none)), .inl (1, 400, .inl fun _ => 0), .inl (0, 2, .inl fun _ => 0)] rfl rfl (by decide) ⟨by omega, by show z + 7 + 24 + 400 + 2 ≤ kw K; omega⟩ ?_
  refine o_putX (i := 0) [.inr (1, [vI 0, vI 0, vR (some (n + 1)), vI 0, vR (some (n + 2)), vI 0, vR (some (n + 3))]), .inl (5, 24, .inr (.inl fun _ => none)), .inl (1, 400, .inl fun _ => 0), .inl (0, 2, .inl fun _ => 0)] rfl rfl hz ?_
  refine o_putX (i := 0) [.inr (1, [vI a, vI 0, vR (some (n + 1)), vI 0, vR (some (n + 2)), vI 0, vR (some (n + 3))]), .inl (5, 24, .inr (.inl fun _ => none)), .inl (1, 400, .inl fun _ => 0), .inl (0, 2, .inl fun _ => 0)] rfl rfl hz ?_
  refine o_putX (i := 0) [.inr (1, [vI a, vI b, vR (some (n + 1)), vI 0, vR (some (n + 2)), vI 0, vR (some (n + 3))]), .inl (5, 24, .inr (.inl fun _ => none)), .inl (1, 400, .inl fun _ => 0), .inl (0, 2, .inl fun _ => 0)] rfl rfl hz ?_
  refine o_gR (i := 0) rfl rfl (pSI_i (ovl_get (i := 3) rfl) (by omega) (by decide) ?_)
  rw [ovl_set (by show 3 < 4; decide)]
  refine o_gR (i := 0) rfl rfl (pSI_i (ovl_get (i := 3) rfl) (by omega) (by decide) ?_)
  rw [ovl_set (by show 3 < 4; decide)]
  exact hk _ rfl
theorem ovl_xt {a : Nat} {L : List AE} (hw : WfH h a) : XtH h (ovl a L h) := fun q e w => by
  have : q < a := by
    by_cases t : q < a
    · exact t
    · rw [hw q (by omega)] at w; cases w
  rw [ovl_out (Or.inl this)]; exact w
theorem ovl_wf {a m : Nat} {L : List AE} (hw : WfH h a) (hm : m = a + L.length) : WfH (ovl a L h) m := fun q hq => by
  rw [ovl_out (Or.inr (by omega))]; exact hw q (by omega)
/-- a copy -/
theorem c_copy {κ : Option Nat → AH → Nat → Nat → Prop} (hr : RowOK f) (hT : TrP h tr f) (hw : WfH h n) (hz : kz K ≤ n) (hkn : n + 4 ≤ kn K ∧ z + 433 ≤ kw K)
    (hk : ∀ h1 z1, XtH h h1 → WfH h1 (n + 4) → TrP h1 n f → z1 = z + 433 → κ (some n) h1 (n + 4) z1) : P_X2_copy K tr κ χ h n z := by
  have hm := hr.many
  obtain ⟨pc, gc, sc, h1, h2, h3, h4, h5, h6, h7, h8⟩ := hT
  have htn : tr < n ∧ tr + 1 < n ∧ tr + 2 < n ∧ tr + 3 < n := by
    have key : ∀ q e, h q = some e → q < n := fun q e w => by
      by_cases t : q < n
      · exact t
      · rw [hw q (by omega)] at w; cases w
    exact ⟨key _ _ h1, key _ _ h2, key _ _ h3, key _ _ h4⟩
  have e1 : up h n (.inr (1, [vI 0, vI 0, vR none, vI 0, vR none, vI 0, vR none])) = ovl n [.inr (1, [vI 0, vI 0, vR none, vI 0, vR none, vI 0, vR none])] h := by
    have := ovl_new (a := n) (L := []) (h := h) (e := .inr (1, [vI 0, vI 0, vR none, vI 0, vR none, vI 0, vR none]))
    rw [ovl_nil] at this; exact this
  refine ⟨by omega, by omega, ?_⟩
  rw [e1]
  have lo : ∀ (L : List AE) q, q < n → ovl n L h q = h q := fun L q hq => ovl_out (Or.inl hq)
  refine pGI_i ((lo _ _ htn.1).trans h1) rfl (pGI_i ((lo _ _ htn.1).trans h1) rfl (pGR_i ((lo _ _ htn.1).trans h1) rfl (pAI_i ((lo _ _ htn.2.2.2).trans h4) (by decide) (pGR_i ((lo _ _ htn.1).trans h1) rfl (pAI_i ((lo _ _ htn.2.2.2).trans h4) (by decide) ?_)))))
  refine c_initT hz hkn (fun z1 ez => ?_)
  refine pGR_i ((lo _ _ htn.1).trans h1) rfl (o_gR (i := 0) rfl rfl (pGI_i ((lo _ _ htn.1).trans h1) rfl ?_))
  refine ⟨tr + 1, n + 1, 24, 24, pc, _, rfl, rfl, (lo _ _ htn.2.1).trans h2, ovl_get (i := 1) rfl, by omega, ⟨by decide, by decide, hm.1⟩, by omega, by omega, fun j j0 j1 => ?_, ?_⟩
  · obtain ⟨b, x1, x2⟩ := h7 j j0 j1
    have hb : b < n := by
      by_cases t : b < n
      · exact t
      · rw [hw b (by omega)] at x2; cases x2
    rw [Int.zero_add, x1]
    exact Or.inr ⟨b, 2, _, rfl, (lo _ _ hb).trans x2, by decide⟩
  rw [ovl_set (by show 1 < 4; decide)]
  refine pGI_i ((lo _ _ htn.1).trans h1) rfl (o_put (i := 0) rfl hz (pGR_i ((lo _ _ htn.1).trans h1) rfl (o_gR (i := 0) rfl rfl (pGR_i ((lo _ _ htn.1).trans h1) rfl (pLen_i ((lo _ _ htn.2.2.1).trans h3) ?_)))))
  have hgb : ∀ j : Int, 0 ≤ j → j < 400 → -1 ≤ gc j ∧ gc j ≤ 24 := fun j j0 j1 => by
    have := h8 (j % 20) (j / 20) (by omega) (by omega) (by omega) (by omega)
    have hg := gridV_r hr (x := j % 20) (y := j / 20) ⟨by omega, by omega⟩ ⟨by omega, by omega⟩
    rw [show 20 * (j / 20) + j % 20 = j by omega] at this
    rw [this]; exact hg
  refine ⟨tr + 2, n + 2, 400, 400, gc, _, rfl, rfl, (lo _ _ htn.2.2.1).trans h3, ovl_get (i := 2) rfl, by omega, ⟨by decide, by decide, by decide⟩, by decide, by decide, fun j j0 j1 => ?_, ?_⟩
  · rw [Int.zero_add]
    have := hgb j j0 j1
    omega
  rw [ovl_set (by show 2 < 4; decide)]
  refine pGI_i ((lo _ _ htn.1).trans h1) rfl (o_put (i := 0) rfl hz ?_)
  refine hk _ z1 (ovl_xt hw) (ovl_wf hw rfl) ⟨_, _, _, ovl_get (i := 0) rfl, ovl_get (i := 1) rfl, ovl_get (i := 2) rfl, ovl_get (i := 3) rfl, ?_, ?_, fun j j0 j1 => ?_, fun x y x0 x1 y0 y1 => ?_⟩ ez
  · show uI (uI (fun _ => 0) 0 (sc 0)) 1 (sc 1) 0 = f 2
    rw [uI_n (by decide), uI_s]; exact h5
  · show uI (uI (fun _ => 0) 0 (sc 0)) 1 (sc 1) 1 = f 3
    rw [uI_s]; exact h6
  · obtain ⟨b, x1, x2⟩ := h7 j j0 j1
    refine ⟨b, ?_, ovl_xt hw _ _ x2⟩
    show cpI pc (fun _ => none) 0 0 (f 4) j = some b
    unfold cpI
    rw [if_pos (by omega), Int.zero_add, Int.sub_zero]; exact x1
  · show cpI gc (fun _ => 0) 0 0 400 (20 * y + x) = gridV f x y
    unfold cpI
    rw [if_pos (by omega), Int.zero_add, Int.sub_zero]; exact h8 x y x0 x1 y0 y1
/-- a post with its number w changed -/
theorem c_newPost {κ : AH → Nat → Nat → Prop} {a b c d s : Int} (hz : kz K ≤ n) (hs : s = 0 ∨ s = 1) (n1 z1 : Nat) (hk : κ (up h n (.inr (2, [vI a, vI b, vI c, vI d, vI s]))) n1 z1) : P_X3_init K n κ χ (up h n (.inr (2, [vI 0, vI 0, vI 0, vI 0, vI 0]))) n1 z1 a b c d s := by
  refine pPut_i (up_same _ _ _) hz ?_
  rw [up_up]
  refine pPut_i (up_same _ _ _) hz ?_
  rw [up_up]
  refine pPut_i (up_same _ _ _) hz ?_
  rw [up_up]
  refine pPut_i (up_same _ _ _) hz ?_
  rw [up_up]
  refine ⟨hs, pPut_i (up_same _ _ _) hz ?_⟩
  rw [up_up]
  exact hk
theorem c_inState {κ : Option Nat → AH → Nat → Nat → Prop} {b : Nat} {k s : Int} (hw : WfH h n) (hz : kz K ≤ n) (hkn : n + 1 ≤ kn K ∧ z + 5 ≤ kw K) (hb : h b = some (PoO f k)) (hs : s = 0 ∨ s = 1) (hk : κ (some n) (up h n (PoO (uI f (406 + k * 5 + 4) s) k)) (n + 1) (z + 5)) : P_X3_inState K b κ χ h n z s := by
  have hbn : b ≠ n := fun t => by rw [t, hw n (Nat.le_refl _)] at hb; cases hb
  have hb1 : ∀ e, up h n e b = some (PoO f k) := fun e => by rw [up_ne hbn]; exact hb
  refine ⟨hkn.1, hkn.2, pGI_i (hb1 _) rfl (pGI_i (hb1 _) rfl (pGI_i (hb1 _) rfl (pGI_i (hb1 _) rfl (c_newPost hz hs _ _ ?_))))⟩
  have e : PoO (uI f (406 + k * 5 + 4) s) k = .inr (2, [vI (rPf f k 0), vI (rPf f k 1), vI (rPf f k 2), vI (rPf f k 3), vI s]) := by
    unfold PoO
    rw [rPf_put (by decide) (by decide), rPf_put (by decide) (by decide), rPf_put (by decide) (by decide), rPf_put (by decide) (by decide), rPf_put (by decide) (by decide)]
    simp
  rw [← e]; exact hk
theorem c_turned {κ : Option Nat → AH → Nat → Nat → Prop} {b : Nat} {k s : Int} (hr : RowOK f) (h0 : 0 ≤ k ∧ k < f 4) (hw : WfH h n) (hz : kz K ≤ n) (hkn : n + 1 ≤ kn K ∧ z + 5 ≤ kw K) (hb : h b = some (PoO f k)) (hk : κ (some n) (up h n (PoO (uI f (406 + k * 5 + 3) s) k)) (n + 1) (z + 5)) : P_X3_turned K b κ χ h n z s := by
  have hbn : b ≠ n := fun t => by rw [t, hw n (Nat.le_refl _)] at hb; cases hb
  have hb1 : ∀ e, up h n e b = some (PoO f k) := fun e => by rw [up_ne hbn]; exact hb
  refine ⟨hkn.1, hkn.2, pGI_i (hb1 _) rfl (pGI_i (hb1 _) rfl (pGI_i (hb1 _) rfl (pGI_i (hb1 _) rfl (c_newPost hz (hr.state k h0.1 h0.2) _ _ ?_))))⟩
  have e : PoO (uI f (406 + k * 5 + 3) s) k = .inr (2, [vI (rPf f k 0), vI (rPf f k 1), vI (rPf f k 2), vI s, vI (rPf f k 4)]) := by
    unfold PoO
    rw [rPf_put (by decide) (by decide), rPf_put (by decide) (by decide), rPf_put (by decide) (by decide), rPf_put (by decide) (by decide), rPf_put (by decide) (by decide)]
    simp
  rw [← e]; exact hk
/-- a post is exchanged in a map -/
theorem TrP.setPost {k w v : Int} {b : Nat} (hT : TrP h tr f) (hr : RowOK f) (h0 : 0 ≤ k ∧ k < f 4) (hw : w = 3 ∨ w = 4) (hb : h b = some (PoO (uI f (406 + k * 5 + w) v) k)) : ∃ pc, h (tr + 1) = some (.inl (5, 24, .inr (.inl pc))) ∧ TrP (up h (tr + 1) (.inl (5, 24, .inr (.inl (uI pc k (some b)))))) tr (uI f (406 + k * 5 + w) v) := by
  obtain ⟨pc, gc, sc, h1, h2, h3, h4, h5, h6, h7, h8⟩ := hT
  have hlo : ∀ j : Int, j < 406 → uI f (406 + k * 5 + w) v j = f j := fun j hj => uI_lo (by omega)
  have ne : ∀ q e, h q = some e → (∀ c, e ≠ .inl (5, 24, c)) → ∀ e2, up h (tr + 1) e2 q = some e := fun q e w1 w2 e2 => by
    rw [up_ne (fun t => by rw [t, h2] at w1; exact w2 _ (Option.some.inj w1).symm)]; exact w1
  refine ⟨pc, h2, _, gc, sc, ?_, up_same _ _ _, ne _ _ h3 (fun c t => by cases t) _, ne _ _ h4 (fun c t => by cases t) _, ?_, ?_, fun j j0 j1 => ?_, fun x y x0 x1 y0 y1 => ?_⟩
  · have : TrO (uI f (406 + k * 5 + w) v) tr = TrO f tr := by unfold TrO; rw [hlo 0 (by decide), hlo 1 (by decide), hlo 4 (by decide), hlo 5 (by decide)]
    rw [this]; exact ne _ _ h1 (fun c t => by cases t) _
  · rw [hlo 2 (by decide)]; exact h5
  · rw [hlo 3 (by decide)]; exact h6
  · rw [hlo 4 (by decide)] at j1
    by_cases e : j = k
    · subst e
      exact ⟨b, uI_s _ _ _, ne _ _ hb (fun c t => by cases t) _⟩
    · obtain ⟨b1, x1, x2⟩ := h7 j j0 j1
      refine ⟨b1, by rw [uI_n e]; exact x1, ?_⟩
      rw [PoO_put (by omega) e]
      exact ne _ _ x2 (fun c t => by cases t) _
  · rw [h8 x y x0 x1 y0 y1]
    unfold gridV
    rw [rBlk_put h0.1 (by omega) x1 y1, rAt_congr (hlo 4 (by decide)) (fun j _ _ => ⟨by rw [rPf_put (by omega) (by decide), if_neg (by omega)], by rw [rPf_put (by omega) (by decide), if_neg (by omega)]⟩)]
/-- the setting of a map is changed -/
theorem TrP.setSet {w v : Int} (hT : TrP h tr f) (hr : RowOK f) (hw : SetOK w v) : ∃ sc, h (tr + 3) = some (.inl (0, 2, .inl sc)) ∧ sc w = f (2 + w) ∧ TrP (up h (tr + 3) (.inl (0, 2, .inl (uI sc w v)))) tr (uI f (2 + w) v) := by
  obtain ⟨pc, gc, sc, h1, h2, h3, h4, h5, h6, h7, h8⟩ := hT
  have hw01 : w = 0 ∨ w = 1 := by rcases hw with t | t <;> omega
  have hn : ∀ j : Int, j ≠ 2 + w → uI f (2 + w) v j = f j := fun j hj => uIn hj
  have hp : ∀ k1 w1 : Int, 0 ≤ k1 → 0 ≤ w1 → rPf (uI f (2 + w) v) k1 w1 = rPf f k1 w1 := fun k1 w1 a b => by unfold rPf; exact hn _ (by omega)
  have ne : ∀ q e, h q = some e → (∀ c, e ≠ .inl (0, 2, c)) → ∀ e2, up h (tr + 3) e2 q = some e := fun q e w1 w2 e2 => by
    rw [up_ne (fun t => by rw [t, h4] at w1; exact w2 _ (Option.some.inj w1).symm)]; exact w1
  refine ⟨sc, h4, by rcases hw01 with rfl | rfl; exact h5; exact h6, pc, gc, _, ?_, ne _ _ h2 (fun c t => by cases t) _, ne _ _ h3 (fun c t => by cases t) _, up_same _ _ _, ?_, ?_, fun j j0 j1 => ?_, fun x y x0 x1 y0 y1 => ?_⟩
  · have : TrO (uI f (2 + w) v) tr = TrO f tr := by unfold TrO; rw [hn 0 (by omega), hn 1 (by omega), hn 4 (by omega), hn 5 (by omega)]
    rw [this]; exact ne _ _ h1 (fun c t => by cases t) _
  · rcases hw01 with rfl | rfl
    · rw [uI_s]; exact (uIs f (2 + 0) v).symm
    · rw [uI_n (by decide), hn 2 (by decide)]; exact h5
  · rcases hw01 with rfl | rfl
    · rw [uI_n (by decide), hn 3 (by decide)]; exact h6
    · rw [uI_s]; exact (uIs f (2 + 1) v).symm
  · rw [hn 4 (by omega)] at j1
    obtain ⟨b1, x1, x2⟩ := h7 j j0 j1
    refine ⟨b1, x1, ?_⟩
    have : PoO (uI f (2 + w) v) j = PoO f j := by unfold PoO; rw [hp j 0 j0 (by decide), hp j 1 j0 (by decide), hp j 2 j0 (by decide), hp j 3 j0 (by decide), hp j 4 j0 (by decide)]
    rw [this]; exact ne _ _ x2 (fun c t => by cases t) _
  · rw [h8 x y x0 x1 y0 y1]
    unfold gridV
    have : rBlk (uI f (2 + w) v) x y = rBlk f x y := by unfold rBlk; exact hn _ (by omega)
    rw [this, rAt_congr (hn 4 (by omega)) (fun j j0 _ => ⟨hp j 0 j0 (by decide), hp j 1 j0 (by decide)⟩)]
end CC
