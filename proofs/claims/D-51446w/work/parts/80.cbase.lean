set_option maxRecDepth 100000
/-! the component over heap pictures: reading and writing one object -/
theorem up_same (h : AH) (a : Nat) (e : AE) : up h a e a = some e := by unfold up; rw [if_pos rfl]
theorem up_ne {h : AH} {a q : Nat} {e : AE} (hq : q ≠ a) : up h a e q = h q := by unfold up; rw [if_neg hq]
theorem up_up (h : AH) (a : Nat) (e e1 : AE) : up (up h a e) a e1 = up h a e1 := by
  funext q
  unfold up
  by_cases hq : q = a
  · rw [if_pos hq, if_pos hq]
  · rw [if_neg hq, if_neg hq, if_neg hq]
theorem up_comm {h : AH} {a b : Nat} {e e1 : AE} (hab : a ≠ b) : up (up h a e) b e1 = up (up h b e1) a e := by
  funext q
  unfold up
  by_cases hq : q = a
  · subst hq; rw [if_neg hab, if_pos rfl, if_pos rfl]
  · rw [if_neg hq, if_neg hq]
theorem pGI_i {h : AH} {a ci k : Nat} {fs : List AV} {x : Int} {κ : Int → Prop} (ha : h a = some (.inr (ci, fs))) (hk : fs[k]? = some (vI x)) (q : κ x) : pGI h (some a) ci k κ := ⟨a, fs, x, rfl, ha, hk, q⟩
theorem pGR_i {h : AH} {a ci k : Nat} {fs : List AV} {x : Option Nat} {κ : Option Nat → Prop} (ha : h a = some (.inr (ci, fs))) (hk : fs[k]? = some (vR x)) (q : κ x) : pGR h (some a) ci k κ := ⟨a, fs, x, rfl, ha, hk, q⟩
theorem pAI_i {h : AH} {a t N : Nat} {f : Int → Int} {i : Int} {κ : Int → Prop} (ha : h a = some (.inl (t, N, .inl f))) (hi : 0 ≤ i ∧ i < N) (q : κ (f i)) : pAI h (some a) t i κ := ⟨a, N, f, rfl, ha, hi, q⟩
theorem pAR_i {h : AH} {a t N : Nat} {f : Int → Option Nat} {i : Int} {κ : Option Nat → Prop} (ha : h a = some (.inl (t, N, .inr (.inl f)))) (hi : 0 ≤ i ∧ i < N) (q : κ (f i)) : pAR h (some a) t i κ := ⟨a, N, f, rfl, ha, hi, q⟩
theorem pRecv_i {h : AH} {a ci : Nat} {fs : List AV} {κ : Nat → Prop} (ha : h a = some (.inr (ci, fs))) (q : κ a) : pRecv h (some a) ci κ := ⟨a, fs, rfl, ha, q⟩
theorem pPut_i {K : KT} {h : AH} {a ci k : Nat} {fs : List AV} {v : AV} {κ : AH → Prop} (ha : h a = some (.inr (ci, fs))) (hz : kz K ≤ a) (q : κ (up h a (.inr (ci, fs.set k v)))) : pPut K h (some a) ci k v κ := ⟨a, fs, rfl, ha, hz, q⟩
theorem pSI_i {K : KT} {h : AH} {a t N : Nat} {f : Int → Int} {i v : Int} {κ : AH → Prop} (ha : h a = some (.inl (t, N, .inl f))) (hz : kz K ≤ a) (hi : 0 ≤ i ∧ i < N) (q : κ (up h a (.inl (t, N, .inl (uI f i v))))) : pSI K h (some a) t i v κ := ⟨a, N, f, rfl, ha, hz, hi, q⟩
theorem pLen_i {h : AH} {a t N : Nat} {c : AC} {κ : Int → Prop} (ha : h a = some (.inl (t, N, c))) (q : κ (N : Int)) : pLen h (some a) t κ := ⟨a, N, c, rfl, ha, q⟩
theorem uI_s {α : Type} (f : Int → α) (i : Int) (v : α) : uI f i v i = v := by unfold uI; rw [if_pos rfl]
theorem uI_n {α : Type} {f : Int → α} {i j : Int} {v : α} (hj : j ≠ i) : uI f i v j = f j := by unfold uI; rw [if_neg hj]
/-- a list of things laid over a heap, from a on -/
def ovl (a : Nat) (L : List AE) (h : AH) : AH := fun q => if a ≤ q ∧ q < a + L.length then L[q - a]? else h q
theorem ovl_get {a : Nat} {L : List AE} {h : AH} {i : Nat} {e : AE} (hi : L[i]? = some e) : ovl a L h (a + i) = some e := by
  have h1 : i < L.length := (List.getElem?_eq_some_iff.mp hi).1
  unfold ovl
  rw [if_pos (by omega), ← hi]
  congr 1
  omega
theorem ovl_out {a : Nat} {L : List AE} {h : AH} {q : Nat} (hq : q < a ∨ a + L.length ≤ q) : ovl a L h q = h q := by
  unfold ovl
  rw [if_neg (by omega)]
theorem ovl_set {a : Nat} {L : List AE} {h : AH} {i : Nat} {e : AE} (hi : i < L.length) : up (ovl a L h) (a + i) e = ovl a (L.set i e) h := by
  funext q
  unfold up
  by_cases hq : q = a + i
  · subst hq
    rw [if_pos rfl, ovl_get (List.getElem?_set_self hi)]
  · rw [if_neg hq]
    unfold ovl
    rw [List.length_set]
    by_cases hr : a ≤ q ∧ q < a + L.length
    · rw [if_pos hr, if_pos hr, List.getElem?_set_ne (by omega)]
    · rw [if_neg hr, if_neg hr]
theorem ovl_new {a : Nat} {L : List AE} {h : AH} {e : AE} : up (ovl a L h) (a + L.length) e = ovl a (L ++ [e]) h := by
  funext q
  unfold up
  by_cases hq : q = a + L.length
  · subst hq
    rw [if_pos rfl, ovl_get (show (L ++ [e])[L.length]? = some e by rw [List.getElem?_append_right (Nat.le_refl _), Nat.sub_self]; rfl)]
  · rw [if_neg hq]
    unfold ovl
    rw [List.length_append]
    by_cases hr : a ≤ q ∧ q < a + L.length
    · rw [if_pos hr, if_pos ⟨hr.1, by omega⟩, List.getElem?_append_left (by omega)]
    · rw [if_neg hr, if_neg (fun t => hr ⟨t.1, by have := t.2; have h1 : [e].length = 1 := rfl; omega⟩)]
theorem ovl_nil (a : Nat) (h : AH) : ovl a [] h = h := by
  funext q
  unfold ovl
  rw [if_neg (by show ¬ (a ≤ q ∧ q < a + 0); omega)]
theorem ovl_upo {a : Nat} {L : List AE} {h : AH} {q : Nat} {e : AE} (hq : q < a ∨ a + L.length ≤ q) : up (ovl a L h) q e = ovl a L (up h q e) := by
  funext p
  unfold up
  by_cases hp : p = q
  · subst hp
    rw [if_pos rfl, ovl_out hq, if_pos rfl]
  · rw [if_neg hp]
    unfold ovl
    by_cases hr : a ≤ p ∧ p < a + L.length
    · rw [if_pos hr, if_pos hr]
    · rw [if_neg hr, if_neg hr]
      show h p = if p = q then some e else h p
      rw [if_neg hp]
theorem o_new {K : KT} {a z sl : Nat} {L : List AE} {h : AH} {e : AE} {κ : AH → Prop} (hk : a + L.length + 1 ≤ kn K ∧ z + sl ≤ kw K) (q : κ (ovl a (L ++ [e]) h)) : pNew K (ovl a L h) (a + L.length) z e sl κ := ⟨hk.1, hk.2, by rw [ovl_new]; exact q⟩
theorem o_newA {K : KT} {a z t : Nat} {len : Int} {c : AC} {L : List AE} {h : AH} {κ : AH → Prop} (hl : 0 ≤ len ∧ len ≤ 65536) (hk : a + L.length + 1 ≤ kn K ∧ z + len.toNat ≤ kw K) (q : κ (ovl a (L ++ [.inl (t, len.toNat, c)]) h)) : pNewA K (ovl a L h) (a + L.length) z t len c κ := ⟨hl, hk.1, hk.2, by rw [ovl_new]; exact q⟩
theorem o_put {K : KT} {a i ci k : Nat} {fs : List AV} {v : AV} {L : List AE} {h : AH} {κ : AH → Prop} (hi : L[i]? = some (.inr (ci, fs))) (hz : kz K ≤ a) (q : κ (ovl a (L.set i (.inr (ci, fs.set k v))) h)) : pPut K (ovl a L h) (some (a + i)) ci k v κ :=
  pPut_i (ovl_get hi) (by omega) (by rw [ovl_set (List.getElem?_eq_some_iff.mp hi).1]; exact q)
theorem o_gI {a i ci k : Nat} {fs : List AV} {x : Int} {L : List AE} {h : AH} {κ : Int → Prop} (hi : L[i]? = some (.inr (ci, fs))) (hk : fs[k]? = some (vI x)) (q : κ x) : pGI (ovl a L h) (some (a + i)) ci k κ := pGI_i (ovl_get hi) hk q
theorem o_gR {a i ci k : Nat} {fs : List AV} {x : Option Nat} {L : List AE} {h : AH} {κ : Option Nat → Prop} (hi : L[i]? = some (.inr (ci, fs))) (hk : fs[k]? = some (vR x)) (q : κ x) : pGR (ovl a L h) (some (a + i)) ci k κ := pGR_i (ovl_get hi) hk q
/-! a map in the heap: the object at a, its posts, grid and settings behind it; f: the row that it stands for -/
def gridV (f : Row) (x y : Int) : Int := if rBlk f x y = 1 then -1 else rAt f x y + 1
def TrO (f : Row) (a : Nat) : AE := .inr (1, [vI (f 0), vI (f 1), vR (some (a + 1)), vI (f 4), vR (some (a + 2)), vI (f 5), vR (some (a + 3))])
def PoO (f : Row) (k : Int) : AE := .inr (2, [vI (rPf f k 0), vI (rPf f k 1), vI (rPf f k 2), vI (rPf f k 3), vI (rPf f k 4)])
def TrP (h : AH) (a : Nat) (f : Row) : Prop := ∃ (pc : Int → Option Nat) (gc sc : Int → Int), h a = some (TrO f a) ∧ h (a + 1) = some (.inl (5, 24, .inr (.inl pc))) ∧ h (a + 2) = some (.inl (1, 400, .inl gc)) ∧ h (a + 3) = some (.inl (0, 2, .inl sc)) ∧
  sc 0 = f 2 ∧ sc 1 = f 3 ∧ (∀ k : Int, 0 ≤ k → k < f 4 → ∃ b, pc k = some b ∧ h b = some (PoO f k)) ∧ ∀ x y : Int, 0 ≤ x → x < 20 → 0 ≤ y → y < 20 → gc (20 * y + x) = gridV f x y
/-- shapes that a map is made of -/
def TrSh : AE → Bool
  | .inr (ci, _) => ci == 1 || ci == 2
  | .inl (t, N, _) => (t == 5 && N == 24) || (t == 1 && N == 400) || (t == 0 && N == 2)
/-- h1 has all of h's things of these shapes -/
def Ks (sh : AE → Bool) (h h1 : AH) : Prop := ∀ (a : Nat) (e : AE), sh e = true → h a = some e → h1 a = some e
theorem Ks.refl (sh : AE → Bool) (h : AH) : Ks sh h h := fun _ _ _ q => q
theorem Ks.trans {sh : AE → Bool} {h h1 h2 : AH} (p : Ks sh h h1) (q : Ks sh h1 h2) : Ks sh h h2 := fun a e s w => q a e s (p a e s w)
theorem Ks.put {sh : AE → Bool} {h h1 : AH} {a : Nat} {e e0 : AE} (p : Ks sh h h1) (ha : h1 a = some e0) (hs : sh e0 = false) : Ks sh h (up h1 a e) := fun q e1 s w => by
  have w1 := p q e1 s w
  by_cases hq : q = a
  · subst hq
    rw [ha] at w1
    cases w1
    rw [hs] at s; cases s
  · rw [up_ne hq]; exact w1
theorem Ks.new {sh : AE → Bool} {h h1 : AH} {a : Nat} {e : AE} (p : Ks sh h h1) (ha : h1 a = none) : Ks sh h (up h1 a e) := fun q e1 s w => by
  have w1 := p q e1 s w
  by_cases hq : q = a
  · subst hq
    rw [ha] at w1
    cases w1
  · rw [up_ne hq]; exact w1
theorem TrP.keep {h h1 : AH} {a : Nat} {f : Row} (k : Ks TrSh h h1) (p : TrP h a f) : TrP h1 a f := by
  obtain ⟨pc, gc, sc, h1, h2, h3, h4, h5, h6, h7, h8⟩ := p
  refine ⟨pc, gc, sc, k _ _ rfl h1, k _ _ rfl h2, k _ _ rfl h3, k _ _ rfl h4, h5, h6, fun j a b => ?_, h8⟩
  obtain ⟨b, e1, e2⟩ := h7 j a b
  exact ⟨b, e1, k _ _ rfl e2⟩
theorem gridV_r {f : Row} (hr : RowOK f) {x y : Int} (hx : 0 ≤ x ∧ x < 20) (hy : 0 ≤ y ∧ y < 20) : -1 ≤ gridV f x y ∧ gridV f x y ≤ 24 := by
  have ha := rAt_inr hr x y
  unfold gridV
  split <;> omega
section CB
variable {K : KT} {χ : QxT} {h : AH} {n z a : Nat} {f : Row}
theorem c_isOnMap {κ : Int → AH → Nat → Nat → Prop} {x y : Int} (hr : RowOK f) (hT : TrP h a f) (hx : InR x) (hy : InR y) (hk : κ (b2i (rOn f x y)) h n z) : P_X2_isOnMap K a κ χ h n z x y := by
  obtain ⟨pc, gc, sc, h1, -⟩ := hT
  have hw := hr.w; have hh := hr.h
  refine ⟨hx, fun c => ?_, fun c => pGI_i h1 rfl ⟨⟨by omega, by omega⟩, fun d => ⟨hy, fun e => ?_, fun e => pGI_i h1 rfl ⟨⟨by omega, by omega⟩, fun g => ?_, fun g => ?_⟩⟩, fun d => ?_⟩⟩
  all_goals (first | (rw [b2i, if_pos (by unfold rOn; omega)] at hk; exact hk) | (rw [b2i, if_neg (by unfold rOn; omega)] at hk; exact hk))
theorem c_isBlock {κ : Int → AH → Nat → Nat → Prop} {x y : Int} (hr : RowOK f) (hT : TrP h a f) (hx : 0 ≤ x ∧ x < 20) (hy : 0 ≤ y ∧ y < 20) (hk : κ (rBlk f x y) h n z) : P_X2_isBlock K a κ χ h n z x y := by
  obtain ⟨pc, gc, sc, h1, h2, h3, h4, h5, h6, h7, h8⟩ := hT
  have hg := gridV_r hr hx hy
  have hv := h8 x y hx.1 hx.2 hy.1 hy.2
  have ha := rAt_inr hr x y
  have hb := hr.blk x y hx.1 hx.2 hy.1 hy.2
  refine pGR_i h1 rfl (pAI_i h3 ⟨by omega, by omega⟩ ?_)
  rw [hv]
  refine ⟨⟨by omega, by omega⟩, fun c => ?_, fun c => ?_⟩
  · unfold gridV at c
    rcases hb with q | q
    · rw [if_neg (by rw [q]; decide)] at c; omega
    · rw [q] at hk; exact hk
  · unfold gridV at c
    rcases hb with q | q
    · rw [q] at hk; exact hk
    · rw [if_pos q] at c; omega
theorem rAt_blk (hr : RowOK f) {x y : Int} (hb : rBlk f x y = 1) : rAt f x y = -1 := by
  rcases rAt_r hr x y with ⟨q, -⟩ | ⟨q1, q2, q3, q4⟩
  · exact q
  · have := hr.free _ q1 q2
    rw [q3, q4, hb] at this
    cases this
theorem c_postAt {κ : Int → AH → Nat → Nat → Prop} {x y : Int} (hr : RowOK f) (hT : TrP h a f) (hx : 0 ≤ x ∧ x < 20) (hy : 0 ≤ y ∧ y < 20) (hk : κ (rAt f x y) h n z) : P_X2_postAt K a κ χ h n z x y := by
  obtain ⟨pc, gc, sc, h1, h2, h3, h4, h5, h6, h7, h8⟩ := hT
  have hg := gridV_r hr hx hy
  have hv := h8 x y hx.1 hx.2 hy.1 hy.2
  have ha := rAt_inr hr x y
  refine pGR_i h1 rfl (pAI_i h3 ⟨by omega, by omega⟩ ?_)
  rw [hv]
  refine ⟨⟨by omega, by omega⟩, fun c => pGR_i h1 rfl (pAI_i h3 ⟨by omega, by omega⟩ ?_), fun c => ?_⟩
  · rw [hv]
    have e : gridV f x y - 1 = rAt f x y := by
      unfold gridV at c ⊢
      split at c
      · omega
      · rename_i q; rw [if_neg q]; omega
    rw [e]; exact hk
  · have e : rAt f x y = -1 := by
      unfold gridV at c
      split at c
      · rename_i q; exact rAt_blk hr q
      · omega
    rw [e] at hk; exact hk
theorem c_standsFor {κ : Int → AH → Nat → Nat → Prop} {k c : Int} {b : Nat} (hr : RowOK f) (hb : h b = some (PoO f k)) (h0 : 0 ≤ k ∧ k < f 4) (hc : InR c) (hk : κ (b2i (rPf f k 4 = 0 ∧ rPf f k 2 = c)) h n z) : P_X3_standsFor K b κ χ h n z c := by
  have h1 := hr.state k h0.1 h0.2; have h2 := hr.colour k h0.1 h0.2
  refine pGI_i hb rfl ⟨⟨by omega, by omega⟩, fun q => pGI_i hb rfl ⟨⟨by omega, by omega⟩, hc, fun q2 => ?_, fun q2 => ?_⟩, fun q => ?_⟩
  · rw [b2i, if_pos ⟨q, q2⟩] at hk; exact hk
  · rw [b2i, if_neg (fun w => q2 w.2)] at hk; exact hk
  · rw [b2i, if_neg (fun w => q w.1)] at hk; exact hk
end CB
theorem o_newX {K : KT} {a n z sl : Nat} {L : List AE} {h : AH} {e : AE} {κ : AH → Prop} (L1 : List AE) (hL : L ++ [e] = L1) (hn : n = a + L.length) (hk : n + 1 ≤ kn K ∧ z + sl ≤ kw K) (q : κ (ovl a L1 h)) : pNew K (ovl a L h) n z e sl κ := by
  subst hL; subst hn; exact o_new hk q
theorem o_newAX {K : KT} {a n z t : Nat} {len : Int} {c : AC} {L : List AE} {h : AH} {κ : AH → Prop} (L1 : List AE) (hL : L ++ [.inl (t, len.toNat, c)] = L1) (hn : n = a + L.length) (hl : 0 ≤ len ∧ len ≤ 65536) (hk : n + 1 ≤ kn K ∧ z + len.toNat ≤ kw K) (q : κ (ovl a L1 h)) : pNewA K (ovl a L h) n z t len c κ := by
  subst hL; subst hn; exact o_newA hl hk q
theorem o_putX {K : KT} {a i ci k : Nat} {fs : List AV} {v : AV} {L : List AE} {h : AH} {κ : AH → Prop} (L1 : List AE) (hi : L[i]? = some (.inr (ci, fs))) (hL : L.set i (.inr (ci, fs.set k v)) = L1) (hz : kz K ≤ a) (q : κ (ovl a L1 h)) : pPut K (ovl a L h) (some (a + i)) ci k v κ := by
  subst hL; exact o_put hi hz q
