set_option maxRecDepth 100000
def cpI {α : Type} (f g : Int → α) (sp dp n : Int) : Int → α := fun j => if dp ≤ j ∧ j < dp + n then f (sp + (j - dp)) else g j
theorem pairs_keep : ∀ (xs : List Value) (i at_ : Nat) (c : Cell), (c.storePairs at_ (xs.zipIdx i)).cls = c.cls ∧ (c.storePairs at_ (xs.zipIdx i)).vm = c.vm ∧ (c.storePairs at_ (xs.zipIdx i)).slots.size = c.slots.size
  | [], i, at_, c => ⟨rfl, rfl, rfl⟩
  | x :: xs, i, at_, c => by
    rw [List.zipIdx_cons]
    show ((c.setSlot (at_ + i) x).storePairs at_ (xs.zipIdx (i + 1))).cls = _ ∧ ((c.setSlot (at_ + i) x).storePairs at_ (xs.zipIdx (i + 1))).vm = _ ∧ _ = _
    obtain ⟨h1, h2, h3⟩ := pairs_keep xs (i + 1) at_ (c.setSlot (at_ + i) x)
    exact ⟨h1, h2, h3.trans (k2_slotsz _ _ _)⟩
theorem pairs_at : ∀ (xs : List Value) (i at_ : Nat) (c : Cell) (j : Nat), j < c.slots.size → (c.storePairs at_ (xs.zipIdx i)).slots[j]? = if at_ + i ≤ j ∧ j < at_ + i + xs.length then xs[j - (at_ + i)]? else c.slots[j]?
  | [], i, at_, c, j, hj => by rw [if_neg (by simp only [List.length_nil]; omega)]; rfl
  | x :: xs, i, at_, c, j, hj => by
    rw [List.zipIdx_cons]
    show ((c.setSlot (at_ + i) x).storePairs at_ (xs.zipIdx (i + 1))).slots[j]? = _
    rw [pairs_at xs (i + 1) at_ _ j (by rw [k2_slotsz]; exact hj)]
    by_cases hk : j = at_ + i
    · subst hk
      rw [if_neg (by omega), if_pos (by simp only [List.length_cons]; omega), Cell.slots_setSlot_self _ hj]
      simp
    · rw [slot_ne _ _ (Ne.symm hk)]
      by_cases h : at_ + (i + 1) ≤ j ∧ j < at_ + (i + 1) + xs.length
      · rw [if_pos h, if_pos (by simp only [List.length_cons]; omega)]
        have e : j - (at_ + i) = (j - (at_ + (i + 1))) + 1 := by omega
        rw [e, List.getElem?_cons_succ]
      · rw [if_neg h, if_neg (by simp only [List.length_cons]; omega)]
theorem stretch_at (c : Cell) {N sp n : Nat} {val : Nat → Value} (hc : ∀ j, j < N → c.slots[j]? = some (val j)) (hs : sp + n ≤ N) : c.stretch sp n = (List.range n).map (fun i => val (sp + i)) := by
  unfold Cell.stretch
  apply List.map_congr_left
  intro i hi
  have hi' := List.mem_range.mp hi
  rw [Array.getD_eq_getD_getElem?, hc _ (by omega)]
  rfl
section CP
variable {K : KT} {own mn : String} {cc : ByteArray} {rt : Option FieldType} {tb : List ExceptionTableEntry} {nL fr lo : Nat} {Y : YT} {h : AH} {n z : Nat} {pc : Nat} {lv : List (Nat × AV)} {st : List AV}
/-- the general copy: the values go over by mk -/
theorem r_copyG (X : XY K own mn cc rt tb nL fr lo Y) {i a0 a t0 t N0 N : Nat} {f g : AC} {g1 : AC} {ty0 ty : FieldType} {sp dp len : Int} (ht0 : vwTy[t0]? = some ty0) (ht : vwTy[t]? = some ty) (w1 : Cond.methodLink own i arraycopyName ∈ lw_all) (w2 : Cond.native arraycopyName ∈ lw_all) (w3 : Cond.static arraycopyName ∈ lw_all) (w4 : Cond.initialized "java/lang/System" ∈ lw_all)
    (hty : ((refKind ty0 != refKind ty) || (!refKind ty0 && ty0 != ty)) = false) (d : decode cc pc = .ok (.invokestatic i, 3)) (ha0 : h a0 = some (.inl (t0, N0, f))) (ha : h a = some (.inl (t, N, g))) (hz : kz K ≤ a) (hs : 0 ≤ sp ∧ 0 ≤ dp ∧ 0 ≤ len) (hN0 : sp + len ≤ N0) (hN : dp + len ≤ N)
    (hg1 : ∀ j : Nat, j < N → cC g1 j = if dp ≤ j ∧ (j : Int) < dp + len then cC f (sp + (j - dp)).toNat else cC g j)
    (hval : ∀ (s : State) (H : Heap), KN K s → Hld K h H → ∀ vm', s.vm.Alike vm' → ∀ T : State, T.heap = H → ∀ j : Nat, (j : Int) < len → ∀ dComp : ClassId, (∃ k : Class, s.vm.classes[K.2.1 t]? = some k ∧ k.kind = .array dComp ty) → fits ty (cC f (sp.toNat + j)) = true ∧ (T.setVm vm').takes dComp (cC f (sp.toNat + j)))
    (hR : 1 ≤ fr ∧ (st.map cat).sum + (nativeFrameWords "java/lang/System" "arraycopy" 5 + 11) ≤ lo) (kk : G K Y (up h a (.inl (t, N, g1))) n z (pc + 3) lv st) : G K Y h n z pc lv (vI len :: vI dp :: vR (some a) :: vI sp :: vR (some a0) :: st) := by
  obtain ⟨p, l, e, R, s, m, args, below, meth, c, Q⟩ := Y
  obtain ⟨hx, hb, hml, hown, hts, hr, hlk, hKN, hSH, hkz, hkn, hkw, hfr, hlo, htr, htb, hmn⟩ := X
  intro H locs ls hh
  obtain ⟨c0, p1, p2, p3, p4, p5, p6, p7, p8⟩ := hh.1 a0 _ ha0
  obtain ⟨c1, q1, q2, q3, q4, q5, q6, q7, q8⟩ := hh.1 a _ ha
  have is : InR sp := ⟨by omega, by omega⟩
  have id : InR dp := ⟨by omega, by omega⟩
  have il : InR len := ⟨by omega, by omega⟩
  have cs := iN_clamp hs.1 is.2
  have cd := iN_clamp hs.2.1 id.2
  have cl := iN_clamp hs.2.2 il.2
  have z0 : InR 0 := by decide
  obtain ⟨-, k0, hk0, cm0, hkk0⟩ := hKN.arr ht0 p2 p4
  obtain ⟨-, k1, hk1, cm1, hkk1⟩ := hKN.arr ht q2 q4
  have hls : ls.size = c.maxLocals := hh.2.2.2.2.2.2.1
  intro T hT X
  obtain ⟨vm', X', step⟩ := X.arraycopy hx hown (hts _ w1) (hts _ w2) (hts _ w3) (hts _ w4) (src := a0) (dst := a) (cs := c0) (cd := c1) (srcPos := iN sp) (destPos := iN dp) (n := iN len) (by rw [hT]; exact p1) (by rw [hT]; exact q1)
    p4 q4 p5 q5 hk0 hk1 hkk0 hkk1 hty (by rw [iN_0, iN_lt is z0]; omega) (by rw [iN_0, iN_lt id z0]; omega) (by rw [iN_0, iN_lt il z0]; omega)
    (by rw [iN_toInt is, iN_toInt il, p6]; omega) (by rw [iN_toInt id, iN_toInt il, q6]; omega)
    (fun vm₁ hal j hj => by
      rw [cl] at hj
      have e9 : c0.slots.getD ((iN sp).toNatClampNeg + j) .null = cC f (sp.toNat + j) := by
        rw [cs, Array.getD_eq_getD_getElem?, p8 _ (by omega)]
        rfl
      rw [e9]
      exact hval s H hKN hh.1 vm₁ hal T hT j (by omega) cm1 ⟨k1, by rw [← (q3 hz).1]; exact hk1, hkk1⟩)
    (g := F0 m pc ls ((vI len :: vI dp :: vR (some a) :: vI sp :: vR (some a0) :: st).map cV)) rfl hls (rest := st.map cV) rfl (by rw [hb]; exact d) (by rw [hfr]; exact hR.1) (by rw [hlo, cV_sum]; show 2 * 0 + _ + _ ≤ _; omega)
  have hsub : copied c0 c1 (iN sp) (iN dp) (iN len) = c1.storePairs dp.toNat (((List.range len.toNat).map (fun i => cC f (sp.toNat + i))).zipIdx) := by
    unfold copied Cell.storeRun
    rw [cs, cd, cl, stretch_at c0 p8 (by omega)]
  generalize hcp : copied c0 c1 (iN sp) (iN dp) (iN len) = cp at X' step hsub
  obtain ⟨b1, b2, b3⟩ := pairs_keep ((List.range len.toNat).map (fun i => cC f (sp.toNat + i))) 0 dp.toNat c1
  rw [← hsub] at b1 b2 b3
  have hl : a < H.size := (Array.getElem?_eq_some_iff.mp q1).1
  have hheap : ((T.setVm vm').setCell a cp).heap = H.setIfInBounds a cp := by rw [← hT]; rfl
  have oq : ∀ q : Nat, q ≠ a → (H.setIfInBounds a cp)[q]? = H[q]? := fun q hq => by simp [Array.getElem?_setIfInBounds, Ne.symm hq]
  have oa : (H.setIfInBounds a cp)[a]? = some cp := by simp [Array.getElem?_setIfInBounds, hl]
  have oz : (H.setIfInBounds a cp).size = H.size := by simp
  have hH1 : Hld K (up h a (.inl (t, N, g1))) (H.setIfInBounds a cp) := by
    refine hh.1.upd9 ?_ oq
    refine ⟨cp, oa, by rw [b1]; exact q2, fun w => by rw [b1, b2]; exact q3 w, by rw [b2]; exact q4, by rw [b2]; exact q5, by rw [b3]; exact q6, q7, fun j hj => ?_⟩
    rw [hsub, pairs_at _ _ _ _ _ (by rw [q6]; exact hj), hg1 j hj]
    simp only [List.length_map, List.length_range, Nat.add_zero]
    by_cases hin : dp ≤ j ∧ (j : Int) < dp + len
    · rw [if_pos (by omega), if_pos hin, List.getElem?_map, List.getElem?_range (by omega)]
      simp only [Option.map_some]
      congr 2
      omega
    · rw [if_neg (by omega), if_neg hin]
      exact q8 j hj
  have hW1 : HW (H.setIfInBounds a cp) = z := by rw [HW_set oz q1 oa b3 oq]; exact hh.2.2.1
  obtain ⟨t9, a1, b9⟩ := kk (H.setIfInBounds a cp) _ ls ⟨hH1, oz.trans hh.2.1, hW1, hh.2.2.2.1, hh.2.2.2.2.1, ⟨by rw [oz]; exact hh.2.2.2.2.2.1.1, fun q g1 g2 => by
      rw [oq q (fun e => g2 (by rw [e]; exact hz))]
      exact hh.2.2.2.2.2.1.2.1 q g1 g2, fun q hq => by
      rcases List.mem_append.mp hq with h9 | h9
      · exact hh.2.2.2.2.2.1.2.2 q h9
      · obtain ⟨w, -, hw⟩ := List.mem_map.mp h9
        rw [← hw]
        exact hz⟩, hh.2.2.2.2.2.2⟩ _ hheap X'
  exact ⟨t9, step t9 a1, b9⟩
/-- ints -/
theorem r_copyI (X : XY K own mn cc rt tb nL fr lo Y) {i a0 a N0 N : Nat} {f g : Int → Int} {sp dp len : Int} (w1 : Cond.methodLink own i arraycopyName ∈ lw_all) (w2 : Cond.native arraycopyName ∈ lw_all) (w3 : Cond.static arraycopyName ∈ lw_all) (w4 : Cond.initialized "java/lang/System" ∈ lw_all)
    (d : decode cc pc = .ok (.invokestatic i, 3)) (ha0 : h a0 = some (.inl (0, N0, .inl f))) (ha : h a = some (.inl (0, N, .inl g))) (hz : kz K ≤ a) (hs : 0 ≤ sp ∧ 0 ≤ dp ∧ 0 ≤ len) (hN0 : sp + len ≤ N0) (hN : dp + len ≤ N)
    (hR : 1 ≤ fr ∧ (st.map cat).sum + (nativeFrameWords "java/lang/System" "arraycopy" 5 + 11) ≤ lo) (kk : G K Y (up h a (.inl (0, N, .inl (cpI f g sp dp len)))) n z (pc + 3) lv st) : G K Y h n z pc lv (vI len :: vI dp :: vR (some a) :: vI sp :: vR (some a0) :: st) := by
  refine r_copyG X (g1 := .inl (cpI f g sp dp len)) (t0 := 0) (t := 0) rfl rfl w1 w2 w3 w4 (by decide) d ha0 ha hz hs hN0 hN ?_ ?_ hR kk
  · intro j hj
    simp only [cC, cpI]
    by_cases hin : dp ≤ j ∧ (j : Int) < dp + len
    · rw [if_pos hin, if_pos hin]; congr 3; omega
    · rw [if_neg hin, if_neg hin]
  · intros; exact ⟨rfl, trivial⟩
/-- bytes, each within its range -/
theorem r_copyB (X : XY K own mn cc rt tb nL fr lo Y) {i a0 a N0 N : Nat} {f g : Int → Int} {sp dp len : Int} (w1 : Cond.methodLink own i arraycopyName ∈ lw_all) (w2 : Cond.native arraycopyName ∈ lw_all) (w3 : Cond.static arraycopyName ∈ lw_all) (w4 : Cond.initialized "java/lang/System" ∈ lw_all)
    (d : decode cc pc = .ok (.invokestatic i, 3)) (ha0 : h a0 = some (.inl (1, N0, .inl f))) (ha : h a = some (.inl (1, N, .inl g))) (hz : kz K ≤ a) (hs : 0 ≤ sp ∧ 0 ≤ dp ∧ 0 ≤ len) (hN0 : sp + len ≤ N0) (hN : dp + len ≤ N) (hby : ∀ j : Int, 0 ≤ j → j < len → -128 ≤ f (sp + j) ∧ f (sp + j) ≤ 127)
    (hR : 1 ≤ fr ∧ (st.map cat).sum + (nativeFrameWords "java/lang/System" "arraycopy" 5 + 11) ≤ lo) (kk : G K Y (up h a (.inl (1, N, .inl (cpI f g sp dp len)))) n z (pc + 3) lv st) : G K Y h n z pc lv (vI len :: vI dp :: vR (some a) :: vI sp :: vR (some a0) :: st) := by
  refine r_copyG X (g1 := .inl (cpI f g sp dp len)) (t0 := 1) (t := 1) rfl rfl w1 w2 w3 w4 (by decide) d ha0 ha hz hs hN0 hN ?_ ?_ hR kk
  · intro j hj
    simp only [cC, cpI]
    by_cases hin : dp ≤ j ∧ (j : Int) < dp + len
    · rw [if_pos hin, if_pos hin]; congr 3; omega
    · rw [if_neg hin, if_neg hin]
  · intro s H _ _ _ _ T _ j hj dc _
    refine ⟨?_, trivial⟩
    have h9 := hby j (by omega) hj
    have e9 : ((sp.toNat + j : Nat) : Int) = sp + j := by omega
    simp only [cC, fits, e9, Bool.and_eq_true, decide_eq_true_eq]
    constructor
    · have : (-128 : Int32) = iN (-128) := rfl
      rw [this, iN_le (by decide) ⟨by omega, by omega⟩]; omega
    · have : (127 : Int32) = iN 127 := rfl
      rw [this, iN_le ⟨by omega, by omega⟩ (by decide)]; omega
theorem r_tcopy (X : XY K own mn cc rt tb nL fr lo Y) {t : Nat} {σ : TS} {h0 : AH} {i k0 k N0 N : Nat} {sp dp len : Int} (w1 : Cond.methodLink own i arraycopyName ∈ lw_all) (w2 : Cond.native arraycopyName ∈ lw_all) (w3 : Cond.static arraycopyName ∈ lw_all) (w4 : Cond.initialized "java/lang/System" ∈ lw_all) (hz : kz K ≤ t)
    (d : decode cc pc = .ok (.invokestatic i, 3)) (ob : twOK k0 0 N0 ∧ twOK k 0 N ∧ (0 ≤ sp ∧ 0 ≤ dp ∧ 0 ≤ len) ∧ sp + len ≤ N0 ∧ dp + len ≤ N)
    (hR : 1 ≤ fr ∧ (st.map cat).sum + (nativeFrameWords "java/lang/System" "arraycopy" 5 + 11) ≤ lo) (kk : G K Y (tw t (setA σ k (cpI (σ.2 k0) (σ.2 k) sp dp len)) h0) n z (pc + 3) lv st) : G K Y (tw t σ h0) n z pc lv (vI len :: vI dp :: vR (some (twAd t k)) :: vI sp :: vR (some (twAd t k0)) :: st) :=
  r_copyI X w1 w2 w3 w4 d (tw_arr ob.1) (tw_arr ob.2.1) (by unfold twAd; omega) ob.2.2.1 ob.2.2.2.1 ob.2.2.2.2 hR (by rw [tw_setA ob.2.1]; exact kk)
end CP
