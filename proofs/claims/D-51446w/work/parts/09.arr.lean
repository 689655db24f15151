set_option maxRecDepth 100000
def NW (own : String) (i ci sl : Nat) (fs : List AV) : Prop := ∃ (C : String) (T : u_T) (N : Nat) (ty : Nat → FieldType), CF ci C T N ∧ (∀ k, k < N → parseFieldDescriptor (T k).2.2.1 = some (ty k)) ∧ fs.map cV = (List.range N).map (fun k => defaultValue (ty k)) ∧ Cond.classLink own i C ∈ lw_all ∧ Cond.instantiable C sl ∈ lw_all ∧ Cond.initialized C ∈ lw_all
/-- the class ci may be stored in, or cast to, nm -/
def CO (ci : Nat) (nm : String) : Prop := ∃ r : vw_C, vwCl[ci]? = some r ∧ (r.1 = nm ∨ Cond.castable r.1 nm ∈ lw_tbl)
def CN (ci : Nat) (nm : String) : Prop := ∃ r : vw_C, vwCl[ci]? = some r ∧ (r.1, nm) ∈ ncL
theorem KN.arr {K : KT} {s : State} (hK : KN K s) {t : Nat} {ty : FieldType} (ht : vwTy[t]? = some ty) {cell : Cell} (h1 : kt K t cell.cls) (h2 : ∀ k, cell.vm ≠ .statics k) : s.isArrayOf cell ty := by
  obtain ⟨g1, -, -⟩ := hK.2.1 t ty ht
  obtain ⟨k, comp, e1, e2⟩ := g1 _ h1
  exact ⟨h2, k, e1, comp, e2⟩
theorem KN.cls {K : KT} {s : State} (hK : KN K s) {ci : Nat} {r : vw_C} (hc : vwCl[ci]? = some r) : ClassAt s r.1 (K.1.1 ci) := (hK.1 ci r hc).2
theorem KN.recv {K : KT} {s : State} (hK : KN K s) {H : Heap} {a ci : Nat} {fs : List AV} {r : vw_C} (hc : vwCl[ci]? = some r) (h : oAt K a ci fs H) : ∃ cell : Cell, H[a]? = some cell ∧ cell.vm.isStatics = false ∧ s.vm.findClass r.1 = some cell.cls := by
  obtain ⟨r', cell, g0, g1, g2, g3, -⟩ := h
  exact ⟨cell, g1, g3, by rw [g2]; exact (hK.cls hc).1⟩
section RA
variable {K : KT} {own mn : String} {cc : ByteArray} {rt : Option FieldType} {tb : List ExceptionTableEntry} {nL fr lo : Nat} {Y : YT} {h : AH} {n z : Nat} {pc : Nat} {lv : List (Nat × AV)} {st : List AV}
theorem r_alen (X : XY K own mn cc rt tb nL fr lo Y) {a t N : Nat} {f : AC} {ty : FieldType} (ht : vwTy[t]? = some ty) (d : decode cc pc = .ok (.arraylength, 1)) (ha : h a = some (.inl (t, N, f))) (kk : G K Y h n z (pc + 1) lv (vI (N : Int) :: st)) : G K Y h n z pc lv (vR (some a) :: st) := by
  obtain ⟨p, l, e, R, s, m, args, below, meth, c, Q⟩ := Y
  obtain ⟨hx, hb, hml, hown, hts, hr, hlk, hKN, hSH, hkz, hkn, hkw, hfr, hlo, htr, htb, hmn⟩ := X
  intro H locs ls hh
  obtain ⟨cell, g1, g2, g3, g4, g5, g6, g7, g8⟩ := hh.1 a _ ha
  refine W.alen (n := iN (N : Int)) hx hb g1 (hKN.arr ht g2 g4) ?_ rfl rfl d (kk H locs ls hh)
  rw [g6]; show Int32.ofNat N = _
  exact iN_nat
theorem r_iald (X : XY K own mn cc rt tb nL fr lo Y) {a t N : Nat} {f : Int → Int} {i : Int} (ht : vwTy[t]? = some .int) (d : decode cc pc = .ok (.iaload, 1)) (ha : h a = some (.inl (t, N, .inl f))) (h0 : 0 ≤ i) (h1 : i < N) (kk : G K Y h n z (pc + 1) lv (vI (f i) :: st)) : G K Y h n z pc lv (vI i :: vR (some a) :: st) := by
  obtain ⟨p, l, e, R, s, m, args, below, meth, c, Q⟩ := Y
  obtain ⟨hx, hb, hml, hown, hts, hr, hlk, hKN, hSH, hkz, hkn, hkw, hfr, hlo, htr, htb, hmn⟩ := X
  intro H locs ls hh
  obtain ⟨cell, g1, g2, g3, g4, g5, g6, g7, g8⟩ := hh.1 a _ ha
  have hi : i < 2147483648 := by omega
  have g9 := g8 i.toNat (by omega)
  have e1 : ((i.toNat : Nat) : Int) = i := Int.toNat_of_nonneg h0
  exact W.iald (v := cV (vI (f i))) hx hb g1 (hKN.arr ht g2 g4) g5 (by rw [g6]; exact iN_in h0 h1 hi) (by rw [iN_clamp h0 hi, g9]; simp only [cC, cV, e1]) rfl rfl d (kk H locs ls hh)
theorem r_bald (X : XY K own mn cc rt tb nL fr lo Y) {a t N : Nat} {f : Int → Int} {i : Int} (ht : vwTy[t]? = some .byte) (d : decode cc pc = .ok (.baload, 1)) (ha : h a = some (.inl (t, N, .inl f))) (h0 : 0 ≤ i) (h1 : i < N) (kk : G K Y h n z (pc + 1) lv (vI (f i) :: st)) : G K Y h n z pc lv (vI i :: vR (some a) :: st) := by
  obtain ⟨p, l, e, R, s, m, args, below, meth, c, Q⟩ := Y
  obtain ⟨hx, hb, hml, hown, hts, hr, hlk, hKN, hSH, hkz, hkn, hkw, hfr, hlo, htr, htb, hmn⟩ := X
  intro H locs ls hh
  obtain ⟨cell, g1, g2, g3, g4, g5, g6, g7, g8⟩ := hh.1 a _ ha
  have hi : i < 2147483648 := by omega
  have g9 := g8 i.toNat (by omega)
  have e1 : ((i.toNat : Nat) : Int) = i := Int.toNat_of_nonneg h0
  exact W.bald (v := cV (vI (f i))) hx hb g1 (hKN.arr ht g2 g4) g5 (by rw [g6]; exact iN_in h0 h1 hi) (by rw [iN_clamp h0 hi, g9]; simp only [cC, cV, e1]) rfl rfl d (kk H locs ls hh)
theorem r_zald (X : XY K own mn cc rt tb nL fr lo Y) {a t N : Nat} {f : Int → Int} {i : Int} (ht : vwTy[t]? = some .boolean) (d : decode cc pc = .ok (.baload, 1)) (ha : h a = some (.inl (t, N, .inl f))) (h0 : 0 ≤ i) (h1 : i < N) (kk : G K Y h n z (pc + 1) lv (vI (f i) :: st)) : G K Y h n z pc lv (vI i :: vR (some a) :: st) := by
  obtain ⟨p, l, e, R, s, m, args, below, meth, c, Q⟩ := Y
  obtain ⟨hx, hb, hml, hown, hts, hr, hlk, hKN, hSH, hkz, hkn, hkw, hfr, hlo, htr, htb, hmn⟩ := X
  intro H locs ls hh
  obtain ⟨cell, g1, g2, g3, g4, g5, g6, g7, g8⟩ := hh.1 a _ ha
  have hi : i < 2147483648 := by omega
  have g9 := g8 i.toNat (by omega)
  have e1 : ((i.toNat : Nat) : Int) = i := Int.toNat_of_nonneg h0
  exact W.zald (v := cV (vI (f i))) hx hb g1 (hKN.arr ht g2 g4) g5 (by rw [g6]; exact iN_in h0 h1 hi) (by rw [iN_clamp h0 hi, g9]; simp only [cC, cV, e1]) rfl rfl d (kk H locs ls hh)
theorem r_cald (X : XY K own mn cc rt tb nL fr lo Y) {a t N : Nat} {f : Int → Int} {i : Int} (ht : vwTy[t]? = some .char) (d : decode cc pc = .ok (.caload, 1)) (ha : h a = some (.inl (t, N, .inl f))) (h0 : 0 ≤ i) (h1 : i < N) (kk : G K Y h n z (pc + 1) lv (vI (f i) :: st)) : G K Y h n z pc lv (vI i :: vR (some a) :: st) := by
  obtain ⟨p, l, e, R, s, m, args, below, meth, c, Q⟩ := Y
  obtain ⟨hx, hb, hml, hown, hts, hr, hlk, hKN, hSH, hkz, hkn, hkw, hfr, hlo, htr, htb, hmn⟩ := X
  intro H locs ls hh
  obtain ⟨cell, g1, g2, g3, g4, g5, g6, g7, g8⟩ := hh.1 a _ ha
  have hi : i < 2147483648 := by omega
  have g9 := g8 i.toNat (by omega)
  have e1 : ((i.toNat : Nat) : Int) = i := Int.toNat_of_nonneg h0
  exact W.cald (v := cV (vI (f i))) hx hb g1 (hKN.arr ht g2 g4) g5 (by rw [g6]; exact iN_in h0 h1 hi) (by rw [iN_clamp h0 hi, g9]; simp only [cC, cV, e1]) rfl rfl d (kk H locs ls hh)
theorem r_lald (X : XY K own mn cc rt tb nL fr lo Y) {a t N : Nat} {f : Int → Int64} {i : Int} (ht : vwTy[t]? = some .long) (d : decode cc pc = .ok (.laload, 1)) (ha : h a = some (.inl (t, N, .inr (.inr f)))) (h0 : 0 ≤ i) (h1 : i < N) (kk : G K Y h n z (pc + 1) lv (vJ (f i) :: st)) : G K Y h n z pc lv (vI i :: vR (some a) :: st) := by
  obtain ⟨p, l, e, R, s, m, args, below, meth, c, Q⟩ := Y
  obtain ⟨hx, hb, hml, hown, hts, hr, hlk, hKN, hSH, hkz, hkn, hkw, hfr, hlo, htr, htb, hmn⟩ := X
  intro H locs ls hh
  obtain ⟨cell, g1, g2, g3, g4, g5, g6, g7, g8⟩ := hh.1 a _ ha
  have hi : i < 2147483648 := by omega
  have g9 := g8 i.toNat (by omega)
  have e1 : ((i.toNat : Nat) : Int) = i := Int.toNat_of_nonneg h0
  exact W.lald (v := cV (vJ (f i))) hx hb g1 (hKN.arr ht g2 g4) g5 (by rw [g6]; exact iN_in h0 h1 hi) (by rw [iN_clamp h0 hi, g9]; simp only [cC, cV, e1]) rfl rfl d (kk H locs ls hh)
theorem r_aald (X : XY K own mn cc rt tb nL fr lo Y) {a t N : Nat} {f : Int → Option Nat} {i : Int} {ty : FieldType} (ht : vwTy[t]? = some ty) (hty : ty.isReference = true) (d : decode cc pc = .ok (.aaload, 1)) (ha : h a = some (.inl (t, N, .inr (.inl f)))) (h0 : 0 ≤ i) (h1 : i < N) (kk : G K Y h n z (pc + 1) lv (vR (f i) :: st)) : G K Y h n z pc lv (vI i :: vR (some a) :: st) := by
  obtain ⟨p, l, e, R, s, m, args, below, meth, c, Q⟩ := Y
  obtain ⟨hx, hb, hml, hown, hts, hr, hlk, hKN, hSH, hkz, hkn, hkw, hfr, hlo, htr, htb, hmn⟩ := X
  intro H locs ls hh
  obtain ⟨cell, g1, g2, g3, g4, g5, g6, g7, g8⟩ := hh.1 a _ ha
  have hi : i < 2147483648 := by omega
  have g9 := g8 i.toNat (by omega)
  have e1 : ((i.toNat : Nat) : Int) = i := Int.toNat_of_nonneg h0
  exact W.aald (v := cV (vR (f i))) hx hb g1 (hKN.arr ht g2 g4) hty g5 (by rw [g6]; exact iN_in h0 h1 hi) (by rw [iN_clamp h0 hi, g9]; simp only [cC, cV, e1]) rfl rfl d (kk H locs ls hh)
theorem aAt_set {a t N : Nat} {f : AC} {f1 : AC} {i : Int} {v : Value} {H H1 : Heap} {cell : Cell} (h0 : 0 ≤ i) (h1 : i < N) (g : H[a]? = some cell) (g2 : kt K t cell.cls) (g3 : kz K ≤ a → cell.cls = K.2.1 t ∧ cell.vm = .none) (g4 : ∀ k, cell.vm ≠ .statics k) (g5 : cell.vm ≠ .unknown) (g6 : cell.slots.size = N) (g7 : N < 2147483648) (g8 : ∀ j : Nat, j < N → cell.slots[j]? = some (cC f j)) (e : H1[a]? = some (cell.setSlot i.toNat v)) (hv : v = cC f1 i.toNat) (ho : ∀ j : Nat, j ≠ i.toNat → cC f1 j = cC f j) : aAt K a t N f1 H1 := by
  refine ⟨_, e, g2, g3, g4, g5, by rw [k2_slotsz]; exact g6, g7, fun j hj => ?_⟩
  by_cases hji : j = i.toNat
  · subst hji
    rw [Cell.slots_setSlot_self _ (by rw [g6]; exact hj), hv]
  · rw [slot_ne _ _ (Ne.symm hji), g8 j hj, ho j hji]
theorem r_iast (X : XY K own mn cc rt tb nL fr lo Y) {a t N : Nat} {f : Int → Int} {i : Int} {v : Int} (ht : vwTy[t]? = some .int) (d : decode cc pc = .ok (.iastore, 1)) (ha : h a = some (.inl (t, N, .inl f))) (hz : kz K ≤ a) (h0 : 0 ≤ i) (h1 : i < N) (kk : G K Y (up h a (.inl (t, N, .inl (uI f i v)))) n z (pc + 1) lv st) : G K Y h n z pc lv (vI v :: vI i :: vR (some a) :: st) := by
  obtain ⟨p, l, e, R, s, m, args, below, meth, c, Q⟩ := Y
  obtain ⟨hx, hb, hml, hown, hts, hr, hlk, hKN, hSH, hkz, hkn, hkw, hfr, hlo, htr, htb, hmn⟩ := X
  intro H locs ls hh
  obtain ⟨cell, g1, g2, g3, g4, g5, g6, g7, g8⟩ := hh.1 a _ ha
  have hi : i < 2147483648 := by omega
  have e1 : ((i.toNat : Nat) : Int) = i := Int.toNat_of_nonneg h0
  refine W.iast hx hb g1 (hKN.arr ht g2 g4) g5 (by rw [g6]; exact iN_in h0 h1 hi) rfl rfl d fun H1 q1 q2 q3 => ?_
  rw [iN_clamp h0 hi] at q1 ⊢
  refine kk H1 _ ls ⟨hh.1.upd9 ?_ q3, q2.trans hh.2.1, ?_, hh.2.2.2.1, hh.2.2.2.2.1, hh.2.2.2.2.2.1.put q2 q3 hz, hh.2.2.2.2.2.2⟩
  · refine aAt_set (f := .inl f) h0 h1 g1 g2 g3 g4 g5 g6 g7 g8 q1 ?_ ?_
    · simp [cC, uI, e1]
    · intro j hj
      have : ¬ ((j : Int) = i) := by omega
      simp [cC, uI, this]
  · rw [HW_set q2 g1 q1 (k2_slotsz _ _ _) q3]; exact hh.2.2.1
theorem r_last (X : XY K own mn cc rt tb nL fr lo Y) {a t N : Nat} {f : Int → Int64} {i : Int} {v : Int64} (ht : vwTy[t]? = some .long) (d : decode cc pc = .ok (.lastore, 1)) (ha : h a = some (.inl (t, N, .inr (.inr f)))) (hz : kz K ≤ a) (h0 : 0 ≤ i) (h1 : i < N) (kk : G K Y (up h a (.inl (t, N, .inr (.inr (uI f i v))))) n z (pc + 1) lv st) : G K Y h n z pc lv (vJ v :: vI i :: vR (some a) :: st) := by
  obtain ⟨p, l, e, R, s, m, args, below, meth, c, Q⟩ := Y
  obtain ⟨hx, hb, hml, hown, hts, hr, hlk, hKN, hSH, hkz, hkn, hkw, hfr, hlo, htr, htb, hmn⟩ := X
  intro H locs ls hh
  obtain ⟨cell, g1, g2, g3, g4, g5, g6, g7, g8⟩ := hh.1 a _ ha
  have hi : i < 2147483648 := by omega
  have e1 : ((i.toNat : Nat) : Int) = i := Int.toNat_of_nonneg h0
  refine W.last hx hb g1 (hKN.arr ht g2 g4) g5 (by rw [g6]; exact iN_in h0 h1 hi) rfl rfl d fun H1 q1 q2 q3 => ?_
  rw [iN_clamp h0 hi] at q1 ⊢
  refine kk H1 _ ls ⟨hh.1.upd9 ?_ q3, q2.trans hh.2.1, ?_, hh.2.2.2.1, hh.2.2.2.2.1, hh.2.2.2.2.2.1.put q2 q3 hz, hh.2.2.2.2.2.2⟩
  · refine aAt_set (f := .inr (.inr f)) h0 h1 g1 g2 g3 g4 g5 g6 g7 g8 q1 ?_ ?_
    · simp [cC, uI, e1]
    · intro j hj
      have : ¬ ((j : Int) = i) := by omega
      simp [cC, uI, this]
  · rw [HW_set q2 g1 q1 (k2_slotsz _ _ _) q3]; exact hh.2.2.1
theorem r_bast (X : XY K own mn cc rt tb nL fr lo Y) {a t N : Nat} {f : Int → Int} {i : Int} {v : Int} (ht : vwTy[t]? = some .byte) (d : decode cc pc = .ok (.bastore, 1)) (ha : h a = some (.inl (t, N, .inl f))) (hz : kz K ≤ a) (h0 : 0 ≤ i) (h1 : i < N) (kk : G K Y (up h a (.inl (t, N, .inl (uI f i (i2b v))))) n z (pc + 1) lv st) : G K Y h n z pc lv (vI v :: vI i :: vR (some a) :: st) := by
  obtain ⟨p, l, e, R, s, m, args, below, meth, c, Q⟩ := Y
  obtain ⟨hx, hb, hml, hown, hts, hr, hlk, hKN, hSH, hkz, hkn, hkw, hfr, hlo, htr, htb, hmn⟩ := X
  intro H locs ls hh
  obtain ⟨cell, g1, g2, g3, g4, g5, g6, g7, g8⟩ := hh.1 a _ ha
  have hi : i < 2147483648 := by omega
  have e1 : ((i.toNat : Nat) : Int) = i := Int.toNat_of_nonneg h0
  refine W.bast hx hb g1 (hKN.arr ht g2 g4) g5 (by rw [g6]; exact iN_in h0 h1 hi) rfl rfl d fun H1 q1 q2 q3 => ?_
  rw [iN_clamp h0 hi] at q1 ⊢
  refine kk H1 _ ls ⟨hh.1.upd9 ?_ q3, q2.trans hh.2.1, ?_, hh.2.2.2.1, hh.2.2.2.2.1, hh.2.2.2.2.2.1.put q2 q3 hz, hh.2.2.2.2.2.2⟩
  · refine aAt_set (f := .inl f) h0 h1 g1 g2 g3 g4 g5 g6 g7 g8 q1 ?_ ?_
    · rw [show narrow .byte (.int (iN v)) = .int (iN v).toInt8.toInt32 from rfl]; simp only [cC, uI, e1, ↓reduceIte, i2b, iN_of]
    · intro j hj
      have : ¬ ((j : Int) = i) := by omega
      simp [cC, uI, this]
  · rw [HW_set q2 g1 q1 (k2_slotsz _ _ _) q3]; exact hh.2.2.1
theorem r_zast (X : XY K own mn cc rt tb nL fr lo Y) {a t N : Nat} {f : Int → Int} {i : Int} {v : Int} (ht : vwTy[t]? = some .boolean) (d : decode cc pc = .ok (.bastore, 1)) (ha : h a = some (.inl (t, N, .inl f))) (hz : kz K ≤ a) (h0 : 0 ≤ i) (h1 : i < N) (hv : v = 0 ∨ v = 1) (kk : G K Y (up h a (.inl (t, N, .inl (uI f i v)))) n z (pc + 1) lv st) : G K Y h n z pc lv (vI v :: vI i :: vR (some a) :: st) := by
  obtain ⟨p, l, e, R, s, m, args, below, meth, c, Q⟩ := Y
  obtain ⟨hx, hb, hml, hown, hts, hr, hlk, hKN, hSH, hkz, hkn, hkw, hfr, hlo, htr, htb, hmn⟩ := X
  intro H locs ls hh
  obtain ⟨cell, g1, g2, g3, g4, g5, g6, g7, g8⟩ := hh.1 a _ ha
  have hi : i < 2147483648 := by omega
  have e1 : ((i.toNat : Nat) : Int) = i := Int.toNat_of_nonneg h0
  refine W.zast hx hb g1 (hKN.arr ht g2 g4) g5 (by rw [g6]; exact iN_in h0 h1 hi) rfl rfl d fun H1 q1 q2 q3 => ?_
  rw [iN_clamp h0 hi] at q1 ⊢
  refine kk H1 _ ls ⟨hh.1.upd9 ?_ q3, q2.trans hh.2.1, ?_, hh.2.2.2.1, hh.2.2.2.2.1, hh.2.2.2.2.2.1.put q2 q3 hz, hh.2.2.2.2.2.2⟩
  · refine aAt_set (f := .inl f) h0 h1 g1 g2 g3 g4 g5 g6 g7 g8 q1 ?_ ?_
    · rcases hv with rfl | rfl <;> simp [cC, uI, e1] <;> rfl
    · intro j hj
      have : ¬ ((j : Int) = i) := by omega
      simp [cC, uI, this]
  · rw [HW_set q2 g1 q1 (k2_slotsz _ _ _) q3]; exact hh.2.2.1
end RA
