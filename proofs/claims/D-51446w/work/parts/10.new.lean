set_option maxRecDepth 100000
section RN
variable {K : KT} {own mn : String} {cc : ByteArray} {rt : Option FieldType} {tb : List ExceptionTableEntry} {nL fr lo : Nat} {Y : YT} {h : AH} {n z : Nat} {pc : Nat} {lv : List (Nat × AV)} {st : List AV}
theorem r_new (X : XY K own mn cc rt tb nL fr lo Y) {i ci sl : Nat} {fs : List AV} (fa : NW own i ci sl fs) (d : decode cc pc = .ok (.new i, 3)) (hn : n + 1 ≤ kn K) (hz : z + sl ≤ kw K) (kk : G K Y (up h n (.inr (ci, fs))) (n + 1) (z + sl) (pc + 3) lv (vR (some n) :: st)) : G K Y h n z pc lv st := by
  obtain ⟨p, l, e, R, s, m, args, below, meth, c, Q⟩ := Y
  obtain ⟨hx, hb, hml, hown, hts, hr, hlk, hKN, hSH, hkz, hkn, hkw, hfr, hlo, htr, htb, hmn⟩ := X
  intro H locs ls hh
  obtain ⟨C, T, N, ty, ⟨hc, hin, -, -⟩, hty, hfs, hcl, hins, hini⟩ := fa
  have hS : va_S (fun q => kz K ≤ q) s.heap H locs := hh.2.2.2.2.2.1
  have h0 : s.heap.size ≤ H.size := hS.1
  have hHn : H.size = n := hh.2.1
  have hHz : HW H = z := hh.2.2.1
  have hH0 : HW s.heap ≤ z := hh.2.2.2.2.1.2
  have hKn := hKN.1 ci _ hc
  have hNl : N = fs.length := by have := congrArg List.length hfs; simpa using this.symm
  refine W.tight (k := n - s.heap.size) (w := z - HW s.heap) (by omega) (by omega) ?_
  refine W.newc hx hb hown (hts _ hcl) (hts _ hins) (hts _ hini) rfl d (by omega) (by omega) fun cC' kC h1 h2 h3 h4 => ?_
  have ec : K.1.1 ci = cC' := Option.some.inj (hKn.2.1.symm.trans h1)
  subst ec
  have e1 : (H.push (blank (K.1.1 ci) kC))[H.size]? = some (blank (K.1.1 ci) kC) := by simp
  have o1 : ∀ q, q < H.size → (H.push (blank (K.1.1 ci) kC))[q]? = H[q]? := fun q hq => by rw [Array.getElem?_push, if_neg (Nat.ne_of_lt hq)]
  have hsl : (blank (K.1.1 ci) kC).slots.size = sl := by simp [blank, h4]
  refine W.widen (k := R.cells) (n := R.slots) (by omega) (by omega) ?_
  have k2 := kk (H.push (blank (K.1.1 ci) kC)) locs ls ⟨?_, by rw [Array.size_push, hHn], by rw [HW_push, hHz, hsl], hn, ⟨hz, Nat.le_trans hH0 (Nat.le_add_right _ _)⟩, ⟨Nat.le_trans h0 (by rw [Array.size_push]; omega), fun q hq1 hq2 => (o1 q (by omega)).trans (hS.2.1 q hq1 hq2), hS.2.2⟩, hh.2.2.2.2.2.2⟩
  · rw [← hHn] at k2
    exact k2
  · rw [← hHn]
    refine hh.1.psh9 ?_ o1
    obtain ⟨cell, b1, b2, b3, b4⟩ := u_born ty hts hin hKn h2 e1 hty
    refine ⟨_, cell, hc, b1, b2, by rw [b3]; rfl, by rw [b3]; exact fun q => (by cases q), fun _ => ⟨b3, by rw [Option.some.inj (b1.symm.trans e1)]; exact ⟨rfl, rfl⟩⟩, hNl, fun k v hk => ?_⟩
    have hkl := (List.getElem?_eq_some_iff.mp hk).1
    rw [b4 k (by omega)]
    have h9 := congrArg (fun l => l[k]?) hfs
    simp only [List.getElem?_map, hk, Option.map_some] at h9
    rw [List.getElem?_range (by omega)] at h9
    exact congrArg some (Option.some.inj h9).symm
theorem r_newarr (X : XY K own mn cc rt tb nL fr lo Y) {atype : ArrayType} {t : Nat} {ty : FieldType} {c0 : AC} {len : Int} (ht : vwTy[t]? = some ty) (hty : newarray.typeOf atype = ty) (w : Cond.arrayClass ty ∈ lw_all) (hp : ∀ U cA, va_RA U cA ty → U.vm.findClass ("[" ++ ty.toString) = some cA) (hc0 : ∀ j, cC c0 j = defaultValue ty) (hcb : componentBytes ty ≤ 8) (d : decode cc pc = .ok (.newarray atype, 2)) (hl : 0 ≤ len ∧ len ≤ 65536) (hn : n + 1 ≤ kn K) (hz : z + len.toNat ≤ kw K) (kk : G K Y (up h n (.inl (t, len.toNat, c0))) (n + 1) (z + len.toNat) (pc + 2) lv (vR (some n) :: st)) : G K Y h n z pc lv (vI len :: st) := by
  obtain ⟨p, l, e, R, s, m, args, below, meth, c, Q⟩ := Y
  obtain ⟨hx, hb, hml, hown, hts, hr, hlk, hKN, hSH, hkz, hkn, hkw, hfr, hlo, htr, htb, hmn⟩ := X
  intro H locs ls hh
  subst hty
  have hS : va_S (fun q => kz K ≤ q) s.heap H locs := hh.2.2.2.2.2.1
  have h0 : s.heap.size ≤ H.size := hS.1
  have hHn : H.size = n := hh.2.1
  have hHz : HW H = z := hh.2.2.1
  have hH0 : HW s.heap ≤ z := hh.2.2.2.2.1.2
  have hcl : (iN len).toNatClampNeg = len.toNat := iN_clamp hl.1 (by omega)
  have hlen : len.toNat ≤ 65536 := by omega
  refine W.tight (k := n - s.heap.size) (w := z - HW s.heap) (by omega) (by omega) ?_
  refine W.newa (n := iN len) hx hb (hts _ w) rfl d rfl (by rw [iN_0, iN_lt ⟨by omega, by omega⟩ (by decide)]; omega) (by rw [hcl]; exact Nat.le_trans (Nat.mul_le_mul hlen hcb) (by decide)) (by omega) (by rw [hcl]; omega) fun cA kA comp h1 h2 h3 => ?_
  rw [hcl]
  obtain ⟨-, g2, g3⟩ := hKN.2.1 t _ ht
  have ec : K.2.1 t = cA := Option.some.inj ((hp _ _ g3).symm.trans h1)
  subst ec
  generalize hcell : ({ cls := K.2.1 t, slots := Array.replicate len.toNat (defaultValue (newarray.typeOf atype)), vm := .none } : Cell) = cell
  have hsz : cell.slots.size = len.toNat := by rw [← hcell]; simp
  have e1 : (H.push cell)[H.size]? = some cell := by simp
  have o1 : ∀ q, q < H.size → (H.push cell)[q]? = H[q]? := fun q hq => by rw [Array.getElem?_push, if_neg (Nat.ne_of_lt hq)]
  refine W.widen (k := R.cells) (n := R.slots) (by omega) (by omega) ?_
  have k2 := kk (H.push cell) locs ls ⟨?_, by rw [Array.size_push, hHn], by rw [HW_push, hHz, hsz], hn, ⟨hz, Nat.le_trans hH0 (Nat.le_add_right _ _)⟩, ⟨Nat.le_trans h0 (by rw [Array.size_push]; omega), fun q hq1 hq2 => (o1 q (by omega)).trans (hS.2.1 q hq1 hq2), hS.2.2⟩, hh.2.2.2.2.2.2⟩
  · rw [← hHn] at k2
    exact k2
  · rw [← hHn]
    refine hh.1.psh9 ?_ o1
    refine ⟨cell, e1, by rw [← hcell]; exact g2, fun _ => by rw [← hcell]; exact ⟨rfl, rfl⟩, by rw [← hcell]; exact fun k q => (by cases q), by rw [← hcell]; exact fun q => (by cases q), hsz, by omega, fun j hj => ?_⟩
    rw [hc0, ← hcell]
    simp [hj]
theorem r_anew (X : XY K own mn cc rt tb nL fr lo Y) {i t : Nat} {C : String} {len : Int} (ht : vwTy[t]? = some (.object C)) (w : Cond.classLink own i C ∈ lw_all) (w2 : Cond.arrayOver (.object C) ∈ lw_tbl) (d : decode cc pc = .ok (.anewarray i, 3)) (hl : 0 ≤ len ∧ len ≤ 65536) (hn : n + 1 ≤ kn K) (hz : z + len.toNat ≤ kw K) (kk : G K Y (up h n (.inl (t, len.toNat, .inr (.inl (fun _ => none))))) (n + 1) (z + len.toNat) (pc + 3) lv (vR (some n) :: st)) : G K Y h n z pc lv (vI len :: st) := by
  obtain ⟨p, l, e, R, s, m, args, below, meth, c, Q⟩ := Y
  obtain ⟨hx, hb, hml, hown, hts, hr, hlk, hKN, hSH, hkz, hkn, hkw, hfr, hlo, htr, htb, hmn⟩ := X
  intro H locs ls hh
  have hS : va_S (fun q => kz K ≤ q) s.heap H locs := hh.2.2.2.2.2.1
  have h0 : s.heap.size ≤ H.size := hS.1
  have hHn : H.size = n := hh.2.1
  have hHz : HW H = z := hh.2.2.1
  have hH0 : HW s.heap ≤ z := hh.2.2.2.2.1.2
  have hcl : (iN len).toNatClampNeg = len.toNat := iN_clamp hl.1 (by omega)
  have hlen : len.toNat ≤ 65536 := by omega
  refine W.tight (k := n - s.heap.size) (w := z - HW s.heap) (by omega) (by omega) ?_
  refine W.anew (n := iN len) hx hb hown (hts _ w) (va_AO.use (hKN.2.2.1 _ w2 rfl)) rfl d rfl (by rw [iN_0, iN_lt ⟨by omega, by omega⟩ (by decide)]; omega) (by rw [hcl]; omega) (by omega) (by rw [hcl]; omega) fun cA kA comp h1 h2 h3 h4 => ?_
  rw [hcl]
  obtain ⟨-, g2, kA', comp', r1, r2, r3, r4⟩ := hKN.2.1 t _ ht
  have ec : K.2.1 t = cA := Option.some.inj (r4.symm.trans h1)
  subst ec
  generalize hcell : ({ cls := K.2.1 t, slots := Array.replicate len.toNat Value.null, vm := .none } : Cell) = cell
  have hsz : cell.slots.size = len.toNat := by rw [← hcell]; simp
  have e1 : (H.push cell)[H.size]? = some cell := by simp
  have o1 : ∀ q, q < H.size → (H.push cell)[q]? = H[q]? := fun q hq => by rw [Array.getElem?_push, if_neg (Nat.ne_of_lt hq)]
  refine W.widen (k := R.cells) (n := R.slots) (by omega) (by omega) ?_
  have k2 := kk (H.push cell) locs ls ⟨?_, by rw [Array.size_push, hHn], by rw [HW_push, hHz, hsz], hn, ⟨hz, Nat.le_trans hH0 (Nat.le_add_right _ _)⟩, ⟨Nat.le_trans h0 (by rw [Array.size_push]; omega), fun q hq1 hq2 => (o1 q (by omega)).trans (hS.2.1 q hq1 hq2), hS.2.2⟩, hh.2.2.2.2.2.2⟩
  · rw [← hHn] at k2
    exact k2
  · rw [← hHn]
    refine hh.1.psh9 ?_ o1
    refine ⟨cell, e1, by rw [← hcell]; exact g2, fun _ => by rw [← hcell]; exact ⟨rfl, rfl⟩, by rw [← hcell]; exact fun k q => (by cases q), by rw [← hcell]; exact fun q => (by cases q), hsz, by omega, fun j hj => ?_⟩
    rw [← hcell]
    simp [hj, cC, va_rf]
theorem r_aastN (X : XY K own mn cc rt tb nL fr lo Y) {a t N : Nat} {f : Int → Option Nat} {i : Int} {C : String} (ht : vwTy[t]? = some (.object C)) (d : decode cc pc = .ok (.aastore, 1)) (ha : h a = some (.inl (t, N, .inr (.inl f)))) (hz : kz K ≤ a) (h0 : 0 ≤ i) (h1 : i < N) (kk : G K Y (up h a (.inl (t, N, .inr (.inl (uI f i none))))) n z (pc + 1) lv st) : G K Y h n z pc lv (vR none :: vI i :: vR (some a) :: st) := by
  obtain ⟨p, l, e, R, s, m, args, below, meth, c, Q⟩ := Y
  obtain ⟨hx, hb, hml, hown, hts, hr, hlk, hKN, hSH, hkz, hkn, hkw, hfr, hlo, htr, htb, hmn⟩ := X
  intro H locs ls hh
  obtain ⟨cell, g1, g2, g3, g4, g5, g6, g7, g8⟩ := hh.1 a _ ha
  have hi : i < 2147483648 := by omega
  have e1 : ((i.toNat : Nat) : Int) = i := Int.toNat_of_nonneg h0
  refine va_WaastN hx hb g1 (hKN.arr ht g2 g4) g5 (by rw [g6]; exact iN_in h0 h1 hi) rfl rfl d fun H1 q1 q2 q3 => ?_
  rw [iN_clamp h0 hi] at q1 ⊢
  refine kk H1 _ ls ⟨hh.1.upd9 ?_ q3, q2.trans hh.2.1, ?_, hh.2.2.2.1, hh.2.2.2.2.1, hh.2.2.2.2.2.1.put q2 q3 hz, hh.2.2.2.2.2.2⟩
  · refine aAt_set (f := .inr (.inl f)) h0 h1 g1 g2 g3 g4 g5 g6 g7 g8 q1 ?_ ?_
    · simp [cC, uI, e1, va_rf]
    · intro j hj
      have : ¬ ((j : Int) = i) := by omega
      simp [cC, uI, this]
  · rw [HW_set q2 g1 q1 (k2_slotsz _ _ _) q3]; exact hh.2.2.1
theorem r_aast (X : XY K own mn cc rt tb nL fr lo Y) {a t N v ci : Nat} {vs : List AV} {f : Int → Option Nat} {i : Int} {C : String} (ht : vwTy[t]? = some (.object C)) (ho : CO ci C) (d : decode cc pc = .ok (.aastore, 1)) (ha : h a = some (.inl (t, N, .inr (.inl f)))) (hv : h v = some (.inr (ci, vs))) (hz : kz K ≤ a) (h0 : 0 ≤ i) (h1 : i < N) (kk : G K Y (up h a (.inl (t, N, .inr (.inl (uI f i (some v)))))) n z (pc + 1) lv st) : G K Y h n z pc lv (vR (some v) :: vI i :: vR (some a) :: st) := by
  obtain ⟨p, l, e, R, s, m, args, below, meth, c, Q⟩ := Y
  obtain ⟨hx, hb, hml, hown, hts, hr, hlk, hKN, hSH, hkz, hkn, hkw, hfr, hlo, htr, htb, hmn⟩ := X
  intro H locs ls hh
  obtain ⟨cell, g1, g2, g3, g4, g5, g6, g7, g8⟩ := hh.1 a _ ha
  obtain ⟨r, cv, v0, v1, v2, v3, v4, v5, v6, v7⟩ := hh.1 v _ hv
  have hi : i < 2147483648 := by omega
  have e1 : ((i.toNat : Nat) : Int) = i := Int.toNat_of_nonneg h0
  obtain ⟨-, gt2, kA, comp, r1, r2, r3, r4⟩ := hKN.2.1 t _ ht
  have hcls := hKN.cls v0
  obtain ⟨kC, hkC, -⟩ := hcls.2
  have hak := (g3 hz).1
  obtain ⟨kcomp, hkcomp, -⟩ := Vm.findClass_spec r3
  have hasg : s.vm.assignable cv.cls comp = true := by
    rw [v2]
    obtain ⟨r', w0, w1⟩ := ho
    have er : r' = r := Option.some.inj (w0.symm.trans v0)
    subst er
    rcases w1 with w1 | w1
    · have : comp = K.1.1 ci := by
        have h9 := hcls.1
        rw [w1, r3] at h9
        exact Option.some.inj h9
      rw [this]; exact va_assign hcls
    · obtain ⟨c0, t0, f1, f2, f3⟩ := Cond.castable_spec (va_Nw.use (A := args) rfl (hKN.2.2.1 _ w1 rfl))
      cases hcls.1.symm.trans f1
      cases r3.symm.trans f2
      exact f3
  refine W.aast hx hb g1 g4 g5 (by rw [hak]; exact r1) r2 rfl hkcomp ⟨by rw [iN_0, iN_lt ⟨by omega, by omega⟩ (by decide)]; omega, by rw [g6, iN_clamp h0 hi]; omega⟩ v1 (fun q w => by rw [w] at v3; cases v3) (by rw [v2]; exact hkC) hasg rfl rfl d fun H1 q1 q2 q3 => ?_
  rw [iN_clamp h0 hi] at q1 ⊢
  refine kk H1 _ ls ⟨hh.1.upd9 ?_ q3, q2.trans hh.2.1, ?_, hh.2.2.2.1, hh.2.2.2.2.1, hh.2.2.2.2.2.1.put q2 q3 hz, hh.2.2.2.2.2.2⟩
  · refine aAt_set (f := .inr (.inl f)) h0 h1 g1 g2 g3 g4 g5 g6 g7 g8 q1 ?_ ?_
    · simp [cC, uI, e1, va_rf]
    · intro j hj
      have : ¬ ((j : Int) = i) := by omega
      simp [cC, uI, this]
  · rw [HW_set q2 g1 q1 (k2_slotsz _ _ _) q3]; exact hh.2.2.1
theorem r_castN (X : XY K own mn cc rt tb nL fr lo Y) {i : Nat} (d : decode cc pc = .ok (.checkcast i, 3)) (kk : G K Y h n z (pc + 3) lv (vR none :: st)) : G K Y h n z pc lv (vR none :: st) := by
  obtain ⟨p, l, e, R, s, m, args, below, meth, c, Q⟩ := Y
  obtain ⟨hx, hb, -⟩ := X
  intro H locs ls hh
  exact lv_castN hx hb d (kk H locs ls hh)
theorem r_cast (X : XY K own mn cc rt tb nL fr lo Y) {i a ci : Nat} {fs : List AV} {nm : String} (w : Cond.classLink own i nm ∈ lw_all) (ho : CO ci nm) (d : decode cc pc = .ok (.checkcast i, 3)) (ha : h a = some (.inr (ci, fs))) (kk : G K Y h n z (pc + 3) lv (vR (some a) :: st)) : G K Y h n z pc lv (vR (some a) :: st) := by
  obtain ⟨p, l, e, R, s, m, args, below, meth, c, Q⟩ := Y
  obtain ⟨hx, hb, hml, hown, hts, hr, hlk, hKN, hSH, hkz, hkn, hkw, hfr, hlo, htr, htb, hmn⟩ := X
  intro H locs ls hh
  obtain ⟨r, w0, w1⟩ := ho
  have hrc := hKN.recv w0 (hh.1 a _ ha)
  rcases w1 with w1 | w1
  · subst w1
    exact va_castS hx hb hown (hts _ w) (hKN.cls w0) hrc d (kk H locs ls hh)
  · exact va_castY hx hb hown (hts _ w) (hKN.2.2.1 _ w1 rfl) hrc d (kk H locs ls hh)
theorem r_instN (X : XY K own mn cc rt tb nL fr lo Y) {i : Nat} (d : decode cc pc = .ok (.instanceof i, 3)) (kk : G K Y h n z (pc + 3) lv (vI 0 :: st)) : G K Y h n z pc lv (vR none :: st) := by
  obtain ⟨p, l, e, R, s, m, args, below, meth, c, Q⟩ := Y
  obtain ⟨hx, hb, -⟩ := X
  intro H locs ls hh
  exact lv_instN hx hb d (kk H locs ls hh)
theorem r_instY (X : XY K own mn cc rt tb nL fr lo Y) {i a ci : Nat} {fs : List AV} {nm : String} (w : Cond.classLink own i nm ∈ lw_all) (ho : CO ci nm) (d : decode cc pc = .ok (.instanceof i, 3)) (ha : h a = some (.inr (ci, fs))) (kk : G K Y h n z (pc + 3) lv (vI 1 :: st)) : G K Y h n z pc lv (vR (some a) :: st) := by
  obtain ⟨p, l, e, R, s, m, args, below, meth, c, Q⟩ := Y
  obtain ⟨hx, hb, hml, hown, hts, hr, hlk, hKN, hSH, hkz, hkn, hkw, hfr, hlo, htr, htb, hmn⟩ := X
  intro H locs ls hh
  obtain ⟨r, w0, w1⟩ := ho
  have hrc := hKN.recv w0 (hh.1 a _ ha)
  rcases w1 with w1 | w1
  · subst w1
    exact va_instS hx hb hown (hts _ w) (hKN.cls w0) hrc d (kk H locs ls hh)
  · exact va_instY hx hb hown (hts _ w) (hKN.2.2.1 _ w1 rfl) hrc d (kk H locs ls hh)
theorem r_inst0 (X : XY K own mn cc rt tb nL fr lo Y) {i a ci : Nat} {fs : List AV} {nm : String} (w : Cond.classLink own i nm ∈ lw_all) (ho : CN ci nm) (d : decode cc pc = .ok (.instanceof i, 3)) (ha : h a = some (.inr (ci, fs))) (kk : G K Y h n z (pc + 3) lv (vI 0 :: st)) : G K Y h n z pc lv (vR (some a) :: st) := by
  obtain ⟨p, l, e, R, s, m, args, below, meth, c, Q⟩ := Y
  obtain ⟨hx, hb, hml, hown, hts, hr, hlk, hKN, hSH, hkz, hkn, hkw, hfr, hlo, htr, htb, hmn⟩ := X
  intro H locs ls hh
  obtain ⟨r, w0, w1⟩ := ho
  exact va_instNo hx hb hown (hts _ w) (hKN.2.2.2.1 _ w1) (hKN.recv w0 (hh.1 a _ ha)) d (kk H locs ls hh)
theorem r_gets (X : XY K own mn cc rt tb nL fr lo Y) {i j : Nat} {C nm de : String} {val : KT → Value} {v : AV} (hq : zsL[j]? = some (C, nm, de, val)) (hv : val K = cV v) (w : Cond.fieldLink own i C nm de ∈ lw_all) (d : decode cc pc = .ok (.getstatic i, 3)) (kk : G K Y h n z (pc + 3) lv (v :: st)) : G K Y h n z pc lv st := by
  obtain ⟨p, l, e, R, s, m, args, below, meth, c, Q⟩ := Y
  obtain ⟨hx, hb, hml, hown, hts, hr, hlk, hKN, hSH, hkz, hkn, hkw, hfr, hlo, htr, htb, hmn⟩ := X
  intro H locs ls hh
  have hZ := hSH.1 _ (List.mem_of_getElem? hq)
  dsimp only at hZ
  rw [hv] at hZ
  exact va_gets hx hb hZ hh.2.2.2.2.2.1 hown (hts _ w) (fun _ h9 => h9) d (kk H locs ls hh)
theorem r_ldcS (X : XY K own mn cc rt tb nL fr lo Y) {i j : Nat} {tx : String} (hq : litS[j]? = some (own, i, tx)) (d : decode cc pc = .ok (.ldc i, 2)) (kk : G K Y h n z (pc + 2) lv (vR (some (kl K j)) :: st)) : G K Y h n z pc lv st := by
  obtain ⟨p, l, e, R, s, m, args, below, meth, c, Q⟩ := Y
  obtain ⟨hx, hb, hml, hown, hts, hr, hlk, hKN, hSH, hkz, hkn, hkw, hfr, hlo, htr, htb, hmn⟩ := X
  intro H locs ls hh
  exact va_ldcS hx hb hown (hKN.2.2.2.2.2 j _ hq) d (kk H locs ls hh)
/-! the ends -/
theorem ends_ok {p : Program} {l : Launch} {e : Env} {R : Room} {s : State} {m : MethodId} {args : Array Value} {below : List Frame} {meth : Method} {c : Code} {Q : State → Prop} {H : Heap} {locs : List Loc} {ls : Array Slot} {Qv : QvT} {v : Option Value} (hh : HL K (p, l, e, R, s, m, args, below, meth, c, Q) h n z lv H locs ls) (hq : Qv v h n z) (t : State) (ht : t.heap = H) : QcP K Qv args s (.returned v) t :=
  ⟨v, h, n, z, rfl, hq, by rw [ht]; exact hh.1, by rw [ht]; exact hh.2.1, by rw [ht]; exact hh.2.2.1, hh.2.2.2.1, hh.2.2.2.2.1, by have := hh.2.2.2.2.2.1.1; have h2 := hh.2.1; rw [← h2]; exact this, fun q h1 h2 => by rw [ht]; exact hh.2.2.2.2.2.1.2.1 q h1 h2⟩
theorem r_vret (X : XY K own mn cc none tb nL fr lo Y) {Qv : QvT} {Qx : QxT} (E : YE K Y Qv Qx) (d : decode cc pc = .ok (.return_, 1)) (kk : Qv none h n z) : G K Y h n z pc lv [] := by
  obtain ⟨p, l, e, R, s, m, args, below, meth, c, Q⟩ := Y
  obtain ⟨hx, hb, hml, hown, hts, hr, hlk, hKN, hSH, hkz, hkn, hkw, hfr, hlo, htr, htb, hmn⟩ := X
  intro H locs ls hh
  subst E
  exact vx_ret (W.vret hx hb hr (fun t ht hW => ends_ok hh kk t ht) hh.2.2.2.2.2.1.2.2 d)
theorem r_iret {ty : FieldType} (X : XY K own mn cc (some ty) tb nL fr lo Y) {Qv : QvT} {Qx : QxT} {v : Int} (E : YE K Y Qv Qx) (d : decode cc pc = .ok (.ireturn, 1)) (hn : narrow ty (.int (iN v)) = .int (iN v)) (kk : Qv (some (.int (iN v))) h n z) : G K Y h n z pc lv [vI v] := by
  obtain ⟨p, l, e, R, s, m, args, below, meth, c, Q⟩ := Y
  obtain ⟨hx, hb, hml, hown, hts, hr, hlk, hKN, hSH, hkz, hkn, hkw, hfr, hlo, htr, htb, hmn⟩ := X
  intro H locs ls hh
  subst E
  exact vx_ret (W.zret hx hb hr hn (fun t ht hW => ends_ok hh kk t ht) hh.2.2.2.2.2.1.2.2 d)
theorem r_aret {ty : FieldType} (X : XY K own mn cc (some ty) tb nL fr lo Y) {Qv : QvT} {Qx : QxT} {v : Option Nat} (E : YE K Y Qv Qx) (hty : (∃ n, ty = .object n) ∨ ∃ t, ty = .array t) (d : decode cc pc = .ok (.areturn, 1)) (kk : Qv (some (va_rf v)) h n z) : G K Y h n z pc lv [vR v] := by
  obtain ⟨p, l, e, R, s, m, args, below, meth, c, Q⟩ := Y
  obtain ⟨hx, hb, hml, hown, hts, hr, hlk, hKN, hSH, hkz, hkn, hkw, hfr, hlo, htr, htb, hmn⟩ := X
  intro H locs ls hh
  subst E
  exact vx_ret (W.aret (v := va_rf v) hx hb hr hty (by cases v; exact Or.inl rfl; exact Or.inr ⟨_, rfl⟩) (fun t ht hW => ends_ok hh kk t ht) hh.2.2.2.2.2.1.2.2 d)
theorem r_lret (X : XY K own mn cc (some .long) tb nL fr lo Y) {Qv : QvT} {Qx : QxT} {v : Int64} (E : YE K Y Qv Qx) (d : decode cc pc = .ok (.lreturn, 1)) (kk : Qv (some (.long v)) h n z) : G K Y h n z pc lv [vJ v] := by
  obtain ⟨p, l, e, R, s, m, args, below, meth, c, Q⟩ := Y
  obtain ⟨hx, hb, hml, hown, hts, hr, hlk, hKN, hSH, hkz, hkn, hkw, hfr, hlo, htr, htb, hmn⟩ := X
  intro H locs ls hh
  subst E
  exact vx_ret (W.lret hx hb hr (fun t ht hW => ends_ok hh kk t ht) hh.2.2.2.2.2.1.2.2 d)
theorem r_dret (X : XY K own mn cc (some .double) tb nL fr lo Y) {Qv : QvT} {Qx : QxT} {v : UInt64} (E : YE K Y Qv Qx) (d : decode cc pc = .ok (.dreturn, 1)) (kk : Qv (some (.double v)) h n z) : G K Y h n z pc lv [vD v] := by
  obtain ⟨p, l, e, R, s, m, args, below, meth, c, Q⟩ := Y
  obtain ⟨hx, hb, hml, hown, hts, hr, hlk, hKN, hSH, hkz, hkn, hkw, hfr, hlo, htr, htb, hmn⟩ := X
  intro H locs ls hh
  subst E
  exact vx_ret (W.dret hx hb hr (fun t ht hW => ends_ok hh kk t ht) hh.2.2.2.2.2.1.2.2 d)
end RN
