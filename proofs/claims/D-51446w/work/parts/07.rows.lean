set_option maxRecDepth 100000
theorem iN_lit {n : Int} : Int32.ofInt n = iN n := rfl
theorem iN_toInt {a : Int} (h : InR a) : (iN a).toInt = a := by
  unfold iN
  rw [Int32.toInt_ofInt, show Int32.size = 4294967296 from rfl]
  exact Int.bmod_eq_of_le (by omega) (by omega)
theorem iN_of (x : Int32) : iN x.toInt = x := Int32.ofInt_toInt x
theorem InR_of (x : Int32) : InR x.toInt := by
  have h1 := Int32.le_toInt x
  have h2 := Int32.toInt_lt x
  constructor <;> omega
theorem iN_add (a b : Int) : iN a + iN b = iN (a + b) := (Int32.ofInt_add a b).symm
theorem iN_sub (a b : Int) : iN a - iN b = iN (a - b) := (Int32.ofInt_sub a b).symm
theorem iN_mul (a b : Int) : iN a * iN b = iN (a * b) := (Int32.ofInt_mul a b).symm
theorem iN_neg (a : Int) : -iN a = iN (-a) := (Int32.ofInt_neg a).symm
theorem iN_lt {a b : Int} (ha : InR a) (hb : InR b) : iN a < iN b ↔ a < b := by rw [Int32.lt_iff_toInt_lt, iN_toInt ha, iN_toInt hb]
theorem iN_le {a b : Int} (ha : InR a) (hb : InR b) : iN a ≤ iN b ↔ a ≤ b := by rw [Int32.le_iff_toInt_le, iN_toInt ha, iN_toInt hb]
theorem iN_eq {a b : Int} (ha : InR a) (hb : InR b) : iN a = iN b ↔ a = b := by rw [← Int32.toInt_inj, iN_toInt ha, iN_toInt hb]
theorem iN_0 : (0 : Int32) = iN 0 := rfl
theorem iN_nat {n : Nat} : nI n = iN (n : Int) := by unfold nI iN; exact (Int32.ofInt_eq_ofNat).symm
theorem iN_clamp {a : Int} (h0 : 0 ≤ a) (h : a < 2147483648) : (iN a).toNatClampNeg = a.toNat := by
  unfold Int32.toNatClampNeg
  rw [iN_toInt ⟨by omega, h⟩]
theorem iN_in {a : Int} {n : Nat} (h0 : 0 ≤ a) (h : a < n) (hn : a < 2147483648) : ¬ (iN a < 0 ∨ n ≤ (iN a).toNatClampNeg) := by
  rw [iN_clamp h0 hn, iN_0, iN_lt ⟨by omega, hn⟩ (by decide)]
  omega
def iand (a b : Int) : Int := (iN a &&& iN b).toInt
def ior (a b : Int) : Int := (iN a ||| iN b).toInt
def ixor (a b : Int) : Int := (iN a ^^^ iN b).toInt
def ishl (a b : Int) : Int := (iN a <<< (iN b &&& 31)).toInt
def ishr (a b : Int) : Int := (iN a >>> (iN b &&& 31)).toInt
def iushr (a b : Int) : Int := ((iN a).toUInt32 >>> ((iN b).toUInt32 &&& Int32.toUInt32 31)).toInt32.toInt
def i2b (a : Int) : Int := (iN a).toInt8.toInt32.toInt
def i2c (a : Int) : Int := ((iN a).toUInt32 % 65536).toInt32.toInt
def i2l (a : Int) : Int64 := (iN a).toInt64
def l2i (x : Int64) : Int := x.toInt32.toInt
def i2f (a : Int) : UInt32 := FP.i2f (iN a)
def i2d (a : Int) : UInt64 := FP.i2d (iN a)
def lshl (x : Int64) (b : Int) : Int64 := x <<< ((iN b).toInt64 &&& 63)
theorem iN_div {a b : Int} (ha : InR a) (hb : InR b) (h0 : 0 < b) : iN a / iN b = iN (a.tdiv b) := by
  apply Int32.toInt_inj.mp
  have e : InR (a.tdiv b) := by
    have hb' : (0:Int) < b := h0
    rcases Int.le_total 0 a with h | h
    · have h1 := Int.tdiv_nonneg h (Int.le_of_lt hb')
      have h2 := Int.tdiv_le_self b h
      exact ⟨by omega, by omega⟩
    · have h1 : (-a).tdiv b ≤ -a := Int.tdiv_le_self b (by omega)
      have h2 : 0 ≤ (-a).tdiv b := Int.tdiv_nonneg (by omega) (Int.le_of_lt hb')
      rw [Int.neg_tdiv] at h1 h2
      exact ⟨by omega, by omega⟩
  rw [Int32.toInt_div, iN_toInt ha, iN_toInt hb, iN_toInt e]
  exact Int.bmod_eq_of_le (by omega) (by omega)
theorem iN_ne0 {b : Int} (hb : InR b) (h : b ≠ 0) : ¬ iN b = 0 := by
  rw [iN_0, iN_eq hb (by decide)]; exact h
theorem iN_rem {a b : Int} (ha : InR a) (hb : InR b) (h0 : 0 < b) : iN a - iN a / iN b * iN b = iN (a.tmod b) := by
  rw [iN_div ha hb h0, iN_mul, iN_sub]
  congr 1
  have := Int.mul_tdiv_add_tmod a b
  rw [Int.mul_comm] at this
  omega
section RW
variable {K : KT} {own mn : String} {cc : ByteArray} {rt : Option FieldType} {tb : List ExceptionTableEntry} {nL fr lo : Nat} {Y : YT} {h : AH} {n z : Nat} {pc : Nat} {lv : List (Nat × AV)} {st : List AV}
theorem r_iconst (X : XY K own mn cc rt tb nL fr lo Y) {v : Int} (d : decode cc pc = .ok (.iconst v, 1)) (k : G K Y h n z (pc + 1) lv (vI v :: st)) : G K Y h n z pc lv (st) := by
  obtain ⟨p, l, e, R, s, m, args, below, meth, c, Q⟩ := Y
  obtain ⟨hx, hb, hml, hown, hts, hr, hlk, hKN, hSH, hkz, hkn, hkw, hfr, hlo, htr, htb, hmn⟩ := X
  intro H locs ls hh
  exact lv_iconst hx hb d rfl (k H locs ls hh)
theorem r_bipush (X : XY K own mn cc rt tb nL fr lo Y) {v : Int} (d : decode cc pc = .ok (.bipush v, 2)) (hv : (Int8.ofInt v).toInt32 = iN v) (k : G K Y h n z (pc + 2) lv (vI v :: st)) : G K Y h n z pc lv (st) := by
  obtain ⟨p, l, e, R, s, m, args, below, meth, c, Q⟩ := Y
  obtain ⟨hx, hb, hml, hown, hts, hr, hlk, hKN, hSH, hkz, hkn, hkw, hfr, hlo, htr, htb, hmn⟩ := X
  intro H locs ls hh
  exact lv_bipush hx hb d hv (k H locs ls hh)
theorem r_sipush (X : XY K own mn cc rt tb nL fr lo Y) {v : Int} (d : decode cc pc = .ok (.sipush v, 3)) (hv : (Int16.ofInt v).toInt32 = iN v) (k : G K Y h n z (pc + 3) lv (vI v :: st)) : G K Y h n z pc lv (st) := by
  obtain ⟨p, l, e, R, s, m, args, below, meth, c, Q⟩ := Y
  obtain ⟨hx, hb, hml, hown, hts, hr, hlk, hKN, hSH, hkz, hkn, hkw, hfr, hlo, htr, htb, hmn⟩ := X
  intro H locs ls hh
  exact lv_sipush hx hb d hv (k H locs ls hh)
theorem r_lconst (X : XY K own mn cc rt tb nL fr lo Y) {v : Fin 2} {x : Int64} (d : decode cc pc = .ok (.lconst v, 1)) (hv : Int64.ofNat (v : Nat) = x) (k : G K Y h n z (pc + 1) lv (vJ x :: st)) : G K Y h n z pc lv (st) := by
  obtain ⟨p, l, e, R, s, m, args, below, meth, c, Q⟩ := Y
  obtain ⟨hx, hb, hml, hown, hts, hr, hlk, hKN, hSH, hkz, hkn, hkw, hfr, hlo, htr, htb, hmn⟩ := X
  intro H locs ls hh
  exact lv_lconst hx hb d hv (k H locs ls hh)
theorem r_null (X : XY K own mn cc rt tb nL fr lo Y) (d : decode cc pc = .ok (.aconst_null, 1)) (k : G K Y h n z (pc + 1) lv (vR none :: st)) : G K Y h n z pc lv (st) := by
  obtain ⟨p, l, e, R, s, m, args, below, meth, c, Q⟩ := Y
  obtain ⟨hx, hb, hml, hown, hts, hr, hlk, hKN, hSH, hkz, hkn, hkw, hfr, hlo, htr, htb, hmn⟩ := X
  intro H locs ls hh
  exact lv_null hx hb d (k H locs ls hh)
theorem r_ldcI (X : XY K own mn cc rt tb nL fr lo Y) {i : Nat} {v : Int} {u : Int32} (d : decode cc pc = .ok (.ldc i, 2)) (w : (Jvm.Cond.constant own i u) ∈ lw_all) (hu : u = iN v) (k : G K Y h n z (pc + 2) lv (vI v :: st)) : G K Y h n z pc lv (st) := by
  obtain ⟨p, l, e, R, s, m, args, below, meth, c, Q⟩ := Y
  obtain ⟨hx, hb, hml, hown, hts, hr, hlk, hKN, hSH, hkz, hkn, hkw, hfr, hlo, htr, htb, hmn⟩ := X
  intro H locs ls hh
  subst hu
  exact lv_ldc hx hb hown (hts _ w) d (k H locs ls hh)
theorem r_ldcIw (X : XY K own mn cc rt tb nL fr lo Y) {i : Nat} {v : Int} {u : Int32} (d : decode cc pc = .ok (.ldc_w i, 3)) (w : (Jvm.Cond.constant own i u) ∈ lw_all) (hu : u = iN v) (k : G K Y h n z (pc + 3) lv (vI v :: st)) : G K Y h n z pc lv (st) := by
  obtain ⟨p, l, e, R, s, m, args, below, meth, c, Q⟩ := Y
  obtain ⟨hx, hb, hml, hown, hts, hr, hlk, hKN, hSH, hkz, hkn, hkw, hfr, hlo, htr, htb, hmn⟩ := X
  intro H locs ls hh
  subst hu
  exact lv_ldcw hx hb hown (hts _ w) d (k H locs ls hh)
theorem r_fconst0 (X : XY K own mn cc rt tb nL fr lo Y) (d : decode cc pc = .ok (.fconst 0, 1)) (k : G K Y h n z (pc + 1) lv (vF 0 :: st)) : G K Y h n z pc lv (st) := by
  obtain ⟨p, l, e, R, s, m, args, below, meth, c, Q⟩ := Y
  obtain ⟨hx, hb, hml, hown, hts, hr, hlk, hKN, hSH, hkz, hkn, hkw, hfr, hlo, htr, htb, hmn⟩ := X
  intro H locs ls hh
  exact lv_fconst0 hx hb d (k H locs ls hh)
theorem r_dconst1 (X : XY K own mn cc rt tb nL fr lo Y) (d : decode cc pc = .ok (.dconst 1, 1)) (k : G K Y h n z (pc + 1) lv (vD 0x3ff0000000000000 :: st)) : G K Y h n z pc lv (st) := by
  obtain ⟨p, l, e, R, s, m, args, below, meth, c, Q⟩ := Y
  obtain ⟨hx, hb, hml, hown, hts, hr, hlk, hKN, hSH, hkz, hkn, hkw, hfr, hlo, htr, htb, hmn⟩ := X
  intro H locs ls hh
  exact lv_dconst1 hx hb d (k H locs ls hh)
theorem r_iload_n (X : XY K own mn cc rt tb nL fr lo Y) {j : Fin 4} {q i : Nat} {x : Int} (d : decode cc pc = .ok (.iload_n j, 1)) (hi : (j : Nat) = i) (hq : lv[q]? = some (i, vI x)) (k : G K Y h n z (pc + 1) lv (vI x :: st)) : G K Y h n z pc lv (st) := by
  obtain ⟨p, l, e, R, s, m, args, below, meth, c, Q⟩ := Y
  obtain ⟨hx, hb, hml, hown, hts, hr, hlk, hKN, hSH, hkz, hkn, hkw, hfr, hlo, htr, htb, hmn⟩ := X
  intro H locs ls hh
  exact lv_iload_n hx hb d hi (lv_at hh.2.2.2.2.2.2 q (lvM_at hq)) (k H locs ls hh)
theorem r_iload (X : XY K own mn cc rt tb nL fr lo Y) {q i : Nat} {x : Int} (d : decode cc pc = .ok (.iload i, 2)) (hq : lv[q]? = some (i, vI x)) (k : G K Y h n z (pc + 2) lv (vI x :: st)) : G K Y h n z pc lv (st) := by
  obtain ⟨p, l, e, R, s, m, args, below, meth, c, Q⟩ := Y
  obtain ⟨hx, hb, hml, hown, hts, hr, hlk, hKN, hSH, hkz, hkn, hkw, hfr, hlo, htr, htb, hmn⟩ := X
  intro H locs ls hh
  exact lv_iload hx hb d (lv_at hh.2.2.2.2.2.2 q (lvM_at hq)) (k H locs ls hh)
theorem r_lload_n (X : XY K own mn cc rt tb nL fr lo Y) {j : Fin 4} {q i : Nat} {x : Int64} (d : decode cc pc = .ok (.lload_n j, 1)) (hi : (j : Nat) = i) (hq : lv[q]? = some (i, vJ x)) (k : G K Y h n z (pc + 1) lv (vJ x :: st)) : G K Y h n z pc lv (st) := by
  obtain ⟨p, l, e, R, s, m, args, below, meth, c, Q⟩ := Y
  obtain ⟨hx, hb, hml, hown, hts, hr, hlk, hKN, hSH, hkz, hkn, hkw, hfr, hlo, htr, htb, hmn⟩ := X
  intro H locs ls hh
  exact lv_lload_n hx hb d hi (lv_at hh.2.2.2.2.2.2 q (lvM_at hq)) (k H locs ls hh)
theorem r_lload (X : XY K own mn cc rt tb nL fr lo Y) {q i : Nat} {x : Int64} (d : decode cc pc = .ok (.lload i, 2)) (hq : lv[q]? = some (i, vJ x)) (k : G K Y h n z (pc + 2) lv (vJ x :: st)) : G K Y h n z pc lv (st) := by
  obtain ⟨p, l, e, R, s, m, args, below, meth, c, Q⟩ := Y
  obtain ⟨hx, hb, hml, hown, hts, hr, hlk, hKN, hSH, hkz, hkn, hkw, hfr, hlo, htr, htb, hmn⟩ := X
  intro H locs ls hh
  exact lv_lload hx hb d (lv_at hh.2.2.2.2.2.2 q (lvM_at hq)) (k H locs ls hh)
theorem r_fload_n (X : XY K own mn cc rt tb nL fr lo Y) {j : Fin 4} {q i : Nat} {x : UInt32} (d : decode cc pc = .ok (.fload_n j, 1)) (hi : (j : Nat) = i) (hq : lv[q]? = some (i, vF x)) (k : G K Y h n z (pc + 1) lv (vF x :: st)) : G K Y h n z pc lv (st) := by
  obtain ⟨p, l, e, R, s, m, args, below, meth, c, Q⟩ := Y
  obtain ⟨hx, hb, hml, hown, hts, hr, hlk, hKN, hSH, hkz, hkn, hkw, hfr, hlo, htr, htb, hmn⟩ := X
  intro H locs ls hh
  exact lv_fload_n hx hb d hi (lv_at hh.2.2.2.2.2.2 q (lvM_at hq)) (k H locs ls hh)
theorem r_fload (X : XY K own mn cc rt tb nL fr lo Y) {q i : Nat} {x : UInt32} (d : decode cc pc = .ok (.fload i, 2)) (hq : lv[q]? = some (i, vF x)) (k : G K Y h n z (pc + 2) lv (vF x :: st)) : G K Y h n z pc lv (st) := by
  obtain ⟨p, l, e, R, s, m, args, below, meth, c, Q⟩ := Y
  obtain ⟨hx, hb, hml, hown, hts, hr, hlk, hKN, hSH, hkz, hkn, hkw, hfr, hlo, htr, htb, hmn⟩ := X
  intro H locs ls hh
  exact lv_fload hx hb d (lv_at hh.2.2.2.2.2.2 q (lvM_at hq)) (k H locs ls hh)
theorem r_dload_n (X : XY K own mn cc rt tb nL fr lo Y) {j : Fin 4} {q i : Nat} {x : UInt64} (d : decode cc pc = .ok (.dload_n j, 1)) (hi : (j : Nat) = i) (hq : lv[q]? = some (i, vD x)) (k : G K Y h n z (pc + 1) lv (vD x :: st)) : G K Y h n z pc lv (st) := by
  obtain ⟨p, l, e, R, s, m, args, below, meth, c, Q⟩ := Y
  obtain ⟨hx, hb, hml, hown, hts, hr, hlk, hKN, hSH, hkz, hkn, hkw, hfr, hlo, htr, htb, hmn⟩ := X
  intro H locs ls hh
  exact lv_dload_n hx hb d hi (lv_at hh.2.2.2.2.2.2 q (lvM_at hq)) (k H locs ls hh)
theorem r_dload (X : XY K own mn cc rt tb nL fr lo Y) {q i : Nat} {x : UInt64} (d : decode cc pc = .ok (.dload i, 2)) (hq : lv[q]? = some (i, vD x)) (k : G K Y h n z (pc + 2) lv (vD x :: st)) : G K Y h n z pc lv (st) := by
  obtain ⟨p, l, e, R, s, m, args, below, meth, c, Q⟩ := Y
  obtain ⟨hx, hb, hml, hown, hts, hr, hlk, hKN, hSH, hkz, hkn, hkw, hfr, hlo, htr, htb, hmn⟩ := X
  intro H locs ls hh
  exact lv_dload hx hb d (lv_at hh.2.2.2.2.2.2 q (lvM_at hq)) (k H locs ls hh)
theorem r_aload_n (X : XY K own mn cc rt tb nL fr lo Y) {j : Fin 4} {q i : Nat} {x : Option Nat} (d : decode cc pc = .ok (.aload_n j, 1)) (hi : (j : Nat) = i) (hq : lv[q]? = some (i, vR x)) (k : G K Y h n z (pc + 1) lv (vR x :: st)) : G K Y h n z pc lv (st) := by
  obtain ⟨p, l, e, R, s, m, args, below, meth, c, Q⟩ := Y
  obtain ⟨hx, hb, hml, hown, hts, hr, hlk, hKN, hSH, hkz, hkn, hkw, hfr, hlo, htr, htb, hmn⟩ := X
  intro H locs ls hh
  cases x
  · exact lv_aload_nN hx hb d hi (lv_at hh.2.2.2.2.2.2 q (lvM_at hq)) (k H locs ls hh)
  · exact lv_aload_n hx hb d hi (lv_at hh.2.2.2.2.2.2 q (lvM_at hq)) (k H locs ls hh)
theorem r_aload (X : XY K own mn cc rt tb nL fr lo Y) {q i : Nat} {x : Option Nat} (d : decode cc pc = .ok (.aload i, 2)) (hq : lv[q]? = some (i, vR x)) (k : G K Y h n z (pc + 2) lv (vR x :: st)) : G K Y h n z pc lv (st) := by
  obtain ⟨p, l, e, R, s, m, args, below, meth, c, Q⟩ := Y
  obtain ⟨hx, hb, hml, hown, hts, hr, hlk, hKN, hSH, hkz, hkn, hkw, hfr, hlo, htr, htb, hmn⟩ := X
  intro H locs ls hh
  cases x
  · exact lv_aloadN hx hb d (lv_at hh.2.2.2.2.2.2 q (lvM_at hq)) (k H locs ls hh)
  · exact lv_aload hx hb d (lv_at hh.2.2.2.2.2.2 q (lvM_at hq)) (k H locs ls hh)
theorem r_istore_n (X : XY K own mn cc rt tb nL fr lo Y) {j : Fin 4} {i : Nat} {x : Int} {lv1 : List (Nat × AV)} (d : decode cc pc = .ok (.istore_n j, 1)) (hi : (j : Nat) = i) (hn : i < nL) (hl : (i, vI x) :: lv.filter (fun q => !(q.1 == i) && !(q.1 + 1 == i && cat q.2 == 2)) = lv1) (k : G K Y h n z (pc + 1) lv1 (st)) : G K Y h n z pc lv (vI x :: st) := by
  obtain ⟨p, l, e, R, s, m, args, below, meth, c, Q⟩ := Y
  obtain ⟨hx, hb, hml, hown, hts, hr, hlk, hKN, hSH, hkz, hkn, hkw, hfr, hlo, htr, htb, hmn⟩ := X
  intro H locs ls hh
  subst hl
  refine lv_istore_n (lv' := lvM ((i, vI x) :: lv.filter (fun q => !(q.1 == i) && !(q.1 + 1 == i && cat q.2 == 2)))) hx hb d hi hh.2.2.2.2.2.2 (by show _ < c.maxLocals; rw [hml]; exact hn) ?_ (fun ls hl => k H locs ls ⟨hh.1, hh.2.1, hh.2.2.1, hh.2.2.2.1, hh.2.2.2.2.1, hh.2.2.2.2.2.1, hl⟩)
  show _ = (i, cV (vI x)) :: lvM _
  rw [← lvM_filter1]; rfl
theorem r_istore (X : XY K own mn cc rt tb nL fr lo Y) {i : Nat} {x : Int} {lv1 : List (Nat × AV)} (d : decode cc pc = .ok (.istore i, 2)) (hn : i < nL) (hl : (i, vI x) :: lv.filter (fun q => !(q.1 == i) && !(q.1 + 1 == i && cat q.2 == 2)) = lv1) (k : G K Y h n z (pc + 2) lv1 (st)) : G K Y h n z pc lv (vI x :: st) := by
  obtain ⟨p, l, e, R, s, m, args, below, meth, c, Q⟩ := Y
  obtain ⟨hx, hb, hml, hown, hts, hr, hlk, hKN, hSH, hkz, hkn, hkw, hfr, hlo, htr, htb, hmn⟩ := X
  intro H locs ls hh
  subst hl
  refine lv_istore (lv' := lvM ((i, vI x) :: lv.filter (fun q => !(q.1 == i) && !(q.1 + 1 == i && cat q.2 == 2)))) hx hb d hh.2.2.2.2.2.2 (by show _ < c.maxLocals; rw [hml]; exact hn) ?_ (fun ls hl => k H locs ls ⟨hh.1, hh.2.1, hh.2.2.1, hh.2.2.2.1, hh.2.2.2.2.1, hh.2.2.2.2.2.1, hl⟩)
  show _ = (i, cV (vI x)) :: lvM _
  rw [← lvM_filter1]; rfl
theorem r_fstore_n (X : XY K own mn cc rt tb nL fr lo Y) {j : Fin 4} {i : Nat} {x : UInt32} {lv1 : List (Nat × AV)} (d : decode cc pc = .ok (.fstore_n j, 1)) (hi : (j : Nat) = i) (hn : i < nL) (hl : (i, vF x) :: lv.filter (fun q => !(q.1 == i) && !(q.1 + 1 == i && cat q.2 == 2)) = lv1) (k : G K Y h n z (pc + 1) lv1 (st)) : G K Y h n z pc lv (vF x :: st) := by
  obtain ⟨p, l, e, R, s, m, args, below, meth, c, Q⟩ := Y
  obtain ⟨hx, hb, hml, hown, hts, hr, hlk, hKN, hSH, hkz, hkn, hkw, hfr, hlo, htr, htb, hmn⟩ := X
  intro H locs ls hh
  subst hl
  refine lv_fstore_n (lv' := lvM ((i, vF x) :: lv.filter (fun q => !(q.1 == i) && !(q.1 + 1 == i && cat q.2 == 2)))) hx hb d hi hh.2.2.2.2.2.2 (by show _ < c.maxLocals; rw [hml]; exact hn) ?_ (fun ls hl => k H locs ls ⟨hh.1, hh.2.1, hh.2.2.1, hh.2.2.2.1, hh.2.2.2.2.1, hh.2.2.2.2.2.1, hl⟩)
  show _ = (i, cV (vF x)) :: lvM _
  rw [← lvM_filter1]; rfl
theorem r_fstore (X : XY K own mn cc rt tb nL fr lo Y) {i : Nat} {x : UInt32} {lv1 : List (Nat × AV)} (d : decode cc pc = .ok (.fstore i, 2)) (hn : i < nL) (hl : (i, vF x) :: lv.filter (fun q => !(q.1 == i) && !(q.1 + 1 == i && cat q.2 == 2)) = lv1) (k : G K Y h n z (pc + 2) lv1 (st)) : G K Y h n z pc lv (vF x :: st) := by
  obtain ⟨p, l, e, R, s, m, args, below, meth, c, Q⟩ := Y
  obtain ⟨hx, hb, hml, hown, hts, hr, hlk, hKN, hSH, hkz, hkn, hkw, hfr, hlo, htr, htb, hmn⟩ := X
  intro H locs ls hh
  subst hl
  refine lv_fstore (lv' := lvM ((i, vF x) :: lv.filter (fun q => !(q.1 == i) && !(q.1 + 1 == i && cat q.2 == 2)))) hx hb d hh.2.2.2.2.2.2 (by show _ < c.maxLocals; rw [hml]; exact hn) ?_ (fun ls hl => k H locs ls ⟨hh.1, hh.2.1, hh.2.2.1, hh.2.2.2.1, hh.2.2.2.2.1, hh.2.2.2.2.2.1, hl⟩)
  show _ = (i, cV (vF x)) :: lvM _
  rw [← lvM_filter1]; rfl
theorem r_lstore_n (X : XY K own mn cc rt tb nL fr lo Y) {j : Fin 4} {i : Nat} {x : Int64} {lv1 : List (Nat × AV)} (d : decode cc pc = .ok (.lstore_n j, 1)) (hi : (j : Nat) = i) (hn : i + 1 < nL) (hl : (i, vJ x) :: lv.filter (fun q => !(q.1 == i) && (!(q.1 == i + 1) && !(q.1 + 1 == i && cat q.2 == 2))) = lv1) (k : G K Y h n z (pc + 1) lv1 (st)) : G K Y h n z pc lv (vJ x :: st) := by
  obtain ⟨p, l, e, R, s, m, args, below, meth, c, Q⟩ := Y
  obtain ⟨hx, hb, hml, hown, hts, hr, hlk, hKN, hSH, hkz, hkn, hkw, hfr, hlo, htr, htb, hmn⟩ := X
  intro H locs ls hh
  subst hl
  refine lv_lstore_n (lv' := lvM ((i, vJ x) :: lv.filter (fun q => !(q.1 == i) && (!(q.1 == i + 1) && !(q.1 + 1 == i && cat q.2 == 2))))) hx hb d hi hh.2.2.2.2.2.2 (by show _ < c.maxLocals; rw [hml]; exact hn) ?_ (fun ls hl => k H locs ls ⟨hh.1, hh.2.1, hh.2.2.1, hh.2.2.2.1, hh.2.2.2.2.1, hh.2.2.2.2.2.1, hl⟩)
  show _ = (i, cV (vJ x)) :: lvM _
  rw [← lvM_filter2]; rfl
theorem r_lstore (X : XY K own mn cc rt tb nL fr lo Y) {i : Nat} {x : Int64} {lv1 : List (Nat × AV)} (d : decode cc pc = .ok (.lstore i, 2)) (hn : i + 1 < nL) (hl : (i, vJ x) :: lv.filter (fun q => !(q.1 == i) && (!(q.1 == i + 1) && !(q.1 + 1 == i && cat q.2 == 2))) = lv1) (k : G K Y h n z (pc + 2) lv1 (st)) : G K Y h n z pc lv (vJ x :: st) := by
  obtain ⟨p, l, e, R, s, m, args, below, meth, c, Q⟩ := Y
  obtain ⟨hx, hb, hml, hown, hts, hr, hlk, hKN, hSH, hkz, hkn, hkw, hfr, hlo, htr, htb, hmn⟩ := X
  intro H locs ls hh
  subst hl
  refine lv_lstore (lv' := lvM ((i, vJ x) :: lv.filter (fun q => !(q.1 == i) && (!(q.1 == i + 1) && !(q.1 + 1 == i && cat q.2 == 2))))) hx hb d hh.2.2.2.2.2.2 (by show _ < c.maxLocals; rw [hml]; exact hn) ?_ (fun ls hl => k H locs ls ⟨hh.1, hh.2.1, hh.2.2.1, hh.2.2.2.1, hh.2.2.2.2.1, hh.2.2.2.2.2.1, hl⟩)
  show _ = (i, cV (vJ x)) :: lvM _
  rw [← lvM_filter2]; rfl
theorem r_dstore_n (X : XY K own mn cc rt tb nL fr lo Y) {j : Fin 4} {i : Nat} {x : UInt64} {lv1 : List (Nat × AV)} (d : decode cc pc = .ok (.dstore_n j, 1)) (hi : (j : Nat) = i) (hn : i + 1 < nL) (hl : (i, vD x) :: lv.filter (fun q => !(q.1 == i) && (!(q.1 == i + 1) && !(q.1 + 1 == i && cat q.2 == 2))) = lv1) (k : G K Y h n z (pc + 1) lv1 (st)) : G K Y h n z pc lv (vD x :: st) := by
  obtain ⟨p, l, e, R, s, m, args, below, meth, c, Q⟩ := Y
  obtain ⟨hx, hb, hml, hown, hts, hr, hlk, hKN, hSH, hkz, hkn, hkw, hfr, hlo, htr, htb, hmn⟩ := X
  intro H locs ls hh
  subst hl
  refine lv_dstore_n (lv' := lvM ((i, vD x) :: lv.filter (fun q => !(q.1 == i) && (!(q.1 == i + 1) && !(q.1 + 1 == i && cat q.2 == 2))))) hx hb d hi hh.2.2.2.2.2.2 (by show _ < c.maxLocals; rw [hml]; exact hn) ?_ (fun ls hl => k H locs ls ⟨hh.1, hh.2.1, hh.2.2.1, hh.2.2.2.1, hh.2.2.2.2.1, hh.2.2.2.2.2.1, hl⟩)
  show _ = (i, cV (vD x)) :: lvM _
  rw [← lvM_filter2]; rfl
theorem r_dstore (X : XY K own mn cc rt tb nL fr lo Y) {i : Nat} {x : UInt64} {lv1 : List (Nat × AV)} (d : decode cc pc = .ok (.dstore i, 2)) (hn : i + 1 < nL) (hl : (i, vD x) :: lv.filter (fun q => !(q.1 == i) && (!(q.1 == i + 1) && !(q.1 + 1 == i && cat q.2 == 2))) = lv1) (k : G K Y h n z (pc + 2) lv1 (st)) : G K Y h n z pc lv (vD x :: st) := by
  obtain ⟨p, l, e, R, s, m, args, below, meth, c, Q⟩ := Y
  obtain ⟨hx, hb, hml, hown, hts, hr, hlk, hKN, hSH, hkz, hkn, hkw, hfr, hlo, htr, htb, hmn⟩ := X
  intro H locs ls hh
  subst hl
  refine lv_dstore (lv' := lvM ((i, vD x) :: lv.filter (fun q => !(q.1 == i) && (!(q.1 == i + 1) && !(q.1 + 1 == i && cat q.2 == 2))))) hx hb d hh.2.2.2.2.2.2 (by show _ < c.maxLocals; rw [hml]; exact hn) ?_ (fun ls hl => k H locs ls ⟨hh.1, hh.2.1, hh.2.2.1, hh.2.2.2.1, hh.2.2.2.2.1, hh.2.2.2.2.2.1, hl⟩)
  show _ = (i, cV (vD x)) :: lvM _
  rw [← lvM_filter2]; rfl
theorem r_astore_n (X : XY K own mn cc rt tb nL fr lo Y) {j : Fin 4} {i : Nat} {x : Option Nat} {lv1 : List (Nat × AV)} (d : decode cc pc = .ok (.astore_n j, 1)) (hi : (j : Nat) = i) (hn : i < nL) (hl : (i, vR x) :: lv.filter (fun q => !(q.1 == i) && !(q.1 + 1 == i && cat q.2 == 2)) = lv1) (k : G K Y h n z (pc + 1) lv1 (st)) : G K Y h n z pc lv (vR x :: st) := by
  obtain ⟨p, l, e, R, s, m, args, below, meth, c, Q⟩ := Y
  obtain ⟨hx, hb, hml, hown, hts, hr, hlk, hKN, hSH, hkz, hkn, hkw, hfr, hlo, htr, htb, hmn⟩ := X
  intro H locs ls hh
  subst hl
  cases x
  · refine lv_astore_nN (lv' := lvM ((i, vR none) :: lv.filter (fun q => !(q.1 == i) && !(q.1 + 1 == i && cat q.2 == 2)))) hx hb d hi hh.2.2.2.2.2.2 (by show _ < c.maxLocals; rw [hml]; exact hn) ?_ (fun ls hl => k H locs ls ⟨hh.1, hh.2.1, hh.2.2.1, hh.2.2.2.1, hh.2.2.2.2.1, hh.2.2.2.2.2.1, hl⟩)
    show _ = (i, cV (vR _)) :: lvM _
    rw [← lvM_filter1]; rfl
  · refine lv_astore_n (lv' := lvM ((i, vR (some _)) :: lv.filter (fun q => !(q.1 == i) && !(q.1 + 1 == i && cat q.2 == 2)))) hx hb d hi hh.2.2.2.2.2.2 (by show _ < c.maxLocals; rw [hml]; exact hn) ?_ (fun ls hl => k H locs ls ⟨hh.1, hh.2.1, hh.2.2.1, hh.2.2.2.1, hh.2.2.2.2.1, hh.2.2.2.2.2.1, hl⟩)
    show _ = (i, cV (vR _)) :: lvM _
    rw [← lvM_filter1]; rfl
theorem r_astore (X : XY K own mn cc rt tb nL fr lo Y) {i : Nat} {x : Option Nat} {lv1 : List (Nat × AV)} (d : decode cc pc = .ok (.astore i, 2)) (hn : i < nL) (hl : (i, vR x) :: lv.filter (fun q => !(q.1 == i) && !(q.1 + 1 == i && cat q.2 == 2)) = lv1) (k : G K Y h n z (pc + 2) lv1 (st)) : G K Y h n z pc lv (vR x :: st) := by
  obtain ⟨p, l, e, R, s, m, args, below, meth, c, Q⟩ := Y
  obtain ⟨hx, hb, hml, hown, hts, hr, hlk, hKN, hSH, hkz, hkn, hkw, hfr, hlo, htr, htb, hmn⟩ := X
  intro H locs ls hh
  subst hl
  cases x
  · refine lv_astoreN (lv' := lvM ((i, vR none) :: lv.filter (fun q => !(q.1 == i) && !(q.1 + 1 == i && cat q.2 == 2)))) hx hb d hh.2.2.2.2.2.2 (by show _ < c.maxLocals; rw [hml]; exact hn) ?_ (fun ls hl => k H locs ls ⟨hh.1, hh.2.1, hh.2.2.1, hh.2.2.2.1, hh.2.2.2.2.1, hh.2.2.2.2.2.1, hl⟩)
    show _ = (i, cV (vR _)) :: lvM _
    rw [← lvM_filter1]; rfl
  · refine lv_astore (lv' := lvM ((i, vR (some _)) :: lv.filter (fun q => !(q.1 == i) && !(q.1 + 1 == i && cat q.2 == 2)))) hx hb d hh.2.2.2.2.2.2 (by show _ < c.maxLocals; rw [hml]; exact hn) ?_ (fun ls hl => k H locs ls ⟨hh.1, hh.2.1, hh.2.2.1, hh.2.2.2.1, hh.2.2.2.2.1, hh.2.2.2.2.2.1, hl⟩)
    show _ = (i, cV (vR _)) :: lvM _
    rw [← lvM_filter1]; rfl
theorem r_iinc (X : XY K own mn cc rt tb nL fr lo Y) {i q : Nat} {w x : Int} {lv1 : List (Nat × AV)} (d : decode cc pc = .ok (.iinc i w, 3)) (hq : lv[q]? = some (i, vI x)) (hn : i < nL) (hl : (i, vI (x + w)) :: lv.filter (fun q => !(q.1 == i) && !(q.1 + 1 == i && cat q.2 == 2)) = lv1) (k : G K Y h n z (pc + 3) lv1 (st)) : G K Y h n z pc lv (st) := by
  obtain ⟨p, l, e, R, s, m, args, below, meth, c, Q⟩ := Y
  obtain ⟨hx, hb, hml, hown, hts, hr, hlk, hKN, hSH, hkz, hkn, hkw, hfr, hlo, htr, htb, hmn⟩ := X
  intro H locs ls hh
  subst hl
  refine lv_iinc (v := iN (x + w)) (lv' := lvM ((i, vI (x + w)) :: lv.filter (fun q => !(q.1 == i) && !(q.1 + 1 == i && cat q.2 == 2)))) hx hb d hh.2.2.2.2.2.2 (lvM_at hq) (iN_add x w) (by show _ < c.maxLocals; rw [hml]; exact hn) ?_ (fun ls hl => k H locs ls ⟨hh.1, hh.2.1, hh.2.2.1, hh.2.2.2.1, hh.2.2.2.2.1, hh.2.2.2.2.2.1, hl⟩)
  show _ = (i, cV (vI _)) :: lvM _
  rw [← lvM_filter1]; rfl
theorem r_iadd (X : XY K own mn cc rt tb nL fr lo Y) {x y : Int} (d : decode cc pc = .ok (.iadd, 1)) (k : G K Y h n z (pc + 1) lv (vI (x + y) :: st)) : G K Y h n z pc lv (vI y :: vI x :: st) := by
  obtain ⟨p, l, e, R, s, m, args, below, meth, c, Q⟩ := Y
  obtain ⟨hx, hb, hml, hown, hts, hr, hlk, hKN, hSH, hkz, hkn, hkw, hfr, hlo, htr, htb, hmn⟩ := X
  intro H locs ls hh
  refine lv_iadd hx hb d ?_
  rw [iN_add]
  exact k H locs ls hh
theorem r_isub (X : XY K own mn cc rt tb nL fr lo Y) {x y : Int} (d : decode cc pc = .ok (.isub, 1)) (k : G K Y h n z (pc + 1) lv (vI (x - y) :: st)) : G K Y h n z pc lv (vI y :: vI x :: st) := by
  obtain ⟨p, l, e, R, s, m, args, below, meth, c, Q⟩ := Y
  obtain ⟨hx, hb, hml, hown, hts, hr, hlk, hKN, hSH, hkz, hkn, hkw, hfr, hlo, htr, htb, hmn⟩ := X
  intro H locs ls hh
  refine lv_isub hx hb d ?_
  rw [iN_sub]
  exact k H locs ls hh
theorem r_imul (X : XY K own mn cc rt tb nL fr lo Y) {x y : Int} (d : decode cc pc = .ok (.imul, 1)) (k : G K Y h n z (pc + 1) lv (vI (x * y) :: st)) : G K Y h n z pc lv (vI y :: vI x :: st) := by
  obtain ⟨p, l, e, R, s, m, args, below, meth, c, Q⟩ := Y
  obtain ⟨hx, hb, hml, hown, hts, hr, hlk, hKN, hSH, hkz, hkn, hkw, hfr, hlo, htr, htb, hmn⟩ := X
  intro H locs ls hh
  refine lv_imul hx hb d ?_
  rw [iN_mul]
  exact k H locs ls hh
theorem r_iand (X : XY K own mn cc rt tb nL fr lo Y) {x y : Int} (d : decode cc pc = .ok (.iand, 1)) (k : G K Y h n z (pc + 1) lv (vI (iand x y) :: st)) : G K Y h n z pc lv (vI y :: vI x :: st) := by
  obtain ⟨p, l, e, R, s, m, args, below, meth, c, Q⟩ := Y
  obtain ⟨hx, hb, hml, hown, hts, hr, hlk, hKN, hSH, hkz, hkn, hkw, hfr, hlo, htr, htb, hmn⟩ := X
  intro H locs ls hh
  refine lv_iand hx hb d ?_
  have k1 := k H locs ls hh
  simp only [List.map_cons, cV, iand, iN_of] at k1
  exact k1
theorem r_ior (X : XY K own mn cc rt tb nL fr lo Y) {x y : Int} (d : decode cc pc = .ok (.ior, 1)) (k : G K Y h n z (pc + 1) lv (vI (ior x y) :: st)) : G K Y h n z pc lv (vI y :: vI x :: st) := by
  obtain ⟨p, l, e, R, s, m, args, below, meth, c, Q⟩ := Y
  obtain ⟨hx, hb, hml, hown, hts, hr, hlk, hKN, hSH, hkz, hkn, hkw, hfr, hlo, htr, htb, hmn⟩ := X
  intro H locs ls hh
  refine lv_ior hx hb d ?_
  have k1 := k H locs ls hh
  simp only [List.map_cons, cV, ior, iN_of] at k1
  exact k1
theorem r_ixor (X : XY K own mn cc rt tb nL fr lo Y) {x y : Int} (d : decode cc pc = .ok (.ixor, 1)) (k : G K Y h n z (pc + 1) lv (vI (ixor x y) :: st)) : G K Y h n z pc lv (vI y :: vI x :: st) := by
  obtain ⟨p, l, e, R, s, m, args, below, meth, c, Q⟩ := Y
  obtain ⟨hx, hb, hml, hown, hts, hr, hlk, hKN, hSH, hkz, hkn, hkw, hfr, hlo, htr, htb, hmn⟩ := X
  intro H locs ls hh
  refine lv_ixor hx hb d ?_
  have k1 := k H locs ls hh
  simp only [List.map_cons, cV, ixor, iN_of] at k1
  exact k1
theorem r_ishl (X : XY K own mn cc rt tb nL fr lo Y) {x y : Int} (d : decode cc pc = .ok (.ishl, 1)) (k : G K Y h n z (pc + 1) lv (vI (ishl x y) :: st)) : G K Y h n z pc lv (vI y :: vI x :: st) := by
  obtain ⟨p, l, e, R, s, m, args, below, meth, c, Q⟩ := Y
  obtain ⟨hx, hb, hml, hown, hts, hr, hlk, hKN, hSH, hkz, hkn, hkw, hfr, hlo, htr, htb, hmn⟩ := X
  intro H locs ls hh
  refine lv_ishl hx hb d ?_
  have k1 := k H locs ls hh
  simp only [List.map_cons, cV, ishl, iN_of] at k1
  exact k1
theorem r_ishr (X : XY K own mn cc rt tb nL fr lo Y) {x y : Int} (d : decode cc pc = .ok (.ishr, 1)) (k : G K Y h n z (pc + 1) lv (vI (ishr x y) :: st)) : G K Y h n z pc lv (vI y :: vI x :: st) := by
  obtain ⟨p, l, e, R, s, m, args, below, meth, c, Q⟩ := Y
  obtain ⟨hx, hb, hml, hown, hts, hr, hlk, hKN, hSH, hkz, hkn, hkw, hfr, hlo, htr, htb, hmn⟩ := X
  intro H locs ls hh
  refine lv_ishr hx hb d ?_
  have k1 := k H locs ls hh
  simp only [List.map_cons, cV, ishr, iN_of] at k1
  exact k1
theorem r_iushr (X : XY K own mn cc rt tb nL fr lo Y) {x y : Int} (d : decode cc pc = .ok (.iushr, 1)) (k : G K Y h n z (pc + 1) lv (vI (iushr x y) :: st)) : G K Y h n z pc lv (vI y :: vI x :: st) := by
  obtain ⟨p, l, e, R, s, m, args, below, meth, c, Q⟩ := Y
  obtain ⟨hx, hb, hml, hown, hts, hr, hlk, hKN, hSH, hkz, hkn, hkw, hfr, hlo, htr, htb, hmn⟩ := X
  intro H locs ls hh
  refine lv_iushr hx hb d rfl ?_
  have k1 := k H locs ls hh
  simp only [List.map_cons, cV, iushr, iN_of] at k1
  exact k1
theorem r_ineg (X : XY K own mn cc rt tb nL fr lo Y) {x : Int} (d : decode cc pc = .ok (.ineg, 1)) (k : G K Y h n z (pc + 1) lv (vI (-x) :: st)) : G K Y h n z pc lv (vI x :: st) := by
  obtain ⟨p, l, e, R, s, m, args, below, meth, c, Q⟩ := Y
  obtain ⟨hx, hb, hml, hown, hts, hr, hlk, hKN, hSH, hkz, hkn, hkw, hfr, hlo, htr, htb, hmn⟩ := X
  intro H locs ls hh
  refine lv_ineg hx hb d ?_
  rw [iN_neg]
  exact k H locs ls hh
theorem r_idiv (X : XY K own mn cc rt tb nL fr lo Y) {x y : Int} (d : decode cc pc = .ok (.idiv, 1)) (h0 : (InR x ∧ InR y) ∧ 0 < y) (k : G K Y h n z (pc + 1) lv (vI (x.tdiv y) :: st)) : G K Y h n z pc lv (vI y :: vI x :: st) := by
  obtain ⟨p, l, e, R, s, m, args, below, meth, c, Q⟩ := Y
  obtain ⟨hx, hb, hml, hown, hts, hr, hlk, hKN, hSH, hkz, hkn, hkw, hfr, hlo, htr, htb, hmn⟩ := X
  intro H locs ls hh
  refine lv_idiv hx hb d (iN_ne0 h0.1.2 (by omega)) ?_
  rw [iN_div h0.1.1 h0.1.2 h0.2]
  exact k H locs ls hh
theorem r_irem (X : XY K own mn cc rt tb nL fr lo Y) {x y : Int} (d : decode cc pc = .ok (.irem, 1)) (h0 : (InR x ∧ InR y) ∧ 0 < y) (k : G K Y h n z (pc + 1) lv (vI (x.tmod y) :: st)) : G K Y h n z pc lv (vI y :: vI x :: st) := by
  obtain ⟨p, l, e, R, s, m, args, below, meth, c, Q⟩ := Y
  obtain ⟨hx, hb, hml, hown, hts, hr, hlk, hKN, hSH, hkz, hkn, hkw, hfr, hlo, htr, htb, hmn⟩ := X
  intro H locs ls hh
  refine lv_irem hx hb d (iN_ne0 h0.1.2 (by omega)) ?_
  rw [iN_rem h0.1.1 h0.1.2 h0.2]
  exact k H locs ls hh
theorem r_i2b (X : XY K own mn cc rt tb nL fr lo Y) {x : Int} (d : decode cc pc = .ok (.i2b, 1)) (k : G K Y h n z (pc + 1) lv (vI (i2b x) :: st)) : G K Y h n z pc lv (vI x :: st) := by
  obtain ⟨p, l, e, R, s, m, args, below, meth, c, Q⟩ := Y
  obtain ⟨hx, hb, hml, hown, hts, hr, hlk, hKN, hSH, hkz, hkn, hkw, hfr, hlo, htr, htb, hmn⟩ := X
  intro H locs ls hh
  refine lv_i2b hx hb d rfl ?_
  have k1 := k H locs ls hh
  simp only [List.map_cons, cV, i2b, iN_of] at k1
  exact k1
theorem r_i2c (X : XY K own mn cc rt tb nL fr lo Y) {x : Int} (d : decode cc pc = .ok (.i2c, 1)) (k : G K Y h n z (pc + 1) lv (vI (i2c x) :: st)) : G K Y h n z pc lv (vI x :: st) := by
  obtain ⟨p, l, e, R, s, m, args, below, meth, c, Q⟩ := Y
  obtain ⟨hx, hb, hml, hown, hts, hr, hlk, hKN, hSH, hkz, hkn, hkw, hfr, hlo, htr, htb, hmn⟩ := X
  intro H locs ls hh
  refine lv_i2c hx hb d rfl ?_
  have k1 := k H locs ls hh
  simp only [List.map_cons, cV, i2c, iN_of] at k1
  exact k1
theorem r_i2l (X : XY K own mn cc rt tb nL fr lo Y) {x : Int} (d : decode cc pc = .ok (.i2l, 1)) (k : G K Y h n z (pc + 1) lv (vJ (i2l x) :: st)) : G K Y h n z pc lv (vI x :: st) := by
  obtain ⟨p, l, e, R, s, m, args, below, meth, c, Q⟩ := Y
  obtain ⟨hx, hb, hml, hown, hts, hr, hlk, hKN, hSH, hkz, hkn, hkw, hfr, hlo, htr, htb, hmn⟩ := X
  intro H locs ls hh
  exact lv_i2l hx hb d rfl (k H locs ls hh)
theorem r_l2i (X : XY K own mn cc rt tb nL fr lo Y) {x : Int64} (d : decode cc pc = .ok (.l2i, 1)) (k : G K Y h n z (pc + 1) lv (vI (l2i x) :: st)) : G K Y h n z pc lv (vJ x :: st) := by
  obtain ⟨p, l, e, R, s, m, args, below, meth, c, Q⟩ := Y
  obtain ⟨hx, hb, hml, hown, hts, hr, hlk, hKN, hSH, hkz, hkn, hkw, hfr, hlo, htr, htb, hmn⟩ := X
  intro H locs ls hh
  refine lv_l2i hx hb d rfl ?_
  have k1 := k H locs ls hh
  simp only [List.map_cons, cV, l2i, iN_of] at k1
  exact k1
theorem r_ladd (X : XY K own mn cc rt tb nL fr lo Y) {x y : Int64} (d : decode cc pc = .ok (.ladd, 1)) (k : G K Y h n z (pc + 1) lv (vJ (x + y) :: st)) : G K Y h n z pc lv (vJ y :: vJ x :: st) := by
  obtain ⟨p, l, e, R, s, m, args, below, meth, c, Q⟩ := Y
  obtain ⟨hx, hb, hml, hown, hts, hr, hlk, hKN, hSH, hkz, hkn, hkw, hfr, hlo, htr, htb, hmn⟩ := X
  intro H locs ls hh
  exact lv_ladd hx hb d (k H locs ls hh)
theorem r_lor (X : XY K own mn cc rt tb nL fr lo Y) {x y : Int64} (d : decode cc pc = .ok (.lor, 1)) (k : G K Y h n z (pc + 1) lv (vJ (x ||| y) :: st)) : G K Y h n z pc lv (vJ y :: vJ x :: st) := by
  obtain ⟨p, l, e, R, s, m, args, below, meth, c, Q⟩ := Y
  obtain ⟨hx, hb, hml, hown, hts, hr, hlk, hKN, hSH, hkz, hkn, hkw, hfr, hlo, htr, htb, hmn⟩ := X
  intro H locs ls hh
  exact lv_lor hx hb d (k H locs ls hh)
theorem r_land (X : XY K own mn cc rt tb nL fr lo Y) {x y : Int64} (d : decode cc pc = .ok (.land, 1)) (k : G K Y h n z (pc + 1) lv (vJ (x &&& y) :: st)) : G K Y h n z pc lv (vJ y :: vJ x :: st) := by
  obtain ⟨p, l, e, R, s, m, args, below, meth, c, Q⟩ := Y
  obtain ⟨hx, hb, hml, hown, hts, hr, hlk, hKN, hSH, hkz, hkn, hkw, hfr, hlo, htr, htb, hmn⟩ := X
  intro H locs ls hh
  exact lv_land hx hb d (k H locs ls hh)
theorem r_lsub (X : XY K own mn cc rt tb nL fr lo Y) {x y : Int64} (d : decode cc pc = .ok (.lsub, 1)) (k : G K Y h n z (pc + 1) lv (vJ (x - y) :: st)) : G K Y h n z pc lv (vJ y :: vJ x :: st) := by
  obtain ⟨p, l, e, R, s, m, args, below, meth, c, Q⟩ := Y
  obtain ⟨hx, hb, hml, hown, hts, hr, hlk, hKN, hSH, hkz, hkn, hkw, hfr, hlo, htr, htb, hmn⟩ := X
  intro H locs ls hh
  exact lv_lsub hx hb d (k H locs ls hh)
theorem r_lshl (X : XY K own mn cc rt tb nL fr lo Y) {x : Int64} {y : Int} (d : decode cc pc = .ok (.lshl, 1)) (k : G K Y h n z (pc + 1) lv (vJ (lshl x y) :: st)) : G K Y h n z pc lv (vI y :: vJ x :: st) := by
  obtain ⟨p, l, e, R, s, m, args, below, meth, c, Q⟩ := Y
  obtain ⟨hx, hb, hml, hown, hts, hr, hlk, hKN, hSH, hkz, hkn, hkw, hfr, hlo, htr, htb, hmn⟩ := X
  intro H locs ls hh
  exact lv_lshl hx hb d rfl (k H locs ls hh)
theorem r_i2f (X : XY K own mn cc rt tb nL fr lo Y) {x : Int} (d : decode cc pc = .ok (.i2f, 1)) (k : G K Y h n z (pc + 1) lv (vF (i2f x) :: st)) : G K Y h n z pc lv (vI x :: st) := by
  obtain ⟨p, l, e, R, s, m, args, below, meth, c, Q⟩ := Y
  obtain ⟨hx, hb, hml, hown, hts, hr, hlk, hKN, hSH, hkz, hkn, hkw, hfr, hlo, htr, htb, hmn⟩ := X
  intro H locs ls hh
  exact lv_i2f hx hb d (k H locs ls hh)
theorem r_i2d (X : XY K own mn cc rt tb nL fr lo Y) {x : Int} (d : decode cc pc = .ok (.i2d, 1)) (k : G K Y h n z (pc + 1) lv (vD (i2d x) :: st)) : G K Y h n z pc lv (vI x :: st) := by
  obtain ⟨p, l, e, R, s, m, args, below, meth, c, Q⟩ := Y
  obtain ⟨hx, hb, hml, hown, hts, hr, hlk, hKN, hSH, hkz, hkn, hkw, hfr, hlo, htr, htb, hmn⟩ := X
  intro H locs ls hh
  exact lv_i2d hx hb d (k H locs ls hh)
theorem r_fdiv (X : XY K own mn cc rt tb nL fr lo Y) {x y : UInt32} (d : decode cc pc = .ok (.fdiv, 1)) (hne : vf_n32 (FP.fdiv x y)) (k : G K Y h n z (pc + 1) lv (vF (FP.fdiv x y) :: st)) : G K Y h n z pc lv (vF y :: vF x :: st) := by
  obtain ⟨p, l, e, R, s, m, args, below, meth, c, Q⟩ := Y
  obtain ⟨hx, hb, hml, hown, hts, hr, hlk, hKN, hSH, hkz, hkn, hkw, hfr, hlo, htr, htb, hmn⟩ := X
  intro H locs ls hh
  exact lv_fdiv hx hb d hne (k H locs ls hh)
theorem r_ddiv (X : XY K own mn cc rt tb nL fr lo Y) {x y : UInt64} (d : decode cc pc = .ok (.ddiv, 1)) (hne : vf_n64 (FP.ddiv x y)) (k : G K Y h n z (pc + 1) lv (vD (FP.ddiv x y) :: st)) : G K Y h n z pc lv (vD y :: vD x :: st) := by
  obtain ⟨p, l, e, R, s, m, args, below, meth, c, Q⟩ := Y
  obtain ⟨hx, hb, hml, hown, hts, hr, hlk, hKN, hSH, hkz, hkn, hkw, hfr, hlo, htr, htb, hmn⟩ := X
  intro H locs ls hh
  exact lv_ddiv hx hb d hne (k H locs ls hh)
theorem r_dup (X : XY K own mn cc rt tb nL fr lo Y) {v : AV} (d : decode cc pc = .ok (.dup, 1)) (hc : cat v = 1) (k : G K Y h n z (pc + 1) lv (v :: v :: st)) : G K Y h n z pc lv (v :: st) := by
  obtain ⟨p, l, e, R, s, m, args, below, meth, c, Q⟩ := Y
  obtain ⟨hx, hb, hml, hown, hts, hr, hlk, hKN, hSH, hkz, hkn, hkw, hfr, hlo, htr, htb, hmn⟩ := X
  intro H locs ls hh
  exact lv_dup hx hb d (by rw [cV_cat]; exact hc) (k H locs ls hh)
theorem r_pop (X : XY K own mn cc rt tb nL fr lo Y) {v : AV} (d : decode cc pc = .ok (.pop, 1)) (hc : cat v = 1) (k : G K Y h n z (pc + 1) lv (st)) : G K Y h n z pc lv (v :: st) := by
  obtain ⟨p, l, e, R, s, m, args, below, meth, c, Q⟩ := Y
  obtain ⟨hx, hb, hml, hown, hts, hr, hlk, hKN, hSH, hkz, hkn, hkw, hfr, hlo, htr, htb, hmn⟩ := X
  intro H locs ls hh
  exact lv_pop hx hb d (by rw [cV_cat]; exact hc) (k H locs ls hh)
theorem r_dup_x1 (X : XY K own mn cc rt tb nL fr lo Y) {v w : AV} (d : decode cc pc = .ok (.dup_x1, 1)) (hc : cat v = 1) (hc2 : cat w = 1) (k : G K Y h n z (pc + 1) lv (v :: w :: v :: st)) : G K Y h n z pc lv (v :: w :: st) := by
  obtain ⟨p, l, e, R, s, m, args, below, meth, c, Q⟩ := Y
  obtain ⟨hx, hb, hml, hown, hts, hr, hlk, hKN, hSH, hkz, hkn, hkw, hfr, hlo, htr, htb, hmn⟩ := X
  intro H locs ls hh
  exact lv_dup_x1 hx hb d (by rw [cV_cat]; exact hc) (by rw [cV_cat]; exact hc2) (k H locs ls hh)
theorem r_dup_x2 (X : XY K own mn cc rt tb nL fr lo Y) {v w u : AV} (d : decode cc pc = .ok (.dup_x2, 1)) (hc : cat v = 1) (hc2 : cat w = 1) (hc3 : cat u = 1) (k : G K Y h n z (pc + 1) lv (v :: w :: u :: v :: st)) : G K Y h n z pc lv (v :: w :: u :: st) := by
  obtain ⟨p, l, e, R, s, m, args, below, meth, c, Q⟩ := Y
  obtain ⟨hx, hb, hml, hown, hts, hr, hlk, hKN, hSH, hkz, hkn, hkw, hfr, hlo, htr, htb, hmn⟩ := X
  intro H locs ls hh
  exact lv_dup_x2 hx hb d (by rw [cV_cat]; exact hc) (by rw [cV_cat]; exact hc2) (by rw [cV_cat]; exact hc3) (k H locs ls hh)
theorem r_dup2 (X : XY K own mn cc rt tb nL fr lo Y) {v w : AV} (d : decode cc pc = .ok (.dup2, 1)) (hc : cat v = 1) (hc2 : cat w = 1) (k : G K Y h n z (pc + 1) lv (v :: w :: v :: w :: st)) : G K Y h n z pc lv (v :: w :: st) := by
  obtain ⟨p, l, e, R, s, m, args, below, meth, c, Q⟩ := Y
  obtain ⟨hx, hb, hml, hown, hts, hr, hlk, hKN, hSH, hkz, hkn, hkw, hfr, hlo, htr, htb, hmn⟩ := X
  intro H locs ls hh
  exact lv_dup2_11 hx hb d (by rw [cV_cat]; exact hc) (by rw [cV_cat]; exact hc2) (k H locs ls hh)
theorem r_icmp_eq (X : XY K own mn cc rt tb nL fr lo Y) {x y : Int} {off : Int} {tgt : Nat} (d : decode cc pc = .ok (.if_icmp .eq off, 3)) (ht : (pc : Int) + off = (tgt : Int)) (h0 : InR x ∧ InR y) (k1 : x = y → G K Y h n z (tgt) lv (st)) (k2 : ¬ (x = y) → G K Y h n z (pc + 3) lv (st)) : G K Y h n z pc lv (vI y :: vI x :: st) := by
  obtain ⟨p, l, e, R, s, m, args, below, meth, c, Q⟩ := Y
  obtain ⟨hx, hb, hml, hown, hts, hr, hlk, hKN, hSH, hkz, hkn, hkw, hfr, hlo, htr, htb, hmn⟩ := X
  intro H locs ls hh
  exact lv_icmp_eq hx hb d ht (fun q => k1 ((iN_eq (a := x) (b := y) h0.1 h0.2).mp q) H locs ls hh) (fun q => k2 (fun w => q ((iN_eq (a := x) (b := y) h0.1 h0.2).mpr w)) H locs ls hh)
theorem r_if_eq (X : XY K own mn cc rt tb nL fr lo Y) {x : Int} {off : Int} {tgt : Nat} (d : decode cc pc = .ok (.ifCond .eq off, 3)) (ht : (pc : Int) + off = (tgt : Int)) (h0 : InR x) (k1 : x = 0 → G K Y h n z (tgt) lv (st)) (k2 : ¬ (x = 0) → G K Y h n z (pc + 3) lv (st)) : G K Y h n z pc lv (vI x :: st) := by
  obtain ⟨p, l, e, R, s, m, args, below, meth, c, Q⟩ := Y
  obtain ⟨hx, hb, hml, hown, hts, hr, hlk, hKN, hSH, hkz, hkn, hkw, hfr, hlo, htr, htb, hmn⟩ := X
  intro H locs ls hh
  exact lv_if_eq hx hb d ht (fun q => k1 ((iN_eq (a := x) (b := 0) h0 (by decide)).mp q) H locs ls hh) (fun q => k2 (fun w => q ((iN_eq (a := x) (b := 0) h0 (by decide)).mpr w)) H locs ls hh)
theorem r_icmp_ne (X : XY K own mn cc rt tb nL fr lo Y) {x y : Int} {off : Int} {tgt : Nat} (d : decode cc pc = .ok (.if_icmp .ne off, 3)) (ht : (pc : Int) + off = (tgt : Int)) (h0 : InR x ∧ InR y) (k1 : ¬ (x = y) → G K Y h n z (tgt) lv (st)) (k2 : x = y → G K Y h n z (pc + 3) lv (st)) : G K Y h n z pc lv (vI y :: vI x :: st) := by
  obtain ⟨p, l, e, R, s, m, args, below, meth, c, Q⟩ := Y
  obtain ⟨hx, hb, hml, hown, hts, hr, hlk, hKN, hSH, hkz, hkn, hkw, hfr, hlo, htr, htb, hmn⟩ := X
  intro H locs ls hh
  exact lv_icmp_ne hx hb d ht (fun q => k1 (fun w => q ((iN_eq (a := x) (b := y) h0.1 h0.2).mpr w)) H locs ls hh) (fun q => k2 ((iN_eq (a := x) (b := y) h0.1 h0.2).mp q) H locs ls hh)
theorem r_if_ne (X : XY K own mn cc rt tb nL fr lo Y) {x : Int} {off : Int} {tgt : Nat} (d : decode cc pc = .ok (.ifCond .ne off, 3)) (ht : (pc : Int) + off = (tgt : Int)) (h0 : InR x) (k1 : ¬ (x = 0) → G K Y h n z (tgt) lv (st)) (k2 : x = 0 → G K Y h n z (pc + 3) lv (st)) : G K Y h n z pc lv (vI x :: st) := by
  obtain ⟨p, l, e, R, s, m, args, below, meth, c, Q⟩ := Y
  obtain ⟨hx, hb, hml, hown, hts, hr, hlk, hKN, hSH, hkz, hkn, hkw, hfr, hlo, htr, htb, hmn⟩ := X
  intro H locs ls hh
  exact lv_if_ne hx hb d ht (fun q => k1 (fun w => q ((iN_eq (a := x) (b := 0) h0 (by decide)).mpr w)) H locs ls hh) (fun q => k2 ((iN_eq (a := x) (b := 0) h0 (by decide)).mp q) H locs ls hh)
theorem r_icmp_lt (X : XY K own mn cc rt tb nL fr lo Y) {x y : Int} {off : Int} {tgt : Nat} (d : decode cc pc = .ok (.if_icmp .lt off, 3)) (ht : (pc : Int) + off = (tgt : Int)) (h0 : InR x ∧ InR y) (k1 : x < y → G K Y h n z (tgt) lv (st)) (k2 : ¬ (x < y) → G K Y h n z (pc + 3) lv (st)) : G K Y h n z pc lv (vI y :: vI x :: st) := by
  obtain ⟨p, l, e, R, s, m, args, below, meth, c, Q⟩ := Y
  obtain ⟨hx, hb, hml, hown, hts, hr, hlk, hKN, hSH, hkz, hkn, hkw, hfr, hlo, htr, htb, hmn⟩ := X
  intro H locs ls hh
  exact lv_icmp_lt hx hb d ht (fun q => k1 ((iN_lt (a := x) (b := y) h0.1 h0.2).mp q) H locs ls hh) (fun q => k2 (fun w => q ((iN_lt (a := x) (b := y) h0.1 h0.2).mpr w)) H locs ls hh)
theorem r_if_lt (X : XY K own mn cc rt tb nL fr lo Y) {x : Int} {off : Int} {tgt : Nat} (d : decode cc pc = .ok (.ifCond .lt off, 3)) (ht : (pc : Int) + off = (tgt : Int)) (h0 : InR x) (k1 : x < 0 → G K Y h n z (tgt) lv (st)) (k2 : ¬ (x < 0) → G K Y h n z (pc + 3) lv (st)) : G K Y h n z pc lv (vI x :: st) := by
  obtain ⟨p, l, e, R, s, m, args, below, meth, c, Q⟩ := Y
  obtain ⟨hx, hb, hml, hown, hts, hr, hlk, hKN, hSH, hkz, hkn, hkw, hfr, hlo, htr, htb, hmn⟩ := X
  intro H locs ls hh
  exact lv_if_lt hx hb d ht (fun q => k1 ((iN_lt (a := x) (b := 0) h0 (by decide)).mp q) H locs ls hh) (fun q => k2 (fun w => q ((iN_lt (a := x) (b := 0) h0 (by decide)).mpr w)) H locs ls hh)
theorem r_icmp_ge (X : XY K own mn cc rt tb nL fr lo Y) {x y : Int} {off : Int} {tgt : Nat} (d : decode cc pc = .ok (.if_icmp .ge off, 3)) (ht : (pc : Int) + off = (tgt : Int)) (h0 : InR x ∧ InR y) (k1 : ¬ (x < y) → G K Y h n z (tgt) lv (st)) (k2 : x < y → G K Y h n z (pc + 3) lv (st)) : G K Y h n z pc lv (vI y :: vI x :: st) := by
  obtain ⟨p, l, e, R, s, m, args, below, meth, c, Q⟩ := Y
  obtain ⟨hx, hb, hml, hown, hts, hr, hlk, hKN, hSH, hkz, hkn, hkw, hfr, hlo, htr, htb, hmn⟩ := X
  intro H locs ls hh
  exact lv_icmp_ge hx hb d ht (fun q => k1 (Int.not_lt.mpr ((iN_le (a := y) (b := x) h0.2 h0.1).mp q)) H locs ls hh) (fun q => k2 (Int.not_le.mp (fun w => q ((iN_le (a := y) (b := x) h0.2 h0.1).mpr w))) H locs ls hh)
theorem r_if_ge (X : XY K own mn cc rt tb nL fr lo Y) {x : Int} {off : Int} {tgt : Nat} (d : decode cc pc = .ok (.ifCond .ge off, 3)) (ht : (pc : Int) + off = (tgt : Int)) (h0 : InR x) (k1 : ¬ (x < 0) → G K Y h n z (tgt) lv (st)) (k2 : x < 0 → G K Y h n z (pc + 3) lv (st)) : G K Y h n z pc lv (vI x :: st) := by
  obtain ⟨p, l, e, R, s, m, args, below, meth, c, Q⟩ := Y
  obtain ⟨hx, hb, hml, hown, hts, hr, hlk, hKN, hSH, hkz, hkn, hkw, hfr, hlo, htr, htb, hmn⟩ := X
  intro H locs ls hh
  exact lv_if_ge hx hb d ht (fun q => k1 (Int.not_lt.mpr ((iN_le (a := 0) (b := x) (by decide) h0).mp q)) H locs ls hh) (fun q => k2 (Int.not_le.mp (fun w => q ((iN_le (a := 0) (b := x) (by decide) h0).mpr w))) H locs ls hh)
theorem r_icmp_gt (X : XY K own mn cc rt tb nL fr lo Y) {x y : Int} {off : Int} {tgt : Nat} (d : decode cc pc = .ok (.if_icmp .gt off, 3)) (ht : (pc : Int) + off = (tgt : Int)) (h0 : InR x ∧ InR y) (k1 : y < x → G K Y h n z (tgt) lv (st)) (k2 : ¬ (y < x) → G K Y h n z (pc + 3) lv (st)) : G K Y h n z pc lv (vI y :: vI x :: st) := by
  obtain ⟨p, l, e, R, s, m, args, below, meth, c, Q⟩ := Y
  obtain ⟨hx, hb, hml, hown, hts, hr, hlk, hKN, hSH, hkz, hkn, hkw, hfr, hlo, htr, htb, hmn⟩ := X
  intro H locs ls hh
  exact lv_icmp_gt hx hb d ht (fun q => k1 ((iN_lt (a := y) (b := x) h0.2 h0.1).mp q) H locs ls hh) (fun q => k2 (fun w => q ((iN_lt (a := y) (b := x) h0.2 h0.1).mpr w)) H locs ls hh)
theorem r_if_gt (X : XY K own mn cc rt tb nL fr lo Y) {x : Int} {off : Int} {tgt : Nat} (d : decode cc pc = .ok (.ifCond .gt off, 3)) (ht : (pc : Int) + off = (tgt : Int)) (h0 : InR x) (k1 : 0 < x → G K Y h n z (tgt) lv (st)) (k2 : ¬ (0 < x) → G K Y h n z (pc + 3) lv (st)) : G K Y h n z pc lv (vI x :: st) := by
  obtain ⟨p, l, e, R, s, m, args, below, meth, c, Q⟩ := Y
  obtain ⟨hx, hb, hml, hown, hts, hr, hlk, hKN, hSH, hkz, hkn, hkw, hfr, hlo, htr, htb, hmn⟩ := X
  intro H locs ls hh
  exact lv_if_gt hx hb d ht (fun q => k1 ((iN_lt (a := 0) (b := x) (by decide) h0).mp q) H locs ls hh) (fun q => k2 (fun w => q ((iN_lt (a := 0) (b := x) (by decide) h0).mpr w)) H locs ls hh)
theorem r_icmp_le (X : XY K own mn cc rt tb nL fr lo Y) {x y : Int} {off : Int} {tgt : Nat} (d : decode cc pc = .ok (.if_icmp .le off, 3)) (ht : (pc : Int) + off = (tgt : Int)) (h0 : InR x ∧ InR y) (k1 : ¬ (y < x) → G K Y h n z (tgt) lv (st)) (k2 : y < x → G K Y h n z (pc + 3) lv (st)) : G K Y h n z pc lv (vI y :: vI x :: st) := by
  obtain ⟨p, l, e, R, s, m, args, below, meth, c, Q⟩ := Y
  obtain ⟨hx, hb, hml, hown, hts, hr, hlk, hKN, hSH, hkz, hkn, hkw, hfr, hlo, htr, htb, hmn⟩ := X
  intro H locs ls hh
  exact lv_icmp_le hx hb d ht (fun q => k1 (Int.not_lt.mpr ((iN_le (a := x) (b := y) h0.1 h0.2).mp q)) H locs ls hh) (fun q => k2 (Int.not_le.mp (fun w => q ((iN_le (a := x) (b := y) h0.1 h0.2).mpr w))) H locs ls hh)
theorem r_if_le (X : XY K own mn cc rt tb nL fr lo Y) {x : Int} {off : Int} {tgt : Nat} (d : decode cc pc = .ok (.ifCond .le off, 3)) (ht : (pc : Int) + off = (tgt : Int)) (h0 : InR x) (k1 : ¬ (0 < x) → G K Y h n z (tgt) lv (st)) (k2 : 0 < x → G K Y h n z (pc + 3) lv (st)) : G K Y h n z pc lv (vI x :: st) := by
  obtain ⟨p, l, e, R, s, m, args, below, meth, c, Q⟩ := Y
  obtain ⟨hx, hb, hml, hown, hts, hr, hlk, hKN, hSH, hkz, hkn, hkw, hfr, hlo, htr, htb, hmn⟩ := X
  intro H locs ls hh
  exact lv_if_le hx hb d ht (fun q => k1 (Int.not_lt.mpr ((iN_le (a := x) (b := 0) h0 (by decide)).mp q)) H locs ls hh) (fun q => k2 (Int.not_le.mp (fun w => q ((iN_le (a := x) (b := 0) h0 (by decide)).mpr w))) H locs ls hh)
theorem r_tswIn (X : XY K own mn cc rt tb nL fr lo Y) {x dflt lo hi : Int} {offs : Array Int} {len j : Nat} {off : Int} {tgt : Nat} (d : decode cc pc = .ok (.tableswitch dflt lo hi offs, len)) (h0 : InR x) (hx1 : x = lo + j) (hx2 : lo + j ≤ hi) (ho : offs[j]? = some off) (ht : (pc : Int) + off = (tgt : Int)) (k : G K Y h n z (tgt) lv (st)) : G K Y h n z pc lv (vI x :: st) := by
  obtain ⟨p, l, e, R, s, m, args, below, meth, c, Q⟩ := Y
  obtain ⟨hx, hb, hml, hown, hts, hr, hlk, hKN, hSH, hkz, hkn, hkw, hfr, hlo, htr, htb, hmn⟩ := X
  intro H locs ls hh
  exact lv_tableIn hx hb d (by rw [iN_toInt h0]; omega) (by rw [iN_toInt h0]; omega) (by rw [iN_toInt h0, show (x - lo).toNat = j by omega]; exact ho) ht (k H locs ls hh)
theorem r_tswOut (X : XY K own mn cc rt tb nL fr lo Y) {x dflt lo hi : Int} {offs : Array Int} {len : Nat} {tgt : Nat} (d : decode cc pc = .ok (.tableswitch dflt lo hi offs, len)) (h0 : InR x) (hx1 : x < lo ∨ hi < x) (ht : (pc : Int) + dflt = (tgt : Int)) (k : G K Y h n z (tgt) lv (st)) : G K Y h n z pc lv (vI x :: st) := by
  obtain ⟨p, l, e, R, s, m, args, below, meth, c, Q⟩ := Y
  obtain ⟨hx, hb, hml, hown, hts, hr, hlk, hKN, hSH, hkz, hkn, hkw, hfr, hlo, htr, htb, hmn⟩ := X
  intro H locs ls hh
  exact lv_tableOut hx hb d (by rw [iN_toInt h0]; exact hx1) ht (k H locs ls hh)
theorem r_lsw (X : XY K own mn cc rt tb nL fr lo Y) {x dflt : Int} {ps : Array (Int × Int)} {len : Nat} {off : Int} {tgt : Nat} (d : decode cc pc = .ok (.lookupswitch dflt ps, len)) (h0 : InR x) (hp : (ps.toList.zip (ps.toList.drop 1)).all (fun (a, next) => a.1 < next.1) = true) (ho : Op.lookupswitch.offset ps.toList dflt x = off) (ht : (pc : Int) + off = (tgt : Int)) (k : G K Y h n z (tgt) lv (st)) : G K Y h n z pc lv (vI x :: st) := by
  obtain ⟨p, l, e, R, s, m, args, below, meth, c, Q⟩ := Y
  obtain ⟨hx, hb, hml, hown, hts, hr, hlk, hKN, hSH, hkz, hkn, hkw, hfr, hlo, htr, htb, hmn⟩ := X
  intro H locs ls hh
  exact lv_lookup hx hb d hp (by rw [iN_toInt h0]; exact ho) ht (k H locs ls hh)
theorem r_goto (X : XY K own mn cc rt tb nL fr lo Y) {off : Int} {tgt : Nat} (d : decode cc pc = .ok (.goto off, 3)) (ht : (pc : Int) + off = (tgt : Int)) (k : G K Y h n z (tgt) lv (st)) : G K Y h n z pc lv (st) := by
  obtain ⟨p, l, e, R, s, m, args, below, meth, c, Q⟩ := Y
  obtain ⟨hx, hb, hml, hown, hts, hr, hlk, hKN, hSH, hkz, hkn, hkw, hfr, hlo, htr, htb, hmn⟩ := X
  intro H locs ls hh
  exact lv_goto hx hb d ht (k H locs ls hh)
theorem r_ifnull (X : XY K own mn cc rt tb nL fr lo Y) {x : Option Nat} {off : Int} {tgt : Nat} (d : decode cc pc = .ok (.ifnull off, 3)) (ht : (pc : Int) + off = (tgt : Int)) (k1 : x = none → G K Y h n z (tgt) lv (st)) (k2 : ¬ x = none → G K Y h n z (pc + 3) lv (st)) : G K Y h n z pc lv (vR x :: st) := by
  obtain ⟨p, l, e, R, s, m, args, below, meth, c, Q⟩ := Y
  obtain ⟨hx, hb, hml, hown, hts, hr, hlk, hKN, hSH, hkz, hkn, hkw, hfr, hlo, htr, htb, hmn⟩ := X
  intro H locs ls hh
  cases x
  · exact lv_ifnullN hx hb d ht (k1 rfl H locs ls hh)
  · exact lv_ifnull hx hb d (k2 (fun q => by cases q) H locs ls hh)
theorem r_ifnonnull (X : XY K own mn cc rt tb nL fr lo Y) {x : Option Nat} {off : Int} {tgt : Nat} (d : decode cc pc = .ok (.ifnonnull off, 3)) (ht : (pc : Int) + off = (tgt : Int)) (k1 : ¬ x = none → G K Y h n z (tgt) lv (st)) (k2 : x = none → G K Y h n z (pc + 3) lv (st)) : G K Y h n z pc lv (vR x :: st) := by
  obtain ⟨p, l, e, R, s, m, args, below, meth, c, Q⟩ := Y
  obtain ⟨hx, hb, hml, hown, hts, hr, hlk, hKN, hSH, hkz, hkn, hkw, hfr, hlo, htr, htb, hmn⟩ := X
  intro H locs ls hh
  cases x
  · exact lv_ifnonnullN hx hb d (k2 rfl H locs ls hh)
  · exact lv_ifnonnull hx hb d ht (k1 (fun q => by cases q) H locs ls hh)
theorem r_acmp_eq (X : XY K own mn cc rt tb nL fr lo Y) {x y : Option Nat} {off : Int} {tgt : Nat} (d : decode cc pc = .ok (.if_acmp .eq off, 3)) (ht : (pc : Int) + off = (tgt : Int)) (k1 : x = y → G K Y h n z (tgt) lv (st)) (k2 : ¬ (x = y) → G K Y h n z (pc + 3) lv (st)) : G K Y h n z pc lv (vR y :: vR x :: st) := by
  obtain ⟨p, l, e, R, s, m, args, below, meth, c, Q⟩ := Y
  obtain ⟨hx, hb, hml, hown, hts, hr, hlk, hKN, hSH, hkz, hkn, hkw, hfr, hlo, htr, htb, hmn⟩ := X
  intro H locs ls hh
  exact lv_acmp_eq hx hb d ht (fun q => k1 q H locs ls hh) (fun q => k2 (by first | exact q | exact fun w => w q) H locs ls hh)
theorem r_acmp_ne (X : XY K own mn cc rt tb nL fr lo Y) {x y : Option Nat} {off : Int} {tgt : Nat} (d : decode cc pc = .ok (.if_acmp .ne off, 3)) (ht : (pc : Int) + off = (tgt : Int)) (k1 : ¬ x = y → G K Y h n z (tgt) lv (st)) (k2 : ¬ (¬ x = y) → G K Y h n z (pc + 3) lv (st)) : G K Y h n z pc lv (vR y :: vR x :: st) := by
  obtain ⟨p, l, e, R, s, m, args, below, meth, c, Q⟩ := Y
  obtain ⟨hx, hb, hml, hown, hts, hr, hlk, hKN, hSH, hkz, hkn, hkw, hfr, hlo, htr, htb, hmn⟩ := X
  intro H locs ls hh
  exact lv_acmp_ne hx hb d ht (fun q => k1 q H locs ls hh) (fun q => k2 (by first | exact q | exact fun w => w q) H locs ls hh)
end RW
