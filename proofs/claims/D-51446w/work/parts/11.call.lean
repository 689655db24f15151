set_option maxRecDepth 100000
def QvV (κ : AH → Nat → Nat → Prop) : QvT := fun v h n z => v = none ∧ κ h n z
def QvI (κ : Int → AH → Nat → Nat → Prop) : QvT := fun v h n z => ∃ r : Int, v = some (.int (iN r)) ∧ κ r h n z
def QvR (κ : Option Nat → AH → Nat → Nat → Prop) : QvT := fun v h n z => ∃ r : Option Nat, v = some (va_rf r) ∧ κ r h n z
def QvJ (κ : Int64 → AH → Nat → Nat → Prop) : QvT := fun v h n z => ∃ r : Int64, v = some (.long r) ∧ κ r h n z
def QvD (κ : UInt64 → AH → Nat → Nat → Prop) : QvT := fun v h n z => ∃ r : UInt64, v = some (.double r) ∧ κ r h n z
def noX : QxT := fun _ _ _ _ _ => False
theorem preP_blind {K : KT} {h : AH} {n z : Nat} {As : List Value} : FrameBlind (va_Pc As (PreP K h n z)) := by
  intro a U g mk hp
  obtain ⟨h1, h2, h3, h4, h5, h6⟩ := hp
  exact ⟨h1, h2.warm (State.WarmedH.refl U), SH.moved (Vm.Alike.refl _) h3, h4, h5, h6⟩
/-- a method of own class: entry i of own's pool is y, an instance method found by the receiver's class -/
def MV (own : String) (i : Nat) (y : MethodName) (cc : ByteArray) (nL : Nat) (rt : Option FieldType) (k : Nat) : Prop := Cond.methodLink own i y ∈ lw_all ∧ Cond.instanceMethod y ∈ lw_all ∧ Cond.selects y.cls y y ∈ lw_all ∧ Cond.initialized y.cls ∈ lw_all ∧ Cond.code y cc nL rt ∈ lw_all ∧ y.cls ≠ "java/lang/invoke/MethodHandle" ∧ y.cls ≠ "java/lang/invoke/VarHandle" ∧ (parseMethodDescriptor y.desc).map (fun d => d.parameters.length) = some k
def MVX (own : String) (i : Nat) (y : MethodName) (cc : ByteArray) (nL : Nat) (rt : Option FieldType) (hh : List (Nat × Nat × Nat × Nat)) (k : Nat) : Prop := Cond.methodLink own i y ∈ lw_all ∧ Cond.instanceMethod y ∈ lw_all ∧ Cond.selects y.cls y y ∈ lw_all ∧ Cond.initialized y.cls ∈ lw_all ∧ Cond.codeWith y cc nL rt hh ∈ lw_all ∧ y.cls ≠ "java/lang/invoke/MethodHandle" ∧ y.cls ≠ "java/lang/invoke/VarHandle" ∧ (parseMethodDescriptor y.desc).map (fun d => d.parameters.length) = some k
def MS (own : String) (i : Nat) (y : MethodName) (cc : ByteArray) (nL : Nat) (rt : Option FieldType) (k : Nat) : Prop := Cond.methodLink own i y ∈ lw_all ∧ Cond.static y ∈ lw_all ∧ Cond.initialized y.cls ∈ lw_all ∧ Cond.code y cc nL rt ∈ lw_all ∧ y.cls ≠ "java/lang/invoke/MethodHandle" ∧ y.cls ≠ "java/lang/invoke/VarHandle" ∧ (parseMethodDescriptor y.desc).map (fun d => d.parameters.length) = some k
def MSX (own : String) (i : Nat) (y : MethodName) (cc : ByteArray) (nL : Nat) (rt : Option FieldType) (hh : List (Nat × Nat × Nat × Nat)) (k : Nat) : Prop := Cond.methodLink own i y ∈ lw_all ∧ Cond.static y ∈ lw_all ∧ Cond.initialized y.cls ∈ lw_all ∧ Cond.codeWith y cc nL rt hh ∈ lw_all ∧ y.cls ≠ "java/lang/invoke/MethodHandle" ∧ y.cls ≠ "java/lang/invoke/VarHandle" ∧ (parseMethodDescriptor y.desc).map (fun d => d.parameters.length) = some k
def MI (own : String) (i : Nat) (y : MethodName) (cc : ByteArray) (nL : Nat) (k : Nat) : Prop := Cond.methodLink own i y ∈ lw_all ∧ Cond.instanceMethod y ∈ lw_all ∧ y.name = "<init>" ∧ Cond.initialized y.cls ∈ lw_all ∧ Cond.code y cc nL none ∈ lw_all ∧ y.cls ≠ "java/lang/invoke/MethodHandle" ∧ y.cls ≠ "java/lang/invoke/VarHandle" ∧ (parseMethodDescriptor y.desc).map (fun d => d.parameters.length) = some k
/-- private, of a nest mate -/
def MVN (own : String) (i : Nat) (y : MethodName) (host : String) (cc : ByteArray) (nL : Nat) (rt : Option FieldType) (k : Nat) : Prop := Cond.methodLinkNest own i y host ∈ lw_tbl ∧ Cond.instanceMethod y ∈ lw_all ∧ Cond.selects y.cls y y ∈ lw_all ∧ Cond.initialized y.cls ∈ lw_all ∧ Cond.code y cc nL rt ∈ lw_all ∧ y.cls ≠ "java/lang/invoke/MethodHandle" ∧ y.cls ≠ "java/lang/invoke/VarHandle" ∧ (parseMethodDescriptor y.desc).map (fun d => d.parameters.length) = some k
def MSN (own : String) (i : Nat) (y : MethodName) (host : String) (cc : ByteArray) (nL : Nat) (rt : Option FieldType) (k : Nat) : Prop := Cond.methodLinkNest own i y host ∈ lw_tbl ∧ Cond.static y ∈ lw_all ∧ Cond.initialized y.cls ∈ lw_all ∧ Cond.code y cc nL rt ∈ lw_all ∧ y.cls ≠ "java/lang/invoke/MethodHandle" ∧ y.cls ≠ "java/lang/invoke/VarHandle" ∧ (parseMethodDescriptor y.desc).map (fun d => d.parameters.length) = some k
def MIN (own : String) (i : Nat) (y : MethodName) (host : String) (cc : ByteArray) (nL : Nat) (k : Nat) : Prop := Cond.methodLinkNest own i y host ∈ lw_tbl ∧ Cond.instanceMethod y ∈ lw_all ∧ y.name = "<init>" ∧ Cond.initialized y.cls ∈ lw_all ∧ Cond.code y cc nL none ∈ lw_all ∧ y.cls ≠ "java/lang/invoke/MethodHandle" ∧ y.cls ≠ "java/lang/invoke/VarHandle" ∧ (parseMethodDescriptor y.desc).map (fun d => d.parameters.length) = some k
theorem cV_sum (st : List AV) : ((st.map cV).map fun v => v.category).sum = (st.map cat).sum := by
  rw [List.map_map]
  congr 1
  apply List.map_congr_left
  intro v _
  exact cV_cat v
section CL
variable {K : KT} {own mn : String} {cc : ByteArray} {rt : Option FieldType} {tb : List ExceptionTableEntry} {nL fr lo : Nat} {Y : YT} {h : AH} {n z : Nat} {pc : Nat} {lv : List (Nat × AV)} {st : List AV}
variable {p : Program} {l : Launch} {e : Env} {R : Room} {s : State} {m : MethodId} {args : Array Value} {below : List Frame} {meth : Method} {c : Code} {Q : State → Prop} {H : Heap} {locs : List Loc} {ls : Array Slot}
/-- the callee's start, inside a method -/
theorem preP_at {U : State} (hKN : KN K s) (hSH : SH K s s.heap) (hh : HL K (p, l, e, R, s, m, args, below, meth, c, Q) h n z lv H locs ls) (hU : U.heap = H) (hW : s.WarmedH U.vm) : PreP K h n z U := by
  refine ⟨hKN.warm hW, ?_, by rw [hU]; exact hh.1, by rw [hU]; exact hh.2.1, by rw [hU]; exact hh.2.2.1⟩
  rw [hU]
  exact SH.moved hW.alike (hSH.kept hh.2.2.2.2.2.1.2.1)
/-- behind a call, whatever its kind -/
theorem r_after (hkn : s.heap.size + R.cells = kn K) (hkw : HW s.heap + R.slots = kw K) (hh : HL K (p, l, e, R, s, m, args, below, meth, c, Q) h n z lv H locs ls) {as : Array Value} {Qv : QvT} {Qx : QxT} {g : JFrame} {rest : List AV}
    (hr : vx_Run p l e R s m args below meth c H locs (n - s.heap.size) (z - HW s.heap) (kn K - n) (kw K - z) (F0 m pc ls g.stack) (rest.map cV) (QcP K Qv as) (XcP K Qx) (fun q => kz K ≤ q))
    (kk : ∀ v h1 n1 z1, Qv v h1 n1 z1 → ∃ vs : List AV, v.toList = vs.map cV ∧ G K (p, l, e, R, s, m, args, below, meth, c, Q) h1 n1 z1 (pc + 3) lv (vs ++ rest))
    (kx : ∀ ci q h1 n1 z1, Qx ci q h1 n1 z1 → GX K (p, l, e, R, s, m, args, below, meth, c, Q) h1 n1 z1 pc lv ci q) :
    W p l e R s m args below meth c H locs R.cells R.slots Q (F0 m pc ls g.stack) := by
  have h0 : s.heap.size ≤ H.size := hh.2.2.2.2.2.1.1
  have hHn : H.size = n := hh.2.1
  have hHz : HW H = z := hh.2.2.1
  have hn := hh.2.2.2.1
  have hz := hh.2.2.2.2.1
  have hH0 : HW s.heap ≤ z := hz.2
  refine W.tight (k := n - s.heap.size) (w := z - HW s.heap) (by omega) (by omega) ?_
  have key : ∀ {st₀ t T' : State} {L : List Loc} {h1 n1 z1}, st₀.heap = H → T'.heap = t.heap → (∀ q ∈ L, kz K ≤ q.base) → RS K st₀ t h1 n1 z1 → HL K (p, l, e, R, s, m, args, below, meth, c, Q) h1 n1 z1 lv T'.heap (locs ++ L) ls := by
    intro st₀ t T' L h1 n1 z1 e0 e1 hL hRS
    obtain ⟨r1, r2, r3, r4, r5, r6, r7⟩ := hRS
    rw [e0] at r5 r6 r7
    refine ⟨by rw [e1]; exact r1, by rw [e1]; exact r2, by rw [e1]; exact r3, r4, ⟨r5.1, Nat.le_trans hH0 (by rw [← hHz]; exact r5.2)⟩, ⟨by rw [e1, r2]; exact Nat.le_trans h0 r6, fun q q1 q2 => ?_, fun q hq => ?_⟩, hh.2.2.2.2.2.2⟩
    · rw [e1, r7 q (Nat.lt_of_lt_of_le q1 h0) q2]
      exact hh.2.2.2.2.2.1.2.1 q q1 q2
    · rcases List.mem_append.mp hq with h9 | h9
      · exact hh.2.2.2.2.2.1.2.2 q h9
      · exact hL q h9
  intro T hT X
  rcases hr T hT X with ⟨v, st₀, t, T', L, e0, X', hL, e1, e2, ⟨v', h1, n1, z1, ev, hq, hRS⟩, st9⟩ | ⟨q, st₀, t, T', L, E, ce, e0, X', hL, e1, e2, ⟨ci, h1, n1, z1, hE, hq, hRS⟩, hce, hcv, hcl, st9⟩
  · cases ev
    obtain ⟨vs, hvs, hG⟩ := kk _ _ _ _ hq
    have hw := hG T'.heap (locs ++ L) ls (key e0 e1 hL hRS)
    obtain ⟨t2, a1, b1⟩ := hw T' rfl (stand_widen X' (by omega) (by omega))
    refine ⟨t2, st9 t2 ?_, b1⟩
    have ef : ({ F0 m pc ls g.stack with pc := pc + 3, stack := v.toList ++ rest.map cV } : JFrame) = F0 m (pc + 3) ls ((vs ++ rest).map cV) := by rw [List.map_append, hvs]
    rw [ef]; exact a1
  · have hx := kx _ _ _ _ _ hq T'.heap (locs ++ L) ls (rest.map cV) E ce (key e0 e1 hL hRS) hE (by rw [e1]; exact hce) hcv hcl
    obtain ⟨t2, a1, b1⟩ := hx T' rfl (stand_widen X' (by omega) (by omega))
    exact ⟨t2, st9.trans a1, b1⟩
end CL
section CM
variable {K : KT} {own mn : String} {cc : ByteArray} {rt : Option FieldType} {tb : List ExceptionTableEntry} {nL fr lo : Nat} {Y : YT} {h : AH} {n z : Nat} {pc : Nat} {lv : List (Nat × AV)} {st : List AV}
theorem r_callV (X : XY K own mn cc rt tb nL fr lo Y) {y : MethodName} { c1 : ByteArray} {nL1 fr1 lo1 i : Nat} {rt1 : Option FieldType} {b ci : Nat} {fs : List AV} {r : vw_C}  {As : List AV} {Qv : QvT} {Qx : QxT} (hc : vwCl[ci]? = some r) (hrc : r.1 = y.cls) {o : Option Nat} (ho : o = some b) (hbb : h b = some (.inr (ci, fs))) (M : MV own i y c1 nL1 rt1  As.length)
    (hC : ∀ l, Ct K l y (ws_ y c1 nL1 rt1) fr1 lo1 ((vR (some b) :: As).map cV) h n z Qv Qx) (hR : fr1 + 1 ≤ fr ∧ 8 + (nL1 + 11) + lo1 ≤ lo) (hst : (st.map cat).sum ≤ 8) (d : decode cc pc = .ok (.invokevirtual i, 3))
    (kk : ∀ v h1 n1 z1, Qv v h1 n1 z1 → ∃ vs : List AV, v.toList = vs.map cV ∧ G K Y h1 n1 z1 (pc + 3) lv (vs ++ st)) (kx : ∀ ci q h1 n1 z1, Qx ci q h1 n1 z1 → GX K Y h1 n1 z1 pc lv ci q) : G K Y h n z pc lv (As.reverse ++ vR o :: st) := by
  obtain ⟨p, l, e, R, s, m, args, below, meth, c, Q⟩ := Y
  obtain ⟨hx, hb, hml, hown, hts, hr, hlk, hKN, hSH, hkz, hkn, hkw, hfr, hlo, htr, htb, hmn⟩ := X
  intro H locs ls hh
  obtain ⟨w1, w2, w3, w4, w5, w6, w7, w8⟩ := M
  subst ho
  have hzn : kz K ≤ n := by have h1 := hh.2.2.2.2.2.1.1; have h2 := hh.2.1; have h3 : (yS (p, l, e, R, s, m, args, below, meth, c, Q)) = s := rfl; rw [h3] at h1; omega
  have hM := hC l htr hzn hh.2.2.2.1 hh.2.2.2.2.1.1
  have hrecv := hKN.recv hc (hh.1 b _ hbb)
  rw [hrc] at hrecv
  have h0 : s.heap.size ≤ H.size := hh.2.2.2.2.2.1.1
  have hHn : H.size = n := hh.2.1
  have hz9 := hh.2.2.2.2.1
  have hn9 := hh.2.2.2.1
  have hH0 : HW s.heap ≤ z := hz9.2
  have hls : ls.size = nL := by have h9 : ls.size = c.maxLocals := hh.2.2.2.2.2.2.1; rw [h9, hml]
  refine r_after (g := F0 m pc ls ((As.reverse ++ vR (some b) :: st).map cV)) (rest := st) (Qv := Qv) (Qx := Qx) (as := ((vR (some b) :: As).map cV).toArray) hkn hkw hh ?_ kk kx
  refine vx_runV (own := own) (index := i) (As := As.map cV) (cells := n - s.heap.size) (slots := z - HW s.heap) ⟨hx, hb, hml, hown, hts⟩ hM (cwV As.length hts (lw_V w1 w2 w3 w4 w5) rfl rfl rfl ⟨rfl, w6, w7, w8⟩ ⟨by rw [hfr]; exact hR.1, by rw [hlo]; exact hR.2⟩) ⟨preP_blind, hrecv, fun U hU hW => ⟨rfl, preP_at hKN hSH hh hU hW⟩⟩ rfl (List.length_map _) hls (by simp only [List.map_append, List.map_reverse, List.map_cons]; rfl) (by show 2 * 0 + _ ≤ 8; rw [cV_sum]; omega) d ⟨by omega, by omega⟩
theorem r_callS (X : XY K own mn cc rt tb nL fr lo Y) {y : MethodName} { c1 : ByteArray} {nL1 fr1 lo1 i : Nat} {rt1 : Option FieldType}  {As : List AV} {Qv : QvT} {Qx : QxT} (M : MS own i y c1 nL1 rt1  As.length)
    (hC : ∀ l, Ct K l y (ws_ y c1 nL1 rt1) fr1 lo1 (As.map cV) h n z Qv Qx) (hR : fr1 + 1 ≤ fr ∧ 8 + (nL1 + 11) + lo1 ≤ lo) (hst : (st.map cat).sum ≤ 8) (d : decode cc pc = .ok (.invokestatic i, 3))
    (kk : ∀ v h1 n1 z1, Qv v h1 n1 z1 → ∃ vs : List AV, v.toList = vs.map cV ∧ G K Y h1 n1 z1 (pc + 3) lv (vs ++ st)) (kx : ∀ ci q h1 n1 z1, Qx ci q h1 n1 z1 → GX K Y h1 n1 z1 pc lv ci q) : G K Y h n z pc lv (As.reverse ++ st) := by
  obtain ⟨p, l, e, R, s, m, args, below, meth, c, Q⟩ := Y
  obtain ⟨hx, hb, hml, hown, hts, hr, hlk, hKN, hSH, hkz, hkn, hkw, hfr, hlo, htr, htb, hmn⟩ := X
  intro H locs ls hh
  obtain ⟨w1, w2, w4, w5, w6, w7, w8⟩ := M
  have hzn : kz K ≤ n := by have h1 := hh.2.2.2.2.2.1.1; have h2 := hh.2.1; have h3 : (yS (p, l, e, R, s, m, args, below, meth, c, Q)) = s := rfl; rw [h3] at h1; omega
  have hM := hC l htr hzn hh.2.2.2.1 hh.2.2.2.2.1.1
  have h0 : s.heap.size ≤ H.size := hh.2.2.2.2.2.1.1
  have hHn : H.size = n := hh.2.1
  have hz9 := hh.2.2.2.2.1
  have hn9 := hh.2.2.2.1
  have hH0 : HW s.heap ≤ z := hz9.2
  have hls : ls.size = nL := by have h9 : ls.size = c.maxLocals := hh.2.2.2.2.2.2.1; rw [h9, hml]
  refine r_after (g := F0 m pc ls ((As.reverse ++ st).map cV)) (rest := st) (Qv := Qv) (Qx := Qx) (as := (As.map cV).toArray) hkn hkw hh ?_ kk kx
  refine vx_runS (own := own) (index := i) (As := As.map cV) (cells := n - s.heap.size) (slots := z - HW s.heap) ⟨hx, hb, hml, hown, hts⟩ hM (va_cwS As.length hts (lw_S w1 w2 w4 w5) rfl rfl rfl ⟨w6, w7, w8⟩ ⟨by rw [hfr]; exact hR.1, by rw [hlo]; exact hR.2⟩) ⟨preP_blind, fun U hU hW => ⟨rfl, preP_at hKN hSH hh hU hW⟩⟩ rfl (List.length_map _) hls (by simp only [List.map_append, List.map_reverse]) (by show 2 * 0 + _ ≤ 8; rw [cV_sum]; omega) d ⟨by omega, by omega⟩
theorem r_callI (X : XY K own mn cc rt tb nL fr lo Y) {y : MethodName} { c1 : ByteArray} {nL1 fr1 lo1 i : Nat} {b : Nat}  {As : List AV} {Qv : QvT} {Qx : QxT} (M : MI own i y c1 nL1  As.length)
    (hC : ∀ l, Ct K l y (ws_ y c1 nL1 none) fr1 lo1 ((vR (some b) :: As).map cV) h n z Qv Qx) (hR : fr1 + 1 ≤ fr ∧ 8 + (nL1 + 11) + lo1 ≤ lo) (hst : (st.map cat).sum ≤ 8) (d : decode cc pc = .ok (.invokespecial i, 3))
    (kk : ∀ v h1 n1 z1, Qv v h1 n1 z1 → ∃ vs : List AV, v.toList = vs.map cV ∧ G K Y h1 n1 z1 (pc + 3) lv (vs ++ st)) (kx : ∀ ci q h1 n1 z1, Qx ci q h1 n1 z1 → GX K Y h1 n1 z1 pc lv ci q) : G K Y h n z pc lv (As.reverse ++ vR (some b) :: st) := by
  obtain ⟨p, l, e, R, s, m, args, below, meth, c, Q⟩ := Y
  obtain ⟨hx, hb, hml, hown, hts, hr, hlk, hKN, hSH, hkz, hkn, hkw, hfr, hlo, htr, htb, hmn⟩ := X
  intro H locs ls hh
  obtain ⟨w1, w2, w3, w4, w5, w6, w7, w8⟩ := M
  have hzn : kz K ≤ n := by have h1 := hh.2.2.2.2.2.1.1; have h2 := hh.2.1; have h3 : (yS (p, l, e, R, s, m, args, below, meth, c, Q)) = s := rfl; rw [h3] at h1; omega
  have hM := hC l htr hzn hh.2.2.2.1 hh.2.2.2.2.1.1
  have h0 : s.heap.size ≤ H.size := hh.2.2.2.2.2.1.1
  have hHn : H.size = n := hh.2.1
  have hz9 := hh.2.2.2.2.1
  have hn9 := hh.2.2.2.1
  have hH0 : HW s.heap ≤ z := hz9.2
  have hls : ls.size = nL := by have h9 : ls.size = c.maxLocals := hh.2.2.2.2.2.2.1; rw [h9, hml]
  refine r_after (g := F0 m pc ls ((As.reverse ++ vR (some b) :: st).map cV)) (rest := st) (Qv := Qv) (Qx := Qx) (as := ((vR (some b) :: As).map cV).toArray) hkn hkw hh ?_ kk kx
  refine vx_runI (own := own) (index := i) (As := As.map cV) (cells := n - s.heap.size) (slots := z - HW s.heap) ⟨hx, hb, hml, hown, hts⟩ hM (cwI As.length hts (lw_meth w5) rfl rfl rfl (hts _ w4) (hts _ w1) (hts _ w2) w3 ⟨w6, w7, w8⟩ ⟨by rw [hfr]; exact hR.1, by rw [hlo]; exact hR.2⟩) ⟨preP_blind, fun U hU hW => ⟨rfl, preP_at hKN hSH hh hU hW⟩⟩ rfl (List.length_map _) hls (by simp only [List.map_append, List.map_reverse, List.map_cons]; rfl) (by show 2 * 0 + _ ≤ 8; rw [cV_sum]; omega) d ⟨by omega, by omega⟩
theorem r_callVX (X : XY K own mn cc rt tb nL fr lo Y) {y : MethodName} { c1 : ByteArray} {nL1 fr1 lo1 i : Nat} {rt1 : Option FieldType} {hh1 : List (Nat × Nat × Nat × Nat)} {b ci : Nat} {fs : List AV} {r : vw_C}  {As : List AV} {Qv : QvT} {Qx : QxT} (hc : vwCl[ci]? = some r) (hrc : r.1 = y.cls) {o : Option Nat} (ho : o = some b) (hbb : h b = some (.inr (ci, fs))) (M : MVX own i y c1 nL1 rt1 hh1 As.length)
    (hC : ∀ l, Ct K l y (wsW_ y c1 nL1 rt1 hh1) fr1 lo1 ((vR (some b) :: As).map cV) h n z Qv Qx) (hR : fr1 + 1 ≤ fr ∧ 8 + (nL1 + 11) + lo1 ≤ lo) (hst : (st.map cat).sum ≤ 8) (d : decode cc pc = .ok (.invokevirtual i, 3))
    (kk : ∀ v h1 n1 z1, Qv v h1 n1 z1 → ∃ vs : List AV, v.toList = vs.map cV ∧ G K Y h1 n1 z1 (pc + 3) lv (vs ++ st)) (kx : ∀ ci q h1 n1 z1, Qx ci q h1 n1 z1 → GX K Y h1 n1 z1 pc lv ci q) : G K Y h n z pc lv (As.reverse ++ vR o :: st) := by
  obtain ⟨p, l, e, R, s, m, args, below, meth, c, Q⟩ := Y
  obtain ⟨hx, hb, hml, hown, hts, hr, hlk, hKN, hSH, hkz, hkn, hkw, hfr, hlo, htr, htb, hmn⟩ := X
  intro H locs ls hh
  obtain ⟨w1, w2, w3, w4, w5, w6, w7, w8⟩ := M
  subst ho
  have hzn : kz K ≤ n := by have h1 := hh.2.2.2.2.2.1.1; have h2 := hh.2.1; have h3 : (yS (p, l, e, R, s, m, args, below, meth, c, Q)) = s := rfl; rw [h3] at h1; omega
  have hM := hC l htr hzn hh.2.2.2.1 hh.2.2.2.2.1.1
  have hrecv := hKN.recv hc (hh.1 b _ hbb)
  rw [hrc] at hrecv
  have h0 : s.heap.size ≤ H.size := hh.2.2.2.2.2.1.1
  have hHn : H.size = n := hh.2.1
  have hz9 := hh.2.2.2.2.1
  have hn9 := hh.2.2.2.1
  have hH0 : HW s.heap ≤ z := hz9.2
  have hls : ls.size = nL := by have h9 : ls.size = c.maxLocals := hh.2.2.2.2.2.2.1; rw [h9, hml]
  refine r_after (g := F0 m pc ls ((As.reverse ++ vR (some b) :: st).map cV)) (rest := st) (Qv := Qv) (Qx := Qx) (as := ((vR (some b) :: As).map cV).toArray) hkn hkw hh ?_ kk kx
  refine vx_runVX (own := own) (index := i) (As := As.map cV) (cells := n - s.heap.size) (slots := z - HW s.heap) ⟨hx, hb, hml, hown, hts⟩ hM (vx_cwVW As.length hts (lw_VW w1 w2 w3 w4 w5) rfl rfl rfl ⟨rfl, w6, w7, w8⟩ ⟨by rw [hfr]; exact hR.1, by rw [hlo]; exact hR.2⟩) ⟨preP_blind, hrecv, fun U hU hW => ⟨rfl, preP_at hKN hSH hh hU hW⟩⟩ rfl (List.length_map _) hls (by simp only [List.map_append, List.map_reverse, List.map_cons]; rfl) (by show 2 * 0 + _ ≤ 8; rw [cV_sum]; omega) d ⟨by omega, by omega⟩
theorem r_callSX (X : XY K own mn cc rt tb nL fr lo Y) {y : MethodName} { c1 : ByteArray} {nL1 fr1 lo1 i : Nat} {rt1 : Option FieldType} {hh1 : List (Nat × Nat × Nat × Nat)}  {As : List AV} {Qv : QvT} {Qx : QxT} (M : MSX own i y c1 nL1 rt1 hh1 As.length)
    (hC : ∀ l, Ct K l y (wsW_ y c1 nL1 rt1 hh1) fr1 lo1 (As.map cV) h n z Qv Qx) (hR : fr1 + 1 ≤ fr ∧ 8 + (nL1 + 11) + lo1 ≤ lo) (hst : (st.map cat).sum ≤ 8) (d : decode cc pc = .ok (.invokestatic i, 3))
    (kk : ∀ v h1 n1 z1, Qv v h1 n1 z1 → ∃ vs : List AV, v.toList = vs.map cV ∧ G K Y h1 n1 z1 (pc + 3) lv (vs ++ st)) (kx : ∀ ci q h1 n1 z1, Qx ci q h1 n1 z1 → GX K Y h1 n1 z1 pc lv ci q) : G K Y h n z pc lv (As.reverse ++ st) := by
  obtain ⟨p, l, e, R, s, m, args, below, meth, c, Q⟩ := Y
  obtain ⟨hx, hb, hml, hown, hts, hr, hlk, hKN, hSH, hkz, hkn, hkw, hfr, hlo, htr, htb, hmn⟩ := X
  intro H locs ls hh
  obtain ⟨w1, w2, w4, w5, w6, w7, w8⟩ := M
  have hzn : kz K ≤ n := by have h1 := hh.2.2.2.2.2.1.1; have h2 := hh.2.1; have h3 : (yS (p, l, e, R, s, m, args, below, meth, c, Q)) = s := rfl; rw [h3] at h1; omega
  have hM := hC l htr hzn hh.2.2.2.1 hh.2.2.2.2.1.1
  have h0 : s.heap.size ≤ H.size := hh.2.2.2.2.2.1.1
  have hHn : H.size = n := hh.2.1
  have hz9 := hh.2.2.2.2.1
  have hn9 := hh.2.2.2.1
  have hH0 : HW s.heap ≤ z := hz9.2
  have hls : ls.size = nL := by have h9 : ls.size = c.maxLocals := hh.2.2.2.2.2.2.1; rw [h9, hml]
  refine r_after (g := F0 m pc ls ((As.reverse ++ st).map cV)) (rest := st) (Qv := Qv) (Qx := Qx) (as := (As.map cV).toArray) hkn hkw hh ?_ kk kx
  refine vx_runSX (own := own) (index := i) (As := As.map cV) (cells := n - s.heap.size) (slots := z - HW s.heap) ⟨hx, hb, hml, hown, hts⟩ hM (vx_cwSW As.length hts (lw_SW w1 w2 w4 w5) rfl rfl rfl ⟨w6, w7, w8⟩ ⟨by rw [hfr]; exact hR.1, by rw [hlo]; exact hR.2⟩) ⟨preP_blind, fun U hU hW => ⟨rfl, preP_at hKN hSH hh hU hW⟩⟩ rfl (List.length_map _) hls (by simp only [List.map_append, List.map_reverse]) (by show 2 * 0 + _ ≤ 8; rw [cV_sum]; omega) d ⟨by omega, by omega⟩
theorem r_callVN (X : XY K own mn cc rt tb nL fr lo Y) {y : MethodName} {host : String} { c1 : ByteArray} {nL1 fr1 lo1 i : Nat} {rt1 : Option FieldType} {b ci : Nat} {fs : List AV} {r : vw_C}  {As : List AV} {Qv : QvT} {Qx : QxT} (hc : vwCl[ci]? = some r) (hrc : r.1 = y.cls) {o : Option Nat} (ho : o = some b) (hbb : h b = some (.inr (ci, fs))) (M : MVN own i y host c1 nL1 rt1  As.length)
    (hC : ∀ l, Ct K l y (ws_ y c1 nL1 rt1) fr1 lo1 ((vR (some b) :: As).map cV) h n z Qv Qx) (hR : fr1 + 1 ≤ fr ∧ 8 + (nL1 + 11) + lo1 ≤ lo) (hst : (st.map cat).sum ≤ 8) (d : decode cc pc = .ok (.invokevirtual i, 3))
    (kk : ∀ v h1 n1 z1, Qv v h1 n1 z1 → ∃ vs : List AV, v.toList = vs.map cV ∧ G K Y h1 n1 z1 (pc + 3) lv (vs ++ st)) (kx : ∀ ci q h1 n1 z1, Qx ci q h1 n1 z1 → GX K Y h1 n1 z1 pc lv ci q) : G K Y h n z pc lv (As.reverse ++ vR o :: st) := by
  obtain ⟨p, l, e, R, s, m, args, below, meth, c, Q⟩ := Y
  obtain ⟨hx, hb, hml, hown, hts, hr, hlk, hKN, hSH, hkz, hkn, hkw, hfr, hlo, htr, htb, hmn⟩ := X
  intro H locs ls hh
  obtain ⟨w1, w2, w3, w4, w5, w6, w7, w8⟩ := M
  subst ho
  have hzn : kz K ≤ n := by have h1 := hh.2.2.2.2.2.1.1; have h2 := hh.2.1; have h3 : (yS (p, l, e, R, s, m, args, below, meth, c, Q)) = s := rfl; rw [h3] at h1; omega
  have hM := hC l htr hzn hh.2.2.2.1 hh.2.2.2.2.1.1
  have hrecv := hKN.recv hc (hh.1 b _ hbb)
  rw [hrc] at hrecv
  have h0 : s.heap.size ≤ H.size := hh.2.2.2.2.2.1.1
  have hHn : H.size = n := hh.2.1
  have hz9 := hh.2.2.2.2.1
  have hn9 := hh.2.2.2.1
  have hH0 : HW s.heap ≤ z := hz9.2
  have hls : ls.size = nL := by have h9 : ls.size = c.maxLocals := hh.2.2.2.2.2.2.1; rw [h9, hml]
  refine r_after (g := F0 m pc ls ((As.reverse ++ vR (some b) :: st).map cV)) (rest := st) (Qv := Qv) (Qx := Qx) (as := ((vR (some b) :: As).map cV).toArray) hkn hkw hh ?_ kk kx
  refine vx_runVN (own := own) (index := i) (As := As.map cV) (cells := n - s.heap.size) (slots := z - HW s.heap) ⟨hx, hb, hml, hown, hts⟩ hM (⟨va_cnB As.length hts (lw_meth w5) rfl rfl rfl (hKN.2.2.1 _ w1 rfl) (hts _ w4) ⟨w6, w7, w8⟩ ⟨by rw [hfr]; exact hR.1, by rw [hlo]; exact hR.2⟩, hts _ w2, hts _ w3⟩) ⟨preP_blind, hrecv, fun U hU hW => ⟨rfl, preP_at hKN hSH hh hU hW⟩⟩ rfl (List.length_map _) hls (by simp only [List.map_append, List.map_reverse, List.map_cons]; rfl) (by show 2 * 0 + _ ≤ 8; rw [cV_sum]; omega) d ⟨by omega, by omega⟩
theorem r_callSN (X : XY K own mn cc rt tb nL fr lo Y) {y : MethodName} {host : String} { c1 : ByteArray} {nL1 fr1 lo1 i : Nat} {rt1 : Option FieldType}  {As : List AV} {Qv : QvT} {Qx : QxT} (M : MSN own i y host c1 nL1 rt1  As.length)
    (hC : ∀ l, Ct K l y (ws_ y c1 nL1 rt1) fr1 lo1 (As.map cV) h n z Qv Qx) (hR : fr1 + 1 ≤ fr ∧ 8 + (nL1 + 11) + lo1 ≤ lo) (hst : (st.map cat).sum ≤ 8) (d : decode cc pc = .ok (.invokestatic i, 3))
    (kk : ∀ v h1 n1 z1, Qv v h1 n1 z1 → ∃ vs : List AV, v.toList = vs.map cV ∧ G K Y h1 n1 z1 (pc + 3) lv (vs ++ st)) (kx : ∀ ci q h1 n1 z1, Qx ci q h1 n1 z1 → GX K Y h1 n1 z1 pc lv ci q) : G K Y h n z pc lv (As.reverse ++ st) := by
  obtain ⟨p, l, e, R, s, m, args, below, meth, c, Q⟩ := Y
  obtain ⟨hx, hb, hml, hown, hts, hr, hlk, hKN, hSH, hkz, hkn, hkw, hfr, hlo, htr, htb, hmn⟩ := X
  intro H locs ls hh
  obtain ⟨w1, w2, w4, w5, w6, w7, w8⟩ := M
  have hzn : kz K ≤ n := by have h1 := hh.2.2.2.2.2.1.1; have h2 := hh.2.1; have h3 : (yS (p, l, e, R, s, m, args, below, meth, c, Q)) = s := rfl; rw [h3] at h1; omega
  have hM := hC l htr hzn hh.2.2.2.1 hh.2.2.2.2.1.1
  have h0 : s.heap.size ≤ H.size := hh.2.2.2.2.2.1.1
  have hHn : H.size = n := hh.2.1
  have hz9 := hh.2.2.2.2.1
  have hn9 := hh.2.2.2.1
  have hH0 : HW s.heap ≤ z := hz9.2
  have hls : ls.size = nL := by have h9 : ls.size = c.maxLocals := hh.2.2.2.2.2.2.1; rw [h9, hml]
  refine r_after (g := F0 m pc ls ((As.reverse ++ st).map cV)) (rest := st) (Qv := Qv) (Qx := Qx) (as := (As.map cV).toArray) hkn hkw hh ?_ kk kx
  refine vx_runSN (own := own) (index := i) (As := As.map cV) (cells := n - s.heap.size) (slots := z - HW s.heap) ⟨hx, hb, hml, hown, hts⟩ hM (⟨va_cnB As.length hts (lw_meth w5) rfl rfl rfl (hKN.2.2.1 _ w1 rfl) (hts _ w4) ⟨w6, w7, w8⟩ ⟨by rw [hfr]; exact hR.1, by rw [hlo]; exact hR.2⟩, hts _ w2, trivial⟩) ⟨preP_blind, fun U hU hW => ⟨rfl, preP_at hKN hSH hh hU hW⟩⟩ rfl (List.length_map _) hls (by simp only [List.map_append, List.map_reverse]) (by show 2 * 0 + _ ≤ 8; rw [cV_sum]; omega) d ⟨by omega, by omega⟩
theorem r_callIN (X : XY K own mn cc rt tb nL fr lo Y) {y : MethodName} {host : String} { c1 : ByteArray} {nL1 fr1 lo1 i : Nat} {b : Nat}  {As : List AV} {Qv : QvT} {Qx : QxT} (M : MIN own i y host c1 nL1  As.length)
    (hC : ∀ l, Ct K l y (ws_ y c1 nL1 none) fr1 lo1 ((vR (some b) :: As).map cV) h n z Qv Qx) (hR : fr1 + 1 ≤ fr ∧ 8 + (nL1 + 11) + lo1 ≤ lo) (hst : (st.map cat).sum ≤ 8) (d : decode cc pc = .ok (.invokespecial i, 3))
    (kk : ∀ v h1 n1 z1, Qv v h1 n1 z1 → ∃ vs : List AV, v.toList = vs.map cV ∧ G K Y h1 n1 z1 (pc + 3) lv (vs ++ st)) (kx : ∀ ci q h1 n1 z1, Qx ci q h1 n1 z1 → GX K Y h1 n1 z1 pc lv ci q) : G K Y h n z pc lv (As.reverse ++ vR (some b) :: st) := by
  obtain ⟨p, l, e, R, s, m, args, below, meth, c, Q⟩ := Y
  obtain ⟨hx, hb, hml, hown, hts, hr, hlk, hKN, hSH, hkz, hkn, hkw, hfr, hlo, htr, htb, hmn⟩ := X
  intro H locs ls hh
  obtain ⟨w1, w2, w3, w4, w5, w6, w7, w8⟩ := M
  have hzn : kz K ≤ n := by have h1 := hh.2.2.2.2.2.1.1; have h2 := hh.2.1; have h3 : (yS (p, l, e, R, s, m, args, below, meth, c, Q)) = s := rfl; rw [h3] at h1; omega
  have hM := hC l htr hzn hh.2.2.2.1 hh.2.2.2.2.1.1
  have h0 : s.heap.size ≤ H.size := hh.2.2.2.2.2.1.1
  have hHn : H.size = n := hh.2.1
  have hz9 := hh.2.2.2.2.1
  have hn9 := hh.2.2.2.1
  have hH0 : HW s.heap ≤ z := hz9.2
  have hls : ls.size = nL := by have h9 : ls.size = c.maxLocals := hh.2.2.2.2.2.2.1; rw [h9, hml]
  refine r_after (g := F0 m pc ls ((As.reverse ++ vR (some b) :: st).map cV)) (rest := st) (Qv := Qv) (Qx := Qx) (as := ((vR (some b) :: As).map cV).toArray) hkn hkw hh ?_ kk kx
  refine vx_runIN (own := own) (index := i) (As := As.map cV) (cells := n - s.heap.size) (slots := z - HW s.heap) ⟨hx, hb, hml, hown, hts⟩ hM (⟨va_cnB As.length hts (lw_meth w5) rfl rfl rfl (hKN.2.2.1 _ w1 rfl) (hts _ w4) ⟨w6, w7, w8⟩ ⟨by rw [hfr]; exact hR.1, by rw [hlo]; exact hR.2⟩, w3, hts _ w2⟩) ⟨preP_blind, fun U hU hW => ⟨rfl, preP_at hKN hSH hh hU hW⟩⟩ rfl (List.length_map _) hls (by simp only [List.map_append, List.map_reverse, List.map_cons]; rfl) (by show 2 * 0 + _ ≤ 8; rw [cV_sum]; omega) d ⟨by omega, by omega⟩
end CM
