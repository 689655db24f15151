set_option maxRecDepth 100000
/-- a method x found in the class C of the receiver as y: inherited, overriding, or declared without a body above -/
def MU (own : String) (i : Nat) (C owner : String) (x y : MethodName) (cc : ByteArray) (nL : Nat) (rt : Option FieldType) (k : Nat) : Prop := Cond.methodLink own i x ∈ lw_all ∧ Cond.sameMethod x.cls owner x.name x.desc ∈ lw_all ∧ Cond.selects C x y ∈ lw_all ∧ Cond.instanceMethod y ∈ lw_all ∧ Cond.initialized y.cls ∈ lw_all ∧ Cond.code y cc nL rt ∈ lw_all ∧
  (owner ≠ "java/lang/invoke/MethodHandle" ∧ owner ≠ "java/lang/invoke/VarHandle" ∧ (parseMethodDescriptor x.desc).map (fun d => d.parameters.length) = some k) ∧
  (y = ⟨owner, x.name, x.desc⟩ ∨ (Cond.instanceMethod ⟨owner, x.name, x.desc⟩ ∈ lw_all ∧ ∃ b0 m0 r0, Cond.code ⟨owner, x.name, x.desc⟩ b0 m0 r0 ∈ lw_all) ∨ Cond.declares ⟨owner, x.name, x.desc⟩ ∈ lw_tbl)
/-- a private method of a superclass, called on an object of the class C; y0: another method of the superclass that C has -/
def MZ (own : String) (i : Nat) (C : String) (x0 y0 y : MethodName) (cc : ByteArray) (nL : Nat) (rt : Option FieldType) (k : Nat) : Prop := Cond.methodLink own i y ∈ lw_all ∧ Cond.privateMethod y ∈ lw_tbl ∧ Cond.selects C x0 y0 ∈ lw_all ∧ Cond.instanceMethod y ∈ lw_all ∧ Cond.initialized y.cls ∈ lw_all ∧ Cond.code y cc nL rt ∈ lw_all ∧
  (y.cls ≠ "java/lang/invoke/MethodHandle" ∧ y.cls ≠ "java/lang/invoke/VarHandle" ∧ (parseMethodDescriptor y.desc).map (fun d => d.parameters.length) = some k) ∧ y0.cls = y.cls
theorem sel_priv {C : String} {x0 y0 y : MethodName} {args : Array Value} {s : State} (h1 : (Cond.selects C x0 y0).before args s = true) (h2 : (Cond.privateMethod y).before args s = true) (h3 : (Cond.instanceMethod y).before args s = true) (hy : y.cls ≠ "java/lang/invoke/MethodHandle" ∧ y.cls ≠ "java/lang/invoke/VarHandle") (hcl : y0.cls = y.cls) :
    (Cond.selects C y y).before args s = true ∧ (Cond.sameMethod y.cls y.cls y.name y.desc).before args s = true := by
  obtain ⟨mk, methM, hnamed, hmethM, -, -⟩ := Cond.instanceMethod_spec h3
  have hfound : s.methodFound? y.cls y.name y.desc = some mk := State.methodFound?_of_named hnamed hy
  obtain ⟨c2, r2, m2, q1, -, q3, -, kP, hkP, hkPi⟩ := Cond.selects_spec h1
  have e1 := findClass_of_methodNamed q3
  have e2 := findClass_of_methodNamed hnamed
  rw [hcl] at e1
  have e3 : m2.cls = mk.cls := Option.some.inj (e1.symm.trans e2)
  rw [e3] at hkP
  have hsel : selectMethod {} s.vm c2 mk = .method mk := selectMethod_private hmethM (Cond.privateMethod_at h2 mk methM hnamed hmethM)
  constructor
  · simp only [Cond.before, Cond.holds, Cond.value, q1, hfound, hnamed, hsel, hkP]
    simp; exact hkPi
  · have hn2 : s.methodNamed? ⟨y.cls, y.name, y.desc⟩ = some mk := hnamed
    simp only [Cond.before, Cond.holds, Cond.value, hfound, hn2, e2, hkP]
    simp; exact hkPi
section CU
variable {K : KT} {own mn : String} {cc : ByteArray} {rt : Option FieldType} {tb : List ExceptionTableEntry} {nL fr lo : Nat} {Y : YT} {h : AH} {n z : Nat} {pc : Nat} {lv : List (Nat × AV)} {st : List AV}
theorem r_callU (X : XY K own mn cc rt tb nL fr lo Y) {x y : MethodName} {C owner : String} {c1 : ByteArray} {nL1 fr1 lo1 i : Nat} {rt1 : Option FieldType} {b ci : Nat} {fs : List AV} {r : vw_C} {As : List AV} {Qv : QvT} {Qx : QxT} (hc : vwCl[ci]? = some r) (hrc : r.1 = C) {o : Option Nat} (ho : o = some b) (hbb : h b = some (.inr (ci, fs))) (M : MU own i C owner x y c1 nL1 rt1 As.length)
    (hC : ∀ l, Ct K l y (ws_ y c1 nL1 rt1) fr1 lo1 ((vR (some b) :: As).map cV) h n z Qv Qx) (hR : fr1 + 1 ≤ fr ∧ 8 + (nL1 + 11) + lo1 ≤ lo) (hst : (st.map cat).sum ≤ 8) (d : decode cc pc = .ok (.invokevirtual i, 3))
    (kk : ∀ v h1 n1 z1, Qv v h1 n1 z1 → ∃ vs : List AV, v.toList = vs.map cV ∧ G K Y h1 n1 z1 (pc + 3) lv (vs ++ st)) (kx : ∀ ci q h1 n1 z1, Qx ci q h1 n1 z1 → GX K Y h1 n1 z1 pc lv ci q) : G K Y h n z pc lv (As.reverse ++ vR o :: st) := by
  subst ho
  obtain ⟨p, l, e, R, s, m, args, below, meth, c, Q⟩ := Y
  obtain ⟨hx, hb, hml, hown, hts, hr, hlk, hKN, hSH, hkz, hkn, hkw, hfr, hlo, htr, htb, hmn⟩ := X
  intro H locs ls hh
  obtain ⟨w1, w2, w3, w4, w5, w6, w7, w8⟩ := M
  have hzn : kz K ≤ n := by have h1 := hh.2.2.2.2.2.1.1; have h2 := hh.2.1; have h3 : (yS (p, l, e, R, s, m, args, below, meth, c, Q)) = s := rfl; rw [h3] at h1; omega
  have hM := hC l htr hzn hh.2.2.2.1 hh.2.2.2.2.1.1
  have hrecv := hKN.recv hc (hh.1 b _ hbb)
  rw [hrc] at hrecv
  have h0 : s.heap.size ≤ H.size := hh.2.2.2.2.2.1.1
  have hHn : H.size = n := hh.2.1
  have hz9 := hh.2.2.2.2.1
  have hn9 := hh.2.2.2.1
  have hH0 : HW s.heap ≤ z := hz9.2
  have hls : ls.size = nL := by have h9 : ls.size = c.maxLocals := hh.2.2.2.2.2.2.1; rw [h9, hml]
  have hroom : (rmP K fr1 lo1 n z).frames + 1 ≤ R.frames ∧ 8 + (nL1 + 11) + (rmP K fr1 lo1 n z).locals ≤ R.locals := ⟨by rw [hfr]; exact hR.1, by rw [hlo]; exact hR.2⟩
  have hcw : va_CU R s args own C owner i x y c1 nL1 rt1 (ws_ y c1 nL1 rt1) (rmP K fr1 lo1 n z) (kn K - n) (kw K - z) As.length := by
    have good : GoodIn lw_all (va_wsU own i C owner x y (ws_ y c1 nL1 rt1)) := by
      unfold va_wsU
      refine lw_app (fun w hw => ?_) (lw_meth w6)
      simp only [List.mem_cons, List.not_mem_nil, or_false] at hw
      rcases hw with e | e | e | e | e <;> subst e
      · exact w1
      · exact w2
      · exact w3
      · exact w4
      · exact w5
    rcases w8 with w8 | ⟨w8, b0, m0, r0, w9⟩ | w8
    · exact va_cwU As.length hts good rfl rfl rfl w8 w7 hroom
    · refine va_cwO As.length hts ?_ rfl rfl rfl w9 w7 hroom
      unfold va_wsO
      refine lw_app (fun w hw => ?_) (lw_meth w6)
      simp only [List.mem_cons, List.not_mem_nil, or_false] at hw
      rcases hw with e | e | e | e | e | e <;> subst e
      · exact w1
      · exact w2
      · exact w8
      · exact w3
      · exact w4
      · exact w5
    · exact va_cwA As.length hts good rfl rfl rfl (hKN.2.2.1 _ w8 rfl) w7 hroom
  refine r_after (g := F0 m pc ls ((As.reverse ++ vR (some b) :: st).map cV)) (rest := st) (Qv := Qv) (Qx := Qx) (as := ((vR (some b) :: As).map cV).toArray) hkn hkw hh ?_ kk kx
  refine vx_runU (own := own) (index := i) (As := As.map cV) (cells := n - s.heap.size) (slots := z - HW s.heap) ⟨hx, hb, hml, hown, hts⟩ hM hcw ⟨preP_blind, hrecv, fun U hU hW => ⟨rfl, preP_at hKN hSH hh hU hW⟩⟩ rfl (List.length_map _) hls (by simp only [List.map_append, List.map_reverse, List.map_cons]; rfl) (by show 2 * 0 + _ ≤ 8; rw [cV_sum]; omega) d ⟨by omega, by omega⟩
theorem r_callZ (X : XY K own mn cc rt tb nL fr lo Y) {x0 y0 y : MethodName} {C : String} {c1 : ByteArray} {nL1 fr1 lo1 i : Nat} {rt1 : Option FieldType} {b ci : Nat} {fs : List AV} {r : vw_C} {As : List AV} {Qv : QvT} {Qx : QxT} (hc : vwCl[ci]? = some r) (hrc : r.1 = C) {o : Option Nat} (ho : o = some b) (hbb : h b = some (.inr (ci, fs))) (M : MZ own i C x0 y0 y c1 nL1 rt1 As.length)
    (hC : ∀ l, Ct K l y (ws_ y c1 nL1 rt1) fr1 lo1 ((vR (some b) :: As).map cV) h n z Qv Qx) (hR : fr1 + 1 ≤ fr ∧ 8 + (nL1 + 11) + lo1 ≤ lo) (hst : (st.map cat).sum ≤ 8) (d : decode cc pc = .ok (.invokevirtual i, 3))
    (kk : ∀ v h1 n1 z1, Qv v h1 n1 z1 → ∃ vs : List AV, v.toList = vs.map cV ∧ G K Y h1 n1 z1 (pc + 3) lv (vs ++ st)) (kx : ∀ ci q h1 n1 z1, Qx ci q h1 n1 z1 → GX K Y h1 n1 z1 pc lv ci q) : G K Y h n z pc lv (As.reverse ++ vR o :: st) := by
  subst ho
  obtain ⟨p, l, e, R, s, m, args, below, meth, c, Q⟩ := Y
  obtain ⟨hx, hb, hml, hown, hts, hr, hlk, hKN, hSH, hkz, hkn, hkw, hfr, hlo, htr, htb, hmn⟩ := X
  intro H locs ls hh
  obtain ⟨w1, w2, w3, w4, w5, w6, w7, w8⟩ := M
  have hzn : kz K ≤ n := by have h1 := hh.2.2.2.2.2.1.1; have h2 := hh.2.1; have h3 : (yS (p, l, e, R, s, m, args, below, meth, c, Q)) = s := rfl; rw [h3] at h1; omega
  have hM := hC l htr hzn hh.2.2.2.1 hh.2.2.2.2.1.1
  have hrecv := hKN.recv hc (hh.1 b _ hbb)
  rw [hrc] at hrecv
  have h0 : s.heap.size ≤ H.size := hh.2.2.2.2.2.1.1
  have hHn : H.size = n := hh.2.1
  have hz9 := hh.2.2.2.2.1
  have hn9 := hh.2.2.2.1
  have hH0 : HW s.heap ≤ z := hz9.2
  have hls : ls.size = nL := by have h9 : ls.size = c.maxLocals := hh.2.2.2.2.2.2.1; rw [h9, hml]
  have hroom : (rmP K fr1 lo1 n z).frames + 1 ≤ R.frames ∧ 8 + (nL1 + 11) + (rmP K fr1 lo1 n z).locals ≤ R.locals := ⟨by rw [hfr]; exact hR.1, by rw [hlo]; exact hR.2⟩
  have hpv : (Cond.privateMethod y).before args s = true := va_Nw.use rfl (hKN.2.2.1 _ w2 rfl)
  obtain ⟨s1, s2⟩ := sel_priv (hts _ w3) hpv (hts _ w4) ⟨w7.1, w7.2.1⟩ w8
  have hcw : va_CU R s args own C y.cls i y y c1 nL1 rt1 (ws_ y c1 nL1 rt1) (rmP K fr1 lo1 n z) (kn K - n) (kw K - z) As.length := by
    have ht : ∀ w ∈ (Cond.selects C y y :: Cond.sameMethod y.cls y.cls y.name y.desc :: lw_all), w.before args s = true := List.forall_mem_cons.mpr ⟨s1, List.forall_mem_cons.mpr ⟨s2, hts⟩⟩
    have up9 : ∀ {ws : List Cond}, GoodIn lw_all ws → GoodIn (Cond.selects C y y :: Cond.sameMethod y.cls y.cls y.name y.desc :: lw_all) ws := fun g w hw => ⟨List.mem_cons_of_mem _ (List.mem_cons_of_mem _ (g w hw).1), (g w hw).2⟩
    have good : GoodIn (Cond.selects C y y :: Cond.sameMethod y.cls y.cls y.name y.desc :: lw_all) (va_wsU own i C y.cls y y (ws_ y c1 nL1 rt1)) := by
      unfold va_wsU
      intro w hw
      rcases List.mem_append.mp hw with hw | hw
      · simp only [List.mem_cons, List.not_mem_nil, or_false] at hw
        rcases hw with e | e | e | e | e <;> subst e
        · exact up9 lw_self _ w1
        · exact ⟨List.mem_cons_of_mem _ List.mem_cons_self, good_of_word rfl⟩
        · exact ⟨List.mem_cons_self, good_of_word rfl⟩
        · exact up9 lw_self _ w4
        · exact up9 lw_self _ w5
      · exact up9 (lw_meth w6) _ hw
    exact va_cwU As.length ht good rfl rfl rfl rfl w7 hroom
  refine r_after (g := F0 m pc ls ((As.reverse ++ vR (some b) :: st).map cV)) (rest := st) (Qv := Qv) (Qx := Qx) (as := ((vR (some b) :: As).map cV).toArray) hkn hkw hh ?_ kk kx
  refine vx_runU (own := own) (index := i) (As := As.map cV) (cells := n - s.heap.size) (slots := z - HW s.heap) ⟨hx, hb, hml, hown, hts⟩ hM hcw ⟨preP_blind, hrecv, fun U hU hW => ⟨rfl, preP_at hKN hSH hh hU hW⟩⟩ rfl (List.length_map _) hls (by simp only [List.map_append, List.map_reverse, List.map_cons]; rfl) (by show 2 * 0 + _ ≤ 8; rw [cV_sum]; omega) d ⟨by omega, by omega⟩
end CU
