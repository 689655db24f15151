set_option maxRecDepth 100000
section IW0
variable {p : Program} {l : Launch} {e : Env} {R : Room} {s : State} {m : MethodId} {args : Array Value} {below : List Frame} {meth : Method} {c : Code}
theorem initW {T : State} {locs : List Loc} {cells slots : Nat} (X : Stand p l e R s m args below meth c T locs cells slots) (hexec : p.tables.exec = Jvm.exec) {own : String} (hown : s.vm.findClass own = some m.cls) {idx : Nat} {t : MethodName} (ht1 : t.name = "<init>")
    (hnot : t.cls ≠ "java/lang/invoke/MethodHandle" ∧ t.cls ≠ "java/lang/invoke/VarHandle") {bytes : ByteArray} {maxL : Nat} {hh : List (Nat × Nat × Nat × Nat)}
    (hlink : (Cond.methodLink own idx t).before args s = true) (hinst : (Cond.instanceMethod t).before args s = true) (hcode : (Cond.codeWith t bytes maxL none hh).before args s = true)
    {f : JFrame} (hf : f.method = m) {a : Addr} {argsL rest : List Value} (hlen : ∀ sig, parseMethodDescriptor t.desc = some sig → argsL.length = sig.parameters.length) (hstack : f.stack = argsL.reverse ++ .ref a :: rest) (hd : decode c.code f.pc = .ok (.invokespecial idx, 3)) :
    ∃ tm vm', s.methodNamed? t = some tm ∧ s.WarmedH vm' ∧ ∀ target, (∀ acts, Steps p.tables e below (doInvoke e ((T.setVm vm').setTop { f with stack := rest }) acts tm (.ref a :: argsL).toArray).1 target) → Steps p.tables e below (T.setTop f) target := by
  subst hf
  have h := X.here
  have hW := X.warmed
  have hpl : e.platform.magicAccessors = ({} : Platform).magicAccessors := by rw [X.admits.platform]
  obtain ⟨obj, methO, hnO, hmO, hstO, habO⟩ := Cond.instanceMethod_spec hinst
  obtain ⟨obj', methO', cO, hnO', hmO', hcO, hbO, hlO, -, -, hlockO, hsigO⟩ := Cond.codeWith_spec hcode
  cases hnO.symm.trans hnO'
  cases hmO.symm.trans hmO'
  obtain ⟨kO, hkO, hnameO⟩ := className_of_methodNamed hnO
  obtain ⟨hnameMO, hdescO⟩ := name_of_methodNamed hnO hmO
  obtain ⟨ci, hl, hright⟩ := Cond.methodLink_spec hown hnO hlink e.platform hpl
  have hE : s.MethodEntry e T.vm f.method.cls idx obj ci := State.methodEntry hW hl hright fun k hk => by
    cases hkO.symm.trans hk
    rw [hnameO]; exact hnot
  obtain ⟨dk, cf, nt, _, _, via, _, _, hd', hcf, hcp, -⟩ := hl.here
  have hcp' : cf.constantPool[idx]? = some (.methodref ci nt) ∨ cf.constantPool[idx]? = some (.interfaceMethodref ci nt) := by
    cases via
    · exact Or.inl (by simpa using hcp)
    · exact Or.inr (by simpa using hcp)
  have hwarm := hE.warmed
  have hreadyM := hE.ready
  have hreadyC := hE.classReady
  generalize hvm₂ : T.vm.called f.method.cls ci idx obj = vm₂ at hwarm hreadyM hreadyC
  obtain ⟨dk₂, hdk₂, hed₂⟩ := hwarm.alike.2.2 _ _ hd'
  obtain ⟨kO₂, hkO₂, heO₂⟩ := hwarm.alike.2.2 _ _ hkO
  have hmO₂ : vm₂.method? obj = some methO := by rw [hwarm.alike.method?]; exact hmO
  have hfound : lookupSpecial vm₂ obj.cls "<init>" methO.desc = .method obj := by
    rw [hwarm.alike.lookupSpecial, hdescO, ← ht1]; exact lookupSpecial_of_named hnO hmO hstO
  refine ⟨obj, vm₂, hnO, hwarm, fun target hrest => ?_⟩
  have hAt₂ : At (T.setVm vm₂) f.method c below := h.setVm (hW.alike.symm.trans hwarm.alike)
  jvm_step h [hexec, hd, invokespecial.wp_cold (e := e) (s := T) (s₀ := s) (f := f) (meth := methO) h.top hE hd' hcf hcp' hmO, hvm₂,
    invokespecial.wp_init (e := e) (s := T.setVm vm₂) (k := kO₂) (meth := methO) (m := obj) (a := a) (args := argsL) (rest := rest) (f := f)
      hAt₂.top ⟨dk₂, cf, ci, nt, hdk₂, by rw [hed₂]; exact hcf, hcp', hreadyC⟩ hreadyM hkO₂ hmO₂ (by rw [hnameMO]; exact ht1) hstO habO hfound (hlen _ hsigO) hstack]
  exact hrest
end IW0
section IW1
variable {p : Program} {l : Launch} {e : Env} {R : Room} {s : State} {m : MethodId} {args : Array Value} {below : List Frame} {meth : Method} {c : Code} {T : State} {locs : List Loc} {cells slots : Nat}
theorem vx_callIW (X : Stand p l e R s m args below meth c T locs cells slots) (hexec : p.tables.exec = Jvm.exec) {own : String} {index : Nat} {y : MethodName} {bytes : ByteArray} {maxL : Nat} {hh : List (Nat × Nat × Nat × Nat)}
    (hown : s.vm.findClass own = some m.cls) (hy1 : y.name = "<init>") (hlink : (Cond.methodLink own index y).before args s = true) (hinst : (Cond.instanceMethod y).before args s = true)
    (hcode : (Cond.codeWith y bytes maxL none hh).before args s = true) (hy : y.cls ≠ "java/lang/invoke/MethodHandle" ∧ y.cls ≠ "java/lang/invoke/VarHandle")
    {W9 : Nat} {Pre : Pt → Array Value → Prop} {Post : Pt → Array Value → Option Value → Pt → Prop} {PostX : Pt → Array Value → Addr → Pt → Prop} (hK : vx_Back l R p e below s args y 3 W9 Pre Post PostX)
    {g : JFrame} (hg : g.method = m) (hsize : g.locals.size = c.maxLocals) {a : Addr} {argsL rest : List Value} (hlen : ∀ sig, parseMethodDescriptor y.desc = some sig → argsL.length = sig.parameters.length)
    (hstack : g.stack = argsL.reverse ++ .ref a :: rest) (hW : 2 * g.monitorRoom + (rest.map fun v => v.category).sum ≤ W9) (hdg : decode c.code g.pc = .ok (.invokespecial index, 3))
    (hpre : ∀ vm₁, s.WarmedH vm₁ → Pre ⟨T.setVm vm₁, locs, cells, slots⟩ (Value.ref a :: argsL).toArray) :
    (∃ (v : Option Value) (vm₁ : Vm) (B : Pt), s.WarmedH vm₁ ∧ Stand p l e R s m args below meth c B.U B.locs B.cells B.slots ∧ Post ⟨T.setVm vm₁, locs, cells, slots⟩ (Value.ref a :: argsL).toArray v B ∧
      ∀ target, Steps p.tables e below (B.U.setTop { g with pc := g.pc + 3, stack := v.toList ++ rest }) target → Steps p.tables e below (T.setTop g) target) ∨
    (∃ (q : Addr) (vm₁ : Vm) (B : Pt), s.WarmedH vm₁ ∧ Stand p l e R s m args below meth c B.U B.locs B.cells B.slots ∧ PostX ⟨T.setVm vm₁, locs, cells, slots⟩ (Value.ref a :: argsL).toArray q B ∧
      Steps p.tables e below (T.setTop g) ((B.U.setTop { g with stack := rest }).pushFrame (.throwing q))) := by
  subst hg
  obtain ⟨mk, vm₁, hnamed, hW₁, hstep₁⟩ := initW X hexec hown hy1 hy hlink hinst hcode (f := g) rfl hlen hstack hdg
  have X₁ := X.noted hW₁
  rcases hK g.method meth c ⟨T.setVm vm₁, locs, cells, slots⟩ { g with stack := rest } (.invokespecial index) mk (Value.ref a :: argsL).toArray X₁ rfl hsize hdg hW (X₁.named hnamed) (hpre vm₁ X₁.warmed) with ⟨v, B, X', hpost, hsteps⟩ | ⟨q, B, X', hpost, hsteps⟩
  · exact Or.inl ⟨v, vm₁, B, X₁.warmed, X', hpost, fun target h => hstep₁ _ fun acts => by rw [doInvoke_state]; exact hsteps.trans h⟩
  · exact Or.inr ⟨q, vm₁, B, X₁.warmed, X', hpost, hstep₁ _ fun acts => by rw [doInvoke_state]; exact hsteps⟩
end IW1
section IW2
variable {p : Program} {l : Launch} {e : Env} {R : Room} {s : State} {m : MethodId} {args : Array Value} {below : List Frame} {meth : Method} {c : Code} {H : Heap} {locs : List Loc} {cells slots : Nat}
variable {y : MethodName} {bytes cc : ByteArray} {maxL nL mc ms n index : Nat} {ret : Option FieldType} {ws : List Cond} {rm : Room} {Pc : Array Value → State → Prop} {Qc : Array Value → State → Outcome → State → Prop} {XC : String → Addr → State → State → Prop} {free : Addr → Prop} {Ts : List Cond} {own C : String} {b : Addr} {As rest : List Value} {g : JFrame}
theorem vx_runIW {hh : List (Nat × Nat × Nat × Nat)} (S : CallFix p m c cc nL s args Ts own) (hM : vx_Met l y ws rm Pc Qc XC mc ms free) (hrc : rm.cells = mc) (hrs : rm.slots = ms) (hfr : rm.frames + 1 ≤ R.frames) (hlo : 8 + (maxL + 11) + rm.locals ≤ R.locals) (hws : ∀ w ∈ ws, ∀ (a' : Array Value) (U : State), s.WarmedH U.vm → w.before a' U = true) (hcw : Cond.codeWith y bytes maxL none hh ∈ ws) (hcode : (Cond.codeWith y bytes maxL none hh).before args s = true) (hini : (Cond.initialized y.cls).before args s = true) (hy : y.cls ≠ "java/lang/invoke/MethodHandle" ∧ y.cls ≠ "java/lang/invoke/VarHandle")
    (hlen : ∀ sig, parseMethodDescriptor y.desc = some sig → n = sig.parameters.length) (hl : (Cond.methodLink own index y).before args s = true) (hy1 : y.name = "<init>") (hin : (Cond.instanceMethod y).before args s = true) (hp : PreS s H Pc (.ref b :: As))
    (hg : g.method = m) (hn : As.length = n) (hsize : g.locals.size = nL) (hstack : g.stack = As.reverse ++ .ref b :: rest) (hW : 2 * g.monitorRoom + (rest.map fun v => v.category).sum ≤ 8) (hdg : decode cc g.pc = .ok (.invokespecial index, 3)) (hf : cells + mc ≤ R.cells ∧ slots + ms ≤ R.slots) :
    vx_Run p l e R s m args below meth c H locs cells slots mc ms g rest (Qc (Value.ref b :: As).toArray) XC free := by
  have hK : vx_Back l R p e below s args y 3 8 (PreOf R mc ms Pc) (PostOf Qc mc ms free) (vx_Post XC mc ms free) := vx_backW (hh := hh) (bytes := bytes) (maxL := maxL) (ret := none) hM hp.1 hrc hrs hfr hlo hws hcw (fun a' U hW => word_at hW (Or.inl (by first | rfl | simp [Cond.onTables, Cond.keeps, Cond.steady])) hini)
  obtain ⟨hx, hb, hml, ho, -⟩ := S
  have hPc := hp.2
  intro T hT X
  rcases vx_callIW X hx (hh := hh) (bytes := bytes) (maxL := maxL) ho hy1 hl hin hcode hy hK hg (hsize.trans hml.symm) (a := b) (argsL := As) (rest := rest) (fun sig h => hn.trans (hlen sig h)) hstack hW (by rw [hb]; exact hdg)
    (fun vm₁ hW₁ => ⟨hf.1, hf.2, hPc (T.setVm vm₁) hT hW₁⟩) with ⟨v, vm₁, ⟨U', l2, c2, s2⟩, hW₁, X', ⟨g', mk, t, L, e1, e2, hq, h1, hL, h2, h3⟩, st⟩ | ⟨q, vm₁, ⟨U', l2, c2, s2⟩, hW₁, X', ⟨g', mk, t, L, E, ce, e1, e2, hq, hce, hcv, hcl, h1, hL, h2, h3⟩, st⟩
  · dsimp only [Pt.U, Pt.locs, Pt.cells, Pt.slots] at X' e1 e2 h1 h2 h3 st
    subst h1; subst h2; subst h3
    exact Or.inl ⟨v, (T.setVm vm₁).calling g' mk (Value.ref b :: As).toArray, t, U', L, hT, X', hL, e1, e2, hq, st⟩
  · dsimp only [Pt.U, Pt.locs, Pt.cells, Pt.slots] at X' e1 e2 h1 h2 h3 st hcl
    subst h1; subst h2; subst h3
    exact Or.inr ⟨q, (T.setVm vm₁).calling g' mk (Value.ref b :: As).toArray, t, U', L, E, ce, hT, X', hL, e1, e2, hq, hce, hcv, vx_cls hW₁ hcl, st⟩
end IW2
section CM2
variable {K : KT} {own mn : String} {cc : ByteArray} {rt : Option FieldType} {tb : List ExceptionTableEntry} {nL fr lo : Nat} {Y : YT} {h : AH} {n z : Nat} {pc : Nat} {lv : List (Nat × AV)} {st : List AV}
def MIX (own : String) (i : Nat) (y : MethodName) (cc : ByteArray) (nL : Nat) (hh : List (Nat × Nat × Nat × Nat)) (k : Nat) : Prop := Cond.methodLink own i y ∈ lw_all ∧ Cond.instanceMethod y ∈ lw_all ∧ y.name = "<init>" ∧ Cond.initialized y.cls ∈ lw_all ∧ Cond.codeWith y cc nL none hh ∈ lw_all ∧
  y.cls ≠ "java/lang/invoke/MethodHandle" ∧ y.cls ≠ "java/lang/invoke/VarHandle" ∧ (parseMethodDescriptor y.desc).map (fun d => d.parameters.length) = some k
theorem r_callIX (X : XY K own mn cc rt tb nL fr lo Y) {y : MethodName} { c1 : ByteArray} {nL1 fr1 lo1 i : Nat} {hh1 : List (Nat × Nat × Nat × Nat)} {b : Nat}  {As : List AV} {Qv : QvT} {Qx : QxT} (M : MIX own i y c1 nL1 hh1 As.length)
    (hC : ∀ l, Ct K l y (wsW_ y c1 nL1 none hh1) fr1 lo1 ((vR (some b) :: As).map cV) h n z Qv Qx) (hR : fr1 + 1 ≤ fr ∧ 8 + (nL1 + 11) + lo1 ≤ lo) (hst : (st.map cat).sum ≤ 8) (d : decode cc pc = .ok (.invokespecial i, 3))
    (kk : ∀ v h1 n1 z1, Qv v h1 n1 z1 → ∃ vs : List AV, v.toList = vs.map cV ∧ G K Y h1 n1 z1 (pc + 3) lv (vs ++ st)) (kx : ∀ ci q h1 n1 z1, Qx ci q h1 n1 z1 → GX K Y h1 n1 z1 pc lv ci q) : G K Y h n z pc lv (As.reverse ++ vR (some b) :: st) := by
  obtain ⟨p, l, e, R, s, m, args, below, meth, c, Q⟩ := Y
  obtain ⟨hx, hb, hml, hown, hts, hr, hlk, hKN, hSH, hkz, hkn, hkw, hfr, hlo, htr, htb, hmn⟩ := X
  intro H locs ls hh
  obtain ⟨w1, w2, w3, w4, w5, w6, w7, w8⟩ := M
  have hzn : kz K ≤ n := by have h1 := hh.2.2.2.2.2.1.1; have h2 := hh.2.1; have h3 : (yS (p, l, e, R, s, m, args, below, meth, c, Q)) = s := rfl; rw [h3] at h1; omega
  have hM := hC l htr hzn hh.2.2.2.1 hh.2.2.2.2.1.1
  have h0 : s.heap.size ≤ H.size := hh.2.2.2.2.2.1.1
  have hHn : H.size = n := hh.2.1
  have hz9 := hh.2.2.2.2.1
  have hn9 := hh.2.2.2.1
  have hH0 : HW s.heap ≤ z := hz9.2
  have hls : ls.size = nL := by have h9 : ls.size = c.maxLocals := hh.2.2.2.2.2.2.1; rw [h9, hml]
  refine r_after (g := F0 m pc ls ((As.reverse ++ vR (some b) :: st).map cV)) (rest := st) (Qv := Qv) (Qx := Qx) (as := ((vR (some b) :: As).map cV).toArray) hkn hkw hh ?_ kk kx
  refine vx_runIW (own := own) (index := i) (As := As.map cV) (cells := n - s.heap.size) (slots := z - HW s.heap) ⟨hx, hb, hml, hown, hts⟩ (hh := hh1) hM rfl rfl (by rw [hfr]; exact hR.1) (by rw [hlo]; exact hR.2) (pay_in hts (lw_methW w5)) (List.mem_cons_self) (hts _ w5) (hts _ w4) ⟨w6, w7⟩ (fun sig h9 => by have h2 := w8; rw [h9] at h2; exact (Option.some.inj h2).symm) (hts _ w1) w3 (hts _ w2) ⟨preP_blind, fun U hU hW => ⟨rfl, preP_at hKN hSH hh hU hW⟩⟩ rfl (List.length_map _) hls (by simp only [List.map_append, List.map_reverse, List.map_cons]; rfl) (by show 2 * 0 + _ ≤ 8; rw [cV_sum]; omega) d ⟨by omega, by omega⟩
end CM2
section CF5
variable {K : KT} {own mn : String} {cc : ByteArray} {rt : Option FieldType} {tb : List ExceptionTableEntry} {nL fr lo : Nat} {Y : YT} {h : AH} {n z : Nat} {pc : Nat} {lv : List (Nat × AV)} {st : List AV}
variable {p : Program} {l : Launch} {e : Env} {R : Room} {s : State} {m : MethodId} {args : Array Value} {below : List Frame} {meth : Method} {c : Code} {Q : State → Prop} {H : Heap} {locs : List Loc} {ls : Array Slot}
theorem r_after5 (hkn : s.heap.size + R.cells = kn K) (hkw : HW s.heap + R.slots = kw K) (hh : HL K (p, l, e, R, s, m, args, below, meth, c, Q) h n z lv H locs ls) {as : Array Value} {Qv : QvT} {Qx : QxT} {g : JFrame} {rest : List AV}
    (hr : vx_Run5 p l e R s m args below meth c H locs (n - s.heap.size) (z - HW s.heap) (kn K - n) (kw K - z) (F0 m pc ls g.stack) (rest.map cV) (QcP K Qv as) (XcP K Qx) (fun q => kz K ≤ q))
    (kk : ∀ v h1 n1 z1, Qv v h1 n1 z1 → ∃ vs : List AV, v.toList = vs.map cV ∧ G K (p, l, e, R, s, m, args, below, meth, c, Q) h1 n1 z1 (pc + 5) lv (vs ++ rest))
    (kx : ∀ ci q h1 n1 z1, Qx ci q h1 n1 z1 → GX K (p, l, e, R, s, m, args, below, meth, c, Q) h1 n1 z1 pc lv ci q) :
    W p l e R s m args below meth c H locs R.cells R.slots Q (F0 m pc ls g.stack) := by
  have h0 : s.heap.size ≤ H.size := hh.2.2.2.2.2.1.1
  have hHn : H.size = n := hh.2.1
  have hHz : HW H = z := hh.2.2.1
  have hn := hh.2.2.2.1
  have hz := hh.2.2.2.2.1
  have hH0 : HW s.heap ≤ z := hz.2
  refine W.tight (k := n - s.heap.size) (w := z - HW s.heap) (by omega) (by omega) ?_
  have key : ∀ {st₀ t T' : State} {L : List Loc} {h1 n1 z1}, st₀.heap = H → T'.heap = t.heap → (∀ q ∈ L, kz K ≤ q.base) → RS K st₀ t h1 n1 z1 → HL K (p, l, e, R, s, m, args, below, meth, c, Q) h1 n1 z1 lv T'.heap (locs ++ L) ls := by
    intro st₀ t T' L h1 n1 z1 e0 e1 hL hRS
    obtain ⟨r1, r2, r3, r4, r5, r6, r7⟩ := hRS
    rw [e0] at r5 r6 r7
    refine ⟨by rw [e1]; exact r1, by rw [e1]; exact r2, by rw [e1]; exact r3, r4, ⟨r5.1, Nat.le_trans hH0 (by rw [← hHz]; exact r5.2)⟩, ⟨by rw [e1, r2]; exact Nat.le_trans h0 r6, fun q q1 q2 => ?_, fun q hq => ?_⟩, hh.2.2.2.2.2.2⟩
    · rw [e1, r7 q (Nat.lt_of_lt_of_le q1 h0) q2]
      exact hh.2.2.2.2.2.1.2.1 q q1 q2
    · rcases List.mem_append.mp hq with h9 | h9
      · exact hh.2.2.2.2.2.1.2.2 q h9
      · exact hL q h9
  intro T hT X
  rcases hr T hT X with ⟨v, st₀, t, T', L, e0, X', hL, e1, e2, ⟨v', h1, n1, z1, ev, hq, hRS⟩, st9⟩ | ⟨q, st₀, t, T', L, E, ce, e0, X', hL, e1, e2, ⟨ci, h1, n1, z1, hE, hq, hRS⟩, hce, hcv, hcl, st9⟩
  · cases ev
    obtain ⟨vs, hvs, hG⟩ := kk _ _ _ _ hq
    have hw := hG T'.heap (locs ++ L) ls (key e0 e1 hL hRS)
    obtain ⟨t2, a1, b1⟩ := hw T' rfl (stand_widen X' (by omega) (by omega))
    refine ⟨t2, st9 t2 ?_, b1⟩
    have ef : ({ F0 m pc ls g.stack with pc := pc + 5, stack := v.toList ++ rest.map cV } : JFrame) = F0 m (pc + 5) ls ((vs ++ rest).map cV) := by rw [List.map_append, hvs]
    rw [ef]; exact a1
  · have hx := kx _ _ _ _ _ hq T'.heap (locs ++ L) ls (rest.map cV) E ce (key e0 e1 hL hRS) hE (by rw [e1]; exact hce) hcv hcl
    obtain ⟨t2, a1, b1⟩ := hx T' rfl (stand_widen X' (by omega) (by omega))
    exact ⟨t2, st9.trans a1, b1⟩
end CF5
section R18
variable {K : KT} {own mn : String} {cc : ByteArray} {rt : Option FieldType} {tb : List ExceptionTableEntry} {nL fr lo : Nat} {Y : YT} {h : AH} {n z : Nat} {pc : Nat} {lv : List (Nat × AV)} {st : List AV}
def MF (own : String) (i : Nat) (C : String) (x y : MethodName) (cc : ByteArray) (nL : Nat) (rt : Option FieldType) (k : Nat) : Prop := Cond.methodLink own i x ∈ lw_all ∧ Cond.selects C x y ∈ lw_all ∧ Cond.instanceMethod y ∈ lw_all ∧ Cond.initialized y.cls ∈ lw_all ∧ Cond.code y cc nL rt ∈ lw_all ∧ (C, x, y) ∈ fwL ∧ (parseMethodDescriptor x.desc).map (fun d => d.parameters.length) = some k
theorem r_callF (X : XY K own mn cc rt tb nL fr lo Y) {x y : MethodName} {C : String} {c1 : ByteArray} {nL1 fr1 lo1 i cnt : Nat} {rt1 : Option FieldType} {b ci : Nat} {fs : List AV} {r : vw_C} {As : List AV} {Qv : QvT} {Qx : QxT} (hc : vwCl[ci]? = some r) (hrc : r.1 = C) {o : Option Nat} (ho : o = some b) (hbb : h b = some (.inr (ci, fs))) (M : MF own i C x y c1 nL1 rt1 As.length)
    (hC : ∀ l, Ct K l y (ws_ y c1 nL1 rt1) fr1 lo1 ((vR (some b) :: As).map cV) h n z Qv Qx) (hR : fr1 + 1 ≤ fr ∧ 8 + (nL1 + 11) + lo1 ≤ lo) (hst : (st.map cat).sum ≤ 8) (d : decode cc pc = .ok (.invokeinterface i cnt, 5))
    (kk : ∀ v h1 n1 z1, Qv v h1 n1 z1 → ∃ vs : List AV, v.toList = vs.map cV ∧ G K Y h1 n1 z1 (pc + 5) lv (vs ++ st)) (kx : ∀ ci q h1 n1 z1, Qx ci q h1 n1 z1 → GX K Y h1 n1 z1 pc lv ci q) : G K Y h n z pc lv (As.reverse ++ vR o :: st) := by
  subst ho
  obtain ⟨p, l, e, R, s, m, args, below, meth, c, Q⟩ := Y
  obtain ⟨hx, hb, hml, hown, hts, hr, hlk, hKN, hSH, hkz, hkn, hkw, hfr, hlo, htr, htb, hmn⟩ := X
  intro H locs ls hh
  obtain ⟨w1, w2, w3, w4, w5, w6, w7⟩ := M
  have hzn : kz K ≤ n := by have h1 := hh.2.2.2.2.2.1.1; have h2 := hh.2.1; have h3 : (yS (p, l, e, R, s, m, args, below, meth, c, Q)) = s := rfl; rw [h3] at h1; omega
  have hM := hC l htr hzn hh.2.2.2.1 hh.2.2.2.2.1.1
  have hrecv := hKN.recv hc (hh.1 b _ hbb)
  rw [hrc] at hrecv
  have hat := hKN.cls hc
  rw [hrc] at hat
  have h0 : s.heap.size ≤ H.size := hh.2.2.2.2.2.1.1
  have hHn : H.size = n := hh.2.1
  have hz9 := hh.2.2.2.2.1
  have hn9 := hh.2.2.2.1
  have hH0 : HW s.heap ≤ z := hz9.2
  have hls : ls.size = nL := by have h9 : ls.size = c.maxLocals := hh.2.2.2.2.2.2.1; rw [h9, hml]
  have good : GoodIn lw_all (va_wsF own i C x y (ws_ y c1 nL1 rt1)) := by
    unfold va_wsF
    refine lw_app (fun w hw => ?_) (lw_meth w5)
    simp only [List.mem_cons, List.not_mem_nil, or_false] at hw
    rcases hw with e | e | e | e <;> subst e
    · exact w1
    · exact w2
    · exact w3
    · exact w4
  obtain ⟨f1, f2⟩ := hKN.2.2.2.2.1 _ w6
  refine r_after5 (g := F0 m pc ls ((As.reverse ++ vR (some b) :: st).map cV)) (rest := st) (Qv := Qv) (Qx := Qx) (as := ((vR (some b) :: As).map cV).toArray) hkn hkw hh ?_ kk kx
  refine vx_runF (own := own) (index := i) (count := cnt) (As := As.map cV) (cells := n - s.heap.size) (slots := z - HW s.heap) hat ⟨hx, hb, hml, hown, hts⟩ hM (va_cwF As.length hts good rfl rfl rfl f2 ⟨f1.1, f1.2, w7⟩ ⟨by rw [hfr]; exact hR.1, by rw [hlo]; exact hR.2⟩) ⟨preP_blind, hrecv, fun U hU hW => ⟨rfl, preP_at hKN hSH hh hU hW⟩⟩ rfl (List.length_map _) hls (by simp only [List.map_append, List.map_reverse, List.map_cons]; rfl) (by show 2 * 0 + _ ≤ 8; rw [cV_sum]; omega) d ⟨by omega, by omega⟩
/-! references copied -/
theorem r_copyR (X : XY K own mn cc rt tb nL fr lo Y) {i a0 a t N0 N : Nat} {C : String} {L : List Nat} {f g : Int → Option Nat} {sp dp len : Int} (ht : vwTy[t]? = some (.object C)) (hL : ∀ ci ∈ L, CO ci C) (w1 : Cond.methodLink own i arraycopyName ∈ lw_all) (w2 : Cond.native arraycopyName ∈ lw_all) (w3 : Cond.static arraycopyName ∈ lw_all) (w4 : Cond.initialized "java/lang/System" ∈ lw_all)
    (d : decode cc pc = .ok (.invokestatic i, 3)) (ha0 : h a0 = some (.inl (t, N0, .inr (.inl f)))) (ha : h a = some (.inl (t, N, .inr (.inl g)))) (hz : kz K ≤ a) (hs : 0 ≤ sp ∧ 0 ≤ dp ∧ 0 ≤ len) (hN0 : sp + len ≤ N0) (hN : dp + len ≤ N) (hel : ∀ j : Int, 0 ≤ j → j < len → f (sp + j) = none ∨ ∃ (b ci : Nat) (fs : List AV), f (sp + j) = some b ∧ h b = some (.inr (ci, fs)) ∧ ci ∈ L)
    (hR : 1 ≤ fr ∧ (st.map cat).sum + (nativeFrameWords "java/lang/System" "arraycopy" 5 + 11) ≤ lo) (kk : G K Y (up h a (.inl (t, N, .inr (.inl (cpI f g sp dp len))))) n z (pc + 3) lv st) : G K Y h n z pc lv (vI len :: vI dp :: vR (some a) :: vI sp :: vR (some a0) :: st) := by
  refine r_copyG X (g1 := .inr (.inl (cpI f g sp dp len))) (t0 := t) (t := t) ht ht w1 w2 w3 w4 (by simp [refKind]) d ha0 ha hz hs hN0 hN ?_ ?_ hR kk
  · intro j hj
    simp only [cC, cpI]
    by_cases hin : dp ≤ j ∧ (j : Int) < dp + len
    · rw [if_pos hin, if_pos hin]; congr 2; omega
    · rw [if_neg hin, if_neg hin]
  · intro s H hKN hH vm' hal T hT j hj dComp hd
    have e9 : ((sp.toNat + j : Nat) : Int) = sp + j := by omega
    show fits (.object C) (va_rf (f ((sp.toNat + j : Nat) : Int))) = true ∧ (T.setVm vm').takes dComp (va_rf (f ((sp.toNat + j : Nat) : Int)))
    rw [e9]
    rcases hel j (by omega) hj with h1 | ⟨b, ci, fs, h1, h2, h3⟩
    · rw [h1]; exact ⟨rfl, trivial⟩
    · rw [h1]
      obtain ⟨r, cv, v0, v1, v2, v3, v4, v5, v6, v7⟩ := hH b _ h2
      obtain ⟨-, gt2, kA, comp, r1, r2, r3, r4⟩ := hKN.2.1 t _ ht
      obtain ⟨k1, hk1, hkk1⟩ := hd
      cases hk1.symm.trans r1
      cases hkk1.symm.trans r2
      have hcls := hKN.cls v0
      obtain ⟨kC, hkC, -⟩ := hcls.2
      obtain ⟨kE, hkE, -⟩ := Vm.findClass_spec r3
      obtain ⟨kC', hkC', -⟩ := hal.2.2 _ _ hkC
      obtain ⟨kE', hkE', -⟩ := hal.2.2 _ _ hkE
      refine ⟨rfl, cv, (show T.heap[b]? = some cv by rw [hT]; exact v1), (fun q h => by rw [h] at v3; cases v3), ⟨kC', by rw [v2]; exact hkC'⟩, ⟨kE', hkE'⟩, ?_⟩
      show vm'.assignable _ _ = true
      rw [hal.assignable, v2]
      obtain ⟨r', w0, w1⟩ := hL ci h3
      have er : r' = r := Option.some.inj (w0.symm.trans v0)
      subst er
      rcases w1 with w1 | w1
      · have : dComp = K.1.1 ci := by
          have h9 := hcls.1
          rw [w1, r3] at h9
          exact Option.some.inj h9
        rw [this]; exact va_assign hcls
      · obtain ⟨c0, t0, f1, f2, f3⟩ := Cond.castable_spec (va_Nw.use (A := #[]) rfl (hKN.2.2.1 _ w1 rfl))
        cases hcls.1.symm.trans f1
        cases r3.symm.trans f2
        exact f3
theorem r_hCopyR (X : XY K own mn cc rt tb nL fr lo Y) {i t : Nat} {C : String} {o o1 : Option Nat} {sp dp len : Int} {L : List Nat} {κ : AH → Prop} (ht : vwTy[t]? = some (.object C)) (hL : ∀ ci ∈ L, CO ci C) (w1 : Cond.methodLink own i arraycopyName ∈ lw_all) (w2 : Cond.native arraycopyName ∈ lw_all) (w3 : Cond.static arraycopyName ∈ lw_all) (w4 : Cond.initialized "java/lang/System" ∈ lw_all) (hR : 1 ≤ fr ∧ (st.map cat).sum + (nativeFrameWords "java/lang/System" "arraycopy" 5 + 11) ≤ lo) (d : decode cc pc = .ok (.invokestatic i, 3)) (hp : pCopyR K h o sp o1 dp len t L κ) (kk : ∀ h1, κ h1 → G K Y h1 n z (pc + 3) lv st) : G K Y h n z pc lv (vI len :: vI dp :: vR o1 :: vI sp :: vR o :: st) := by
  obtain ⟨a0, a, N0, N, f, g, rfl, rfl, h1, h2, h3, h4, h5, h6, h7, h8⟩ := hp
  exact r_copyR X ht hL w1 w2 w3 w4 d h1 h2 h3 h4 h5 h6 h7 hR (kk _ h8)
/-! floats -/
def ci32 (x : Int32) : Int := x.toInt
theorem iN_ci (x : Int32) : iN (ci32 x) = x := by unfold iN ci32; exact Int32.ofInt_toInt x
theorem r_fmul (X : XY K own mn cc rt tb nL fr lo Y) {x y : UInt32} (d : decode cc pc = .ok (.fmul, 1)) (hne : vf_n32 (FP.fmul x y)) (kk : G K Y h n z (pc + 1) lv (vF (FP.fmul x y) :: st)) : G K Y h n z pc lv (vF y :: vF x :: st) := by
  obtain ⟨p, l, e, R, s, m, args, below, meth, c, Q⟩ := Y
  obtain ⟨hx, hb, -⟩ := X
  intro H locs ls hh
  exact lv_fmul hx hb d hne (kk H locs ls hh)
theorem r_fcmp (X : XY K own mn cc rt tb nL fr lo Y) {x y : UInt32} {op : CmpOp} (d : decode cc pc = .ok (.fcmp op, 1)) (kk : G K Y h n z (pc + 1) lv (vI (ci32 (Op.cmpValue (FP.fcmp x y) op)) :: st)) : G K Y h n z pc lv (vF y :: vF x :: st) := by
  obtain ⟨p, l, e, R, s, m, args, below, meth, c, Q⟩ := Y
  obtain ⟨hx, hb, -⟩ := X
  intro H locs ls hh
  have h9 := kk H locs ls hh
  simp only [List.map_cons, cV, iN_ci] at h9
  exact lv_fcmp hx hb d h9
theorem r_f2i (X : XY K own mn cc rt tb nL fr lo Y) {x : UInt32} (d : decode cc pc = .ok (.f2i, 1)) (kk : G K Y h n z (pc + 1) lv (vI (ci32 (FP.f2i x)) :: st)) : G K Y h n z pc lv (vF x :: st) := by
  obtain ⟨p, l, e, R, s, m, args, below, meth, c, Q⟩ := Y
  obtain ⟨hx, hb, -⟩ := X
  intro H locs ls hh
  have h9 := kk H locs ls hh
  simp only [List.map_cons, cV, iN_ci] at h9
  exact lv_f2i hx hb d h9
def f2r (x : UInt32) : Int := ci32 x.toInt32
theorem r_f2r (X : XY K own mn cc rt tb nL fr lo Y) {i : Nat} {x : UInt32} (w1 : Cond.methodLink own i ⟨"java/lang/Float", "floatToRawIntBits", "(F)I"⟩ ∈ lw_all) (w2 : Cond.native ⟨"java/lang/Float", "floatToRawIntBits", "(F)I"⟩ ∈ lw_all) (w3 : Cond.static ⟨"java/lang/Float", "floatToRawIntBits", "(F)I"⟩ ∈ lw_all) (w4 : Cond.initialized "java/lang/Float" ∈ lw_all) (hR : 1 ≤ fr ∧ (st.map cat).sum + 15 ≤ lo) (d : decode cc pc = .ok (.invokestatic i, 3)) (kk : G K Y h n z (pc + 3) lv (vI (f2r x) :: st)) : G K Y h n z pc lv (vF x :: st) := by
  obtain ⟨p, l, e, R, s, m, args, below, meth, c, Q⟩ := Y
  obtain ⟨hx, hb, hml, hown, hts, hr, hlk, hKN, hSH, hkz, hkn, hkw, hfr, hlo, htr, htb, hmn⟩ := X
  intro H locs ls hh
  have h9 := kk H locs ls hh
  simp only [List.map_cons, cV, f2r, iN_ci] at h9
  have hls : ls.size = c.maxLocals := hh.2.2.2.2.2.2.1
  exact vn_f2i hx hb hls.symm hown (hts _ w1) (hts _ w2) (hts _ w3) (hts _ w4) (by rw [hfr]; exact hR.1) (by rw [hlo, cV_sum]; exact hR.2) d h9
/-! arrays: a cast, a clone -/
def pCastA (K : KT) (h : AH) (o : Option Nat) (t : Nat) (κ : Prop) : Prop := ∃ (a N : Nat) (c : AC), o = some a ∧ h a = some (.inl (t, N, c)) ∧ kz K ≤ a ∧ κ
theorem r_hCastA (X : XY K own mn cc rt tb nL fr lo Y) {i t : Nat} {ty : FieldType} {nm : String} {o : Option Nat} {κ : Prop} (w : Cond.classLink own i nm ∈ lw_all) (ht : vwTy[t]? = some ty) (hnm : ∀ U cA, va_RA U cA ty → U.vm.findClass nm = some cA) (d : decode cc pc = .ok (.checkcast i, 3)) (hp : pCastA K h o t κ) (kk : κ → G K Y h n z (pc + 3) lv (vR o :: st)) : G K Y h n z pc lv (vR o :: st) := by
  obtain ⟨a, N, c0, rfl, h1, h2, h3⟩ := hp
  obtain ⟨p, l, e, R, s, m, args, below, meth, c, Q⟩ := Y
  obtain ⟨hx, hb, hml, hown, hts, hr, hlk, hKN, hSH, hkz, hkn, hkw, hfr, hlo, htr, htb, hmn⟩ := X
  intro H locs ls hh T hT X
  obtain ⟨cell, g1, g2, g3, g4, g5, g6, g7, g8⟩ := hh.1 a _ h1
  obtain ⟨g31, g32⟩ := g3 h2
  have hra := (hKN.2.1 t _ ht).2.2
  obtain ⟨vm', X', st⟩ := X.checkcastYes hx hown (hts _ w) (by rw [hT]; exact g1) (by rw [g32]; rfl) (hnm _ _ hra) (by rw [g31]; exact va_asg _ _) (g := F0 m pc ls (.ref a :: st.map cV)) rfl rfl (by rw [hb]; exact d)
  obtain ⟨t, a1, b1⟩ := kk h3 H locs ls hh (T.setVm vm') hT X'
  exact ⟨t, st t a1, b1⟩
def pCloneB (K : KT) (h : AH) (n z : Nat) (o : Option Nat) (κ : AH → Nat → Prop) : Prop := ∃ (a N : Nat) (f : Int → Int), o = some a ∧ h a = some (.inl (1, N, .inl f)) ∧ kz K ≤ a ∧ (∀ j : Int, 0 ≤ j → j < N → -128 ≤ f j ∧ f j ≤ 127) ∧ n + 1 ≤ kn K ∧ z + N ≤ kw K ∧ κ (up h n (.inl (1, N, .inl f))) (z + N)
theorem r_hClone (X : XY K own mn cc rt tb nL fr lo Y) {i : Nat} {o : Option Nat} {κ : AH → Nat → Prop} (w1 : Cond.methodLink own i ⟨"[B", "clone", "()Ljava/lang/Object;"⟩ ∈ lw_all) (w2 : Cond.sameMethod "[B" "java/lang/Object" "clone" "()Ljava/lang/Object;" ∈ lw_all) (w3 : Cond.native ⟨"java/lang/Object", "clone", "()Ljava/lang/Object;"⟩ ∈ lw_all) (w4 : Cond.instanceMethod ⟨"java/lang/Object", "clone", "()Ljava/lang/Object;"⟩ ∈ lw_all)
    (w5 : Cond.selects "[B" ⟨"[B", "clone", "()Ljava/lang/Object;"⟩ ⟨"java/lang/Object", "clone", "()Ljava/lang/Object;"⟩ ∈ lw_all) (w6 : Cond.castable "[B" "java/lang/Cloneable" ∈ lw_tbl) (hR : 1 ≤ fr ∧ (st.map cat).sum + 14 ≤ lo) (d : decode cc pc = .ok (.invokevirtual i, 3)) (hp : pCloneB K h n z o κ)
    (kk : ∀ h1 z1, κ h1 z1 → G K Y h1 (n + 1) z1 (pc + 3) lv (vR (some n) :: st)) : G K Y h n z pc lv (vR o :: st) := by
  obtain ⟨a, N, f, rfl, h1, h2, hby, hn, hz, h3⟩ := hp
  obtain ⟨p, l, e, R, s, m, args, below, meth, c, Q⟩ := Y
  obtain ⟨hx, hb, hml, hown, hts, hr, hlk, hKN, hSH, hkz, hkn, hkw, hfr, hlo, htr, htb, hmn⟩ := X
  intro H locs ls hh
  have hS : va_S (fun q => kz K ≤ q) s.heap H locs := hh.2.2.2.2.2.1
  have h0 : s.heap.size ≤ H.size := hS.1
  have hHn : H.size = n := hh.2.1
  have hHz : HW H = z := hh.2.2.1
  have hH0 : HW s.heap ≤ z := hh.2.2.2.2.1.2
  obtain ⟨cell, g1, g2, g3, g4, g5, g6, g7, g8⟩ := hh.1 a _ h1
  obtain ⟨g31, g32⟩ := g3 h2
  obtain ⟨gt1, gt2, hra⟩ := hKN.2.1 1 .byte rfl
  have hnm : s.vm.findClass "[B" = some (K.2.1 1) := hra
  obtain ⟨kA, comp, hkA, hkind⟩ := gt1 _ gt2
  refine W.tight (k := n - s.heap.size) (w := z - HW s.heap) (by omega) (by omega) ?_
  intro T hT X
  obtain ⟨c0, t0, f1, f2, f3⟩ := Cond.castable_spec (va_Nw.use (A := args) rfl (hKN.2.2.1 _ w6 rfl))
  have ec : c0 = K.2.1 1 := Option.some.inj (f1.symm.trans hnm)
  subst ec
  have hls : ls.size = c.maxLocals := hh.2.2.2.2.2.2.1
  obtain ⟨kT, hkT, heT⟩ := X.warmed.alike.2.2 _ _ hkA
  obtain ⟨vm', X', st9⟩ := X.cloneArray hx hown (hts _ w1) (hts _ w2) (hts _ w3) (hts _ w4) (hts _ w5) (a := a) (cell := cell) (by rw [hT]; exact g1) g4 g5 (by rw [g31]; exact hnm) f2 (by rw [g31]; exact f3)
    (fun j v hv => by
      have hj : j < N := by rw [← g6]; exact (Array.getElem?_eq_some_iff.mp hv).1
      rw [g8 j hj] at hv
      have h9 := hby j (by omega) (by omega)
      rw [← Option.some.inj hv, g31]
      have hk' : T.vm.classes[K.2.1 1]? = some kT := hkT
      have hf : fits .byte (cC (.inl f) j) = true := by
        simp only [cC, fits, Bool.and_eq_true, decide_eq_true_eq]
        constructor
        · exact Int32.le_iff_toInt_le.mpr (by rw [iN_toInt ⟨by omega, by omega⟩]; exact h9.1)
        · exact Int32.le_iff_toInt_le.mpr (by rw [iN_toInt ⟨by omega, by omega⟩]; exact h9.2)
      have hkd : kT.kind = .array comp .byte := by rw [heT]; exact hkind
      simp only [State.fitsSlot, State.slotType?, hk']
      show (match (match kT.kind with | .array _ type => some type | _ => kT.instanceTypes[j]?) with | some t => fits t (cC (.inl f) j) | none => false) = true
      rw [hkd]
      exact hf)
    (g := F0 m pc ls (.ref a :: st.map cV)) rfl hls rfl (by rw [hb]; exact d) (by rw [hfr]; exact hR.1) (by show 2 * 0 + _ + 14 ≤ _; rw [cV_sum, hlo]; omega) (by omega) (by rw [g6]; omega) (hloader := by rw [g31]; exact Vm.clonesLoader_of_array hkA hkind)
  rw [g6] at X'
  generalize hcl : ({ cls := cell.cls, slots := cell.slots } : Cell) = cl9 at X' st9
  have e1 : (H.push cl9)[H.size]? = some cl9 := by simp
  have o1 : ∀ q, q < H.size → (H.push cl9)[q]? = H[q]? := fun q hq => by rw [Array.getElem?_push, if_neg (Nat.ne_of_lt hq)]
  have hsl : cl9.slots.size = N := by rw [← hcl]; exact g6
  have hz9 := hh.2.2.2.2.1
  have hH1 : Hld K (up h n (.inl (1, N, .inl f))) (H.push cl9) := by
    rw [← hHn]
    refine hh.1.psh9 ?_ o1
    exact ⟨cl9, e1, by rw [← hcl]; exact g2, fun _ => by rw [← hcl]; exact ⟨g31, rfl⟩, fun q hq => (by rw [← hcl] at hq; cases hq), fun hq => (by rw [← hcl] at hq; cases hq), hsl, g7, fun j hj => by rw [← hcl]; exact g8 j hj⟩
  obtain ⟨t, a1, b1⟩ := kk _ _ h3 (H.push cl9) locs ls ⟨hH1, by rw [Array.size_push, hHn], by rw [HW_push, hHz, hsl], hn, ⟨hz, Nat.le_trans hH0 (Nat.le_add_right _ _)⟩, ⟨Nat.le_trans h0 (by rw [Array.size_push]; omega), fun q hq1 hq2 => (o1 q (by omega)).trans (hS.2.1 q hq1 hq2), hS.2.2⟩, hh.2.2.2.2.2.2⟩ ((T.setVm vm').pushCell cl9) (by rw [← hT]; rfl) (stand_widen X' (by omega) (by omega))
  refine ⟨t, st9 t ?_, b1⟩
  rw [hT, hHn]
  exact a1
theorem r_ldcF (X : XY K own mn cc rt tb nL fr lo Y) {i : Nat} {v : UInt32} (w : Cond.constantFloat own i v ∈ lw_all) (d : decode cc pc = .ok (.ldc i, 2)) (kk : G K Y h n z (pc + 2) lv (vF v :: st)) : G K Y h n z pc lv st := by
  obtain ⟨p, l, e, R, s, m, args, below, meth, c, Q⟩ := Y
  obtain ⟨hx, hb, hml, hown, hts, -⟩ := X
  intro H locs ls hh
  exact lv_ldcf hx hb hown (hts _ w) d (kk H locs ls hh)
/-! fields of an object of one of several classes -/
def pGRL (h : AH) (o : Option Nat) (L : List Nat) (k : Nat) (κ : Option Nat → Prop) : Prop := ∃ (a ci : Nat) (fs : List AV) (x : Option Nat), o = some a ∧ h a = some (.inr (ci, fs)) ∧ ci ∈ L ∧ fs[k]? = some (vR x) ∧ κ x
def pGIL (h : AH) (o : Option Nat) (L : List Nat) (k : Nat) (κ : Int → Prop) : Prop := ∃ (a ci : Nat) (fs : List AV) (x : Int), o = some a ∧ h a = some (.inr (ci, fs)) ∧ ci ∈ L ∧ fs[k]? = some (vI x) ∧ κ x
def pPutL (K : KT) (h : AH) (o : Option Nat) (L : List Nat) (k : Nat) (v : AV) (κ : AH → Prop) : Prop := ∃ (a ci : Nat) (fs : List AV), o = some a ∧ h a = some (.inr (ci, fs)) ∧ ci ∈ L ∧ kz K ≤ a ∧ κ (up h a (.inr (ci, fs.set k v)))
theorem r_hGRL (X : XY K own mn cc rt tb nL fr lo Y) {i k : Nat} {L : List Nat} {o : Option Nat} {κ : Option Nat → Prop} (fa : ∀ ci ∈ L, FA own i ci k) (d : decode cc pc = .ok (.getfield i, 3)) (hp : pGRL h o L k κ) (kk : ∀ x, κ x → G K Y h n z (pc + 3) lv (vR x :: st)) : G K Y h n z pc lv (vR o :: st) := by
  obtain ⟨a, ci, fs, x, rfl, h1, hL, h2, h3⟩ := hp
  exact r_getf X (fa ci hL) d h1 h2 (kk x h3)
theorem r_hGIL (X : XY K own mn cc rt tb nL fr lo Y) {i k : Nat} {L : List Nat} {o : Option Nat} {κ : Int → Prop} (fa : ∀ ci ∈ L, FA own i ci k) (d : decode cc pc = .ok (.getfield i, 3)) (hp : pGIL h o L k κ) (kk : ∀ x, κ x → G K Y h n z (pc + 3) lv (vI x :: st)) : G K Y h n z pc lv (vR o :: st) := by
  obtain ⟨a, ci, fs, x, rfl, h1, hL, h2, h3⟩ := hp
  exact r_getf X (fa ci hL) d h1 h2 (kk x h3)
theorem r_hPutL (X : XY K own mn cc rt tb nL fr lo Y) {i k : Nat} {L : List Nat} {ty : FieldType} {o : Option Nat} {v : AV} {κ : AH → Prop} (fa : ∀ ci ∈ L, FP own i ci k ty false) (hn : narrow ty (cV v) = cV v) (hf : fits ty (cV v) = true) (d : decode cc pc = .ok (.putfield i, 3)) (hp : pPutL K h o L k v κ) (kk : ∀ h1, κ h1 → G K Y h1 n z (pc + 3) lv st) : G K Y h n z pc lv (v :: vR o :: st) := by
  obtain ⟨a, ci, fs, rfl, h1, hL, h2, h3⟩ := hp
  exact r_putf X (fa ci hL) d h1 h2 hn hf (kk _ h3)
def pFill (K : KT) (h : AH) (o : Option Nat) (κ : Prop) : Prop := ∃ (a ci : Nat) (fs : List AV), o = some a ∧ h a = some (.inr (ci, fs)) ∧ ci ∈ [3, 6, 21, 22, 23] ∧ kz K ≤ a ∧ fs[1]? = some (vR (kr K 0)) ∧ fs[4]? = some (vR none) ∧ κ
theorem r_hFill (X : XY K "java/lang/Throwable" mn cc rt tb nL fr lo Y) {o : Option Nat} {κ : Prop} (hR : 3 ≤ fr ∧ (st.map cat).sum + 41 ≤ lo) (d : decode cc pc = .ok (.invokevirtual 27, 3)) (hp : pFill K h o κ) (kk : κ → G K Y h n z (pc + 3) lv (vR o :: st)) : G K Y h n z pc lv (vR o :: st) := by
  obtain ⟨a, ci, fs, rfl, h1, hL, h2, h3, h4, h5⟩ := hp
  exact r_fill X (thr_L ci hL) h1 h2 h3 h4 hR d (kk h5)
def pCause (K : KT) (h : AH) (o : Option Nat) (κ : Option Nat → Prop) : Prop := ∃ (a : Nat) (fs : List AV) (x : Option Nat), o = some a ∧ h a = some (.inr (6, fs)) ∧ kz K ≤ a ∧ fs[0]? = some (vR x) ∧ κ (if x = some a then none else x)
theorem r_hCause (X : XY K "TrailMarkers$TextException" mn cc rt tb nL fr lo Y) {o : Option Nat} {κ : Option Nat → Prop} (hR : 3 ≤ fr ∧ (st.map cat).sum + 41 ≤ lo) (d : decode cc pc = .ok (.invokevirtual 19, 3)) (hp : pCause K h o κ) (kk : ∀ x, κ x → G K Y h n z (pc + 3) lv (vR x :: st)) : G K Y h n z pc lv (vR o :: st) := by
  obtain ⟨a, fs, x, rfl, h1, h2, h3, h4⟩ := hp
  exact r_cause X h1 h2 h3 hR d (kk _ h4)
def pQv (h : AH) (n z : Nat) (κ : Prop) : QvT := fun v h1 n1 z1 => v = none ∧ h = h1 ∧ n = n1 ∧ z = z1 ∧ κ
def MP (own : String) (i : Nat) (y : MethodName) (cc : ByteArray) (nL : Nat) (rt : Option FieldType) (k : Nat) : Prop := (∀ w ∈ va_wsSU own i y [], w ∈ lw_all) ∧ Cond.code y cc nL rt ∈ lw_all ∧ y.name ≠ "<init>" ∧ (parseMethodDescriptor y.desc).map (fun d => d.parameters.length) = some k
theorem r_callP (X : XY K own mn cc rt tb nL fr lo Y) {y : MethodName} {c1 : ByteArray} {nL1 fr1 lo1 i : Nat} {rt1 : Option FieldType} {b ci : Nat} {fs : List AV} {As : List AV} {Qv : QvT} {Qx : QxT} {o : Option Nat} (ho : o = some b) (hbb : h b = some (.inr (ci, fs))) (M : MP own i y c1 nL1 rt1 As.length)
    (hC : ∀ l, Ct K l y (ws_ y c1 nL1 rt1) fr1 lo1 ((vR (some b) :: As).map cV) h n z Qv Qx) (hR : fr1 + 1 ≤ fr ∧ 8 + (nL1 + 11) + lo1 ≤ lo) (hst : (st.map cat).sum ≤ 8) (d : decode cc pc = .ok (.invokespecial i, 3))
    (kk : ∀ v h1 n1 z1, Qv v h1 n1 z1 → ∃ vs : List AV, v.toList = vs.map cV ∧ G K Y h1 n1 z1 (pc + 3) lv (vs ++ st)) (kx : ∀ ci q h1 n1 z1, Qx ci q h1 n1 z1 → GX K Y h1 n1 z1 pc lv ci q) : G K Y h n z pc lv (As.reverse ++ vR o :: st) := by
  subst ho
  obtain ⟨p, l, e, R, s, m, args, below, meth, c, Q⟩ := Y
  obtain ⟨hx, hb, hml, hown, hts, hr, hlk, hKN, hSH, hkz, hkn, hkw, hfr, hlo, htr, htb, hmn⟩ := X
  intro H locs ls hh
  obtain ⟨w1, w5, w6, w7⟩ := M
  have hzn : kz K ≤ n := by have h1 := hh.2.2.2.2.2.1.1; have h2 := hh.2.1; have h3 : (yS (p, l, e, R, s, m, args, below, meth, c, Q)) = s := rfl; rw [h3] at h1; omega
  have hM := hC l htr hzn hh.2.2.2.1 hh.2.2.2.2.1.1
  have hoo := hh.1 b _ hbb
  obtain ⟨r, cell, v0, -⟩ := id hoo
  have hrecv := hKN.recv v0 hoo
  have hat := hKN.cls v0
  have h0 : s.heap.size ≤ H.size := hh.2.2.2.2.2.1.1
  have hHn : H.size = n := hh.2.1
  have hz9 := hh.2.2.2.2.1
  have hn9 := hh.2.2.2.1
  have hH0 : HW s.heap ≤ z := hz9.2
  have hls : ls.size = nL := by have h9 : ls.size = c.maxLocals := hh.2.2.2.2.2.2.1; rw [h9, hml]
  have good : GoodIn lw_all (va_wsSU own i y (ws_ y c1 nL1 rt1)) := by
    unfold va_wsSU
    refine lw_app (fun w hw => ?_) (lw_meth w5)
    exact w1 w (by unfold va_wsSU; exact List.mem_append_left _ hw)
  refine r_after (g := F0 m pc ls ((As.reverse ++ vR (some b) :: st).map cV)) (rest := st) (Qv := Qv) (Qx := Qx) (as := ((vR (some b) :: As).map cV).toArray) hkn hkw hh ?_ kk kx
  refine vx_runSU (own := own) (index := i) (As := As.map cV) (cells := n - s.heap.size) (slots := z - HW s.heap) hat ⟨hx, hb, hml, hown, hts⟩ hM (va_cwSU As.length hts good rfl rfl rfl ⟨w6, w7⟩ ⟨by rw [hfr]; exact hR.1, by rw [hlo]; exact hR.2⟩) ⟨preP_blind, hrecv, fun U hU hW => ⟨rfl, preP_at hKN hSH hh hU hW⟩⟩ rfl (List.length_map _) hls (by simp only [List.map_append, List.map_reverse, List.map_cons]; rfl) (by show 2 * 0 + _ ≤ 8; rw [cV_sum]; omega) d ⟨by omega, by omega⟩
def pSup (h : AH) (o : Option Nat) (κ : Nat → Prop) : Prop := ∃ (b ci : Nat) (fs : List AV), o = some b ∧ h b = some (.inr (ci, fs)) ∧ κ b
/-! Math.max, min, abs -/
def jmax (x y : Int) : Int := if x < y then y else x
def jmin (x y : Int) : Int := if y < x then y else x
def jabs (x : Int) : Int := if 0 ≤ x then x else 0 - x
theorem iN_ite {c : Prop} [Decidable c] {d : Prop} [Decidable d] (h : c ↔ d) (x y : Int) : (if c then iN x else iN y) = iN (if d then x else y) := by
  by_cases hd : d
  · rw [if_pos hd, if_pos (h.mpr hd)]
  · rw [if_neg hd, if_neg (fun q => hd (h.mp q))]
theorem r_mmax (X : XY K own mn cc rt tb nL fr lo Y) {i : Nat} {x y : Int} (w1 : Cond.methodLink own i Lib.Math.max.name ∈ lw_all) (w2 : Cond.static Lib.Math.max.name ∈ lw_all) (w3 : Cond.initialized "java/lang/Math" ∈ lw_all) (w4 : Cond.code Lib.Math.max.name Lib.Math.max.code 2 (some .int) ∈ lw_all) (hx9 : InR x) (hy9 : InR y) (hR : 1 ≤ fr ∧ (st.map cat).sum + 13 ≤ lo) (d : decode cc pc = .ok (.invokestatic i, 3)) (kk : G K Y h n z (pc + 3) lv (vI (jmax x y) :: st)) : G K Y h n z pc lv (vI y :: vI x :: st) := by
  obtain ⟨p, l, e, R, s, m, args, below, meth, c, Q⟩ := Y
  obtain ⟨hx, hb, hml, hown, hts, hr, hlk, hKN, hSH, hkz, hkn, hkw, hfr, hlo, htr, htb, hmn⟩ := X
  intro H locs ls hh
  have h9 := kk H locs ls hh
  simp only [List.map_cons, cV, jmax] at h9
  rw [← iN_ite (iN_lt hx9 hy9)] at h9
  have hls : ls.size = c.maxLocals := hh.2.2.2.2.2.2.1
  exact va_mmax hx hb hls.symm hown (hts _ w1) (hts _ w2) (hts _ w3) (hts _ w4) (by rw [hfr]; exact hR.1) (by rw [hlo, cV_sum]; exact hR.2) (Nat.le_refl _) (Nat.le_refl _) d h9
theorem r_mmin (X : XY K own mn cc rt tb nL fr lo Y) {i : Nat} {x y : Int} (w1 : Cond.methodLink own i Lib.Math.min.name ∈ lw_all) (w2 : Cond.static Lib.Math.min.name ∈ lw_all) (w3 : Cond.initialized "java/lang/Math" ∈ lw_all) (w4 : Cond.code Lib.Math.min.name Lib.Math.min.code 2 (some .int) ∈ lw_all) (hx9 : InR x) (hy9 : InR y) (hR : 1 ≤ fr ∧ (st.map cat).sum + 13 ≤ lo) (d : decode cc pc = .ok (.invokestatic i, 3)) (kk : G K Y h n z (pc + 3) lv (vI (jmin x y) :: st)) : G K Y h n z pc lv (vI y :: vI x :: st) := by
  obtain ⟨p, l, e, R, s, m, args, below, meth, c, Q⟩ := Y
  obtain ⟨hx, hb, hml, hown, hts, hr, hlk, hKN, hSH, hkz, hkn, hkw, hfr, hlo, htr, htb, hmn⟩ := X
  intro H locs ls hh
  have h9 := kk H locs ls hh
  simp only [List.map_cons, cV, jmin] at h9
  rw [← iN_ite (iN_lt hy9 hx9)] at h9
  have hls : ls.size = c.maxLocals := hh.2.2.2.2.2.2.1
  exact va_mmin hx hb hls.symm hown (hts _ w1) (hts _ w2) (hts _ w3) (hts _ w4) (by rw [hfr]; exact hR.1) (by rw [hlo, cV_sum]; exact hR.2) (Nat.le_refl _) (Nat.le_refl _) d h9
theorem iN_zsub (x : Int) : 0 - iN x = iN (0 - x) := by
  apply Int32.toInt_inj.mp
  unfold iN
  rw [Int32.toInt_sub, Int32.toInt_ofInt, Int32.toInt_ofInt]
  show Int.bmod (0 - Int.bmod x _) _ = _
  rw [Int.sub_bmod_bmod]
theorem r_mabs (X : XY K own mn cc rt tb nL fr lo Y) {i : Nat} {x : Int} (w1 : Cond.methodLink own i Lib.Math.abs.name ∈ lw_all) (w2 : Cond.static Lib.Math.abs.name ∈ lw_all) (w3 : Cond.initialized "java/lang/Math" ∈ lw_all) (w4 : Cond.code Lib.Math.abs.name Lib.Math.abs.code 1 (some .int) ∈ lw_all) (hx9 : InR x) (hR : 1 ≤ fr ∧ (st.map cat).sum + 13 ≤ lo) (d : decode cc pc = .ok (.invokestatic i, 3)) (kk : G K Y h n z (pc + 3) lv (vI (jabs x) :: st)) : G K Y h n z pc lv (vI x :: st) := by
  obtain ⟨p, l, e, R, s, m, args, below, meth, c, Q⟩ := Y
  obtain ⟨hx, hb, hml, hown, hts, hr, hlk, hKN, hSH, hkz, hkn, hkw, hfr, hlo, htr, htb, hmn⟩ := X
  intro H locs ls hh
  have h9 := kk H locs ls hh
  have hle : (0 : Int32) ≤ iN x ↔ 0 ≤ x := by rw [iN_0, iN_le (by decide) hx9]
  simp only [List.map_cons, cV, jabs] at h9
  rw [← iN_ite hle, ← iN_zsub] at h9
  have hls : ls.size = c.maxLocals := hh.2.2.2.2.2.2.1
  exact va_mabs hx hb hls.symm hown (hts _ w1) (hts _ w2) (hts _ w3) (hts _ w4) (by rw [hfr]; exact hR.1) (by rw [hlo, cV_sum]; exact hR.2) (Nat.le_refl _) (Nat.le_refl _) d h9
/-! a private field of a nest mate, read -/
def FAN (own : String) (i ci k : Nat) : Prop := ∃ (C : String) (T : u_T) (N : Nat) (host : String), CF ci C T N ∧ k < N ∧ Cond.fieldLinkNest own i (T k).1 (T k).2.1 (T k).2.2.1 host ∈ lw_tbl
theorem r_getfN (X : XY K own mn cc rt tb nL fr lo Y) {i ci k a : Nat} {fs : List AV} {v : AV} (fa : FAN own i ci k) (d : decode cc pc = .ok (.getfield i, 3)) (ha : h a = some (.inr (ci, fs))) (hv : fs[k]? = some v) (kk : G K Y h n z (pc + 3) lv (v :: st)) : G K Y h n z pc lv (vR (some a) :: st) := by
  obtain ⟨p, l, e, R, s, m, args, below, meth, c, Q⟩ := Y
  obtain ⟨hx, hb, hml, hown, hts, hr, hlk, hKN, hSH, hkz, hkn, hkw, hfr, hlo, htr, htb, hmn⟩ := X
  intro H locs ls hh
  obtain ⟨C, T, N, host, ⟨hc, hin, -, -⟩, hk, hlink⟩ := fa
  obtain ⟨r, cell, g0, g1, g2, g3, g4, g5, g6, g7⟩ := hh.1 a _ ha
  have hr : r = (C, T, N) := Option.some.inj (g0.symm.trans hc)
  subst hr
  obtain ⟨hS, hfc, kC, hkC, hkind⟩ := hKN.1 ci _ hc
  obtain ⟨cf, kf, fi, f, hi, hsl⟩ := hS k hk
  exact va_Wgetf hx hb hown (va_Nw.use rfl (hKN.2.2.1 _ hlink rfl)) hi (u_facts hfc hkC (u_lays hts hin hk) hi).1 g1 g4 (v := cV v) (by rw [hsl]; exact g7 k v hv) rfl rfl d (kk H locs ls hh)
theorem r_hGIN (X : XY K own mn cc rt tb nL fr lo Y) {i ci k : Nat} {o : Option Nat} {κ : Int → Prop} (fa : FAN own i ci k) (d : decode cc pc = .ok (.getfield i, 3)) (hp : pGI h o ci k κ) (kk : ∀ x, κ x → G K Y h n z (pc + 3) lv (vI x :: st)) : G K Y h n z pc lv (vR o :: st) := by
  obtain ⟨a, fs, x, rfl, h1, h2, h3⟩ := hp
  exact r_getfN X fa d h1 h2 (kk x h3)
theorem r_hGRN (X : XY K own mn cc rt tb nL fr lo Y) {i ci k : Nat} {o : Option Nat} {κ : Option Nat → Prop} (fa : FAN own i ci k) (d : decode cc pc = .ok (.getfield i, 3)) (hp : pGR h o ci k κ) (kk : ∀ x, κ x → G K Y h n z (pc + 3) lv (vR x :: st)) : G K Y h n z pc lv (vR o :: st) := by
  obtain ⟨a, fs, x, rfl, h1, h2, h3⟩ := hp
  exact r_getfN X fa d h1 h2 (kk x h3)
theorem r_dcmp (X : XY K own mn cc rt tb nL fr lo Y) {x y : UInt64} {op : CmpOp} (d : decode cc pc = .ok (.dcmp op, 1)) (kk : G K Y h n z (pc + 1) lv (vI (ci32 (Op.cmpValue (FP.dcmp x y) op)) :: st)) : G K Y h n z pc lv (vD y :: vD x :: st) := by
  obtain ⟨p, l, e, R, s, m, args, below, meth, c, Q⟩ := Y
  obtain ⟨hx, hb, -⟩ := X
  intro H locs ls hh
  have h9 := kk H locs ls hh
  simp only [List.map_cons, cV, iN_ci] at h9
  exact lv_dcmp hx hb d h9
def lcmp9 (x y : Int64) : Int := if y < x then 1 else if x = y then 0 else -1
theorem r_lcmp (X : XY K own mn cc rt tb nL fr lo Y) {x y : Int64} (d : decode cc pc = .ok (.lcmp, 1)) (kk : G K Y h n z (pc + 1) lv (vI (lcmp9 x y) :: st)) : G K Y h n z pc lv (vJ y :: vJ x :: st) := by
  obtain ⟨p, l, e, R, s, m, args, below, meth, c, Q⟩ := Y
  obtain ⟨hx, hb, -⟩ := X
  intro H locs ls hh T hT X
  obtain ⟨t, a1, b1⟩ := kk H locs ls hh T hT X
  refine ⟨t, ?_, b1⟩
  have a1 : Steps p.tables e below (T.setTop (F0 m (pc + 1) ls (.int (iN (lcmp9 x y)) :: st.map cV))) t := a1
  show Steps p.tables e below (T.setTop (F0 m pc ls (.long y :: .long x :: st.map cV))) t
  jvm_step X.here [X.here.top, hx, hb, d, lcmp.wp_sem]
  unfold lcmp9 at a1
  by_cases h1 : y < x
  · rw [if_pos h1] at a1 ⊢; exact a1
  · rw [if_neg h1] at a1 ⊢
    by_cases h2 : x = y
    · rw [if_pos h2] at a1 ⊢; exact a1
    · rw [if_neg h2] at a1 ⊢; exact a1
end R18
