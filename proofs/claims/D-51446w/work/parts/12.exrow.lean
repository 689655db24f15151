set_option maxRecDepth 100000
/-- a handler that does not take it: it does not cover the place, or its class is no class above -/
def PASS (own : String) (ci pc : Nat) (x : ExceptionTableEntry) : Prop := covers x pc = false ∨ (x.catchType ≠ 0 ∧ ∃ nm : String, Cond.classLink own x.catchType nm ∈ lw_all ∧ CN ci nm)
section EX
variable {K : KT} {own mn : String} {cc : ByteArray} {rt : Option FieldType} {tb : List ExceptionTableEntry} {nL fr lo : Nat} {Y : YT} {h : AH} {n z : Nat} {pc : Nat} {lv : List (Nat × AV)} {st : List AV}
theorem cn_nc {s : State} (hKN : KN K s) {ci : Nat} {E nm : String} (hE : ECl ci E) (hc : CN ci nm) : va_Nc E nm s := by
  obtain ⟨r, h1, h2⟩ := hE
  obtain ⟨r', g1, g2⟩ := hc
  have e : r' = r := Option.some.inj (g1.symm.trans h1)
  subst e
  have := hKN.2.2.2.1 _ g2
  rw [← h2]; exact this
/-- no handler takes it: it leaves the method -/
theorem r_out (X : XY K own mn cc rt tb nL fr lo Y) {Qv : QvT} {Qx : QxT} (E : YE K Y Qv Qx) {ci q : Nat} (hp : ∀ x ∈ tb, PASS own ci pc x) (kk : Qx ci q h n z) : GX K Y h n z pc lv ci q := by
  obtain ⟨p, l, e, R, s, m, args, below, meth, c, Q⟩ := Y
  obtain ⟨hx, hb, hml, hown, hts, hr, hlk, hKN, hSH, hkz, hkn, hkw, hfr, hlo, htr, htb, hmn⟩ := X
  intro H locs ls st E9 ce hh hE hce hv hcl
  subst E
  refine vx_outP (own := own) (E := E9) (ce := ce) hown hlk ?_ hce hv hcl ?_ hh.2.2.2.2.2.1.2.2 (Nat.le_refl _) (Nat.le_refl _)
  · intro x hx9
    rw [htb] at hx9
    rcases hp x hx9 with h1 | ⟨h1, nm, h2, h3⟩
    · exact Or.inl h1
    · exact Or.inr ⟨h1, nm, hts _ h2, cn_nc hKN hE h3⟩
  · intro t ht hW
    exact ⟨ci, h, n, z, hE, kk, by rw [ht]; exact hh.1, by rw [ht]; exact hh.2.1, by rw [ht]; exact hh.2.2.1, hh.2.2.2.1, hh.2.2.2.2.1, by have := hh.2.2.2.2.2.1.1; have h2 := hh.2.1; rw [← h2]; exact this, fun q h1 h2 => by rw [ht]; exact hh.2.2.2.2.2.1.2.1 q h1 h2⟩
/-- caught by a handler of its class, or of a class above -/
theorem r_catch (X : XY K own mn cc rt tb nL fr lo Y) {ci q : Nat} {name : String} (pre : List ExceptionTableEntry) (x : ExceptionTableEntry) (suf : List ExceptionTableEntry) (hsp : tb = pre ++ x :: suf) (hp : ∀ w ∈ pre, PASS own ci pc w) (hcv : covers x pc = true) (h0 : x.catchType ≠ 0) (w : Cond.classLink own x.catchType name ∈ lw_all) (ho : CO ci name) (kk : G K Y h n z x.handlerPc lv [vR (some q)]) : GX K Y h n z pc lv ci q := by
  obtain ⟨p, l, e, R, s, m, args, below, meth, c, Q⟩ := Y
  obtain ⟨hx, hb, hml, hown, hts, hr, hlk, hKN, hSH, hkz, hkn, hkw, hfr, hlo, htr, htb, hmn⟩ := X
  intro H locs ls st E9 ce hh hE hce hv hcl
  have hcl : s.vm.findClass E9 = some ce.cls := hcl
  obtain ⟨r, e1, e2⟩ := hE
  obtain ⟨r', g1, g2⟩ := ho
  have er : r' = r := Option.some.inj (g1.symm.trans e1)
  subst er
  have hcast : ∃ nmC, s.vm.findClass name = some nmC ∧ s.vm.assignable ce.cls nmC = true := by
    rcases g2 with g2 | g2
    · have hcls := hKN.cls e1
      refine ⟨K.1.1 ci, by rw [← g2]; exact hcls.1, ?_⟩
      have : ce.cls = K.1.1 ci := by
        have h9 := hcls.1
        rw [e2, hcl] at h9
        exact Option.some.inj h9
      rw [this]; exact va_assign hcls
    · obtain ⟨c0, t0, f1, f2, f3⟩ := Cond.castable_spec (va_Nw.use (A := args) rfl (hKN.2.2.1 _ g2 rfl))
      rw [e2] at f1
      cases hcl.symm.trans f1
      exact ⟨t0, f2, f3⟩
  obtain ⟨nmC, hn1, hn2⟩ := hcast
  intro T hT X
  have hpl : e.platform.magicAccessors = ({} : Platform).magicAccessors := by rw [X.admits.platform]
  obtain ⟨c5, hc5, hcl5⟩ := Cond.classLink_spec hown (hts _ w) e.platform hpl
  cases Option.some.inj (hn1.symm.trans hc5)
  obtain ⟨vm', X', st9⟩ := X.thenCaughtThrough q (g := F0 m pc ls st) rfl (Steps.refl _) (by rw [hT]; exact hce) (by rw [hv]; rfl) (by obtain ⟨k9, h9, -⟩ := Vm.findClass_spec hcl; exact ⟨k9, h9⟩) pre x suf (htb.trans hsp)
    (fun z hz => by
      rcases hp z hz with h | ⟨hz0, nm, hl1, hn1⟩
      · exact Or.inl h
      · obtain ⟨c6, hc6, hcl6⟩ := Cond.classLink_spec hown (hts _ hl1) e.platform hpl
        obtain ⟨a8, b8, h1, h2, h3⟩ := cn_nc hKN ⟨r', e1, e2⟩ hn1
        cases Option.some.inj (h1.symm.trans hcl)
        cases Option.some.inj (h2.symm.trans hc6)
        exact Or.inr ⟨hz0, _, hcl6, h3⟩) hcv (Or.inr ⟨h0, nmC, hcl5, hn2⟩)
  obtain ⟨t, a1, b1⟩ := kk H locs ls hh (T.setVm vm') hT X'
  exact ⟨t, st9.trans a1, b1⟩
theorem r_athrow (X : XY K own mn cc rt tb nL fr lo Y) {q ci : Nat} {fs : List AV} (d : decode cc pc = .ok (.athrow, 1)) (hq : h q = some (.inr (ci, fs))) (hz : kz K ≤ q) (kk : GX K Y h n z pc lv ci q) : G K Y h n z pc lv (vR (some q) :: st) := by
  obtain ⟨p, l, e, R, s, m, args, below, meth, c, Q⟩ := Y
  obtain ⟨hx, hb, hml, hown, hts, hr, hlk, hKN, hSH, hkz, hkn, hkw, hfr, hlo, htr, htb, hmn⟩ := X
  intro H locs ls hh
  obtain ⟨r, cell, g0, g1, g2, g3, g4, g5, g6, g7⟩ := hh.1 q _ hq
  have hcls := hKN.cls g0
  exact vx_athrow hx hb d (kk H locs ls (st.map cV) r.1 cell hh ⟨r, g0, rfl⟩ g1 (g5 hz).1 (by rw [g2]; exact hcls.1))
/-- locals that are no longer asked for -/
theorem G.sub {lv1 : List (Nat × AV)} (is : List Nat) (hl : is.filterMap (fun k => lv[k]?) = lv1) (kk : G K Y h n z pc lv1 st) : G K Y h n z pc lv st := by
  intro H locs ls hh
  refine kk H locs ls ⟨hh.1, hh.2.1, hh.2.2.1, hh.2.2.2.1, hh.2.2.2.2.1, hh.2.2.2.2.2.1, ?_⟩
  refine lv_sub hh.2.2.2.2.2.2 is ?_
  subst hl
  unfold lv_pick lvM
  rw [List.map_filterMap]
  congr 1
  funext k
  rw [List.getElem?_map]
theorem GX.sub {lv1 : List (Nat × AV)} {ci q : Nat} (is : List Nat) (hl : is.filterMap (fun k => lv[k]?) = lv1) (kk : GX K Y h n z pc lv1 ci q) : GX K Y h n z pc lv ci q := by
  intro H locs ls st E9 ce hh hE hce hv hcl
  refine kk H locs ls st E9 ce ⟨hh.1, hh.2.1, hh.2.2.1, hh.2.2.2.1, hh.2.2.2.2.1, hh.2.2.2.2.2.1, ?_⟩ hE hce hv hcl
  refine lv_sub hh.2.2.2.2.2.2 is ?_
  subst hl
  unfold lv_pick lvM
  rw [List.map_filterMap]
  congr 1
  funext k
  rw [List.getElem?_map]
end EX
