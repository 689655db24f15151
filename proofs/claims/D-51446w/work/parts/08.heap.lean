set_option maxRecDepth 100000
def CF (ci : Nat) (C : String) (T : u_T) (N : Nat) : Prop := vwCl[ci]? = some (C, T, N) ∧ (∀ w ∈ u_ws C T N, w ∈ lw_all) ∧ (∃ ty : Nat → FieldType, ∀ k, k < N → parseFieldDescriptor (T k).2.2.1 = some (ty k)) ∧ ∀ a, a < N → ∀ b, b < N → a ≠ b → (T a).2.1 ≠ (T b).2.1
/-- the entry i of own's pool is the field k of the class ci -/
def FA (own : String) (i ci k : Nat) : Prop := ∃ (C : String) (T : u_T) (N : Nat) (ref : String), CF ci C T N ∧ k < N ∧ Cond.fieldLink own i ref (T k).2.1 (T k).2.2.1 ∈ lw_all ∧ ((T k).1 = ref ∨ Cond.sameField ref (T k).1 (T k).2.1 (T k).2.2.1 ∈ lw_all)
/-- .. that may be written: ty its type; fin: it is final (then own declares it) -/
def FP (own : String) (i ci k : Nat) (ty : FieldType) (fin : Bool) : Prop := ∃ (C : String) (T : u_T) (N : Nat) (ref : String), CF ci C T N ∧ k < N ∧ Cond.fieldLink own i ref (T k).2.1 (T k).2.2.1 ∈ lw_all ∧ ((T k).1 = ref ∨ Cond.sameField ref (T k).1 (T k).2.1 (T k).2.2.1 ∈ lw_all) ∧ parseFieldDescriptor (T k).2.2.1 = some ty ∧ (T k).2.2.2 = fin ∧ (fin = true → (T k).1 = own)
theorem fa_same {own ref C : String} {T : u_T} {k : Nat} {args : Array Value} {s : State} (hts : ∀ w ∈ lw_all, w.before args s = true) (h : (T k).1 = ref ∨ Cond.sameField ref (T k).1 (T k).2.1 (T k).2.2.1 ∈ lw_all) : ∀ x, s.fieldFound? (T k).1 (T k).2.1 (T k).2.2.1 = some x → s.fieldFound? ref (T k).2.1 (T k).2.2.1 = some x := by
  rcases h with h | h
  · intro x hx; rw [← h]; exact hx
  · exact u_same (hts _ h)
theorem Hld.upd9 {K : KT} {h : AH} {H H1 : Heap} {a : Nat} {e : AE} (hH : Hld K h H) (he : eAt K a e H1) (ho : ∀ q, q ≠ a → H1[q]? = H[q]?) : Hld K (up h a e) H1 := by
  intro b eb hb
  unfold up at hb
  by_cases hq : b = a
  · subst hq; simp at hb; subst hb; exact he
  · rw [if_neg hq] at hb
    have h1 := hH b eb hb
    obtain ⟨t, n, c⟩ | ⟨ci, fs⟩ := eb
    · obtain ⟨cell, g1, g2⟩ := h1
      exact ⟨cell, by rw [ho b hq]; exact g1, g2⟩
    · obtain ⟨r, cell, g0, g1, g2⟩ := h1
      exact ⟨r, cell, g0, by rw [ho b hq]; exact g1, g2⟩
theorem Hld.lt {K : KT} {h : AH} {H : Heap} {a : Nat} {e : AE} (hH : Hld K h H) (ha : h a = some e) : a < H.size := by
  have h1 := hH a e ha
  obtain ⟨t, n, c⟩ | ⟨ci, fs⟩ := e
  · obtain ⟨cell, g1, -⟩ := h1
    exact (Array.getElem?_eq_some_iff.mp g1).1
  · obtain ⟨r, cell, -, g1, -⟩ := h1
    exact (Array.getElem?_eq_some_iff.mp g1).1
theorem Hld.psh9 {K : KT} {h : AH} {H H1 : Heap} {e : AE} (hH : Hld K h H) (he : eAt K H.size e H1) (ho : ∀ q, q < H.size → H1[q]? = H[q]?) : Hld K (up h H.size e) H1 := by
  intro b eb hb
  unfold up at hb
  by_cases hq : b = H.size
  · subst hq; simp at hb; subst hb; exact he
  · rw [if_neg hq] at hb
    have hlt := hH.lt hb
    have h1 := hH b eb hb
    obtain ⟨t, n, c⟩ | ⟨ci, fs⟩ := eb
    · obtain ⟨cell, g1, g2⟩ := h1
      exact ⟨cell, by rw [ho b hlt]; exact g1, g2⟩
    · obtain ⟨r, cell, g0, g1, g2⟩ := h1
      exact ⟨r, cell, g0, by rw [ho b hlt]; exact g1, g2⟩
section RH
variable {K : KT} {own mn : String} {cc : ByteArray} {rt : Option FieldType} {tb : List ExceptionTableEntry} {nL fr lo : Nat} {Y : YT} {h : AH} {n z : Nat} {pc : Nat} {lv : List (Nat × AV)} {st : List AV}
theorem r_getf (X : XY K own mn cc rt tb nL fr lo Y) {i ci k a : Nat} {fs : List AV} {v : AV} (fa : FA own i ci k) (d : decode cc pc = .ok (.getfield i, 3)) (ha : h a = some (.inr (ci, fs))) (hv : fs[k]? = some v) (kk : G K Y h n z (pc + 3) lv (v :: st)) : G K Y h n z pc lv (vR (some a) :: st) := by
  obtain ⟨p, l, e, R, s, m, args, below, meth, c, Q⟩ := Y
  obtain ⟨hx, hb, hml, hown, hts, hr, hlk, hKN, hSH, hkz, hkn, hkw, hfr, hlo, htr, htb, hmn⟩ := X
  intro H locs ls hh
  obtain ⟨C, T, N, ref, ⟨hc, hin, -, -⟩, hk, hlink, hsame⟩ := fa
  obtain ⟨r, cell, g0, g1, g2, g3, g4, g5, g6, g7⟩ := hh.1 a _ ha
  have hr : r = (C, T, N) := Option.some.inj (g0.symm.trans hc)
  subst hr
  obtain ⟨hS, hfc, kC, hkC, hkind⟩ := hKN.1 ci _ hc
  obtain ⟨cf, kf, fi, f, hi, hsl⟩ := hS k hk
  exact W.getf hx hb hown (hts _ hlink) (fa_same (own := own) (C := C) hts hsame _ hi) (u_facts hfc hkC (u_lays hts hin hk) hi).1 g1 g4 (v := cV v) (by rw [hsl]; exact g7 k v hv) rfl rfl d (kk H locs ls hh)
theorem r_putf (X : XY K own mn cc rt tb nL fr lo Y) {i ci k a : Nat} {fs : List AV} {v : AV} {ty : FieldType} (fa : FP own i ci k ty false) (d : decode cc pc = .ok (.putfield i, 3)) (ha : h a = some (.inr (ci, fs))) (hz : kz K ≤ a) (hn : narrow ty (cV v) = cV v) (hf : fits ty (cV v) = true) (kk : G K Y (up h a (.inr (ci, fs.set k v))) n z (pc + 3) lv st) : G K Y h n z pc lv (v :: vR (some a) :: st) := by
  obtain ⟨p, l, e, R, s, m, args, below, meth, c, Q⟩ := Y
  obtain ⟨hx, hb, hml, hown, hts, hr, hlk, hKN, hSH, hkz, hkn, hkw, hfr, hlo, htr, htb, hmn⟩ := X
  intro H locs ls hh
  obtain ⟨C, T, N, ref, ⟨hc, hin, ⟨ty0, hty⟩, hnm⟩, hk, hlink, hsame, hd, hfin, -⟩ := fa
  obtain ⟨r, cell, g0, g1, g2, g3, g4, g5, g6, g7⟩ := hh.1 a _ ha
  have hr : r = (C, T, N) := Option.some.inj (g0.symm.trans hc)
  subst hr
  obtain ⟨hS, hfc, kC, hkC, hkind⟩ := hKN.1 ci _ hc
  obtain ⟨cf, kf, fi, f, hi, hsl⟩ := hS k hk
  have hap : ∀ x y, x < N → y < N → x ≠ y → (K.1.2 ci) x ≠ (K.1.2 ci) y := by
    intro x y hx hy hne
    obtain ⟨_, _, _, fa, hia, ea⟩ := hS x hx
    obtain ⟨_, _, _, fb, hib, eb⟩ := hS y hy
    rw [← ea, ← eb]
    refine u_apart (u_lays hts hin hx) (u_lays hts hin hy) hia hib ?_
    rw [(State.fieldFound?_type hia (hty x hx)).1, (State.fieldFound?_type hib (hty y hy)).1]
    exact hnm x hx y hy hne
  have hlay := hts _ (hin _ (u_in_lay hk))
  unfold u_lay at hlay
  rw [if_neg (by rw [hfin]; decide)] at hlay
  have hst := (u_facts hfc hkC (u_lays hts hin hk) hi).1
  have h6 := u_store hfc hkC hkind hlay hi hd hn hf
  have hkl : k < fs.length := by rw [← g6]; exact hk
  have hold : ∃ v0, fs[k]? = some v0 := ⟨fs[k], List.getElem?_eq_getElem hkl⟩
  obtain ⟨v0, hv0⟩ := hold
  refine W.putK hx hb (f := f) ⟨hown, hts _ hlink, ⟨_, _, _, fa_same (own := own) (C := C) hts hsame _ hi⟩, hst⟩ (by rw [g2]; exact h6) g1 (g5 hz).1 (by rw [hsl]; exact k2_hasslot (g7 k v0 hv0)) rfl rfl d fun H1 e1 e2 e3 => ?_
  rw [hsl] at e1 ⊢
  refine kk H1 _ ls ⟨hh.1.upd9 ?_ e3, e2.trans hh.2.1, ?_, hh.2.2.2.1, hh.2.2.2.2.1, hh.2.2.2.2.2.1.put e2 e3 hz, hh.2.2.2.2.2.2⟩
  · refine ⟨_, _, hc, e1, g2, g3, g4, g5, by rw [List.length_set]; exact g6, fun j w hj => ?_⟩
    by_cases hjk : j = k
    · subst hjk
      rw [List.getElem?_set_self hkl] at hj
      cases hj
      exact Cell.slots_setSlot_self _ (k2_hasslot (g7 _ v0 hv0))
    · rw [List.getElem?_set_ne (Ne.symm hjk)] at hj
      have hjl : j < N := by
        have := (List.getElem?_eq_some_iff.mp hj).1
        show j < (C, T, N).2.2
        rw [g6]; exact this
      rw [slot_ne _ _ (hap k j hk hjl (Ne.symm hjk))]
      exact g7 j w hj
  · rw [HW_set e2 g1 e1 (k2_slotsz _ _ _) e3]; exact hh.2.2.1
theorem r_putF (X : XY K own mn cc rt tb nL fr lo Y) {i ci k a : Nat} {fs : List AV} {v : AV} {ty : FieldType} (fa : FP own i ci k ty true) (hinit : mn = "<init>") (d : decode cc pc = .ok (.putfield i, 3)) (ha : h a = some (.inr (ci, fs))) (hz : kz K ≤ a) (hn : narrow ty (cV v) = cV v) (hf : fits ty (cV v) = true) (kk : G K Y (up h a (.inr (ci, fs.set k v))) n z (pc + 3) lv st) : G K Y h n z pc lv (v :: vR (some a) :: st) := by
  obtain ⟨p, l, e, R, s, m, args, below, meth, c, Q⟩ := Y
  obtain ⟨hx, hb, hml, hown, hts, hr, hlk, hKN, hSH, hkz, hkn, hkw, hfr, hlo, htr, htb, hmn⟩ := X
  intro H locs ls hh
  obtain ⟨C, T, N, ref, ⟨hc, hin, ⟨ty0, hty⟩, hnm⟩, hk, hlink, hsame, hd, hfin, hdecl⟩ := fa
  obtain ⟨r, cell, g0, g1, g2, g3, g4, g5, g6, g7⟩ := hh.1 a _ ha
  have hr : r = (C, T, N) := Option.some.inj (g0.symm.trans hc)
  subst hr
  obtain ⟨hS, hfc, kC, hkC, hkind⟩ := hKN.1 ci _ hc
  obtain ⟨cf, kf, fi, f, hi, hsl⟩ := hS k hk
  have hap : ∀ x y, x < N → y < N → x ≠ y → (K.1.2 ci) x ≠ (K.1.2 ci) y := by
    intro x y hx hy hne
    obtain ⟨_, _, _, fa, hia, ea⟩ := hS x hx
    obtain ⟨_, _, _, fb, hib, eb⟩ := hS y hy
    rw [← ea, ← eb]
    refine u_apart (u_lays hts hin hx) (u_lays hts hin hy) hia hib ?_
    rw [(State.fieldFound?_type hia (hty x hx)).1, (State.fieldFound?_type hib (hty y hy)).1]
    exact hnm x hx y hy hne
  have hlay := hts _ (hin _ (u_in_lay hk))
  unfold u_lay at hlay
  rw [if_pos hfin] at hlay
  have hst := (u_facts hfc hkC (u_lays hts hin hk) hi).1
  have hcf : m.cls = cf := by
    obtain ⟨_, _, c', _, _, _, -, -, hf', -, -, -, hown2, -⟩ := Cond.laysFinal_spec hlay
    have e1 : c' = cf := by have := hi.symm.trans hf'; simp at this; exact this.1.symm
    rw [hdecl rfl] at hown2
    rw [← e1]; exact Option.some.inj (hown.symm.trans hown2)
  have h6 := u_fits hfc hkC hkind (Or.inr hlay) hi hd hn hf
  have hkl : k < fs.length := by rw [← g6]; exact hk
  have hold : ∃ v0, fs[k]? = some v0 := ⟨fs[k], List.getElem?_eq_getElem hkl⟩
  obtain ⟨v0, hv0⟩ := hold
  refine W.putFinK hx hb hown (hts _ hlink) (fa_same (own := own) (C := C) hts hsame _ hi) hst hcf (hmn.trans hinit) (by rw [g2]; exact h6) g1 (g5 hz).1 (by rw [hsl]; exact k2_hasslot (g7 k v0 hv0)) rfl rfl d fun H1 e1 e2 e3 => ?_
  rw [hsl] at e1 ⊢
  refine kk H1 _ ls ⟨hh.1.upd9 ?_ e3, e2.trans hh.2.1, ?_, hh.2.2.2.1, hh.2.2.2.2.1, hh.2.2.2.2.2.1.put e2 e3 hz, hh.2.2.2.2.2.2⟩
  · refine ⟨_, _, hc, e1, g2, g3, g4, g5, by rw [List.length_set]; exact g6, fun j w hj => ?_⟩
    by_cases hjk : j = k
    · subst hjk
      rw [List.getElem?_set_self hkl] at hj
      cases hj
      exact Cell.slots_setSlot_self _ (k2_hasslot (g7 _ v0 hv0))
    · rw [List.getElem?_set_ne (Ne.symm hjk)] at hj
      have hjl : j < N := by
        have := (List.getElem?_eq_some_iff.mp hj).1
        show j < (C, T, N).2.2
        rw [g6]; exact this
      rw [slot_ne _ _ (hap k j hk hjl (Ne.symm hjk))]
      exact g7 j w hj
  · rw [HW_set e2 g1 e1 (k2_slotsz _ _ _) e3]; exact hh.2.2.1
end RH
