set_option maxRecDepth 100000
/-! the common state of both: map, changes, saved maps, input, error, output -/
abbrev SS : Type := Row × List Row × (Option Row × Option Row) × List Int × (Int × Int × Int) × List Int
def sF (S : SS) : Row := S.1
def sCh (S : SS) : List Row := S.2.1
def sSv (S : SS) : Option Row × Option Row := S.2.2.1
def sIn (S : SS) : List Int := S.2.2.2.1
def sEr (S : SS) : Int × Int × Int := S.2.2.2.2.1
def sOut (S : SS) : List Int := S.2.2.2.2.2
def cntB (f : Row) : Int := cnt (fun k => f (6 + k) = 1) 400 0
/-- a good row: valid, nothing outside, its blocks counted -/
def RG (f : Row) : Prop := RowOK f ∧ (∀ j : Int, ¬ (0 ≤ j ∧ j < 526) → f j = 0) ∧ cntB f = f 5
def SG (S : SS) : Prop := RG (sF S) ∧ ((∀ f ∈ sCh S, RG f) ∧ (sCh S).length ≤ 8) ∧ ((∀ f, (sSv S).1 = some f → RG f) ∧ ∀ f, (sSv S).2 = some f → RG f) ∧ ((∀ b ∈ sIn S, 0 ≤ b ∧ b < 256) ∧ (sIn S).length ≤ 700) ∧ (InR (sEr S).1 ∧ InR (sEr S).2.1 ∧ InR (sEr S).2.2) ∧ (∀ b ∈ sOut S, 0 ≤ b ∧ b < 128) ∧ (sOut S).length ≤ 1000
def rowK (a : Int → Int) (i : Nat) : Row := fun j => if 0 ≤ j ∧ j < 526 then a (526 * i + j) else 0
def SvR (a5 : Int) (g : Row) (o : Option Row) : Prop := match o with
  | none => a5 = 0
  | some r => a5 = 1 ∧ g = r
/-- the reference's object stands for S -/
def TInv (sg : TS) (S : SS) : Prop := sg.2 0 = sF S ∧ (sg.1 6 = (sCh S).length ∧ ∀ i : Nat, i < (sCh S).length → (sCh S)[i]? = some (rowK (sg.2 2) i)) ∧ (SvR (sg.2 5 0) (rowK (sg.2 3) 0) (sSv S).1 ∧ SvR (sg.2 5 1) (rowK (sg.2 3) 1) (sSv S).2) ∧ (sg.1 10 = (sIn S).length ∧ LsI (sg.2 8) (sIn S)) ∧ (sg.1 11 = (sOut S).length ∧ LsI (sg.2 9) (sOut S)) ∧ sg.1 12 = (sEr S).1 ∧ sg.1 13 = (sEr S).2.1 ∧ sg.1 14 = (sEr S).2.2
/-- what the state is made of is unchanged -/
def FrC (sg sg1 : TS) : Prop := (∀ j ∈ [6, 10, 11, 12, 13, 14], sg1.1 j = sg.1 j) ∧ ∀ j ∈ [0, 2, 3, 5, 8, 9], sg1.2 j = sg.2 j
theorem FrC.refl (sg : TS) : FrC sg sg := ⟨fun _ _ => rfl, fun _ _ => rfl⟩
theorem FrC.trans {a b c : TS} (p : FrC a b) (q : FrC b c) : FrC a c := ⟨fun j h => (q.1 j h).trans (p.1 j h), fun j h => (q.2 j h).trans (p.2 j h)⟩
theorem FrW.fc {a b : TS} (p : FrW a b) : FrC a b := ⟨fun j h => by
  simp only [List.mem_cons, List.not_mem_nil, or_false] at h
  exact p.1 j (by omega) (by omega), fun j h => by
  simp only [List.mem_cons, List.not_mem_nil, or_false] at h
  exact p.2 j (by omega)⟩
theorem TInv.fr {sg sg1 : TS} {S : SS} (h : TInv sg S) (p : FrC sg sg1) : TInv sg1 S := by
  obtain ⟨h1, ⟨h2, h3⟩, ⟨h4, h5⟩, ⟨h6, h7⟩, ⟨h8, h9⟩, h10, h11, h12⟩ := h
  obtain ⟨p1, p2⟩ := p
  refine ⟨by rw [p2 0 (by decide)]; exact h1, ⟨by rw [p1 6 (by decide)]; exact h2, by rw [p2 2 (by decide)]; exact h3⟩, ⟨by rw [p2 5 (by decide), p2 3 (by decide)]; exact h4, by rw [p2 5 (by decide), p2 3 (by decide)]; exact h5⟩, ⟨by rw [p1 10 (by decide)]; exact h6, by rw [p2 8 (by decide)]; exact h7⟩, ⟨by rw [p1 11 (by decide)]; exact h8, by rw [p2 9 (by decide)]; exact h9⟩, by rw [p1 12 (by decide)]; exact h10, by rw [p1 13 (by decide)]; exact h11, by rw [p1 14 (by decide)]; exact h12⟩
/-- a byte with its sign -/
def sByte (b : Int) : Int := if b < 128 then b else b - 256
/-- a String of these characters -/
def StrP (h : AH) (s : Nat) (l : List Int) : Prop := ∃ (b : Nat) (hs hz : Int) (c : Int → Int), h s = some (.inr (13, [vR (some b), vI 0, vI hs, vI hz])) ∧ h b = some (.inl (1, l.length, .inl c)) ∧ LsI c l ∧ ∀ v ∈ l, 0 ≤ v ∧ v < 128
/-- an ArrayDeque of these objects -/
def DqP (h : AH) (dq da : Nat) (l : List Nat) : Prop := ∃ (hd tl : Int) (dc : Int → Option Nat), h dq = some (.inr (12, [vR (some da), vI hd, vI tl])) ∧ h da = some (.inl (8, 17, .inr (.inl dc))) ∧ (0 ≤ hd ∧ hd < 17) ∧ tl = (hd + l.length) % 17 ∧ l.length ≤ 8 ∧ ∀ (i : Nat) (a : Nat), l[i]? = some a → dc ((hd + i) % 17) = some a
def SvC (h : AH) (a : Option Nat) (o : Option Row) : Prop := match o with
  | none => a = none
  | some f => ∃ t, a = some t ∧ TrP h t f
def TmO (tr ia os dq sv : Nat) (S : SS) : AE := .inr (0, [vR (some tr), vR (some ia), vI (sIn S).length, vI (sEr S).1, vI (sEr S).2.1, vI (sEr S).2.2, vR (some os), vR (some dq), vR (some sv)])
/-- the maps of a list -/
def TrsP (h : AH) (adr : List Nat) (l : List Row) : Prop := adr.length = l.length ∧ ∀ (i a : Nat) (f : Row), adr[i]? = some a → l[i]? = some f → TrP h a f
/-- the component's object stands for S; its places -/
def CIn (K : KT) (h : AH) (x : Nat) (S : SS) (tr ia os dq da sv : Nat) (adr : List Nat) : Prop := h x = some (TmO tr ia os dq sv S) ∧ TrP h tr (sF S) ∧ (∃ ic, h ia = some (.inl (1, 700, .inl ic)) ∧ ∀ i : Nat, i < (sIn S).length → ic (i : Int) = sByte ((sIn S).getD i 0)) ∧ StrP h os (sOut S) ∧ (DqP h dq da adr ∧ TrsP h adr (sCh S)) ∧
  (∃ sc, h sv = some (.inl (6, 2, .inr (.inl sc))) ∧ SvC h (sc 0) (sSv S).1 ∧ SvC h (sc 1) (sSv S).2) ∧ kz K ≤ x ∧ kz K ≤ ia ∧ kz K ≤ dq ∧ kz K ≤ da ∧ kz K ≤ sv
def CInv (K : KT) (h : AH) (x : Nat) (S : SS) : Prop := ∃ (tr ia os dq da sv : Nat) (adr : List Nat), CIn K h x S tr ia os dq da sv adr
/-- all that the component's state is made of has these shapes -/
def CSh : AE → Bool
  | .inr (ci, _) => ci != 4
  | .inl (t, N, _) => t != 2 && (t != 0 || N == 2)
theorem TrSh_C {e : AE} (h : TrSh e = true) : CSh e = true := by
  rcases e with ⟨t, N, c⟩ | ⟨ci, fs⟩
  · simp only [TrSh, CSh, Bool.or_eq_true, Bool.and_eq_true, beq_iff_eq, bne_iff_ne] at h ⊢
    omega
  · simp only [TrSh, CSh, Bool.or_eq_true, beq_iff_eq, bne_iff_ne] at h ⊢
    omega
theorem Ks.sub {s1 s2 : AE → Bool} {h h1 : AH} (k : Ks s2 h h1) (hs : ∀ e, s1 e = true → s2 e = true) : Ks s1 h h1 := fun a e q w => k a e (hs e q) w
theorem TrP.keepC {h h1 : AH} {a : Nat} {f : Row} (k : Ks CSh h h1) (p : TrP h a f) : TrP h1 a f := p.keep (k.sub (fun _ => TrSh_C))
theorem SvC.keep {h h1 : AH} {a : Option Nat} {o : Option Row} (k : Ks CSh h h1) (p : SvC h a o) : SvC h1 a o := by
  cases o with
  | none => exact p
  | some f => obtain ⟨t, e, q⟩ := p; exact ⟨t, e, q.keepC k⟩
theorem StrP.keep {h h1 : AH} {s : Nat} {l : List Int} (k : Ks CSh h h1) (p : StrP h s l) : StrP h1 s l := by
  obtain ⟨b, hs, hz, c, e1, e2, e3⟩ := p
  exact ⟨b, hs, hz, c, k _ _ rfl e1, k _ _ rfl e2, e3⟩
theorem DqP.keep {h h1 : AH} {dq da : Nat} {l : List Nat} (k : Ks CSh h h1) (p : DqP h dq da l) : DqP h1 dq da l := by
  obtain ⟨hd, tl, dc, e1, e2, e3⟩ := p
  exact ⟨hd, tl, dc, k _ _ rfl e1, k _ _ rfl e2, e3⟩
theorem TrsP.keep {h h1 : AH} {adr : List Nat} {l : List Row} (k : Ks CSh h h1) (p : TrsP h adr l) : TrsP h1 adr l := ⟨p.1, fun i a f q1 q2 => (p.2 i a f q1 q2).keepC k⟩
theorem CIn.keep {K : KT} {h h1 : AH} {x : Nat} {S : SS} {tr ia os dq da sv : Nat} {adr : List Nat} (k : Ks CSh h h1) (p : CIn K h x S tr ia os dq da sv adr) : CIn K h1 x S tr ia os dq da sv adr := by
  obtain ⟨e1, e2, ⟨ic, e3, e4⟩, e5, ⟨e6, e7⟩, ⟨sc, e8, e9, e10⟩, e11⟩ := p
  exact ⟨k _ _ rfl e1, e2.keepC k, ⟨ic, k _ _ rfl e3, e4⟩, e5.keep k, ⟨e6.keep k, e7.keep k⟩, ⟨sc, k _ _ rfl e8, e9.keep k, e10.keep k⟩, e11⟩
theorem CInv.keep {K : KT} {h h1 : AH} {x : Nat} {S : SS} (k : Ks CSh h h1) (p : CInv K h x S) : CInv K h1 x S := by
  obtain ⟨tr, ia, os, dq, da, sv, adr, q⟩ := p
  exact ⟨tr, ia, os, dq, da, sv, adr, q.keep k⟩
/-- things that the component changes in place -/
def MutSh : AE → Bool
  | .inr (ci, _) => ci == 0 || ci == 12
  | .inl (t, N, _) => (t == 8 && N == 17) || (t == 6 && N == 2) || (t == 1 && N == 700)
/-- all else is kept -/
def KpM (h h1 : AH) : Prop := Ks (fun e => !MutSh e) h h1
theorem XtH.kp {h h1 : AH} (p : XtH h h1) : KpM h h1 := fun a e _ w => p a e w
theorem KpM.trans {a b c : AH} (p : KpM a b) (q : KpM b c) : KpM a c := Ks.trans p q
theorem KpM.put {h h1 : AH} {a : Nat} {e e0 : AE} (p : KpM h h1) (ha : h1 a = some e0) (hs : MutSh e0 = true) : KpM h (up h1 a e) := Ks.put p ha (by rw [hs]; rfl)
theorem TrSh_M {e : AE} (h : TrSh e = true) : (!MutSh e) = true := by
  rcases e with ⟨t, N, c⟩ | ⟨ci, fs⟩
  · simp only [TrSh, MutSh, Bool.or_eq_true, Bool.and_eq_true, beq_iff_eq, Bool.not_eq_true', Bool.or_eq_false_iff, Bool.and_eq_false_iff, beq_eq_false_iff_ne] at h ⊢
    omega
  · simp only [TrSh, MutSh, Bool.or_eq_true, beq_iff_eq, Bool.not_eq_true', Bool.or_eq_false_iff, beq_eq_false_iff_ne] at h ⊢
    omega
theorem TrP.keepM {h h1 : AH} {a : Nat} {f : Row} (k : KpM h h1) (p : TrP h a f) : TrP h1 a f := p.keep (Ks.sub k (fun _ => TrSh_M))
theorem SvC.keepM {h h1 : AH} {a : Option Nat} {o : Option Row} (k : KpM h h1) (p : SvC h a o) : SvC h1 a o := by
  cases o with
  | none => exact p
  | some f => obtain ⟨t, e, q⟩ := p; exact ⟨t, e, q.keepM k⟩
theorem TrsP.keepM {h h1 : AH} {adr : List Nat} {l : List Row} (k : KpM h h1) (p : TrsP h adr l) : TrsP h1 adr l := ⟨p.1, fun i a f q1 q2 => (p.2 i a f q1 q2).keepM k⟩
theorem StrP.keepM {h h1 : AH} {s : Nat} {l : List Int} (k : KpM h h1) (hl : l.length ≠ 700) (p : StrP h s l) : StrP h1 s l := by
  obtain ⟨b, hs, hz, c, e1, e2, e3⟩ := p
  refine ⟨b, hs, hz, c, k _ _ rfl e1, k _ _ ?_ e2, e3⟩
  simp [MutSh, hl]
/-- the reference's object lies in the heap -/
def TwP (h : AH) (t : Nat) (sg : TS) : Prop := tw t sg h = h
theorem TwP.keep {h h1 : AH} {t : Nat} {sg : TS} (p : TwP h t sg) (k : KpM h h1) : TwP h1 t sg := by
  unfold TwP at p ⊢
  funext q
  have hp := congrFun p q
  unfold tw at hp ⊢
  by_cases h1' : q = t
  · rw [if_pos h1'] at hp ⊢
    exact (k q _ rfl hp.symm).symm
  · rw [if_neg h1'] at hp ⊢
    cases hm : (if t < q then twA[q - t - 1]? else none) with
    | none => rfl
    | some e =>
      obtain ⟨k9, ty, N⟩ := e
      rw [hm] at hp
      have hmem : (k9, ty, N) ∈ twA := by
        split at hm
        · exact List.mem_of_getElem? hm
        · cases hm
      have hsh : (!MutSh (.inl (ty, N, .inl (sg.2 k9)))) = true := by
        simp only [twA, List.mem_cons, List.not_mem_nil, or_false, Prod.mk.injEq] at hmem
        rcases hmem with h | h | h | h | h | h | h | h | h | h | h | h | h | h | h | h | h | h | h | h | h <;> (obtain ⟨-, rfl, rfl⟩ := h; rfl)
      exact (k q _ hsh hp.symm).symm
theorem tw_tw (t : Nat) (sg sg1 : TS) (h : AH) : tw t sg1 (tw t sg h) = tw t sg1 h := by
  funext q
  unfold tw
  by_cases h1 : q = t
  · rw [if_pos h1, if_pos h1]
  · simp only [if_neg h1]
    cases hm : (if t < q then twA[q - t - 1]? else none) with
    | none => rfl
    | some e => rfl
theorem TwP.set {h : AH} {t : Nat} (sg1 : TS) : TwP (tw t sg1 h) t sg1 := tw_tw t sg1 sg1 h
theorem TwP.ks {h : AH} {t : Nat} {sg sg1 : TS} (p : TwP h t sg) : Ks CSh h (tw t sg1 h) := fun q e s w => by
  have hp := congrFun p q
  unfold tw at hp ⊢
  by_cases h1' : q = t
  · rw [if_pos h1'] at hp
    rw [w] at hp
    have := Option.some.inj hp
    rw [← this] at s
    cases s
  · rw [if_neg h1'] at hp ⊢
    cases hm : (if t < q then twA[q - t - 1]? else none) with
    | none => exact w
    | some e9 =>
      obtain ⟨k9, ty, N⟩ := e9
      rw [hm] at hp
      rw [w] at hp
      have := Option.some.inj hp
      rw [← this] at s
      have hmem : (k9, ty, N) ∈ twA := by
        split at hm
        · exact List.mem_of_getElem? hm
        · cases hm
      exfalso
      simp only [twA, List.mem_cons, List.not_mem_nil, or_false, Prod.mk.injEq] at hmem
      rcases hmem with h | h | h | h | h | h | h | h | h | h | h | h | h | h | h | h | h | h | h | h | h <;> (obtain ⟨-, rfl, rfl⟩ := h; cases s)
theorem TwP.low {h : AH} {t : Nat} {sg sg1 : TS} {q : Nat} (hq : q < t) : tw t sg1 h q = h q := by
  unfold tw
  rw [if_neg (by omega), if_neg (by omega)]
theorem WfH.twin {h : AH} {t n : Nat} {sg sg1 : TS} (p : TwP h t sg) (w : WfH h n) : WfH (tw t sg1 h) n := fun q hq => by
  have hp := congrFun p q
  unfold tw at hp ⊢
  by_cases h1' : q = t
  · rw [if_pos h1', w q hq] at hp; cases hp
  · rw [if_neg h1'] at hp ⊢
    cases hm : (if t < q then twA[q - t - 1]? else none) with
    | none => exact w q hq
    | some e9 =>
      rw [hm, w q hq] at hp
      cases hp
