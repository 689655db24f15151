set_option maxRecDepth 100000
theorem q143 : (Jvm.Cond.initialized "java/lang/Throwable") ∈ lw_all := lw_g (lw_at lw_m1 6 rfl) rfl
theorem q203 : (Jvm.Cond.instanceMethod ({ cls := "java/lang/Object", name := "<init>", desc := "()V" } : Jvm.MethodName)) ∈ lw_all := lw_g (lw_at lw_m1 66 rfl) rfl
theorem q204 : (Jvm.Cond.code ({ cls := "java/lang/Object", name := "<init>", desc := "()V" } : Jvm.MethodName) object_method_1_code (1 : Nat) (Option.none : Option Jvm.ClassFile.FieldType)) ∈ lw_all := lw_g (lw_at lw_m1 67 rfl) rfl
theorem q346 : (Jvm.Cond.selects "TrailMarkers$PlaceException" ({ cls := "java/lang/Throwable", name := "fillInStackTrace", desc := "(I)Ljava/lang/Throwable;" } : Jvm.MethodName) ({ cls := "java/lang/Throwable", name := "fillInStackTrace", desc := "(I)Ljava/lang/Throwable;" } : Jvm.MethodName)) ∈ lw_all := lw_g (lw_at lw_m1 209 rfl) rfl
theorem q347 : (Jvm.Cond.selects "TrailMarkers$PlaceException" ({ cls := "java/lang/Throwable", name := "fillInStackTrace", desc := "()Ljava/lang/Throwable;" } : Jvm.MethodName) ({ cls := "java/lang/Throwable", name := "fillInStackTrace", desc := "()Ljava/lang/Throwable;" } : Jvm.MethodName)) ∈ lw_all := lw_g (lw_at lw_m1 210 rfl) rfl
theorem q349 : (Jvm.Cond.lays "java/lang/Throwable" "java/lang/Throwable" "cause" "Ljava/lang/Throwable;") ∈ lw_all := lw_g (lw_at lw_m1 212 rfl) rfl
theorem q351 : (Jvm.Cond.lays "java/lang/Throwable" "java/lang/Throwable" "stackTrace" "[Ljava/lang/StackTraceElement;") ∈ lw_all := lw_g (lw_at lw_m1 214 rfl) rfl
theorem q353 : (Jvm.Cond.lays "java/lang/Throwable" "java/lang/Throwable" "suppressedExceptions" "Ljava/util/List;") ∈ lw_all := lw_g (lw_at lw_m1 216 rfl) rfl
theorem q355 : (Jvm.Cond.lays "java/lang/Throwable" "java/lang/Throwable" "detailMessage" "Ljava/lang/String;") ∈ lw_all := lw_g (lw_at lw_m1 218 rfl) rfl
theorem q357 : (Jvm.Cond.lays "java/lang/Throwable" "java/lang/Throwable" "backtrace" "Ljava/lang/Object;") ∈ lw_all := lw_g (lw_at lw_m1 220 rfl) rfl
theorem q359 : (Jvm.Cond.superclass "java/lang/Throwable" "java/lang/Object") ∈ lw_all := lw_g (lw_at lw_m1 222 rfl) rfl
theorem q360 : (Jvm.Cond.instanceMethod ({ cls := "java/lang/Throwable", name := "<init>", desc := "()V" } : Jvm.MethodName)) ∈ lw_all := lw_g (lw_at lw_m1 223 rfl) rfl
theorem q361 : (Jvm.Cond.code ({ cls := "java/lang/Throwable", name := "<init>", desc := "()V" } : Jvm.MethodName) prog_42_method_1_code (1 : Nat) (Option.none : Option Jvm.ClassFile.FieldType)) ∈ lw_all := lw_g (lw_at lw_m1 224 rfl) rfl
theorem q362 : (Jvm.Cond.methodLink "java/lang/Throwable" (1 : Nat) ({ cls := "java/lang/Object", name := "<init>", desc := "()V" } : Jvm.MethodName)) ∈ lw_all := lw_g (lw_at lw_m1 225 rfl) rfl
theorem q363 : (Jvm.Cond.fieldLink "java/lang/Throwable" (13 : Nat) "java/lang/Throwable" "UNASSIGNED_STACK" "[Ljava/lang/StackTraceElement;") ∈ lw_all := lw_g (lw_at lw_m1 226 rfl) rfl
theorem q365 : (Jvm.Cond.fieldLink "java/lang/Throwable" (20 : Nat) "java/lang/Throwable" "SUPPRESSED_SENTINEL" "Ljava/util/List;") ∈ lw_all := lw_g (lw_at lw_m1 228 rfl) rfl
theorem q367 : (Jvm.Cond.methodLink "java/lang/Throwable" (27 : Nat) ({ cls := "java/lang/Throwable", name := "fillInStackTrace", desc := "()Ljava/lang/Throwable;" } : Jvm.MethodName)) ∈ lw_all := lw_g (lw_at lw_m1 230 rfl) rfl
theorem q368 : (Jvm.Cond.instanceMethod ({ cls := "java/lang/Throwable", name := "fillInStackTrace", desc := "()Ljava/lang/Throwable;" } : Jvm.MethodName)) ∈ lw_all := lw_g (lw_at lw_m1 231 rfl) rfl
theorem q370 : (Jvm.Cond.selects "TrailMarkers$TextException" ({ cls := "java/lang/Throwable", name := "fillInStackTrace", desc := "()Ljava/lang/Throwable;" } : Jvm.MethodName) ({ cls := "java/lang/Throwable", name := "fillInStackTrace", desc := "()Ljava/lang/Throwable;" } : Jvm.MethodName)) ∈ lw_all := lw_g (lw_at lw_m1 233 rfl) rfl
theorem q373 : (Jvm.Cond.selects "java/lang/IllegalArgumentException" ({ cls := "java/lang/Throwable", name := "fillInStackTrace", desc := "()Ljava/lang/Throwable;" } : Jvm.MethodName) ({ cls := "java/lang/Throwable", name := "fillInStackTrace", desc := "()Ljava/lang/Throwable;" } : Jvm.MethodName)) ∈ lw_all := lw_g (lw_at lw_m1 236 rfl) rfl
theorem q374 : (Jvm.Cond.selects "java/lang/IllegalStateException" ({ cls := "java/lang/Throwable", name := "fillInStackTrace", desc := "()Ljava/lang/Throwable;" } : Jvm.MethodName) ({ cls := "java/lang/Throwable", name := "fillInStackTrace", desc := "()Ljava/lang/Throwable;" } : Jvm.MethodName)) ∈ lw_all := lw_g (lw_at lw_m1 237 rfl) rfl
theorem q375 : (Jvm.Cond.selects "java/lang/IndexOutOfBoundsException" ({ cls := "java/lang/Throwable", name := "fillInStackTrace", desc := "()Ljava/lang/Throwable;" } : Jvm.MethodName) ({ cls := "java/lang/Throwable", name := "fillInStackTrace", desc := "()Ljava/lang/Throwable;" } : Jvm.MethodName)) ∈ lw_all := lw_g (lw_at lw_m1 238 rfl) rfl
theorem q376 : (Jvm.Cond.codeSync ({ cls := "java/lang/Throwable", name := "fillInStackTrace", desc := "()Ljava/lang/Throwable;" } : Jvm.MethodName) prog_42_method_18_code (1 : Nat) (Option.some (Jvm.ClassFile.FieldType.object "java/lang/Throwable"))) ∈ lw_all := lw_g (lw_at lw_m1 239 rfl) rfl
theorem q377 : (Jvm.Cond.methodLink "java/lang/Throwable" (202 : Nat) ({ cls := "java/lang/Throwable", name := "fillInStackTrace", desc := "(I)Ljava/lang/Throwable;" } : Jvm.MethodName)) ∈ lw_all := lw_g (lw_at lw_m2 0 rfl) rfl
theorem q379 : (Jvm.Cond.instanceMethod ({ cls := "java/lang/Throwable", name := "fillInStackTrace", desc := "(I)Ljava/lang/Throwable;" } : Jvm.MethodName)) ∈ lw_all := lw_g (lw_at lw_m2 2 rfl) rfl
theorem q381 : (Jvm.Cond.native ({ cls := "java/lang/Throwable", name := "fillInStackTrace", desc := "(I)Ljava/lang/Throwable;" } : Jvm.MethodName)) ∈ lw_all := lw_g (lw_at lw_m2 4 rfl) rfl
theorem q391 : (Jvm.Cond.fieldLink "java/lang/Throwable" (198 : Nat) "java/lang/Throwable" "backtrace" "Ljava/lang/Object;") ∈ lw_all := lw_g (lw_at lw_m2 14 rfl) rfl
theorem q393 : (Jvm.Cond.fieldLink "java/lang/Throwable" (7 : Nat) "java/lang/Throwable" "cause" "Ljava/lang/Throwable;") ∈ lw_all := lw_g (lw_at lw_m2 16 rfl) rfl
theorem q394 : (Jvm.Cond.fieldLink "java/lang/Throwable" (17 : Nat) "java/lang/Throwable" "stackTrace" "[Ljava/lang/StackTraceElement;") ∈ lw_all := lw_g (lw_at lw_m2 17 rfl) rfl
theorem q395 : (Jvm.Cond.fieldLink "java/lang/Throwable" (24 : Nat) "java/lang/Throwable" "suppressedExceptions" "Ljava/util/List;") ∈ lw_all := lw_g (lw_at lw_m2 18 rfl) rfl
theorem q680 : (Jvm.Cond.selects "java/lang/IllegalArgumentException" ({ cls := "java/lang/Throwable", name := "fillInStackTrace", desc := "(I)Ljava/lang/Throwable;" } : Jvm.MethodName) ({ cls := "java/lang/Throwable", name := "fillInStackTrace", desc := "(I)Ljava/lang/Throwable;" } : Jvm.MethodName)) ∈ lw_all := lw_g (lw_at lw_m3 63 rfl) rfl
theorem q809 : (Jvm.Cond.selects "TrailMarkers$TextException" ({ cls := "java/lang/Throwable", name := "fillInStackTrace", desc := "(I)Ljava/lang/Throwable;" } : Jvm.MethodName) ({ cls := "java/lang/Throwable", name := "fillInStackTrace", desc := "(I)Ljava/lang/Throwable;" } : Jvm.MethodName)) ∈ lw_all := lw_g (lw_at lw_m3 192 rfl) rfl
theorem q1047 : (Jvm.Cond.selects "java/lang/IllegalStateException" ({ cls := "java/lang/Throwable", name := "fillInStackTrace", desc := "(I)Ljava/lang/Throwable;" } : Jvm.MethodName) ({ cls := "java/lang/Throwable", name := "fillInStackTrace", desc := "(I)Ljava/lang/Throwable;" } : Jvm.MethodName)) ∈ lw_all := lw_g (lw_at lw_m4 190 rfl) rfl
theorem q1111 : (Jvm.Cond.methodLink "TrailMarkers$TextException" (19 : Nat) ({ cls := "TrailMarkers$TextException", name := "getCause", desc := "()Ljava/lang/Throwable;" } : Jvm.MethodName)) ∈ lw_all := lw_g (lw_at lw_m5 14 rfl) rfl
theorem q1112 : (Jvm.Cond.sameMethod "TrailMarkers$TextException" "java/lang/Throwable" "getCause" "()Ljava/lang/Throwable;") ∈ lw_all := lw_g (lw_at lw_m5 15 rfl) rfl
theorem q1114 : (Jvm.Cond.selects "TrailMarkers$TextException" ({ cls := "TrailMarkers$TextException", name := "getCause", desc := "()Ljava/lang/Throwable;" } : Jvm.MethodName) ({ cls := "java/lang/Throwable", name := "getCause", desc := "()Ljava/lang/Throwable;" } : Jvm.MethodName)) ∈ lw_all := lw_g (lw_at lw_m5 17 rfl) rfl
theorem q1115 : (Jvm.Cond.instanceMethod ({ cls := "java/lang/Throwable", name := "getCause", desc := "()Ljava/lang/Throwable;" } : Jvm.MethodName)) ∈ lw_all := lw_g (lw_at lw_m5 18 rfl) rfl
theorem q1116 : (Jvm.Cond.codeSync ({ cls := "java/lang/Throwable", name := "getCause", desc := "()Ljava/lang/Throwable;" } : Jvm.MethodName) prog_42_method_8_code (1 : Nat) (Option.some (Jvm.ClassFile.FieldType.object "java/lang/Throwable"))) ∈ lw_all := lw_g (lw_at lw_m5 19 rfl) rfl
theorem q1450 : (Jvm.Cond.selects "java/lang/IndexOutOfBoundsException" ({ cls := "java/lang/Throwable", name := "fillInStackTrace", desc := "(I)Ljava/lang/Throwable;" } : Jvm.MethodName) ({ cls := "java/lang/Throwable", name := "fillInStackTrace", desc := "(I)Ljava/lang/Throwable;" } : Jvm.MethodName)) ∈ lw_all := lw_g (lw_at lw_m6 113 rfl) rfl
/-! fillInStackTrace() (traces off) and getCause(): the two synchronized calls -/
abbrev tFillX : MethodName := ⟨"java/lang/Throwable", "fillInStackTrace", "()Ljava/lang/Throwable;"⟩
abbrev tFill0X : MethodName := ⟨"java/lang/Throwable", "fillInStackTrace", "(I)Ljava/lang/Throwable;"⟩
abbrev steX : String := "[Ljava/lang/StackTraceElement;"
/-- a class of exceptions with Throwable's fields ahead -/
def THR (ci : Nat) : Prop := ∃ (C : String) (T : u_T) (N : Nat), CF ci C T N ∧ 4 < N ∧ T 1 = ("java/lang/Throwable", "stackTrace", steX, false) ∧ T 4 = ("java/lang/Throwable", "backtrace", "Ljava/lang/Object;", false) ∧ Cond.selects C tFillX tFillX ∈ lw_all ∧ Cond.selects C tFill0X tFill0X ∈ lw_all
theorem thr_ok {K : KT} {s : State} {args : Array Value} (hts : ∀ w ∈ lw_all, w.before args s = true) (hSH : SH K s s.heap) : ∀ w ∈ Bundle.throwableAtoms, w.before args s = true :=
  List.forall_mem_cons.mpr ⟨hts _ q143, List.forall_mem_cons.mpr ⟨hts _ q359, List.forall_mem_cons.mpr ⟨hts _ q368, List.forall_mem_cons.mpr ⟨hts _ q376, List.forall_mem_cons.mpr ⟨hts _ q379, List.forall_mem_cons.mpr ⟨hts _ q381,
  List.forall_mem_cons.mpr ⟨hts _ q360, List.forall_mem_cons.mpr ⟨hts _ q361, List.forall_mem_cons.mpr ⟨hts _ q203, List.forall_mem_cons.mpr ⟨hts _ q204, List.forall_mem_cons.mpr ⟨hts _ q362, List.forall_mem_cons.mpr ⟨hts _ q367, List.forall_mem_cons.mpr ⟨hts _ q377,
  List.forall_mem_cons.mpr ⟨hts _ q393, List.forall_mem_cons.mpr ⟨hts _ q349, List.forall_mem_cons.mpr ⟨hts _ q394, List.forall_mem_cons.mpr ⟨hts _ q351, List.forall_mem_cons.mpr ⟨hts _ q395, List.forall_mem_cons.mpr ⟨hts _ q353,
  List.forall_mem_cons.mpr ⟨hts _ q363, List.forall_mem_cons.mpr ⟨hSH.2.1.2.word, List.forall_mem_cons.mpr ⟨hts _ q365, List.forall_mem_cons.mpr ⟨hSH.2.2.2.word, List.forall_mem_cons.mpr ⟨hts _ q355, fun _ h => nomatch h⟩⟩⟩⟩⟩⟩⟩⟩⟩⟩⟩⟩⟩⟩⟩⟩⟩⟩⟩⟩⟩⟩⟩⟩
theorem cf_X4 : CF 3 RX4 TX4 7 := ⟨rfl, in_X4, ⟨tyX4, tyX4_ok⟩, nmX4⟩
theorem thr_3 : THR 3 := ⟨RX4, TX4, 7, cf_X4, by decide, rfl, rfl, q347, q346⟩
theorem cf_X7 : CF 6 RX7 TX7 8 := ⟨rfl, in_X7, ⟨tyX7, tyX7_ok⟩, nmX7⟩
theorem thr_6 : THR 6 := ⟨RX7, TX7, 8, cf_X7, by decide, rfl, rfl, q370, q809⟩
theorem cf_J10 : CF 21 RJ10 TJ10 6 := ⟨rfl, in_J10, ⟨tyJ10, tyJ10_ok⟩, nmJ10⟩
theorem thr_21 : THR 21 := ⟨RJ10, TJ10, 6, cf_J10, by decide, rfl, rfl, q373, q680⟩
theorem cf_J17 : CF 22 RJ17 TJ17 6 := ⟨rfl, in_J17, ⟨tyJ17, tyJ17_ok⟩, nmJ17⟩
theorem thr_22 : THR 22 := ⟨RJ17, TJ17, 6, cf_J17, by decide, rfl, rfl, q374, q1047⟩
theorem cf_J18 : CF 23 RJ18 TJ18 6 := ⟨rfl, in_J18, ⟨tyJ18, tyJ18_ok⟩, nmJ18⟩
theorem thr_23 : THR 23 := ⟨RJ18, TJ18, 6, cf_J18, by decide, rfl, rfl, q375, q1450⟩
theorem thr_L : ∀ ci ∈ [3, 6, 21, 22, 23], THR ci := List.forall_mem_cons.mpr ⟨thr_3, List.forall_mem_cons.mpr ⟨thr_6, List.forall_mem_cons.mpr ⟨thr_21, List.forall_mem_cons.mpr ⟨thr_22, List.forall_mem_cons.mpr ⟨thr_23, fun _ h => nomatch h⟩⟩⟩⟩⟩
section SY
variable {K : KT} {own mn : String} {cc : ByteArray} {rt : Option FieldType} {tb : List ExceptionTableEntry} {nL fr lo : Nat} {Y : YT} {h : AH} {n z : Nat} {pc : Nat} {lv : List (Nat × AV)} {st : List AV}
theorem r_fill (X : XY K "java/lang/Throwable" mn cc rt tb nL fr lo Y) {ci o : Nat} {fs : List AV} (hci : THR ci) (ho : h o = some (.inr (ci, fs))) (hz : kz K ≤ o) (f1 : fs[1]? = some (vR (kr K 0))) (f4 : fs[4]? = some (vR none)) (hR : 3 ≤ fr ∧ (st.map cat).sum + 41 ≤ lo)
    (d : decode cc pc = .ok (.invokevirtual 27, 3)) (kk : G K Y h n z (pc + 3) lv (vR (some o) :: st)) : G K Y h n z pc lv (vR (some o) :: st) := by
  obtain ⟨p, l, e, R, s, m, args, below, meth, c, Q⟩ := Y
  obtain ⟨hx, hb, hml, hown, hts, hr, hlk, hKN, hSH, hkz, hkn, hkw, hfr, hlo, htr, htb, hmn⟩ := X
  intro H locs ls hh T hT X
  obtain ⟨C, Tb, N, ⟨hc, hin, -, -⟩, hN4, hT1, hT4, hs1, hs0⟩ := hci
  obtain ⟨r, cell, g0, g1, g2, g3, g4, g5, g6, g7⟩ := hh.1 o _ ho
  have hr9 : r = (C, Tb, N) := Option.some.inj (g0.symm.trans hc)
  subst hr9
  obtain ⟨g51, g52, g53⟩ := g5 hz
  have htr9 : e.platform.stackTraces = false := (show e.platform.stackTraces = l.stackTraces by rw [X.admits.platform]).trans htr
  have howns : e.platform.frameOwnsMonitors = true := by rw [X.admits.platform]
  have hfin : e.platform.finalization = false := by rw [X.admits.platform]
  have hpl : e.platform.magicAccessors = ({} : Platform).magicAccessors := by rw [X.admits.platform]
  obtain ⟨T9, Z9, L, LZ, Ys⟩ := ThrowableC.of_atoms (args := args) howns hfin hpl (thr_ok hts hSH)
  obtain ⟨hS9, hfc, kC, hkC, hkind⟩ := hKN.1 ci _ hc
  -- the static
  obtain ⟨cellS0, hcS0, hiss⟩ := Ys.statics
  obtain ⟨cf, kf, fi, f, a9, cell9, e1, e2, e3, e4, e5, e6, e7, e8⟩ := hSH.1 ("java/lang/Throwable", "UNASSIGNED_STACK", "[Ljava/lang/StackTraceElement;", fun K => va_rf (kr K 0)) (List.mem_of_getElem? (i := 5) rfl)
  have hun := Ys.unassigned
  have e1' : s.fieldFound? Bundle.tN "UNASSIGNED_STACK" Bundle.steD = some (cf, kf, fi, f) := e1
  rw [hun] at e1'
  obtain ⟨rfl, rfl, rfl, rfl⟩ : T9.cT = cf ∧ T9.kT = kf ∧ T9.i13 = fi ∧ T9.fUnassigned = f := by
    have := Option.some.inj e1'
    simp only [Prod.mk.injEq] at this
    exact this
  have ea : T9.aS = a9 := Option.some.inj (L.statics.symm.trans e4)
  subst ea
  have ec : cellS0 = cell9 := Option.some.inj (hcS0.symm.trans e5)
  subst ec
  have hS : va_S (fun q => kz K ≤ q) s.heap H locs := hh.2.2.2.2.2.1
  have hHS : H[T9.aS]? = some cellS0 := (hS.2.1 T9.aS (Array.getElem?_eq_some_iff.mp hcS0).1 e8).trans hcS0
  have hneS : T9.aS ≠ o := fun q => e8 (by rw [q]; exact hz)
  have hknS : cellS0.vm ≠ .unknown := by
    intro q
    rw [q] at hiss; cases hiss
  obtain ⟨cs1, ks1, is1, fs1, i1, s1⟩ := hS9 1 (by show 1 < N; omega)
  obtain ⟨cs4, ks4, is4, fs4, i4, s4⟩ := hS9 4 (by show 4 < N; omega)
  dsimp only at i1 i4 hfc
  have hl1 := hts _ (hin _ (u_in_lay (k := 1) (by omega)))
  unfold u_lay at hl1
  rw [hT1] at hl1 i1
  rw [if_neg (by decide)] at hl1
  rw [hT4] at i4
  have hst1 : T9.fStack = fs1 := by
    have h9 := Ys.stack.symm.trans (show s.fieldFound? Bundle.tN "stackTrace" Bundle.steD = some (cs1, ks1, is1, fs1) from i1)
    simp only [Option.some.injEq, Prod.mk.injEq] at h9
    exact h9.2.2.2
  obtain ⟨ci198, i198, fB, hk198, hg198, ha198, hsB, -, hnB, htB, hffB⟩ := Cond.ownField (t := .object "java/lang/Object") Ys.found L.cls (by decide +kernel) (hts _ q391) (hts _ q357) e.platform hpl
  have hst4 : fB = fs4 := by
    have h9 := (show s.fieldFound? "java/lang/Throwable" "backtrace" "Ljava/lang/Object;" = _ from hffB).symm.trans i4
    simp only [Option.some.injEq, Prod.mk.injEq] at h9
    exact h9.2.2.2
  have hv1 : cell.slots[T9.fStack.slot]? = some (va_rf (kr K 0)) := by rw [hst1, s1]; exact g7 1 _ f1
  have hv4 : cell.slots[fB.slot]? = some .null := by rw [hst4, s4]; exact g7 4 _ f4
  have hfr9 : (va_rf (kr K 0)).isRef = true := by cases kr K 0 <;> rfl
  have htk : Takes s cell T9.fStack (va_rf (kr K 0)) := by
    refine ⟨(Array.getElem?_eq_some_iff.mp hv1).1, ?_⟩
    rw [g2, g51, hst1]
    exact (u_fits (ty := .array (.object "java/lang/StackTraceElement")) hfc hkC hkind (Or.inl hl1) i1 (by decide +kernel) (by cases kr K 0 <;> rfl) (by cases kr K 0 <;> rfl)).2
  have hsel0 : selectMethod e.platform s.vm cell.cls T9.fill0 = .method T9.fill0 := by
    obtain ⟨c2, r2, m2, q1, q2, q3, q4, -⟩ := Cond.selects_spec (hts _ hs0)
    cases Option.some.inj (q1.symm.trans hfc)
    cases Option.some.inj (q2.symm.trans (State.methodFound?_of_named Ys.fill0 (by decide)))
    cases Option.some.inj (q3.symm.trans Ys.fill0)
    rw [Launch.admits_selectMethod X.admits, g2]; exact q4
  have hselF : selectMethod e.platform s.vm cell.cls T9.fill = .method T9.fill := by
    obtain ⟨c2, r2, m2, q1, q2, q3, q4, -⟩ := Cond.selects_spec (hts _ hs1)
    cases Option.some.inj (q1.symm.trans hfc)
    cases Option.some.inj (q2.symm.trans (State.methodFound?_of_named Ys.fill (by decide)))
    cases Option.some.inj (q3.symm.trans Ys.fill)
    rw [Launch.admits_selectMethod X.admits, g2]; exact q4
  obtain ⟨mk, methM, hnamed, hmethM, hstM, habM⟩ := Cond.instanceMethod_spec (hts _ q368)
  cases Option.some.inj (hnamed.symm.trans Ys.fill)
  obtain ⟨kP, hkP, hkPi⟩ : ∃ kP, s.vm.classes[T9.fill.cls]? = some kP ∧ kP.isInterface = false := by
    obtain ⟨c2, r2, m2, q1, q2, q3, q4, kP, hkP, hkPi⟩ := Cond.selects_spec (hts _ hs1)
    cases Option.some.inj (q3.symm.trans Ys.fill)
    exact ⟨kP, hkP, hkPi⟩
  have hcell : T.heap[o]? = some cell := by rw [hT]; exact g1
  have hd9 : decode c.code pc = .ok (.invokevirtual 27, 3) := by rw [hb]; exact d
  have hsize : ls.size = c.maxLocals := hh.2.2.2.2.2.2.1
  have hsig : methM.sig.parameters.length = 0 := by
    obtain ⟨_, _, hm2, -, -, -, -, -, -, hsg⟩ := Cond.codeSync_spec hnamed (hts _ q376)
    cases Option.some.inj (hm2.symm.trans hmethM)
    have h9 : (parseMethodDescriptor tFillX.desc).map (fun q => q.parameters.length) = some 0 := by decide +kernel
    rw [hsg] at h9
    exact Option.some.inj h9
  obtain ⟨vm₁, X₁, hstep₁⟩ := X.invokevirtual hx (x := tFillX) hown (hts _ q367) hnamed hmethM hstM hkP hkPi (by decide) (a := o) (cell := cell) hcell
    (fun z h9 => by rw [h9] at g3; cases g3) hselF hmethM habM hkP hkPi (g := F0 m pc ls (.ref o :: st.map cV)) rfl (argsL := []) (rest := st.map cV) hsig.symm rfl hd9
  have hst9 := X₁.framesAbove (n := 2) (by rw [hfr]; omega)
  have hw9 := X₁.stackAbove (g := F0 m pc ls (st.map cV)) hsize (K := 41) (by show 2 * 0 + _ + 41 ≤ _; rw [cV_sum, hlo]; omega)
  obtain ⟨g₀, hg0⟩ := Option.isSome_iff_exists.mp X₁.here.top
  obtain ⟨tl, htl⟩ := State.topJava?_eq_some.mp hg0
  have hlen : (T.setVm vm₁).frames.length = (Frame.java (F0 m pc ls (st.map cV)) :: (T.setVm vm₁).frames.tail).length := by rw [htl]; rfl
  have hlim : e.platform.stackLimits (T.setVm vm₁).me = e.platform.stackLimits (T.setVm vm₁).me := rfl
  have hroomG : ∀ vm : Vm, e.platform.stackFull (((((T.setVm vm).setTop (F0 m pc ls (st.map cV)))).threads[((T.setVm vm).setTop (F0 m pc ls (st.map cV))).cur]?).getD { frames := [] }) ((T.setVm vm).setTop (F0 m pc ls (st.map cV))).frames (1 + 2) = false := fun vm =>
    roomAbove (pushed := []) (base := .java (F0 m pc ls (st.map cV)) :: (T.setVm vm₁).frames.tail) (free := 41) (lim := e.platform.stackLimits (T.setVm vm₁).me)
      (by rw [State.frames_setTop _ (show (T.setVm vm).frames = _ from htl)]; rw [htl]; rfl) (by rw [State.stackLimits_setTop _ (show (T.setVm vm).topJava?.isSome from X₁.here.top)]; rfl) (by rw [← hlen]; simp only [List.length_nil]; omega) hw9 (by simp only [stackUse_nil]; omega)
  have hroomN : ∀ vm : Vm, e.platform.stackFull ((((fillInside (T.setVm vm) (F0 m pc ls (st.map cV)) T9.fill o cell).setTop (fillJ T9.fill o 16 [])).threads[((fillInside (T.setVm vm) (F0 m pc ls (st.map cV)) T9.fill o cell).setTop (fillJ T9.fill o 16 [])).cur]?).getD { frames := [] }) ((fillInside (T.setVm vm) (F0 m pc ls (st.map cV)) T9.fill o cell).setTop (fillJ T9.fill o 16 [])).frames (nativeFrameWords "java/lang/Throwable" "fillInStackTrace" 2) = false := fun vm => by
    have htopE : ((T.setVm vm).setCell o (cell.withEntry (T.setVm vm).cur)).topJava?.isSome := X₁.here.top
    have hfF : (fillInside (T.setVm vm) (F0 m pc ls (st.map cV)) T9.fill o cell).frames = .java (entryFrameSync T9.fill #[.ref o] 1 o) :: .java (F0 m pc ls (st.map cV)) :: (T.setVm vm₁).frames.tail := by
      rw [show (fillInside (T.setVm vm) (F0 m pc ls (st.map cV)) T9.fill o cell).frames = _ from frames_entered (g := F0 m pc ls (st.map cV)) htopE _]
      rfl
    have htopF : (fillInside (T.setVm vm) (F0 m pc ls (st.map cV)) T9.fill o cell).topJava?.isSome := by rw [State.topJava?_of_frames hfF]; rfl
    have hlimF : e.platform.stackLimits (fillInside (T.setVm vm) (F0 m pc ls (st.map cV)) T9.fill o cell).me = e.platform.stackLimits (T.setVm vm₁).me := by
      rw [State.stackLimits_pushFrame, State.stackLimits_setTop _ htopE]; rfl
    have hw14 : (stackUse [Frame.java (fillJ T9.fill o 16 [])]).2 = 14 := by
      rw [stackUse_java, stackUse_nil]
      simp [operandWords]
    exact roomAbove (pl := e.platform) (u := (fillInside (T.setVm vm) (F0 m pc ls (st.map cV)) T9.fill o cell).setTop (fillJ T9.fill o 16 [])) (vars := nativeFrameWords "java/lang/Throwable" "fillInStackTrace" 2)
      (pushed := [.java (fillJ T9.fill o 16 [])]) (base := .java (F0 m pc ls (st.map cV)) :: (T.setVm vm₁).frames.tail) (free := 41) (lim := e.platform.stackLimits (T.setVm vm₁).me) (State.frames_setTop _ hfF) (by rw [State.stackLimits_setTop _ htopF]; exact hlimF)
      (by rw [← hlen]; simp only [List.length_cons, List.length_nil]; omega) hw9 (by rw [hw14]; decide)
  obtain ⟨vm₂, hW₂, st₂⟩ := Steps.fillColdAnyV p (self := o) (V := T.setVm vm₁) (g := F0 m pc ls (st.map cV)) X₁.here hx T9 L X₁.warmed (Nn := fun u => u) heapOnly_id (fun _ _ => rfl) (fun _ => rfl) (fun u x y => setCell_twice _ _ _ _)
    (cN := cell.withEntry (T.setVm vm₁).cur) (u0 := ⟨va_rf (kr K 0), hfr9⟩) [] hcell (fun z h9 => by rw [h9] at g3; cases g3) g4 (Or.inl g52) hv1 hsel0 (by show T.heap[T9.aS]? = _; rw [hT]; exact hHS) hneS hknS e7
    (fun _ hu => hu) (fun _ hu => hu) rfl rfl rfl rfl htk hd9 (fun _ vm1 hW1 hA t' hs' => L.nativeOff p htr9 hA (by exact hW1) (hroomN vm1) hs') (hroomG vm₁) ⟨{ ci198 := ci198, i198 := i198, fBack := fB }, ⟨hk198, hg198, ha198, hsB⟩, hv4, fun _ _ => rfl⟩
  have X₂ := X₁.noted hW₂
  have hbk : ((cell.withEntry (T.setVm vm₁).cur).setSlot T9.fStack.slot (va_rf (kr K 0))).left = cell := by
    rw [Cell.setSlot_same (by exact hv1)]
    exact Cell.left_withEntry _ g52 g53
  have hsm : (((T.setVm vm₁).setVm vm₂).setCell o cell) = (T.setVm vm₁).setVm vm₂ := State.setCell_asItLies hcell
  obtain ⟨t, a1, b1⟩ := kk H locs ls hh ((T.setVm vm₁).setVm vm₂) hT X₂
  refine ⟨t, hstep₁ _ (fun acts => ?_), b1⟩
  rw [doInvoke_state]
  refine st₂ t ?_
  show Steps p.tables e below ((((T.setVm vm₁).setVm vm₂).setCell o ((cell.withEntry (T.setVm vm₁).cur).setSlot T9.fStack.slot (va_rf (kr K 0))).left).setTop _) t
  rw [hbk, hsm]
  exact a1
def dkwG : List UInt8 := [42, 180, 0, 7, 42, 166, 0, 7, 1, 167, 0, 7, 42, 180, 0, 7, 176]
abbrev dktG : List UInt8 := dkwG ++ []
theorem dksG : prog_42_method_8_code.data.toList.drop 0 = dktG := by decide +kernel
theorem dG_0 : decode prog_42_method_8_code 0 = .ok (.aload_n 0, 1) := dk_42 (dk_at dksG 0 rfl rfl)
theorem dG_1 : decode prog_42_method_8_code 1 = .ok (.getfield 7, 3) := dk_180 0 7 (dk_at dksG 1 rfl rfl)
theorem dG_4 : decode prog_42_method_8_code 4 = .ok (.aload_n 0, 1) := dk_42 (dk_at dksG 4 rfl rfl)
theorem dG_5 : decode prog_42_method_8_code 5 = .ok (.if_acmp .ne 7, 3) := dk_166 0 7 (dk_at dksG 5 rfl rfl)
theorem dG_8 : decode prog_42_method_8_code 8 = .ok (.aconst_null, 1) := dk_1 (dk_at dksG 8 rfl rfl)
theorem dG_9 : decode prog_42_method_8_code 9 = .ok (.goto 7, 3) := dk_167 0 7 (dk_at dksG 9 rfl rfl)
theorem dG_12 : decode prog_42_method_8_code 12 = .ok (.aload_n 0, 1) := dk_42 (dk_at dksG 12 rfl rfl)
theorem dG_13 : decode prog_42_method_8_code 13 = .ok (.getfield 7, 3) := dk_180 0 7 (dk_at dksG 13 rfl rfl)
theorem dG_16 : decode prog_42_method_8_code 16 = .ok (.areturn, 1) := dk_176 (dk_at dksG 16 rfl rfl)
abbrev tCauseX : MethodName := ⟨"java/lang/Throwable", "getCause", "()Ljava/lang/Throwable;"⟩
theorem r_cause (X : XY K "TrailMarkers$TextException" mn cc rt tb nL fr lo Y) {o : Nat} {x : Option Nat} {fs : List AV} (ho : h o = some (.inr (6, fs))) (hz : kz K ≤ o) (f0 : fs[0]? = some (vR x)) (hR : 3 ≤ fr ∧ (st.map cat).sum + 41 ≤ lo)
    (d : decode cc pc = .ok (.invokevirtual 19, 3)) (kk : G K Y h n z (pc + 3) lv (vR (if x = some o then none else x) :: st)) : G K Y h n z pc lv (vR (some o) :: st) := by
  obtain ⟨p, l, e, R, s, m, args, below, meth, c, Q⟩ := Y
  obtain ⟨hx, hb, hml, hown, hts, hr, hlk, hKN, hSH, hkz, hkn, hkw, hfr, hlo, htr, htb, hmn⟩ := X
  intro H locs ls hh T hT X
  obtain ⟨r, cell, g0, g1, g2, g3, g4, g5, g6, g7⟩ := hh.1 o _ ho
  have hr9 : r = (RX7, TX7, 8) := (Option.some.inj g0).symm
  subst hr9
  obtain ⟨g51, g52, g53⟩ := g5 hz
  have howns : e.platform.frameOwnsMonitors = true := by rw [X.admits.platform]
  have hfin : e.platform.finalization = false := by rw [X.admits.platform]
  have hpl : e.platform.magicAccessors = ({} : Platform).magicAccessors := by rw [X.admits.platform]
  obtain ⟨T9, Z9, L, LZ, Ys⟩ := ThrowableC.of_atoms (args := args) howns hfin hpl (thr_ok hts hSH)
  obtain ⟨hS9, hfc, kC, hkC, hkind⟩ := hKN.1 6 _ g0
  obtain ⟨cs0, ks0, is0, fs0, i0, s0⟩ := hS9 0 (by decide)
  have hst0 : T9.fCause = fs0 := by
    have h9 := Ys.cause.symm.trans (show s.fieldFound? Bundle.tN "cause" "Ljava/lang/Throwable;" = some (cs0, ks0, is0, fs0) from i0)
    simp only [Option.some.injEq, Prod.mk.injEq] at h9
    exact h9.2.2.2
  have hv0 : cell.slots[T9.fCause.slot]? = some (va_rf x) := by rw [hst0, s0]; exact g7 0 _ f0
  obtain ⟨ciG, iG, fG, hkG, hgG, haG, hsG, -, -, -, hffG⟩ := Cond.ownField (t := .object "java/lang/Throwable") Ys.found L.cls (by decide +kernel) (hts _ q393) (hts _ q349) e.platform hpl
  have hfG : fG = fs0 := by
    have h9 := (show s.fieldFound? "java/lang/Throwable" "cause" "Ljava/lang/Throwable;" = _ from hffG).symm.trans i0
    simp only [Option.some.injEq, Prod.mk.injEq] at h9
    exact h9.2.2.2
  obtain ⟨mk, methM, hnamed, hmethM, hstM, habM⟩ := Cond.instanceMethod_spec (hts _ q1115)
  obtain ⟨methM', cG, hm2, hcG, hbG, hlG, hrG, hlkG, -, hsgG⟩ := Cond.codeSync_spec hnamed (hts _ q1116)
  cases Option.some.inj (hm2.symm.trans hmethM)
  have hsig : methM.sig.parameters.length = 0 := by
    have h9 : (parseMethodDescriptor tCauseX.desc).map (fun q => q.parameters.length) = some 0 := by decide +kernel
    rw [hsgG] at h9
    exact Option.some.inj h9
  obtain ⟨cn, ck, r1, hcn, hck, hni, hf9, hn1⟩ := Cond.sameMethod_found (hts _ q1112)
  cases Option.some.inj (hnamed.symm.trans hn1)
  obtain ⟨hselG, kP, hkP, hkPi⟩ : selectMethod e.platform s.vm cell.cls mk = .method mk ∧ ∃ kP, s.vm.classes[mk.cls]? = some kP ∧ kP.isInterface = false := by
    obtain ⟨c2, r2, m2, q1, q2, q3, q4, kP, hkP, hkPi⟩ := Cond.selects_spec (hts _ q1114)
    cases Option.some.inj (q1.symm.trans hfc)
    cases Option.some.inj (hf9.symm.trans q2)
    cases Option.some.inj (hnamed.symm.trans q3)
    refine ⟨?_, kP, hkP, hkPi⟩
    rw [Launch.admits_selectMethod X.admits, g2]; exact q4
  have hmc : mk.cls = T9.cT := by
    have h9 := findClass_of_methodNamed hnamed
    exact Option.some.inj (h9.symm.trans Ys.found)
  have hcell : T.heap[o]? = some cell := by rw [hT]; exact g1
  have hd9 : decode c.code pc = .ok (.invokevirtual 19, 3) := by rw [hb]; exact d
  have hsize : ls.size = c.maxLocals := hh.2.2.2.2.2.2.1
  obtain ⟨vm₁, X₁, hstep₁⟩ := X.invokevirtualUp hx (owner := "java/lang/Throwable") (x := ⟨"TrailMarkers$TextException", "getCause", "()Ljava/lang/Throwable;"⟩) hown (hts _ q1111) (hts _ q1112) (by decide) hnamed hmethM hstM (a := o) (cell := cell) hcell
    (fun z h9 => by rw [h9] at g3; cases g3) hselG hmethM habM hkP hkPi (g := F0 m pc ls (.ref o :: st.map cV)) rfl (argsL := []) (rest := st.map cV) hsig.symm rfl hd9
  have hst9 := X₁.framesAbove (n := 2) (by rw [hfr]; omega)
  have hw9 := X₁.stackAbove (g := F0 m pc ls (st.map cV)) hsize (K := 41) (by show 2 * 0 + _ + 41 ≤ _; rw [cV_sum, hlo]; omega)
  obtain ⟨g₀, hg0⟩ := Option.isSome_iff_exists.mp X₁.here.top
  obtain ⟨tl, htl⟩ := State.topJava?_eq_some.mp hg0
  have hlen : (T.setVm vm₁).frames.length = (Frame.java (F0 m pc ls (st.map cV)) :: (T.setVm vm₁).frames.tail).length := by rw [htl]; rfl
  have hroomG : e.platform.stackFull (((((T.setVm vm₁).setTop (F0 m pc ls (st.map cV)))).threads[((T.setVm vm₁).setTop (F0 m pc ls (st.map cV))).cur]?).getD { frames := [] }) ((T.setVm vm₁).setTop (F0 m pc ls (st.map cV))).frames (1 + 2) = false :=
    roomAbove (pushed := []) (base := .java (F0 m pc ls (st.map cV)) :: (T.setVm vm₁).frames.tail) (free := 41) (lim := e.platform.stackLimits (T.setVm vm₁).me)
      (by rw [State.frames_setTop _ (show (T.setVm vm₁).frames = _ from htl)]; rw [htl]; rfl) (by rw [State.stackLimits_setTop _ (show (T.setVm vm₁).topJava?.isSome from X₁.here.top)]) (by rw [← hlen]; simp only [List.length_nil]; omega) hw9 (by simp only [stackUse_nil]; omega)
  have hAof : ∀ vm, s.WarmedH vm → At (fillInside (T.setVm vm) (F0 m pc ls (st.map cV)) mk o cell) mk cG below := fun vm hWv => by
    have := At.enter_sync (g := F0 m pc ls (st.map cV)) (X₁.noted hWv).here #[.ref o] o (cell.withEntry (T.setVm vm).cur) (hWv.methodAt hmethM) hcG (hWv.plainAt (m := mk) (by rw [hmc]; exact L.plain))
    rw [hlG] at this
    exact this
  have hcellU : ∀ vm, (fillInside (T.setVm vm) (F0 m pc ls (st.map cV)) mk o cell).heap[o]? = some (cell.withEntry T.cur) := fun vm => by
    show (T.heap.setIfInBounds o (cell.withEntry T.cur))[o]? = _
    simp [(Array.getElem?_eq_some_iff.mp hcell).1]
  have hone : ∀ vm, s.WarmedH vm → ∀ (q : Nat) (stk : List Value), decode prog_42_method_8_code q = .ok (.getfield 7, 3) → ∃ vm', s.WarmedH vm' ∧ ∀ target, Steps p.tables e below ((fillInside (T.setVm vm') (F0 m pc ls (st.map cV)) mk o cell).setTop (fillJ mk o (q + 3) (va_rf x :: stk))) target →
      Steps p.tables e below ((fillInside (T.setVm vm) (F0 m pc ls (st.map cV)) mk o cell).setTop (fillJ mk o q (.ref o :: stk))) target := fun vm hWv q stk hq => by
    obtain ⟨vm', hW', st'⟩ := Steps.getfieldCold (tb := p.tables) (s₀ := s) (U := fillInside (T.setVm vm) (F0 m pc ls (st.map cV)) mk o cell) (f := fillJ mk o q (.ref o :: stk)) (a := o) (rest := stk) (cell := cell.withEntry T.cur) (v := va_rf x) (hAof vm hWv) hx (by rw [hbG]; exact hq) hWv
      (by show s.vm.FieldLinks e.platform mk.cls _ _ _ _; rw [hmc]; exact hkG) (by show s.rightAt mk.cls _ _ = true; rw [hmc]; exact hgG) L.cls haG hsG rfl (hcellU vm) g4 (by rw [hfG, ← hst0]; exact hv0)
    exact ⟨vm', hW', fun target h9 => st' target h9⟩
  have hfin : ∀ vm, s.WarmedH vm → ∀ (v : Option Nat) (t : State), Steps p.tables e below ((T.setVm vm).setTop (F0 m (pc + 3) ls (va_rf v :: st.map cV))) t → Steps p.tables e below ((fillInside (T.setVm vm) (F0 m pc ls (st.map cV)) mk o cell).setTop (fillJ mk o 16 [va_rf v])) t := fun vm hWv v t hs9 => by
    have hA := hAof vm hWv
    have htopV : (T.setVm vm).topJava?.isSome := X₁.here.top
    have hfr9 : (fillInside (T.setVm vm) (F0 m pc ls (st.map cV)) mk o cell).frames = .java (entryFrameSync mk #[.ref o] 1 o) :: .java (F0 m pc ls (st.map cV)) :: (T.setVm vm).frames.tail :=
      frames_entered (g := F0 m pc ls (st.map cV)) (show ((T.setVm vm).setCell o (cell.withEntry (T.setVm vm).cur)).topJava?.isSome from htopV) _
    have hcode : (fillInside (T.setVm vm) (F0 m pc ls (st.map cV)) mk o cell).code? m = some c := (X₁.noted hWv).here.code
    have hcl : (cell.withEntry T.cur).left = cell := Cell.left_withEntry _ g52 g53
    have hsm : ((fillInside (T.setVm vm) (F0 m pc ls (st.map cV)) mk o cell).setCell o cell).setFrames (.java (F0 m pc ls (st.map cV)) :: (T.setVm vm).frames.tail) = (T.setVm vm).setTop (F0 m pc ls (st.map cV)) := by
      have e9 : (fillInside (T.setVm vm) (F0 m pc ls (st.map cV)) mk o cell).setFrames (.java (F0 m pc ls (st.map cV)) :: ((T.setVm vm).setCell o (cell.withEntry (T.setVm vm).cur)).frames.tail) = ((T.setVm vm).setCell o (cell.withEntry (T.setVm vm).cur)).setTop (F0 m pc ls (st.map cV)) :=
        setFrames_entered (s := (T.setVm vm).setCell o (cell.withEntry (T.setVm vm).cur)) htopV _
      have e8 : ((fillInside (T.setVm vm) (F0 m pc ls (st.map cV)) mk o cell).setFrames (.java (F0 m pc ls (st.map cV)) :: ((T.setVm vm).setCell o (cell.withEntry (T.setVm vm).cur)).frames.tail)).setCell o cell = (((T.setVm vm).setCell o (cell.withEntry (T.setVm vm).cur)).setTop (F0 m pc ls (st.map cV))).setCell o cell := by rw [e9]
      refine e8.trans ?_
      show ((((T.setVm vm).setTop (F0 m pc ls (st.map cV))).setCell o (cell.withEntry (T.setVm vm).cur)).setCell o cell) = _
      rw [setCell_twice]
      exact State.setCell_asItLies hcell
    have hret : ∀ acts', (doReturn e ((fillInside (T.setVm vm) (F0 m pc ls (st.map cV)) mk o cell).setTop (fillJ mk o 16 [])) acts' (some (va_rf v))).1 = (T.setVm vm).setTop (F0 m (pc + 3) ls (va_rf v :: st.map cV)) := fun acts' => by
      rw [doReturn_leave_sync (u := fillInside (T.setVm vm) (F0 m pc ls (st.map cV)) mk o cell) (g := F0 m pc ls (st.map cV)) (meth := methM) (cg := c) (len := 3) (a := o) (cell := cell.withEntry T.cur)
        (f := fillJ mk o 16 []) (f₀ := entryFrameSync mk #[.ref o] 1 o) (r := (T.setVm vm).frames.tail) acts' howns hfr9 (by show vm.method? mk = _; exact hWv.methodAt hmethM) hlkG rfl rfl (hcellU vm) rfl hcode hd9, hcl, hsm]
      show ((T.setVm vm).setTop (F0 m pc ls (st.map cV))).setTop _ = _
      rw [State.setTop_setTop]
      rfl
    have hsome : ∃ w, va_rf v = w ∧ w.isRef = true := ⟨_, rfl, by cases v <;> rfl⟩
    cases v with
    | none =>
      jvm_step hA [hA.top, hx, hbG, dG_16, areturn.wp_sem, va_rf, Value.isRef, FieldType.isReference]
      refine ⟨methM, hWv.methodAt hmethM, ⟨_, hrG, rfl⟩, fun acts' => ?_⟩
      have h9 := hret acts'
      simp only [va_rf] at h9 hs9
      rw [h9]; exact hs9
    | some a =>
      jvm_step hA [hA.top, hx, hbG, dG_16, areturn.wp_sem, va_rf, Value.isRef, FieldType.isReference]
      refine ⟨methM, hWv.methodAt hmethM, ⟨_, hrG, rfl⟩, fun acts' => ?_⟩
      have h9 := hret acts'
      simp only [va_rf] at h9 hs9
      rw [h9]; exact hs9
  have go : ∃ vm₂, s.WarmedH vm₂ ∧ ∀ t, Steps p.tables e below ((T.setVm vm₂).setTop (F0 m (pc + 3) ls (va_rf (if x = some o then none else x) :: st.map cV))) t → Steps p.tables e below ((fillInside (T.setVm vm₁) (F0 m pc ls (st.map cV)) mk o cell).setTop (fillJ mk o 0 [])) t := by
    obtain ⟨vm₂, hW₂, st₂⟩ := hone vm₁ X₁.warmed 1 [] dG_1
    have hA1 := hAof vm₁ X₁.warmed
    have hA2 := hAof vm₂ hW₂
    by_cases hxo : x = some o
    · refine ⟨vm₂, hW₂, fun t hs9 => ?_⟩
      rw [if_pos hxo] at hs9
      jvm_step hA1 [hA1.top, hx, hbG, dG_0]
      refine ⟨rfl, st₂ t ?_⟩
      subst hxo
      show Steps p.tables e below ((fillInside (T.setVm vm₂) (F0 m pc ls (st.map cV)) mk o cell).setTop (fillJ mk o 4 [.ref o])) t
      jvm_step hA2 [hA2.top, hx, hbG, dG_4]
      refine ⟨rfl, ?_⟩
      jvm_step hA2 [hA2.top, hx, hbG, dG_5, if_acmp.holds, Value.asRef?]
      jvm_step hA2 [hA2.top, hx, hbG, dG_8]
      jvm_step hA2 [hA2.top, hx, hbG, dG_9]
      exact hfin vm₂ hW₂ none t hs9
    · obtain ⟨vm₃, hW₃, st₃⟩ := hone vm₂ hW₂ 13 [] dG_13
      refine ⟨vm₃, hW₃, fun t hs9 => ?_⟩
      rw [if_neg hxo] at hs9
      jvm_step hA1 [hA1.top, hx, hbG, dG_0]
      refine ⟨rfl, st₂ t ?_⟩
      show Steps p.tables e below ((fillInside (T.setVm vm₂) (F0 m pc ls (st.map cV)) mk o cell).setTop (fillJ mk o 4 [va_rf x])) t
      jvm_step hA2 [hA2.top, hx, hbG, dG_4]
      refine ⟨rfl, ?_⟩
      have key : Steps p.tables e below ((fillInside (T.setVm vm₂) (F0 m pc ls (st.map cV)) mk o cell).setTop (fillJ mk o 12 [])) t := by
        jvm_step hA2 [hA2.top, hx, hbG, dG_12]
        exact ⟨rfl, st₃ t (hfin vm₃ hW₃ x t hs9)⟩
      cases x with
      | none =>
        jvm_step hA2 [hA2.top, hx, hbG, dG_5, if_acmp.holds, Value.asRef?, va_rf]
        exact key
      | some a =>
        have hao : ¬ a = o := fun q => hxo (by rw [q])
        jvm_step hA2 [hA2.top, hx, hbG, dG_5, if_acmp.holds, Value.asRef?, va_rf, hao]
        exact key
  obtain ⟨vm₂, hW₂, st₂⟩ := go
  obtain ⟨t, a1, b1⟩ := kk H locs ls hh (T.setVm vm₂) hT (X.noted hW₂)
  refine ⟨t, hstep₁ _ (fun acts => ?_), b1⟩
  rw [doInvoke_state, doInvoke_enter_sync (g := F0 m pc ls (st.map cV)) X₁.here.top [] (X₁.warmed.methodAt hmethM) hcG hlkG hstM rfl hcell (Or.inl g52) (by rw [hlG]; exact hroomG), hlG]
  exact st₂ t a1
end SY
