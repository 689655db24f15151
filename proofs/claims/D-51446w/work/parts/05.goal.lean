set_option maxRecDepth 100000
theorem HW_list (H : Heap) : HW H = (H.toList.map (·.slots.size)).sum := by
  unfold HW
  rw [← Array.foldl_toList]
  have key : ∀ (l : List Cell) (n : Nat), l.foldl (fun n c => n + c.slots.size) n = n + (l.map (·.slots.size)).sum := by
    intro l
    induction l with
    | nil => intro n; simp
    | cons a l ih => intro n; simp only [List.foldl_cons, List.map_cons, List.sum_cons]; rw [ih]; omega
  rw [key]; omega
theorem HW_push (H : Heap) (c : Cell) : HW (H.push c) = HW H + c.slots.size := by
  rw [HW_list, HW_list]; simp
theorem HW_same {H H1 : Heap} (hz : H1.size = H.size) (h : ∀ q : Nat, (H1[q]?).map (·.slots.size) = (H[q]?).map (·.slots.size)) : HW H1 = HW H := by
  rw [HW_list, HW_list]
  congr 1
  apply List.ext_getElem?
  intro i
  rw [List.getElem?_map, List.getElem?_map, Array.getElem?_toList, Array.getElem?_toList]
  exact h i
theorem HW_set {H H1 : Heap} {a : Nat} {c c1 : Cell} (hz : H1.size = H.size) (ha : H[a]? = some c) (h1 : H1[a]? = some c1) (hs : c1.slots.size = c.slots.size) (ho : ∀ q, q ≠ a → H1[q]? = H[q]?) : HW H1 = HW H := by
  refine HW_same hz fun q => ?_
  by_cases hq : q = a
  · subst hq; rw [ha, h1]; simp [hs]
  · rw [ho q hq]
section TI
variable {p : Program} {l : Launch} {e : Env} {R : Room} {s : State} {m : MethodId} {args : Array Value} {below : List Frame} {meth : Method} {c : Code} {H : Heap} {locs : List Loc} {cells slots : Nat} {Q : State → Prop}
theorem stand_tight {T : State} (X : Stand p l e R s m args below meth c T locs cells slots) {k w : Nat} (h1 : T.heap.size ≤ s.heap.size + k) (h2 : HW T.heap ≤ HW s.heap + w) : Stand p l e R s m args below meth c T locs k w := by
  have hb : T.slotsUsed = HW T.heap := by have := X.book; simpa [State.slotsTrue, HW] using this
  have hs : s.slotsUsed = HW s.heap := by
    have h := X.room
    simp only [State.hasRoom, Bool.and_eq_true] at h
    have := h.2
    simpa [State.slotsTrue, HW] using this
  obtain ⟨g1, g2, g3, g4, g5, g6⟩ := X.same
  refine { X with same := ⟨g1, g2, h1, g4, ?_, g6⟩ }
  have g4' : T.slotsUsed = s.slotsUsed + (((T.setVm s.vm).heap.toList.drop s.heap.size).map (·.slots.size)).sum := g4
  omega
theorem W.tight {g : JFrame} {k w : Nat} (h1 : H.size ≤ s.heap.size + k) (h2 : HW H ≤ HW s.heap + w) (kk : W p l e R s m args below meth c H locs k w Q g) : W p l e R s m args below meth c H locs cells slots Q g := by
  intro T hT X
  exact kk T hT (stand_tight X (by rw [hT]; exact h1) (by rw [hT]; exact h2))
theorem vx_tight {g : JFrame} {q : Addr} {k w : Nat} (h1 : H.size ≤ s.heap.size + k) (h2 : HW H ≤ HW s.heap + w) (kk : vx_W p l e R s m args below meth c H locs k w Q g q) : vx_W p l e R s m args below meth c H locs cells slots Q g q := by
  intro T hT X
  exact kk T hT (stand_tight X (by rw [hT]; exact h1) (by rw [hT]; exact h2))
end TI
/-! outcomes, contracts, the goal inside a method -/
abbrev QvT : Type := Option Value → AH → Nat → Nat → Prop
abbrev QxT : Type := Nat → Nat → AH → Nat → Nat → Prop
def RS (K : KT) (st t : State) (h : AH) (n z : Nat) : Prop := Hld K h t.heap ∧ t.heap.size = n ∧ HW t.heap = z ∧ n ≤ kn K ∧ (z ≤ kw K ∧ HW st.heap ≤ z) ∧ st.heap.size ≤ n ∧ ∀ q : Nat, q < st.heap.size → ¬ kz K ≤ q → t.heap[q]? = st.heap[q]?
def QcP (K : KT) (Qv : QvT) : Array Value → State → Outcome → State → Prop := fun _ st o t => ∃ (v : Option Value) (h : AH) (n z : Nat), o = .returned v ∧ Qv v h n z ∧ RS K st t h n z
def ECl (ci : Nat) (E : String) : Prop := ∃ r : vw_C, vwCl[ci]? = some r ∧ r.1 = E
def XcP (K : KT) (Qx : QxT) : String → Addr → State → State → Prop := fun E q st t => ∃ (ci : Nat) (h : AH) (n z : Nat), ECl ci E ∧ Qx ci q h n z ∧ RS K st t h n z
def PreP (K : KT) (h : AH) (n z : Nat) : State → Prop := fun U => KN K U ∧ SH K U U.heap ∧ Hld K h U.heap ∧ U.heap.size = n ∧ HW U.heap = z
def rmP (K : KT) (fr lo n z : Nat) : Room := { frames := fr, cells := kn K - n, slots := kw K - z, locals := lo }
def Ct (K : KT) (l : Launch) (y : MethodName) (ws : List Cond) (fr lo : Nat) (As : List Value) (h : AH) (n z : Nat) (Qv : QvT) (Qx : QxT) : Prop :=
  l.stackTraces = false → kz K ≤ n → n ≤ kn K → z ≤ kw K → vx_Met l y ws (rmP K fr lo n z) (va_Pc As (PreP K h n z)) (QcP K Qv) (XcP K Qx) (kn K - n) (kw K - z) (fun q => kz K ≤ q)
abbrev YT : Type := Program × Launch × Env × Room × State × MethodId × Array Value × List Frame × Method × Code × (State → Prop)
def yW (K : KT) (Y : YT) (H : Heap) (locs : List Loc) (g : JFrame) : Prop := match Y with
  | (p, l, e, R, s, m, args, below, meth, c, Q) => W p l e R s m args below meth c H locs R.cells R.slots Q g
def yX (K : KT) (Y : YT) (H : Heap) (locs : List Loc) (g : JFrame) (q : Nat) : Prop := match Y with
  | (p, l, e, R, s, m, args, below, meth, c, Q) => vx_W p l e R s m args below meth c H locs R.cells R.slots Q g q
def yS (Y : YT) : State := Y.2.2.2.2.1
def yM (Y : YT) : MethodId := Y.2.2.2.2.2.1
def yL (Y : YT) : Nat := Y.2.2.2.2.2.2.2.2.2.1.maxLocals
/-- what holds of heap and locals at a place inside a method -/
def lvM (lv : List (Nat × AV)) : List (Nat × Value) := lv.map (fun q => (q.1, cV q.2))
def HL (K : KT) (Y : YT) (h : AH) (n z : Nat) (lv : List (Nat × AV)) (H : Heap) (locs : List Loc) (ls : Array Slot) : Prop :=
  Hld K h H ∧ H.size = n ∧ HW H = z ∧ n ≤ kn K ∧ (z ≤ kw K ∧ HW (yS Y).heap ≤ z) ∧ va_S (fun q => kz K ≤ q) (yS Y).heap H locs ∧ lv_has ls (yL Y) (lvM lv)
def G (K : KT) (Y : YT) (h : AH) (n z : Nat) (pc : Nat) (lv : List (Nat × AV)) (st : List AV) : Prop :=
  ∀ (H : Heap) (locs : List Loc) (ls : Array Slot), HL K Y h n z lv H locs ls → yW K Y H locs (F0 (yM Y) pc ls (st.map cV))
def GX (K : KT) (Y : YT) (h : AH) (n z : Nat) (pc : Nat) (lv : List (Nat × AV)) (ci q : Nat) : Prop :=
  ∀ (H : Heap) (locs : List Loc) (ls : Array Slot) (st : List Value) (E : String) (ce : Cell), HL K Y h n z lv H locs ls → ECl ci E → H[q]? = some ce → ce.vm = .none → (yS Y).vm.findClass E = some ce.cls → yX K Y H locs (F0 (yM Y) pc ls st) q
/-- the facts of a method's body: own class, code, return type, frames and locals of its room -/
def XY (K : KT) (own mn : String) (cc : ByteArray) (rt : Option FieldType) (tb : List ExceptionTableEntry) (nL fr lo : Nat) (Y : YT) : Prop := match Y with
  | (p, l, e, R, s, m, args, below, meth, c, Q) => p.tables.exec = Jvm.exec ∧ c.code = cc ∧ c.maxLocals = nL ∧ s.vm.findClass own = some m.cls ∧ (∀ w ∈ lw_all, w.before args s = true) ∧ meth.sig.returnType = rt ∧ meth.locks = false ∧
    KN K s ∧ SH K s s.heap ∧ kz K ≤ s.heap.size ∧ s.heap.size + R.cells = kn K ∧ HW s.heap + R.slots = kw K ∧ R.frames = fr ∧ R.locals = lo ∧ l.stackTraces = false ∧ c.exceptionTable.toList = tb ∧ meth.name = mn
/-- the method's end -/
def YE (K : KT) (Y : YT) (Qv : QvT) (Qx : QxT) : Prop := match Y with
  | (p, l, e, R, s, m, args, below, meth, c, Q) => Q = vx_MQ below (QcP K Qv) (XcP K Qx) args s R.cells R.slots (fun q => kz K ≤ q)
