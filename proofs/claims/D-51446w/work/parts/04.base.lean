/-! THE BASE: abstract heap, context, the goal G, rows over G -/
set_option maxRecDepth 100000
abbrev KT : Type := va_G × (Nat → ClassId) × (Nat × Nat × Nat) × (Nat → Nat) × (Nat → ClassId → Prop)
abbrev AV : Type := Int ⊕ (Option Nat ⊕ (UInt32 ⊕ (Int64 ⊕ UInt64)))
abbrev AC : Type := (Int → Int) ⊕ ((Int → Option Nat) ⊕ (Int → Int64))
abbrev AE : Type := (Nat × Nat × AC) ⊕ (Nat × List AV)
abbrev AH : Type := Nat → Option AE
def kz (K : KT) : Nat := K.2.2.1.1
def kn (K : KT) : Nat := K.2.2.1.2.1
def kw (K : KT) : Nat := K.2.2.1.2.2
def kl (K : KT) (i : Nat) : Nat := K.2.2.2.1 i
def kt (K : KT) (t : Nat) (c : ClassId) : Prop := K.2.2.2.2 t c
def iN (z : Int) : Int32 := Int32.ofInt z
abbrev InR (z : Int) : Prop := -2147483648 ≤ z ∧ z < 2147483648
abbrev vI (z : Int) : AV := .inl z
abbrev vR (r : Option Nat) : AV := .inr (.inl r)
abbrev vF (f : UInt32) : AV := .inr (.inr (.inl f))
abbrev vJ (x : Int64) : AV := .inr (.inr (.inr (.inl x)))
abbrev vD (x : UInt64) : AV := .inr (.inr (.inr (.inr x)))
def cV (v : AV) : Value := match v with
  | .inl x => .int (iN x)
  | .inr (.inl r) => va_rf r
  | .inr (.inr (.inl f)) => .float f
  | .inr (.inr (.inr (.inl x))) => .long x
  | .inr (.inr (.inr (.inr x))) => .double x
def cat (v : AV) : Nat := match v with
  | .inr (.inr (.inr _)) => 2
  | _ => 1
def cC (c : AC) (j : Nat) : Value := match c with
  | .inl f => .int (iN (f j))
  | .inr (.inl f) => va_rf (f j)
  | .inr (.inr f) => .long (f j)
def HW (H : Heap) : Nat := H.foldl (fun n c => n + c.slots.size) 0
def oAt (K : KT) (a ci : Nat) (fs : List AV) (H : Heap) : Prop := ∃ (r : vw_C) (cell : Cell), vwCl[ci]? = some r ∧ H[a]? = some cell ∧ cell.cls = K.1.1 ci ∧ cell.vm.isStatics = false ∧ cell.vm ≠ .unknown ∧ (kz K ≤ a → cell.vm = .none ∧ cell.monitor.owner = none ∧ cell.monitor.count = 0) ∧ r.2.2 = fs.length ∧ ∀ (k : Nat) (v : AV), fs[k]? = some v → cell.slots[K.1.2 ci k]? = some (cV v)
def aAt (K : KT) (a t n : Nat) (c : AC) (H : Heap) : Prop := ∃ cell : Cell, H[a]? = some cell ∧ kt K t cell.cls ∧ (kz K ≤ a → cell.cls = K.2.1 t ∧ cell.vm = .none) ∧ (∀ k, cell.vm ≠ .statics k) ∧ cell.vm ≠ .unknown ∧ cell.slots.size = n ∧ n < 2147483648 ∧ ∀ j : Nat, j < n → cell.slots[j]? = some (cC c j)
def eAt (K : KT) (a : Nat) (e : AE) (H : Heap) : Prop := match e with
  | .inl (t, n, c) => aAt K a t n c H
  | .inr (ci, fs) => oAt K a ci fs H
def Hld (K : KT) (h : AH) (H : Heap) : Prop := ∀ (a : Nat) (e : AE), h a = some e → eAt K a e H
def up (h : AH) (a : Nat) (e : AE) : AH := fun q => if q = a then some e else h q
def uI {α : Type} (f : Int → α) (i : Int) (v : α) : Int → α := fun j => if j = i then v else f j
/-- words that are no good words, but go along with warm tables -/
def nwOK (w : Cond) : Bool := match w with
  | .castable _ _ => true
  | .declares _ => true
  | .methodLinkNest _ _ _ _ => true
  | .fieldLinkNest _ _ _ _ _ _ => true
  | .arrayOver (.object _) => true
  | .privateMethod _ => true
  | _ => false
/-- interface calls: class, method called, method found -/
abbrev FwT : Type := String × MethodName × MethodName
def FwOK (q : FwT) : Prop := q.2.1.cls ≠ "java/lang/invoke/MethodHandle" ∧ q.2.1.cls ≠ "java/lang/invoke/VarHandle"
def litS : List (String × Nat × String) := [("TrailMarkers", 29, ""), ("TrailMarkers$Reader", 15, ""), ("TrailMarkers$Reader", 82, "map"), ("TrailMarkers$Reader", 110, "blaze"), ("TrailMarkers$Reader", 112, "block"), ("TrailMarkers$Reader", 114, "lose"), ("TrailMarkers$Reader", 116, "mend"), ("TrailMarkers$Reader", 118, "gap"), ("TrailMarkers$Reader", 120, "miss"), ("TrailMarkers$Reader", 135, "red"), ("TrailMarkers$Reader", 137, "blue"), ("TrailMarkers$Reader", 139, "white"), ("TrailMarkers$Reader", 141, "gold"), ("TrailMarkers$Reader", 215, "nesw"), ("TrailMarkers$Reader", 203, "x"), ("TrailMarkers$Leg", 26, "nesw"), ("TrailMarkers", 460, "^>v<o"), ("TrailMarkersModel", 81, "map 12 10 5 1; blaze red 1 1 3 e 2 s x 2 e 2 s; blaze blue 0 9 2 ( 2 n 1 e ) 3 e; block 5 0 2 6;"), ("TrailMarkersModel", 409, "map"), ("TrailMarkersModel", 376, "blaze"), ("TrailMarkersModel", 362, "red"), ("TrailMarkersModel", 364, "blue"), ("TrailMarkersModel", 366, "white"), ("TrailMarkersModel", 368, "gold"), ("TrailMarkersModel", 327, "n"), ("TrailMarkersModel", 333, "e"), ("TrailMarkersModel", 335, "s"), ("TrailMarkersModel", 336, "w"), ("TrailMarkersModel", 351, "x"), ("TrailMarkersModel", 381, "block"), ("TrailMarkersModel", 385, "lose"), ("TrailMarkersModel", 387, "mend"), ("TrailMarkersModel", 392, "gap"), ("TrailMarkersModel", 394, "miss"), ("TrailMarkersModel", 486, "nesw"), ("TrailMarkersModel", 500, "^>v<o")]
def ncL : List (String × String) := [("java/lang/IllegalArgumentException", "java/lang/IndexOutOfBoundsException"), ("java/lang/IllegalStateException", "java/lang/IndexOutOfBoundsException"), ("java/lang/IllegalStateException", "java/lang/IllegalArgumentException"), ("TrailMarkers$TextException", "TrailMarkers$PlaceException"), ("java/lang/IllegalStateException", "TrailMarkers$PlaceException"), ("java/lang/IllegalArgumentException", "TrailMarkers$PlaceException"), ("java/lang/IndexOutOfBoundsException", "TrailMarkers$PlaceException"), ("java/util/LinkedHashMap$Entry", "java/util/HashMap$TreeNode")]
def fwL : List FwT := [("java/util/LinkedHashMap$LinkedKeyIterator", ⟨"java/util/Iterator", "hasNext", "()Z"⟩, ⟨"java/util/LinkedHashMap$LinkedHashIterator", "hasNext", "()Z"⟩), ("java/util/LinkedHashMap$LinkedKeyIterator", ⟨"java/util/Iterator", "next", "()Ljava/lang/Object;"⟩, ⟨"java/util/LinkedHashMap$LinkedKeyIterator", "next", "()Ljava/lang/Object;"⟩), ("java/util/LinkedHashMap$LinkedKeySet", ⟨"java/util/Set", "iterator", "()Ljava/util/Iterator;"⟩, ⟨"java/util/LinkedHashMap$LinkedKeySet", "iterator", "()Ljava/util/Iterator;"⟩)]
def kr (K : KT) (i : Nat) : Option Nat := if kl K (240 + 2 * i) = 0 then none else some (kl K (241 + 2 * i))
def zsL : List (String × String × String × (KT → Value)) := [("java/lang/String", "COMPACT_STRINGS", "Z", fun _ => .int 1), ("java/lang/Integer$IntegerCache", "high", "I", fun _ => .int 127), ("java/lang/Integer$IntegerCache", "cache", "[Ljava/lang/Integer;", fun K => .ref (kl K 210)), ("java/lang/Integer", "DigitOnes", "[B", fun K => .ref (kl K 200)), ("java/lang/Integer", "DigitTens", "[B", fun K => .ref (kl K 201)),
  ("java/lang/Throwable", "UNASSIGNED_STACK", "[Ljava/lang/StackTraceElement;", fun K => va_rf (kr K 0)), ("java/lang/Throwable", "SUPPRESSED_SENTINEL", "Ljava/util/List;", fun K => va_rf (kr K 1)), ("jdk/internal/util/Preconditions", "SIOOBE_FORMATTER", "Ljava/util/function/BiFunction;", fun K => va_rf (kr K 2)), ("jdk/internal/util/Preconditions", "IOOBE_FORMATTER", "Ljava/util/function/BiFunction;", fun K => va_rf (kr K 3)), ("java/util/HashSet", "PRESENT", "Ljava/lang/Object;", fun K => .ref (kl K 220))]
def KN (K : KT) (U : State) : Prop :=
  (∀ (c : Nat) (q : vw_C), vwCl[c]? = some q → u_Kn U q.1 q.2.1 q.2.2 (K.1.1 c) (K.1.2 c)) ∧
  (∀ (t : Nat) (ty : FieldType), vwTy[t]? = some ty → (∀ cA : ClassId, kt K t cA → ∃ (k : Class) (comp : ClassId), U.vm.classes[cA]? = some k ∧ k.kind = .array comp ty) ∧ kt K t (K.2.1 t) ∧ va_RA U (K.2.1 t) ty) ∧
  (∀ w ∈ lw_tbl, nwOK w = true → va_Nw w U) ∧ (∀ q ∈ ncL, va_Nc q.1 q.2 U) ∧ (∀ q ∈ fwL, FwOK q ∧ va_Fw q.1 q.2.1 q.2.2 U) ∧
  (∀ (i : Nat) (q : String × Nat × String), litS[i]? = some q → vk_R q.1 q.2.1 q.2.2 (kl K i) U)
theorem nw_warm {w : Cond} (h : nwOK w = true) {s U : State} (hW : s.WarmedH U.vm) (hZ : va_Nw w s) : va_Nw w U := by
  unfold nwOK at h
  split at h
  · exact va_Nw.warmC hW hZ
  · exact va_Nw.warmD hW hZ
  · exact va_Nw.warmM hW hZ
  · exact va_Nw.warmF hW hZ
  · exact va_AO.moved hW.alike hZ
  · exact Cond.privateMethod_warm hW hZ
  · cases h
theorem KN.warm {K : KT} {s U : State} (hW : s.WarmedH U.vm) (h : KN K s) : KN K U := by
  obtain ⟨h1, h2, h3, h4, h5, h6⟩ := h
  refine ⟨fun c q hq => u_Kn_moved hW.alike (h1 c q hq), fun t ty ht => ?_, fun w hw hn => nw_warm hn hW (h3 w hw hn), fun q hq => (h4 q hq).moved hW.alike, fun q hq => ⟨(h5 q hq).1, (h5 q hq).2.moved (h5 q hq).1 hW.alike⟩, fun i q hq => (h6 i q hq).warm hW⟩
  obtain ⟨g1, g2, g3⟩ := h2 t ty ht
  refine ⟨fun cA hc => ?_, g2, g3.moved hW.alike⟩
  obtain ⟨k, comp, e1, e2⟩ := g1 cA hc
  obtain ⟨k', hk', he⟩ := hW.alike.2.2 _ _ e1
  exact ⟨k', comp, hk', by rw [he]; exact e2⟩
def SH (K : KT) (U : State) (H : Heap) : Prop := (∀ q ∈ zsL, va_Z q.1 q.2.1 q.2.2.1 (q.2.2.2 K) (fun a => kz K ≤ a) U H) ∧ vx_Zq Bundle.tN "UNASSIGNED_STACK" Bundle.steD (fun a => kz K ≤ a) U H ∧ vx_Zq Bundle.tN "SUPPRESSED_SENTINEL" Bundle.listD (fun a => kz K ≤ a) U H
theorem SH.moved {K : KT} {u U : State} {H : Heap} (hvm : u.vm.Alike U.vm) (h : SH K u H) : SH K U H := ⟨fun q hq => (h.1 q hq).moved hvm, h.2.1.moved hvm, h.2.2.moved hvm⟩
theorem SH.kept {K : KT} {U : State} {H H1 : Heap} (h : SH K U H) (hq : ∀ a : Nat, a < H.size → ¬ kz K ≤ a → H1[a]? = H[a]?) : SH K U H1 := ⟨fun q hm => (h.1 q hm).kept hq, h.2.1.kept hq, h.2.2.kept hq⟩
