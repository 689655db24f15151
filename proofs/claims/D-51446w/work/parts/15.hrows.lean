/-! the predicates' words for the heap, and the rows that read them -/
set_option maxRecDepth 100000
def pGI (h : AH) (o : Option Nat) (ci k : Nat) (κ : Int → Prop) : Prop := ∃ (a : Nat) (fs : List AV) (x : Int), o = some a ∧ h a = some (.inr (ci, fs)) ∧ fs[k]? = some (vI x) ∧ κ x
def pGR (h : AH) (o : Option Nat) (ci k : Nat) (κ : Option Nat → Prop) : Prop := ∃ (a : Nat) (fs : List AV) (x : Option Nat), o = some a ∧ h a = some (.inr (ci, fs)) ∧ fs[k]? = some (vR x) ∧ κ x
def pGF (h : AH) (o : Option Nat) (ci k : Nat) (κ : UInt32 → Prop) : Prop := ∃ (a : Nat) (fs : List AV) (x : UInt32), o = some a ∧ h a = some (.inr (ci, fs)) ∧ fs[k]? = some (vF x) ∧ κ x
def pPut (K : KT) (h : AH) (o : Option Nat) (ci k : Nat) (v : AV) (κ : AH → Prop) : Prop := ∃ (a : Nat) (fs : List AV), o = some a ∧ h a = some (.inr (ci, fs)) ∧ kz K ≤ a ∧ κ (up h a (.inr (ci, fs.set k v)))
def pLen (h : AH) (o : Option Nat) (t : Nat) (κ : Int → Prop) : Prop := ∃ (a N : Nat) (c : AC), o = some a ∧ h a = some (.inl (t, N, c)) ∧ κ (N : Int)
def pAI (h : AH) (o : Option Nat) (t : Nat) (i : Int) (κ : Int → Prop) : Prop := ∃ (a N : Nat) (f : Int → Int), o = some a ∧ h a = some (.inl (t, N, .inl f)) ∧ (0 ≤ i ∧ i < N) ∧ κ (f i)
def pAR (h : AH) (o : Option Nat) (t : Nat) (i : Int) (κ : Option Nat → Prop) : Prop := ∃ (a N : Nat) (f : Int → Option Nat), o = some a ∧ h a = some (.inl (t, N, .inr (.inl f))) ∧ (0 ≤ i ∧ i < N) ∧ κ (f i)
def pAJ (h : AH) (o : Option Nat) (t : Nat) (i : Int) (κ : Int64 → Prop) : Prop := ∃ (a N : Nat) (f : Int → Int64), o = some a ∧ h a = some (.inl (t, N, .inr (.inr f))) ∧ (0 ≤ i ∧ i < N) ∧ κ (f i)
def pSI (K : KT) (h : AH) (o : Option Nat) (t : Nat) (i v : Int) (κ : AH → Prop) : Prop := ∃ (a N : Nat) (f : Int → Int), o = some a ∧ h a = some (.inl (t, N, .inl f)) ∧ kz K ≤ a ∧ (0 ≤ i ∧ i < N) ∧ κ (up h a (.inl (t, N, .inl (uI f i v))))
def pSR (K : KT) (h : AH) (o : Option Nat) (t : Nat) (i : Int) (v : Option Nat) (L : List Nat) (κ : AH → Prop) : Prop := ∃ (a N : Nat) (f : Int → Option Nat), o = some a ∧ h a = some (.inl (t, N, .inr (.inl f))) ∧ kz K ≤ a ∧ (0 ≤ i ∧ i < N) ∧ (v = none ∨ ∃ (b ci : Nat) (fs : List AV), v = some b ∧ h b = some (.inr (ci, fs)) ∧ ci ∈ L) ∧ κ (up h a (.inl (t, N, .inr (.inl (uI f i v)))))
def pSJ (K : KT) (h : AH) (o : Option Nat) (t : Nat) (i : Int) (v : Int64) (κ : AH → Prop) : Prop := ∃ (a N : Nat) (f : Int → Int64), o = some a ∧ h a = some (.inl (t, N, .inr (.inr f))) ∧ kz K ≤ a ∧ (0 ≤ i ∧ i < N) ∧ κ (up h a (.inl (t, N, .inr (.inr (uI f i v)))))
def pNew (K : KT) (h : AH) (n z : Nat) (e : AE) (sl : Nat) (κ : AH → Prop) : Prop := n + 1 ≤ kn K ∧ z + sl ≤ kw K ∧ κ (up h n e)
def pNewA (K : KT) (h : AH) (n z t : Nat) (len : Int) (c : AC) (κ : AH → Prop) : Prop := (0 ≤ len ∧ len ≤ 65536) ∧ n + 1 ≤ kn K ∧ z + len.toNat ≤ kw K ∧ κ (up h n (.inl (t, len.toNat, c)))
def pRecv (h : AH) (o : Option Nat) (ci : Nat) (κ : Nat → Prop) : Prop := ∃ (b : Nat) (fs : List AV), o = some b ∧ h b = some (.inr (ci, fs)) ∧ κ b
def pCast (h : AH) (o : Option Nat) (L : List Nat) (κ : Prop) : Prop := (o = none ∨ ∃ (b ci : Nat) (fs : List AV), o = some b ∧ h b = some (.inr (ci, fs)) ∧ ci ∈ L) ∧ κ
def pInst (h : AH) (o : Option Nat) (L1 L0 : List Nat) (κ : Int → Prop) : Prop := (o = none ∧ κ 0) ∨ ∃ (b ci : Nat) (fs : List AV), o = some b ∧ h b = some (.inr (ci, fs)) ∧ ((ci ∈ L1 ∧ κ 1) ∨ (ci ∈ L0 ∧ κ 0))
def pThrow (K : KT) (h : AH) (o : Option Nat) (κ : Nat → Nat → Prop) : Prop := ∃ (q ci : Nat) (fs : List AV), o = some q ∧ h q = some (.inr (ci, fs)) ∧ kz K ≤ q ∧ κ ci q
def pCopyI (K : KT) (h : AH) (o : Option Nat) (sp : Int) (o1 : Option Nat) (dp len : Int) (κ : AH → Prop) : Prop := ∃ (a0 a N0 N : Nat) (f g : Int → Int), o = some a0 ∧ o1 = some a ∧ h a0 = some (.inl (0, N0, .inl f)) ∧ h a = some (.inl (0, N, .inl g)) ∧ kz K ≤ a ∧ (0 ≤ sp ∧ 0 ≤ dp ∧ 0 ≤ len) ∧ sp + len ≤ N0 ∧ dp + len ≤ N ∧ κ (up h a (.inl (0, N, .inl (cpI f g sp dp len))))
def pCopyB (K : KT) (h : AH) (o : Option Nat) (sp : Int) (o1 : Option Nat) (dp len : Int) (κ : AH → Prop) : Prop := ∃ (a0 a N0 N : Nat) (f g : Int → Int), o = some a0 ∧ o1 = some a ∧ h a0 = some (.inl (1, N0, .inl f)) ∧ h a = some (.inl (1, N, .inl g)) ∧ kz K ≤ a ∧ (0 ≤ sp ∧ 0 ≤ dp ∧ 0 ≤ len) ∧ sp + len ≤ N0 ∧ dp + len ≤ N ∧ (∀ j : Int, 0 ≤ j → j < len → -128 ≤ f (sp + j) ∧ f (sp + j) ≤ 127) ∧ κ (up h a (.inl (1, N, .inl (cpI f g sp dp len))))
def pCopyR (K : KT) (h : AH) (o : Option Nat) (sp : Int) (o1 : Option Nat) (dp len : Int) (t : Nat) (L : List Nat) (κ : AH → Prop) : Prop := ∃ (a0 a N0 N : Nat) (f g : Int → Option Nat), o = some a0 ∧ o1 = some a ∧ h a0 = some (.inl (t, N0, .inr (.inl f))) ∧ h a = some (.inl (t, N, .inr (.inl g))) ∧ kz K ≤ a ∧ (0 ≤ sp ∧ 0 ≤ dp ∧ 0 ≤ len) ∧ sp + len ≤ N0 ∧ dp + len ≤ N ∧ (∀ j : Int, 0 ≤ j → j < len → f (sp + j) = none ∨ ∃ (b ci : Nat) (fs : List AV), f (sp + j) = some b ∧ h b = some (.inr (ci, fs)) ∧ ci ∈ L) ∧ κ (up h a (.inl (t, N, .inr (.inl (cpI f g sp dp len)))))
section HR
variable {K : KT} {own mn : String} {cc : ByteArray} {rt : Option FieldType} {tb : List ExceptionTableEntry} {nL fr lo : Nat} {Y : YT} {h : AH} {n z : Nat} {pc : Nat} {lv : List (Nat × AV)} {st : List AV}
theorem r_ldcSw (X : XY K own mn cc rt tb nL fr lo Y) {i j : Nat} {tx : String} (hq : litS[j]? = some (own, i, tx)) (d : decode cc pc = .ok (.ldc_w i, 3)) (kk : G K Y h n z (pc + 3) lv (vR (some (kl K j)) :: st)) : G K Y h n z pc lv st := by
  obtain ⟨p, l, e, R, s, m, args, below, meth, c, Q⟩ := Y
  obtain ⟨hx, hb, hml, hown, hts, hr, hlk, hKN, hSH, hkz, hkn, hkw, hfr, hlo, htr, htb, hmn⟩ := X
  intro H locs ls hh T hT X
  obtain ⟨t, a1, b1⟩ := kk H locs ls hh T hT X
  refine ⟨t, ?_, b1⟩
  have hZ := hKN.2.2.2.2.2 j _ hq
  obtain ⟨k, cf, i1, a', hk, hcf, hcp, -, hr, hev'⟩ := Cond.stringRef_spec hown hZ.1
  cases hZ.2.symm.trans hev'
  obtain ⟨k', hk', he⟩ := X.warmed.alike.2.2 _ _ hk
  have hr' : k'.resolved[i]? = some (some (.string (kl K j))) := by
    rcases X.warmed.entry hk hk' i with h | ⟨h, -⟩
    · rw [h]; exact hr
    · rw [hr] at h; cases h
  have d' : decode c.code pc = .ok (.ldc_w i, 3) := by rw [hb]; exact d
  have a1 : Steps p.tables e below (T.setTop (F0 m (pc + 3) ls (.ref (kl K j) :: st.map cV))) t := a1
  show Steps p.tables e below (T.setTop (F0 m pc ls (st.map cV))) t
  jvm_step X.here [hx, d', ldc_w.wp_string (s := T) (f := F0 m pc ls (st.map cV)) X.here.top hk' (by rw [he]; exact hcf) hcp hr']
  exact a1
theorem r_hGI (X : XY K own mn cc rt tb nL fr lo Y) {i ci k : Nat} {o : Option Nat} {κ : Int → Prop} (fa : FA own i ci k) (d : decode cc pc = .ok (.getfield i, 3)) (hp : pGI h o ci k κ) (kk : ∀ x, κ x → G K Y h n z (pc + 3) lv (vI x :: st)) : G K Y h n z pc lv (vR o :: st) := by
  obtain ⟨a, fs, x, rfl, h1, h2, h3⟩ := hp
  exact r_getf X fa d h1 h2 (kk x h3)
theorem r_hGR (X : XY K own mn cc rt tb nL fr lo Y) {i ci k : Nat} {o : Option Nat} {κ : Option Nat → Prop} (fa : FA own i ci k) (d : decode cc pc = .ok (.getfield i, 3)) (hp : pGR h o ci k κ) (kk : ∀ x, κ x → G K Y h n z (pc + 3) lv (vR x :: st)) : G K Y h n z pc lv (vR o :: st) := by
  obtain ⟨a, fs, x, rfl, h1, h2, h3⟩ := hp
  exact r_getf X fa d h1 h2 (kk x h3)
theorem r_hGF (X : XY K own mn cc rt tb nL fr lo Y) {i ci k : Nat} {o : Option Nat} {κ : UInt32 → Prop} (fa : FA own i ci k) (d : decode cc pc = .ok (.getfield i, 3)) (hp : pGF h o ci k κ) (kk : ∀ x, κ x → G K Y h n z (pc + 3) lv (vF x :: st)) : G K Y h n z pc lv (vR o :: st) := by
  obtain ⟨a, fs, x, rfl, h1, h2, h3⟩ := hp
  exact r_getf X fa d h1 h2 (kk x h3)
theorem r_hPut (X : XY K own mn cc rt tb nL fr lo Y) {i ci k : Nat} {ty : FieldType} {o : Option Nat} {v : AV} {κ : AH → Prop} (fa : FP own i ci k ty false) (hn : narrow ty (cV v) = cV v) (hf : fits ty (cV v) = true) (d : decode cc pc = .ok (.putfield i, 3)) (hp : pPut K h o ci k v κ) (kk : ∀ h1, κ h1 → G K Y h1 n z (pc + 3) lv st) : G K Y h n z pc lv (v :: vR o :: st) := by
  obtain ⟨a, fs, rfl, h1, h2, h3⟩ := hp
  exact r_putf X fa d h1 h2 hn hf (kk _ h3)
theorem r_hPutF (X : XY K own mn cc rt tb nL fr lo Y) {i ci k : Nat} {ty : FieldType} {o : Option Nat} {v : AV} {κ : AH → Prop} (fa : FP own i ci k ty true) (hinit : mn = "<init>") (hn : narrow ty (cV v) = cV v) (hf : fits ty (cV v) = true) (d : decode cc pc = .ok (.putfield i, 3)) (hp : pPut K h o ci k v κ) (kk : ∀ h1, κ h1 → G K Y h1 n z (pc + 3) lv st) : G K Y h n z pc lv (v :: vR o :: st) := by
  obtain ⟨a, fs, rfl, h1, h2, h3⟩ := hp
  exact r_putF X fa hinit d h1 h2 hn hf (kk _ h3)
theorem fit_ref {C : String} (o : Option Nat) : narrow (.object C) (cV (vR o)) = cV (vR o) ∧ fits (.object C) (cV (vR o)) = true := by cases o <;> exact ⟨rfl, rfl⟩
theorem fit_arr {t : FieldType} (o : Option Nat) : narrow (.array t) (cV (vR o)) = cV (vR o) ∧ fits (.array t) (cV (vR o)) = true := by cases o <;> exact ⟨rfl, rfl⟩
theorem fit_bool {v : Int} (hv : v = 0 ∨ v = 1) : narrow .boolean (cV (vI v)) = cV (vI v) ∧ fits .boolean (cV (vI v)) = true := by rcases hv with rfl | rfl <;> exact ⟨rfl, by decide⟩
theorem fit_byte {v : Int} (hv : v = 0 ∨ v = 1) : narrow .byte (cV (vI v)) = cV (vI v) ∧ fits .byte (cV (vI v)) = true := by rcases hv with rfl | rfl <;> exact ⟨rfl, by decide⟩
theorem r_hLen (X : XY K own mn cc rt tb nL fr lo Y) {t : Nat} {ty : FieldType} {o : Option Nat} {κ : Int → Prop} (ht : vwTy[t]? = some ty) (d : decode cc pc = .ok (.arraylength, 1)) (hp : pLen h o t κ) (kk : ∀ x, κ x → G K Y h n z (pc + 1) lv (vI x :: st)) : G K Y h n z pc lv (vR o :: st) := by
  obtain ⟨a, N, c, rfl, h1, h2⟩ := hp
  exact r_alen X ht d h1 (kk _ h2)
theorem r_hAI (X : XY K own mn cc rt tb nL fr lo Y) {o : Option Nat} {i : Int} {κ : Int → Prop} (d : decode cc pc = .ok (.iaload, 1)) (hp : pAI h o 0 i κ) (kk : ∀ x, κ x → G K Y h n z (pc + 1) lv (vI x :: st)) : G K Y h n z pc lv (vI i :: vR o :: st) := by
  obtain ⟨a, N, f, rfl, h1, h2, h3⟩ := hp
  exact r_iald X (t := 0) rfl d h1 h2.1 h2.2 (kk _ h3)
theorem r_hAB (X : XY K own mn cc rt tb nL fr lo Y) {o : Option Nat} {i : Int} {κ : Int → Prop} (d : decode cc pc = .ok (.baload, 1)) (hp : pAI h o 1 i κ) (kk : ∀ x, κ x → G K Y h n z (pc + 1) lv (vI x :: st)) : G K Y h n z pc lv (vI i :: vR o :: st) := by
  obtain ⟨a, N, f, rfl, h1, h2, h3⟩ := hp
  exact r_bald X (t := 1) rfl d h1 h2.1 h2.2 (kk _ h3)
theorem r_hAZ (X : XY K own mn cc rt tb nL fr lo Y) {o : Option Nat} {i : Int} {κ : Int → Prop} (d : decode cc pc = .ok (.baload, 1)) (hp : pAI h o 2 i κ) (kk : ∀ x, κ x → G K Y h n z (pc + 1) lv (vI x :: st)) : G K Y h n z pc lv (vI i :: vR o :: st) := by
  obtain ⟨a, N, f, rfl, h1, h2, h3⟩ := hp
  exact r_zald X (t := 2) rfl d h1 h2.1 h2.2 (kk _ h3)
theorem r_hAJ (X : XY K own mn cc rt tb nL fr lo Y) {o : Option Nat} {i : Int} {κ : Int64 → Prop} (d : decode cc pc = .ok (.laload, 1)) (hp : pAJ h o 3 i κ) (kk : ∀ x, κ x → G K Y h n z (pc + 1) lv (vJ x :: st)) : G K Y h n z pc lv (vI i :: vR o :: st) := by
  obtain ⟨a, N, f, rfl, h1, h2, h3⟩ := hp
  exact r_lald X (t := 3) rfl d h1 h2.1 h2.2 (kk _ h3)
theorem r_hAR (X : XY K own mn cc rt tb nL fr lo Y) {o : Option Nat} {t : Nat} {C : String} {i : Int} {κ : Option Nat → Prop} (ht : vwTy[t]? = some (.object C)) (d : decode cc pc = .ok (.aaload, 1)) (hp : pAR h o t i κ) (kk : ∀ x, κ x → G K Y h n z (pc + 1) lv (vR x :: st)) : G K Y h n z pc lv (vI i :: vR o :: st) := by
  obtain ⟨a, N, f, rfl, h1, h2, h3⟩ := hp
  exact r_aald X ht rfl d h1 h2.1 h2.2 (kk _ h3)
theorem r_hSI (X : XY K own mn cc rt tb nL fr lo Y) {o : Option Nat} {i v : Int} {κ : AH → Prop} (d : decode cc pc = .ok (.iastore, 1)) (hp : pSI K h o 0 i v κ) (kk : ∀ h1, κ h1 → G K Y h1 n z (pc + 1) lv st) : G K Y h n z pc lv (vI v :: vI i :: vR o :: st) := by
  obtain ⟨a, N, f, rfl, h1, h2, h3, h4⟩ := hp
  exact r_iast X (t := 0) rfl d h1 h2 h3.1 h3.2 (kk _ h4)
theorem r_hSB (X : XY K own mn cc rt tb nL fr lo Y) {o : Option Nat} {i v : Int} {κ : AH → Prop} (d : decode cc pc = .ok (.bastore, 1)) (hp : pSI K h o 1 i (i2b v) κ) (kk : ∀ h1, κ h1 → G K Y h1 n z (pc + 1) lv st) : G K Y h n z pc lv (vI v :: vI i :: vR o :: st) := by
  obtain ⟨a, N, f, rfl, h1, h2, h3, h4⟩ := hp
  exact r_bast X (t := 1) rfl d h1 h2 h3.1 h3.2 (kk _ h4)
theorem r_hSZ (X : XY K own mn cc rt tb nL fr lo Y) {o : Option Nat} {i v : Int} {κ : AH → Prop} (hv : v = 0 ∨ v = 1) (d : decode cc pc = .ok (.bastore, 1)) (hp : pSI K h o 2 i v κ) (kk : ∀ h1, κ h1 → G K Y h1 n z (pc + 1) lv st) : G K Y h n z pc lv (vI v :: vI i :: vR o :: st) := by
  obtain ⟨a, N, f, rfl, h1, h2, h3, h4⟩ := hp
  exact r_zast X (t := 2) rfl d h1 h2 h3.1 h3.2 hv (kk _ h4)
theorem r_hSJ (X : XY K own mn cc rt tb nL fr lo Y) {o : Option Nat} {i : Int} {v : Int64} {κ : AH → Prop} (d : decode cc pc = .ok (.lastore, 1)) (hp : pSJ K h o 3 i v κ) (kk : ∀ h1, κ h1 → G K Y h1 n z (pc + 1) lv st) : G K Y h n z pc lv (vJ v :: vI i :: vR o :: st) := by
  obtain ⟨a, N, f, rfl, h1, h2, h3, h4⟩ := hp
  exact r_last X (t := 3) rfl d h1 h2 h3.1 h3.2 (kk _ h4)
theorem r_hSR (X : XY K own mn cc rt tb nL fr lo Y) {o v : Option Nat} {t : Nat} {C : String} {i : Int} {L : List Nat} {κ : AH → Prop} (ht : vwTy[t]? = some (.object C)) (hL : ∀ ci ∈ L, CO ci C) (d : decode cc pc = .ok (.aastore, 1)) (hp : pSR K h o t i v L κ) (kk : ∀ h1, κ h1 → G K Y h1 n z (pc + 1) lv st) : G K Y h n z pc lv (vR v :: vI i :: vR o :: st) := by
  obtain ⟨a, N, f, rfl, h1, h2, h3, h4, h5⟩ := hp
  rcases h4 with rfl | ⟨b, ci, fs, rfl, g1, g2⟩
  · exact r_aastN X ht d h1 h2 h3.1 h3.2 (kk _ h5)
  · exact r_aast X ht (hL ci g2) d h1 g1 h2 h3.1 h3.2 (kk _ h5)
theorem r_hNew (X : XY K own mn cc rt tb nL fr lo Y) {i ci sl : Nat} {fs : List AV} {κ : AH → Prop} (fa : NW own i ci sl fs) (d : decode cc pc = .ok (.new i, 3)) (hp : pNew K h n z (.inr (ci, fs)) sl κ) (kk : ∀ h1, κ h1 → G K Y h1 (n + 1) (z + sl) (pc + 3) lv (vR (some n) :: st)) : G K Y h n z pc lv st := by
  obtain ⟨h1, h2, h3⟩ := hp
  exact r_new X fa d h1 h2 (kk _ h3)
theorem r_hNewA (X : XY K own mn cc rt tb nL fr lo Y) {atype : ArrayType} {t : Nat} {ty : FieldType} {c0 : AC} {len : Int} {κ : AH → Prop} (ht : vwTy[t]? = some ty) (hty : newarray.typeOf atype = ty) (w : Cond.arrayClass ty ∈ lw_all) (hp0 : ∀ U cA, va_RA U cA ty → U.vm.findClass ("[" ++ ty.toString) = some cA) (hc0 : ∀ j, cC c0 j = defaultValue ty) (hcb : componentBytes ty ≤ 8) (d : decode cc pc = .ok (.newarray atype, 2)) (hp : pNewA K h n z t len c0 κ) (kk : ∀ h1, κ h1 → G K Y h1 (n + 1) (z + len.toNat) (pc + 2) lv (vR (some n) :: st)) : G K Y h n z pc lv (vI len :: st) := by
  obtain ⟨h1, h2, h3, h4⟩ := hp
  exact r_newarr X ht hty w hp0 hc0 hcb d h1 h2 h3 (kk _ h4)
theorem r_hAnew (X : XY K own mn cc rt tb nL fr lo Y) {i t : Nat} {C : String} {len : Int} {κ : AH → Prop} (ht : vwTy[t]? = some (.object C)) (w : Cond.classLink own i C ∈ lw_all) (w2 : Cond.arrayOver (.object C) ∈ lw_tbl) (d : decode cc pc = .ok (.anewarray i, 3)) (hp : pNewA K h n z t len (.inr (.inl (fun _ => none))) κ) (kk : ∀ h1, κ h1 → G K Y h1 (n + 1) (z + len.toNat) (pc + 3) lv (vR (some n) :: st)) : G K Y h n z pc lv (vI len :: st) := by
  obtain ⟨h1, h2, h3, h4⟩ := hp
  exact r_anew X ht w w2 d h1 h2 h3 (kk _ h4)
theorem r_hCast (X : XY K own mn cc rt tb nL fr lo Y) {i : Nat} {o : Option Nat} {L : List Nat} {nm : String} {κ : Prop} (w : Cond.classLink own i nm ∈ lw_all) (hL : ∀ ci ∈ L, CO ci nm) (d : decode cc pc = .ok (.checkcast i, 3)) (hp : pCast h o L κ) (kk : κ → G K Y h n z (pc + 3) lv (vR o :: st)) : G K Y h n z pc lv (vR o :: st) := by
  obtain ⟨h1, h2⟩ := hp
  rcases h1 with rfl | ⟨b, ci, fs, rfl, g1, g2⟩
  · exact r_castN X d (kk h2)
  · exact r_cast X w (hL ci g2) d g1 (kk h2)
theorem r_hInst (X : XY K own mn cc rt tb nL fr lo Y) {i : Nat} {o : Option Nat} {L1 L0 : List Nat} {nm : String} {κ : Int → Prop} (w : Cond.classLink own i nm ∈ lw_all) (hL1 : ∀ ci ∈ L1, CO ci nm) (hL0 : ∀ ci ∈ L0, CN ci nm) (d : decode cc pc = .ok (.instanceof i, 3)) (hp : pInst h o L1 L0 κ) (kk : ∀ x, κ x → G K Y h n z (pc + 3) lv (vI x :: st)) : G K Y h n z pc lv (vR o :: st) := by
  rcases hp with ⟨rfl, h1⟩ | ⟨b, ci, fs, rfl, g1, g2 | g2⟩
  · exact r_instN X d (kk 0 h1)
  · exact r_instY X w (hL1 ci g2.1) d g1 (kk 1 g2.2)
  · exact r_inst0 X w (hL0 ci g2.1) d g1 (kk 0 g2.2)
theorem r_hThrow (X : XY K own mn cc rt tb nL fr lo Y) {o : Option Nat} {κ : Nat → Nat → Prop} (d : decode cc pc = .ok (.athrow, 1)) (hp : pThrow K h o κ) (kk : ∀ ci q, κ ci q → GX K Y h n z pc lv ci q) : G K Y h n z pc lv (vR o :: st) := by
  obtain ⟨q, ci, fs, rfl, h1, h2, h3⟩ := hp
  exact r_athrow X d h1 h2 (kk ci q h3)
theorem r_hCopyI (X : XY K own mn cc rt tb nL fr lo Y) {i : Nat} {o o1 : Option Nat} {sp dp len : Int} {κ : AH → Prop} (w1 : Cond.methodLink own i arraycopyName ∈ lw_all) (w2 : Cond.native arraycopyName ∈ lw_all) (w3 : Cond.static arraycopyName ∈ lw_all) (w4 : Cond.initialized "java/lang/System" ∈ lw_all) (hR : 1 ≤ fr ∧ (st.map cat).sum + (nativeFrameWords "java/lang/System" "arraycopy" 5 + 11) ≤ lo) (d : decode cc pc = .ok (.invokestatic i, 3)) (hp : pCopyI K h o sp o1 dp len κ) (kk : ∀ h1, κ h1 → G K Y h1 n z (pc + 3) lv st) : G K Y h n z pc lv (vI len :: vI dp :: vR o1 :: vI sp :: vR o :: st) := by
  obtain ⟨a0, a, N0, N, f, g, rfl, rfl, h1, h2, h3, h4, h5, h6, h7⟩ := hp
  exact r_copyI X w1 w2 w3 w4 d h1 h2 h3 h4 h5 h6 hR (kk _ h7)
theorem r_hCopyB (X : XY K own mn cc rt tb nL fr lo Y) {i : Nat} {o o1 : Option Nat} {sp dp len : Int} {κ : AH → Prop} (w1 : Cond.methodLink own i arraycopyName ∈ lw_all) (w2 : Cond.native arraycopyName ∈ lw_all) (w3 : Cond.static arraycopyName ∈ lw_all) (w4 : Cond.initialized "java/lang/System" ∈ lw_all) (hR : 1 ≤ fr ∧ (st.map cat).sum + (nativeFrameWords "java/lang/System" "arraycopy" 5 + 11) ≤ lo) (d : decode cc pc = .ok (.invokestatic i, 3)) (hp : pCopyB K h o sp o1 dp len κ) (kk : ∀ h1, κ h1 → G K Y h1 n z (pc + 3) lv st) : G K Y h n z pc lv (vI len :: vI dp :: vR o1 :: vI sp :: vR o :: st) := by
  obtain ⟨a0, a, N0, N, f, g, rfl, rfl, h1, h2, h3, h4, h5, h6, h7, h8⟩ := hp
  exact r_copyB X w1 w2 w3 w4 d h1 h2 h3 h4 h5 h6 h7 hR (kk _ h8)
theorem r_objinit (X : XY K own mn cc rt tb nL fr lo Y) {i a : Nat} (w1 : Cond.methodLink own i Lib.objectInit ∈ lw_all) (w2 : Cond.instanceMethod Lib.objectInit ∈ lw_all) (w3 : Cond.code Lib.objectInit ⟨#[0xb1]⟩ 1 none ∈ lw_all) (hR : 1 ≤ fr ∧ (st.map cat).sum + 12 ≤ lo) (d : decode cc pc = .ok (.invokespecial i, 3)) (kk : G K Y h n z (pc + 3) lv st) : G K Y h n z pc lv (vR (some a) :: st) := by
  obtain ⟨p, l, e, R, s, m, args, below, meth, c, Q⟩ := Y
  obtain ⟨hx, hb, hml, hown, hts, hr, hlk, hKN, hSH, hkz, hkn, hkw, hfr, hlo, htr, htb, hmn⟩ := X
  intro H locs ls hh
  exact W.objInit (g := F0 m pc ls ((vR (some a) :: st).map cV)) (rest := st.map cV) hx hb hown (hts _ w1) (hts _ w2) (hts _ w3) rfl (by have h9 : ls.size = c.maxLocals := hh.2.2.2.2.2.2.1; exact h9) rfl d (by rw [hfr]; exact hR.1) (by rw [hlo, cV_sum]; show 2 * 0 + _ + _ ≤ _; omega) (kk H locs ls hh)
end HR
