set_option maxRecDepth 100000
theorem cV_cat (v : AV) : (cV v).category = cat v := by
  obtain x | x | x | x | x := v
  · rfl
  · cases x <;> rfl
  · rfl
  · rfl
  · rfl
theorem lvM_filter1 (lv : List (Nat × AV)) (i : Nat) : (lvM lv).filter (fun q => !(q.1 == i) && !(q.1 + 1 == i && q.2.category == 2)) = lvM (lv.filter (fun q => !(q.1 == i) && !(q.1 + 1 == i && cat q.2 == 2))) := by
  unfold lvM
  rw [List.filter_map]
  congr 1
  apply List.filter_congr
  intro q hq
  simp [cV_cat]
theorem lvM_filter2 (lv : List (Nat × AV)) (i : Nat) : (lvM lv).filter (fun q => !(q.1 == i) && (!(q.1 == i + 1) && !(q.1 + 1 == i && q.2.category == 2))) = lvM (lv.filter (fun q => !(q.1 == i) && (!(q.1 == i + 1) && !(q.1 + 1 == i && cat q.2 == 2)))) := by
  unfold lvM
  rw [List.filter_map]
  congr 1
  apply List.filter_congr
  intro q hq
  simp [cV_cat]
theorem lvM_at {lv : List (Nat × AV)} {k i : Nat} {v : AV} (h : lv[k]? = some (i, v)) : (lvM lv)[k]? = some (i, cV v) := by
  unfold lvM; rw [List.getElem?_map, h]; rfl
def lv_argsA : Nat → List AV → List (Nat × AV)
  | _, [] => []
  | i, v :: vs => (i, v) :: lv_argsA (if cat v = 2 then i + 2 else i + 1) vs
theorem lv_argsA_map : ∀ (vs : List AV) (i : Nat), lv_args i (vs.map cV) = lvM (lv_argsA i vs)
  | [], i => rfl
  | v :: vs, i => by
    show (i, cV v) :: lv_args _ (vs.map cV) = (i, cV v) :: lvM (lv_argsA _ vs)
    rw [lv_argsA_map vs, cV_cat]
theorem lg_len_map (vs : List AV) : (lg_sl (vs.map cV)).length = (vs.map cat).sum := by
  induction vs with
  | nil => rfl
  | cons v vs ih =>
    show (lg_sl (cV v :: vs.map cV)).length = _
    have : lg_sl (cV v :: vs.map cV) = (if (cV v).category = 2 then [.val (cV v), .second] else [.val (cV v)]) ++ lg_sl (vs.map cV) := rfl
    rw [this, List.length_append, ih, List.map_cons, List.sum_cons, cV_cat]
    obtain x | x | x | x | x := v <;> simp [cat]
/-- a contract out of a walk of the body -/
theorem ct_of {K : KT} {l : Launch} {y : MethodName} {cc : ByteArray} {nL : Nat} {rt : Option FieldType} {fr lo : Nat} {As : List AV} {h : AH} {n z : Nat} {Qv : QvT} {Qx : QxT} (hy : plainFor y = true) (hn : (As.map cat).sum ≤ nL)
    (body : ∀ Y : YT, XY K y.cls y.name cc rt [] nL fr lo Y → YE K Y Qv Qx → G K Y h n z 0 (lv_argsA 0 As) []) : Ct K l y (ws_ y cc nL rt) fr lo (As.map cV) h n z Qv Qx := by
  intro htr hz hn1 hz1
  refine vx_ofW (cc := cc) (maxL := nL) (ret := rt) hy rfl ?_
  intro p e s m args below meth c s₁ B hml htb hv
  obtain ⟨rfl, hK, hSH, hH, hsz, hw⟩ := hv
  have hts := atoms_spec (ws := ws_ y cc nL rt) B.pre
  have hts : ∀ w ∈ lw_all, w.before _ s = true := fun w h => hts w (List.mem_cons_of_mem _ h)
  have hX : XY K y.cls y.name cc rt [] nL fr lo (p, l, e, (headSpec (ws_ y cc nL rt) (rmP K fr lo n z)).room, s, m, (As.map cV).toArray, below, meth, c, vx_MQ below (QcP K Qv) (XcP K Qx) (As.map cV).toArray s (kn K - n) (kw K - z) (fun q => kz K ≤ q)) :=
    ⟨B.exec, B.bytes, hml, findClass_of_methodNamed B.named, hts, B.returns, B.notSynchronized, hK, hSH, by rw [hsz]; exact hz, by rw [hsz]; show n + (kn K - n) = kn K; omega, by rw [hw]; show z + (kw K - z) = kw K; omega, rfl, rfl, htr, List.eq_nil_iff_forall_not_mem.mpr fun x hx => htb x hx, (name_of_methodNamed B.named B.method).1⟩
  have hG := body _ hX rfl
  have hl := lv_entry (As.map cV) (n := nL) (by rw [lg_len_map]; exact hn)
  rw [lg_entry_eq]
  rw [lv_argsA_map] at hl
  have hg := hG s.heap [] _ ⟨hH, hsz, hw, hn1, ⟨hz1, by show HW s.heap ≤ z; omega⟩, va_S.rf, by show lv_has _ c.maxLocals _; rw [hml]; exact hl⟩
  exact W.tight (by omega) (by omega) (W.widen (Nat.zero_le _) (Nat.zero_le _) hg)
/-- .. of a method with handlers -/
theorem ct_ofH {K : KT} {l : Launch} {y : MethodName} {cc : ByteArray} {nL : Nat} {rt : Option FieldType} {hh : List (Nat × Nat × Nat × Nat)} {fr lo : Nat} {As : List AV} {h : AH} {n z : Nat} {Qv : QvT} {Qx : QxT} (hy : plainFor y = true) (hn : (As.map cat).sum ≤ nL)
    (body : ∀ Y : YT, XY K y.cls y.name cc rt (tableOf hh) nL fr lo Y → YE K Y Qv Qx → G K Y h n z 0 (lv_argsA 0 As) []) : Ct K l y (wsW_ y cc nL rt hh) fr lo (As.map cV) h n z Qv Qx := by
  intro htr hz hn1 hz1
  refine vx_ofWH (cc := cc) (maxL := nL) (ret := rt) (hh := hh) hy rfl ?_
  intro p e s m args below meth c s₁ B hml hv
  obtain ⟨rfl, hK, hSH, hH, hsz, hw⟩ := hv
  have hts := atoms_spec (ws := wsW_ y cc nL rt hh) B.pre
  have htb := vx_table (x := y) B (hts _ List.mem_cons_self)
  have hts : ∀ w ∈ lw_all, w.before _ s = true := fun w h => hts w (List.mem_cons_of_mem _ h)
  have hX : XY K y.cls y.name cc rt (tableOf hh) nL fr lo (p, l, e, (headSpec (wsW_ y cc nL rt hh) (rmP K fr lo n z)).room, s, m, (As.map cV).toArray, below, meth, c, vx_MQ below (QcP K Qv) (XcP K Qx) (As.map cV).toArray s (kn K - n) (kw K - z) (fun q => kz K ≤ q)) :=
    ⟨B.exec, B.bytes, hml, findClass_of_methodNamed B.named, hts, B.returns, B.notSynchronized, hK, hSH, by rw [hsz]; exact hz, by rw [hsz]; show n + (kn K - n) = kn K; omega, by rw [hw]; show z + (kw K - z) = kw K; omega, rfl, rfl, htr, htb, (name_of_methodNamed B.named B.method).1⟩
  have hG := body _ hX rfl
  have hl := lv_entry (As.map cV) (n := nL) (by rw [lg_len_map]; exact hn)
  rw [lg_entry_eq]
  rw [lv_argsA_map] at hl
  have hg := hG s.heap [] _ ⟨hH, hsz, hw, hn1, ⟨hz1, by show HW s.heap ≤ z; omega⟩, va_S.rf, by show lv_has _ c.maxLocals _; rw [hml]; exact hl⟩
  exact W.tight (by omega) (by omega) (W.widen (Nat.zero_le _) (Nat.zero_le _) hg)
