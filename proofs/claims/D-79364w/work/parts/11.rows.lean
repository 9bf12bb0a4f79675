/-! CONTRACTS BY PURE COMPUTATIONS -/
/-- what a method comes to: thrown (class, address), or returned -/
abbrev zRes : Type := (String × Nat) ⊕ Option Value
def zPc (G : zG) (as : List Value) (σ : zS) : Array Value → State → Prop := va_Pc as (fun U => zWd G U U.heap ∧ zRp G σ U U.heap)
def zQc (G : zG) (res : zRes) (σ : zS) : Array Value → State → Outcome → State → Prop := fun _ st o t => ∃ v : Option Value, res = .inr v ∧ o = .returned v ∧ zRp G σ t t.heap ∧ va_F (zOwn G) st t
def zXC (G : zG) (res : zRes) (σ : zS) : Addr → String → State → State → Prop := fun q E st t => res = .inl (E, q) ∧ zRp G σ t t.heap ∧ va_F (zOwn G) st t
def zMet (l : Launch) (y : MethodName) (ws : List Cond) (F L : Nat) (G : zG) (as : List Value) (σ σ' : zS) (res : zRes) : Prop :=
  vx_Met l y ws ({ frames := F, cells := σ'.1 - σ.1, slots := σ'.2.2 - σ.2.2, locals := L } : Room) (zPc G as σ) (zQc G res σ') (zXC G res σ') (σ'.1 - σ.1) (σ'.2.2 - σ.2.2) (zOwn G)
theorem zPc_blind (G : zG) (as : List Value) (σ : zS) : FrameBlind (zPc G as σ) := by
  intro a U g mk h
  obtain ⟨h0, h1, h2⟩ := h
  exact ⟨h0, zWd.same (u := U) (U := U.calling g mk a) rfl h1, zRp.moved (u := U) (U := U.calling g mk a) (Vm.Alike.refl U.vm) h2⟩
/-- what stays all through a method's body -/
def zK (p : Program) (l : Launch) (R : Room) (s : State) (m : MethodId) (args : Array Value) (meth : Method) (c : Code) (cc : ByteArray) (own : String) (nL F L : Nat) (G : zG) (σ0 σF : zS) : Prop :=
  p.tables.exec = Jvm.exec ∧ c.code = cc ∧ (∀ w ∈ lw_all, w.before args s = true) ∧ s.vm.findClass own = some m.cls ∧ meth.locks = false ∧ c.maxLocals = nL ∧ zWd G s s.heap ∧ l.stackTraces = false ∧
  R.frames = F ∧ R.locals = L ∧ R.cells = σF.1 - σ0.1 ∧ R.slots = σF.2.2 - σ0.2.2
/-- where the body stands -/
def zI (G : zG) (s : State) (σ0 σ : zS) (H : Heap) (locs : List Loc) : Prop := zRp G σ s H ∧ va_S (zOwn G) s.heap H locs ∧ zle σ0 σ
/-- what the body owes -/
def zQ (below : List Frame) (G : zG) (res : zRes) (args : Array Value) (s : State) (σ0 σF : zS) : State → Prop := vx_MQ below (zQc G res σF) (zXC G res σF) args s (σF.1 - σ0.1) (σF.2.2 - σ0.2.2) (zOwn G)
theorem zMet.of {l : Launch} {y : MethodName} {cc : ByteArray} {maxL F L : Nat} {ret : Option FieldType} {G : zG} {as : List Value} {σ σ' : zS} {res : zRes} {lv : List (Nat × Value)} (hy : plainName y.cls = true) (hl : l.stackTraces = false) (hlen : (lg_sl as).length ≤ maxL) (hlv : lv_args 0 as = lv)
    (body : ∀ (p : Program) (e : Env) (R : Room) (s : State) (m : MethodId) (args : Array Value) (below : List Frame) (meth : Method) (c : Code) (ls : Array Slot), zK p l R s m args meth c cc y.cls maxL F L G σ σ' → meth.sig.returnType = ret → meth.name = y.name → (∀ x ∈ c.exceptionTable.toList, False) → zI G s σ σ s.heap [] → lv_has ls maxL lv →
      W p l e R s m args below meth c s.heap [] (σ.1 - σ.1) (σ.2.2 - σ.2.2) (zQ below G res args s σ σ') (F0 m 0 ls [])) : zMet l y (ws_ y cc maxL ret) F L G as σ σ' res := by
  refine vx_ofW (cc := cc) (maxL := maxL) (ret := ret) hy rfl ?_
  intro p e s m args below meth c s₁ B hml htab hv
  obtain ⟨rfl, hwd, hrp⟩ := hv
  have hts := atoms_spec (ws := ws_ y cc maxL ret) B.pre
  have hts : ∀ w ∈ lw_all, w.before _ s = true := fun w h => hts w (List.mem_cons_of_mem _ h)
  have hl' := lv_entry as (n := maxL) hlen
  rw [lg_entry_eq]
  generalize (lg_sl as ++ List.replicate (maxL - (lg_sl as).length) Slot.unset).toArray = ls at hl' ⊢
  rw [hlv] at hl'
  have h := body p e ({ frames := F, cells := σ'.1 - σ.1, slots := σ'.2.2 - σ.2.2, locals := L } : Room) s m as.toArray below meth c ls ⟨B.exec, B.bytes, hts, findClass_of_methodNamed B.named, B.notSynchronized, hml, hwd, hl, rfl, rfl, rfl, rfl⟩ B.returns (name_of_methodNamed B.named B.method).1 htab ⟨hrp, va_S.rf, zle.rf⟩ hl'
  rw [Nat.sub_self, Nat.sub_self] at h
  exact h
/-- a method with handlers -/
theorem zMet.ofH {l : Launch} {y : MethodName} {cc : ByteArray} {maxL F L : Nat} {ret : Option FieldType} {hh : List (Nat × Nat × Nat × Nat)} {G : zG} {as : List Value} {σ σ' : zS} {res : zRes} {lv : List (Nat × Value)} (hy : plainName y.cls = true) (hl : l.stackTraces = false) (hlen : (lg_sl as).length ≤ maxL) (hlv : lv_args 0 as = lv)
    (body : ∀ (p : Program) (e : Env) (R : Room) (s : State) (m : MethodId) (args : Array Value) (below : List Frame) (meth : Method) (c : Code) (ls : Array Slot), zK p l R s m args meth c cc y.cls maxL F L G σ σ' → meth.sig.returnType = ret → meth.name = y.name → c.exceptionTable.toList = tableOf hh → zI G s σ σ s.heap [] → lv_has ls maxL lv →
      W p l e R s m args below meth c s.heap [] (σ.1 - σ.1) (σ.2.2 - σ.2.2) (zQ below G res args s σ σ') (F0 m 0 ls [])) : zMet l y (wsW_ y cc maxL ret hh) F L G as σ σ' res := by
  refine vx_ofWH (cc := cc) (maxL := maxL) (ret := ret) (hh := hh) hy rfl ?_
  intro p e s m args below meth c s₁ B hml hv
  obtain ⟨rfl, hwd, hrp⟩ := hv
  have hts0 := atoms_spec (ws := wsW_ y cc maxL ret hh) B.pre
  have hts : ∀ w ∈ lw_all, w.before _ s = true := fun w h => hts0 w (List.mem_cons_of_mem _ h)
  have htab := vx_table (x := y) B (hts0 _ List.mem_cons_self)
  have hl' := lv_entry as (n := maxL) hlen
  rw [lg_entry_eq]
  generalize (lg_sl as ++ List.replicate (maxL - (lg_sl as).length) Slot.unset).toArray = ls at hl' ⊢
  rw [hlv] at hl'
  have h := body p e ({ frames := F, cells := σ'.1 - σ.1, slots := σ'.2.2 - σ.2.2, locals := L } : Room) s m as.toArray below meth c ls ⟨B.exec, B.bytes, hts, findClass_of_methodNamed B.named, B.notSynchronized, hml, hwd, hl, rfl, rfl, rfl, rfl⟩ B.returns (name_of_methodNamed B.named B.method).1 htab ⟨hrp, va_S.rf, zle.rf⟩ hl'
  rw [Nat.sub_self, Nat.sub_self] at h
  exact h
theorem zcat (r : Option Nat) : (va_rf r).category = 1 := by cases r <;> rfl
/-! ROWS -/
section ZR
variable {p : Program} {l : Launch} {e : Env} {R : Room} {s : State} {m : MethodId} {args : Array Value} {below : List Frame} {meth : Method} {c : Code} {H : Heap} {locs : List Loc} {cells slots : Nat} {Q : State → Prop}
variable {cc : ByteArray} {pc : Nat} {ls : Array Slot} {rest : List Value} {own : String} {nL F L : Nat} {G : zG} {σ0 σ σ1 σF : zS} {res : zRes}
/-! locals -/
theorem zv_aload_n (hexec : p.tables.exec = Jvm.exec) (hb : c.code = cc) {k : Fin 4} {i : Nat} {r : Option Nat} (hdg : decode cc pc = .ok (.aload_n k, 1)) (hi : (k : Nat) = i) (hl : ls[i]? = some (.val (va_rf r)))
    (k : W p l e R s m args below meth c H locs cells slots Q (F0 m (pc + 1) ls (va_rf r :: rest))) : W p l e R s m args below meth c H locs cells slots Q (F0 m pc ls rest) := by
  cases r with
  | none => exact lv_aload_nN hexec hb hdg hi hl k
  | some a => exact lv_aload_n hexec hb hdg hi hl k
theorem zv_aload (hexec : p.tables.exec = Jvm.exec) (hb : c.code = cc) {i : Nat} {r : Option Nat} (hdg : decode cc pc = .ok (.aload i, 2)) (hl : ls[i]? = some (.val (va_rf r)))
    (k : W p l e R s m args below meth c H locs cells slots Q (F0 m (pc + 2) ls (va_rf r :: rest))) : W p l e R s m args below meth c H locs cells slots Q (F0 m pc ls rest) := by
  cases r with
  | none => exact lv_aloadN hexec hb hdg hl k
  | some a => exact lv_aload hexec hb hdg hl k
/-- no local of two words ends where i begins -/
def zadj (i : Nat) (lv : List (Nat × Value)) : Prop := ∀ q ∈ lv, q.1 + 1 = i → q.2.category = 1
theorem zna {i : Nat} {lv : List (Nat × Value)} (h : lv.all (fun q => !(q.1 + 1 == i)) = true) : zadj i lv := fun q hq e => by
  have h1 := List.all_eq_true.mp h q hq
  simp [e] at h1
theorem znb {i : Nat} {lv : List (Nat × Value)} (k : Nat) {j : Nat} {v : Value} (hk : lv[k]? = some (j, v)) (hv : v.category = 1) (h : (lv.eraseIdx k).all (fun q => !(q.1 + 1 == i)) = true) : zadj i lv := fun q hq e => by
  by_cases hq2 : q ∈ lv.eraseIdx k
  · have h1 := List.all_eq_true.mp h q hq2
    simp [e] at h1
  · obtain ⟨n, hn⟩ := List.getElem?_of_mem hq
    by_cases hnk : n = k
    · subst hnk
      cases hn.symm.trans hk
      exact hv
    · exact absurd (List.mem_eraseIdx_iff_getElem?.mpr ⟨n, hnk, hn⟩) hq2
theorem zfl1 {i : Nat} {lv : List (Nat × Value)} (h : zadj i lv) : lv.filter (fun q => !(q.1 == i) && !(q.1 + 1 == i && q.2.category == 2)) = lv.filter (fun q => !(q.1 == i)) := by
  apply List.filter_congr
  intro q hq
  by_cases e : q.1 + 1 = i
  · simp [h q hq e]
  · simp [e]
theorem zfl2 {i : Nat} {lv : List (Nat × Value)} (h : zadj i lv) : lv.filter (fun q => !(q.1 == i) && (!(q.1 == i + 1) && !(q.1 + 1 == i && q.2.category == 2))) = lv.filter (fun q => !(q.1 == i) && !(q.1 == i + 1)) := by
  apply List.filter_congr
  intro q hq
  by_cases e : q.1 + 1 = i
  · simp [h q hq e]
  · have e' : (q.1 + 1 == i) = false := by simpa using e
    rw [e']
    simp
theorem zv_istore_n (hexec : p.tables.exec = Jvm.exec) (hb : c.code = cc) {k : Fin 4} {i nL : Nat} {x : Int32} {lv lv' : List (Nat × Value)} (hdg : decode cc pc = .ok (.istore_n k, 1)) (hi : (k : Nat) = i) (h : lv_has ls nL lv) (hn : i < nL) (ha : zadj i lv) (hl : (i, Value.int x) :: lv.filter (fun q => !(q.1 == i)) = lv')
    (kk : ∀ ls' : Array Slot, lv_has ls' nL lv' → W p l e R s m args below meth c H locs cells slots Q (F0 m (pc + 1) ls' rest)) : W p l e R s m args below meth c H locs cells slots Q (F0 m pc ls (.int x :: rest)) := lv_istore_n hexec hb hdg hi h hn (by rw [zfl1 ha]; exact hl) kk
theorem zv_istore (hexec : p.tables.exec = Jvm.exec) (hb : c.code = cc) {i nL : Nat} {x : Int32} {lv lv' : List (Nat × Value)} (hdg : decode cc pc = .ok (.istore i, 2)) (h : lv_has ls nL lv) (hn : i < nL) (ha : zadj i lv) (hl : (i, Value.int x) :: lv.filter (fun q => !(q.1 == i)) = lv')
    (kk : ∀ ls' : Array Slot, lv_has ls' nL lv' → W p l e R s m args below meth c H locs cells slots Q (F0 m (pc + 2) ls' rest)) : W p l e R s m args below meth c H locs cells slots Q (F0 m pc ls (.int x :: rest)) := lv_istore hexec hb hdg h hn (by rw [zfl1 ha]; exact hl) kk
theorem zv_lstore_n (hexec : p.tables.exec = Jvm.exec) (hb : c.code = cc) {k : Fin 4} {i nL : Nat} {x : Int64} {lv lv' : List (Nat × Value)} (hdg : decode cc pc = .ok (.lstore_n k, 1)) (hi : (k : Nat) = i) (h : lv_has ls nL lv) (hn : i + 1 < nL) (ha : zadj i lv) (hl : (i, Value.long x) :: lv.filter (fun q => !(q.1 == i) && !(q.1 == i + 1)) = lv')
    (kk : ∀ ls' : Array Slot, lv_has ls' nL lv' → W p l e R s m args below meth c H locs cells slots Q (F0 m (pc + 1) ls' rest)) : W p l e R s m args below meth c H locs cells slots Q (F0 m pc ls (.long x :: rest)) := lv_lstore_n hexec hb hdg hi h hn (by rw [zfl2 ha]; exact hl) kk
theorem zv_lstore (hexec : p.tables.exec = Jvm.exec) (hb : c.code = cc) {i nL : Nat} {x : Int64} {lv lv' : List (Nat × Value)} (hdg : decode cc pc = .ok (.lstore i, 2)) (h : lv_has ls nL lv) (hn : i + 1 < nL) (ha : zadj i lv) (hl : (i, Value.long x) :: lv.filter (fun q => !(q.1 == i) && !(q.1 == i + 1)) = lv')
    (kk : ∀ ls' : Array Slot, lv_has ls' nL lv' → W p l e R s m args below meth c H locs cells slots Q (F0 m (pc + 2) ls' rest)) : W p l e R s m args below meth c H locs cells slots Q (F0 m pc ls (.long x :: rest)) := lv_lstore hexec hb hdg h hn (by rw [zfl2 ha]; exact hl) kk
theorem zv_dstore (hexec : p.tables.exec = Jvm.exec) (hb : c.code = cc) {i nL : Nat} {x : UInt64} {lv lv' : List (Nat × Value)} (hdg : decode cc pc = .ok (.dstore i, 2)) (h : lv_has ls nL lv) (hn : i + 1 < nL) (ha : zadj i lv) (hl : (i, Value.double x) :: lv.filter (fun q => !(q.1 == i) && !(q.1 == i + 1)) = lv')
    (kk : ∀ ls' : Array Slot, lv_has ls' nL lv' → W p l e R s m args below meth c H locs cells slots Q (F0 m (pc + 2) ls' rest)) : W p l e R s m args below meth c H locs cells slots Q (F0 m pc ls (.double x :: rest)) := lv_dstore hexec hb hdg h hn (by rw [zfl2 ha]; exact hl) kk
theorem zv_fstore (hexec : p.tables.exec = Jvm.exec) (hb : c.code = cc) {i nL : Nat} {x : UInt32} {lv lv' : List (Nat × Value)} (hdg : decode cc pc = .ok (.fstore i, 2)) (h : lv_has ls nL lv) (hn : i < nL) (ha : zadj i lv) (hl : (i, Value.float x) :: lv.filter (fun q => !(q.1 == i)) = lv')
    (kk : ∀ ls' : Array Slot, lv_has ls' nL lv' → W p l e R s m args below meth c H locs cells slots Q (F0 m (pc + 2) ls' rest)) : W p l e R s m args below meth c H locs cells slots Q (F0 m pc ls (.float x :: rest)) := lv_fstore hexec hb hdg h hn (by rw [zfl1 ha]; exact hl) kk
theorem zv_iinc (hexec : p.tables.exec = Jvm.exec) (hb : c.code = cc) {i nL k : Nat} {n : Int} {x v : Int32} {lv lv' : List (Nat × Value)} (hdg : decode cc pc = .ok (.iinc i n, 3)) (h : lv_has ls nL lv) (hk : lv[k]? = some (i, .int x)) (hv : x + Int32.ofInt n = v) (hn : i < nL) (ha : zadj i lv) (hl : (i, Value.int v) :: lv.filter (fun q => !(q.1 == i)) = lv')
    (kk : ∀ ls' : Array Slot, lv_has ls' nL lv' → W p l e R s m args below meth c H locs cells slots Q (F0 m (pc + 3) ls' rest)) : W p l e R s m args below meth c H locs cells slots Q (F0 m pc ls rest) := lv_iinc hexec hb hdg h hk hv hn (by rw [zfl1 ha]; exact hl) kk
theorem zv_astore_n (hexec : p.tables.exec = Jvm.exec) (hb : c.code = cc) {k : Fin 4} {i nL : Nat} {r : Option Nat} {lv lv' : List (Nat × Value)} (hdg : decode cc pc = .ok (.astore_n k, 1)) (hi : (k : Nat) = i) (h : lv_has ls nL lv) (hn : i < nL) (ha : zadj i lv) (hl : (i, va_rf r) :: lv.filter (fun q => !(q.1 == i)) = lv')
    (kk : ∀ ls' : Array Slot, lv_has ls' nL lv' → W p l e R s m args below meth c H locs cells slots Q (F0 m (pc + 1) ls' rest)) : W p l e R s m args below meth c H locs cells slots Q (F0 m pc ls (va_rf r :: rest)) := by
  cases r with
  | none => exact lv_astore_nN hexec hb hdg hi h hn (by rw [zfl1 ha]; exact hl) kk
  | some a => exact lv_astore_n hexec hb hdg hi h hn (by rw [zfl1 ha]; exact hl) kk
theorem zv_astore (hexec : p.tables.exec = Jvm.exec) (hb : c.code = cc) {i nL : Nat} {r : Option Nat} {lv lv' : List (Nat × Value)} (hdg : decode cc pc = .ok (.astore i, 2)) (h : lv_has ls nL lv) (hn : i < nL) (ha : zadj i lv) (hl : (i, va_rf r) :: lv.filter (fun q => !(q.1 == i)) = lv')
    (kk : ∀ ls' : Array Slot, lv_has ls' nL lv' → W p l e R s m args below meth c H locs cells slots Q (F0 m (pc + 2) ls' rest)) : W p l e R s m args below meth c H locs cells slots Q (F0 m pc ls (va_rf r :: rest)) := by
  cases r with
  | none => exact lv_astoreN hexec hb hdg h hn (by rw [zfl1 ha]; exact hl) kk
  | some a => exact lv_astore hexec hb hdg h hn (by rw [zfl1 ha]; exact hl) kk
/-! branches on references -/
theorem zv_ifnull (hexec : p.tables.exec = Jvm.exec) (hb : c.code = cc) {r : Option Nat} {off : Int} {tgt : Nat} (hdg : decode cc pc = .ok (.ifnull off, 3)) (ht : (pc : Int) + off = (tgt : Int))
    (kt : r = none → W p l e R s m args below meth c H locs cells slots Q (F0 m tgt ls rest)) (kf : ¬ r = none → W p l e R s m args below meth c H locs cells slots Q (F0 m (pc + 3) ls rest)) : W p l e R s m args below meth c H locs cells slots Q (F0 m pc ls (va_rf r :: rest)) := by
  cases r with
  | none => exact lv_ifnullN hexec hb hdg ht (kt rfl)
  | some a => exact lv_ifnull hexec hb hdg (kf (fun h => by cases h))
theorem zv_ifnonnull (hexec : p.tables.exec = Jvm.exec) (hb : c.code = cc) {r : Option Nat} {off : Int} {tgt : Nat} (hdg : decode cc pc = .ok (.ifnonnull off, 3)) (ht : (pc : Int) + off = (tgt : Int))
    (kt : ¬ r = none → W p l e R s m args below meth c H locs cells slots Q (F0 m tgt ls rest)) (kf : r = none → W p l e R s m args below meth c H locs cells slots Q (F0 m (pc + 3) ls rest)) : W p l e R s m args below meth c H locs cells slots Q (F0 m pc ls (va_rf r :: rest)) := by
  cases r with
  | none => exact lv_ifnonnullN hexec hb hdg (kf rfl)
  | some a => exact lv_ifnonnull hexec hb hdg ht (kt (fun h => by cases h))
/-! fields -/
theorem zAt_read {a ci k : Nat} {w : Bool} {fs : List Value} {v : Value} {C : String} {T : u_T} {N : Nat} (h : zAt G s H a (w, .inr (ci, fs))) (hc : zcl[ci]? = some (C, T, N)) (hk : k < N) (hv : fs[k]? = some v) : ∃ cell : Cell, H[a]? = some cell ∧ cell.vm ≠ .unknown ∧ cell.slots[G.2.1.2 ci k]? = some v := by
  cases w with
  | false =>
    obtain ⟨-, r, cell, h1, h2, -, -, h5, h6⟩ := h
    cases h1.symm.trans hc
    exact ⟨cell, h2, h5, h6 k v hk hv⟩
  | true =>
    obtain ⟨-, r, h1, cell, h2, h3, h4, h5⟩ := h
    cases h1.symm.trans hc
    refine ⟨cell, h2, (by rw [h4]; exact fun h => by cases h), ?_⟩
    rw [h5 k hk]
    simp [vp_V, hv]
theorem zAt_recv {a ci : Nat} {w : Bool} {fs : List Value} {r : vw_C} (hK : va_K G.2.1 zcl (ztys G) s) (h : zAt G s H a (w, .inr (ci, fs))) (hc : zcl[ci]? = some r) : ∃ cell : Cell, H[a]? = some cell ∧ cell.vm.isStatics = false ∧ s.vm.findClass r.1 = some cell.cls := by
  have h9 := (hK.1 ci r hc).2.1
  cases w with
  | false =>
    obtain ⟨-, r', cell, h1, h2, h3, h4, -⟩ := h
    exact ⟨cell, h2, h4, by rw [h3]; exact h9⟩
  | true =>
    obtain ⟨-, r', h1, cell, h2, h3, h4, h5⟩ := h
    exact ⟨cell, h2, by rw [h4]; rfl, by rw [h3]; exact h9⟩
theorem zw_get (K : zK p l R s m args meth c cc own nL F L G σ0 σF) (I : zI G s σ0 σ H locs) {ref C : String} {T : u_T} {N ci index k : Nat} {r : Option Nat} {v : Value} (hc : zcl[ci]? = some (C, T, N)) (hin : ∀ w ∈ u_ws C T N, w ∈ lw_all) (hk : k < N) (hlink : Cond.fieldLink own index ref (T k).2.1 (T k).2.2.1 ∈ lw_all)
    (hsame : ∀ x, s.fieldFound? (T k).1 (T k).2.1 (T k).2.2.1 = some x → s.fieldFound? ref (T k).2.1 (T k).2.2.1 = some x) (hg : zF σ r ci k = some v) (hdg : decode cc pc = .ok (.getfield index, 3))
    (kk : W p l e R s m args below meth c H locs cells slots Q (F0 m (pc + 3) ls (v :: rest))) : W p l e R s m args below meth c H locs cells slots Q (F0 m pc ls (va_rf r :: rest)) := by
  obtain ⟨hx, hb, hts, hown, -, -, hwd, -⟩ := K
  obtain ⟨a, w, fs, rfl, ha, hv⟩ := zF_i hg
  obtain ⟨cell, q1, q2, q3⟩ := zAt_read (I.1.2.2 a _ ha) hc hk hv
  obtain ⟨hS, hfc, kC, hkC, hkind⟩ := hwd.1.1 ci _ hc
  obtain ⟨cf, kf, fi, f, hi, hsl⟩ := hS k hk
  refine W.getf hx hb hown (hts _ hlink) (hsame _ hi) (u_facts hfc hkC (u_lays hts hin hk) hi).1 q1 q2 (v := v) ?_ rfl rfl hdg kk
  rw [hsl]; exact q3
theorem zw_getN (K : zK p l R s m args meth c cc own nL F L G σ0 σF) (I : zI G s σ0 σ H locs) {ref C host : String} {T : u_T} {N ci index k : Nat} {r : Option Nat} {v : Value} (hc : zcl[ci]? = some (C, T, N)) (hin : ∀ w ∈ u_ws C T N, w ∈ lw_all) (hk : k < N) (hlink : Cond.fieldLinkNest own index ref (T k).2.1 (T k).2.2.1 host ∈ lw_tbl)
    (hsame : ∀ x, s.fieldFound? (T k).1 (T k).2.1 (T k).2.2.1 = some x → s.fieldFound? ref (T k).2.1 (T k).2.2.1 = some x) (hg : zF σ r ci k = some v) (hdg : decode cc pc = .ok (.getfield index, 3))
    (kk : W p l e R s m args below meth c H locs cells slots Q (F0 m (pc + 3) ls (v :: rest))) : W p l e R s m args below meth c H locs cells slots Q (F0 m pc ls (va_rf r :: rest)) := by
  obtain ⟨hx, hb, hts, hown, -, -, hwd, -⟩ := K
  obtain ⟨a, w, fs, rfl, ha, hv⟩ := zF_i hg
  obtain ⟨cell, q1, q2, q3⟩ := zAt_read (I.1.2.2 a _ ha) hc hk hv
  obtain ⟨hS, hfc, kC, hkC, hkind⟩ := hwd.1.1 ci _ hc
  obtain ⟨cf, kf, fi, f, hi, hsl⟩ := hS k hk
  refine va_Wgetf hx hb hown (va_Nw.use rfl (hwd.2.1 _ hlink rfl)) (hsame _ hi) (u_facts hfc hkC (u_lays hts hin hk) hi).1 q1 q2 (v := v) ?_ rfl rfl hdg kk
  rw [hsl]; exact q3
theorem zI.put {a k : Nat} {e0 : zE} {H1 : Heap} (I : zI G s σ0 σ H locs) (he : zAt G s H1 a e0) (ha : G.1 ≤ a) (hz : H1.size = H.size) (oq : ∀ q : Nat, q ≠ a → H1[q]? = H[q]?) : zI G s σ0 (σ.1, zset σ.2.1 a e0, σ.2.2) H1 (locs ++ [⟨a, k⟩]) :=
  ⟨I.1.set he hz oq, I.2.1.put hz oq ha, I.2.2⟩
theorem zapart {C : String} {T : u_T} {N ci : Nat} (hts : ∀ w ∈ lw_all, w.before args s = true) (hin : ∀ w ∈ u_ws C T N, w ∈ lw_all) (ty : Nat → FieldType) (hty : ∀ k, k < N → parseFieldDescriptor (T k).2.2.1 = some (ty k)) (hnm : ∀ a, a < N → ∀ b, b < N → a ≠ b → (T a).2.1 ≠ (T b).2.1) (hK : va_K G.2.1 zcl (ztys G) s) (hc : zcl[ci]? = some (C, T, N)) : ∀ x y, x < N → y < N → x ≠ y → (G.2.1.2 ci) x ≠ (G.2.1.2 ci) y :=
  va_apart (own := C) hts hin ty hty hnm hK hc
theorem zw_put (K : zK p l R s m args meth c cc own nL F L G σ0 σF) (I : zI G s σ0 σ H locs) {ref C : String} {T : u_T} {N ci index k : Nat} {r : Option Nat} {v : Value} (hc : zcl[ci]? = some (C, T, N)) (hin : ∀ w ∈ u_ws C T N, w ∈ lw_all) (ty0 : Nat → FieldType) (hty : ∀ k, k < N → parseFieldDescriptor (T k).2.2.1 = some (ty0 k)) (hnm : ∀ a, a < N → ∀ b, b < N → a ≠ b → (T a).2.1 ≠ (T b).2.1) (hk : k < N) (hlink : Cond.fieldLink own index ref (T k).2.1 (T k).2.2.1 ∈ lw_all)
    (hsame : ∀ x, s.fieldFound? (T k).1 (T k).2.1 (T k).2.2.1 = some x → s.fieldFound? ref (T k).2.1 (T k).2.2.1 = some x) (hfin : (T k).2.2.2 = false) {ty : FieldType} (hd : parseFieldDescriptor (T k).2.2.1 = some ty) (hn : narrow ty v = v) (hfit : fits ty v = true) (hg : zUp (fun h => zPf h r ci k v) σ σ1) (hdg : decode cc pc = .ok (.putfield index, 3))
    (kk : ∀ (H1 : Heap) (locs1 : List Loc), zI G s σ0 σ1 H1 locs1 → W p l e R s m args below meth c H1 locs1 (σ1.1 - σ0.1) (σ1.2.2 - σ0.2.2) Q (F0 m (pc + 3) ls rest)) : W p l e R s m args below meth c H locs (σ.1 - σ0.1) (σ.2.2 - σ0.2.2) Q (F0 m pc ls (v :: va_rf r :: rest)) := by
  obtain ⟨hx, hb, hts, hown, -, -, hwd, -⟩ := K
  obtain ⟨h', hg, rfl⟩ := hg
  obtain ⟨a, fs, rfl, ha, hl, rfl⟩ := zPf_i hg
  have hap := zapart hts hin ty0 hty hnm hwd.1 hc
  obtain ⟨hB, r', h1, cell, q1, q2, q3, q4⟩ := I.1.2.2 a _ ha
  cases h1.symm.trans hc
  obtain ⟨hS, hfc, kC, hkC, hkind⟩ := hwd.1.1 ci _ hc
  obtain ⟨cf, kf, fi, f, hi, hsl⟩ := hS k hk
  have hlay := hts _ (hin _ (u_in_lay hk))
  unfold u_lay at hlay
  rw [if_neg (by rw [hfin]; decide)] at hlay
  have hst := (u_facts hfc hkC (u_lays hts hin hk) hi).1
  have h6 := u_store hfc hkC hkind hlay hi hd hn hfit
  refine W.putK hx hb (f := f) ⟨hown, hts _ hlink, ⟨_, _, _, hsame _ hi⟩, hst⟩ (by rw [q2]; exact h6) q1 q3 (by rw [hsl]; exact k2_hasslot (q4 k hk)) rfl rfl hdg fun H' e1 e2 e3 => ?_
  rw [hsl] at e1 ⊢
  exact kk H' _ (I.put ⟨hB, _, hc, t_OB.to (V := updV (vp_V fs) k v) ⟨_, e1, q2, q3, t_set q4 hap hk v⟩ (fun j _ => vp_updV_set hl v j)⟩ hB e2 e3)
theorem zw_putN (K : zK p l R s m args meth c cc own nL F L G σ0 σF) (I : zI G s σ0 σ H locs) {ref C host : String} {T : u_T} {N ci index k : Nat} {r : Option Nat} {v : Value} (hc : zcl[ci]? = some (C, T, N)) (hin : ∀ w ∈ u_ws C T N, w ∈ lw_all) (ty0 : Nat → FieldType) (hty : ∀ k, k < N → parseFieldDescriptor (T k).2.2.1 = some (ty0 k)) (hnm : ∀ a, a < N → ∀ b, b < N → a ≠ b → (T a).2.1 ≠ (T b).2.1) (hk : k < N) (hlink : Cond.fieldLinkNest own index ref (T k).2.1 (T k).2.2.1 host ∈ lw_tbl)
    (hsame : ∀ x, s.fieldFound? (T k).1 (T k).2.1 (T k).2.2.1 = some x → s.fieldFound? ref (T k).2.1 (T k).2.2.1 = some x) (hfin : (T k).2.2.2 = false) {ty : FieldType} (hd : parseFieldDescriptor (T k).2.2.1 = some ty) (hn : narrow ty v = v) (hfit : fits ty v = true) (hg : zUp (fun h => zPf h r ci k v) σ σ1) (hdg : decode cc pc = .ok (.putfield index, 3))
    (kk : ∀ (H1 : Heap) (locs1 : List Loc), zI G s σ0 σ1 H1 locs1 → W p l e R s m args below meth c H1 locs1 (σ1.1 - σ0.1) (σ1.2.2 - σ0.2.2) Q (F0 m (pc + 3) ls rest)) : W p l e R s m args below meth c H locs (σ.1 - σ0.1) (σ.2.2 - σ0.2.2) Q (F0 m pc ls (v :: va_rf r :: rest)) := by
  obtain ⟨hx, hb, hts, hown, -, -, hwd, -⟩ := K
  obtain ⟨h', hg, rfl⟩ := hg
  obtain ⟨a, fs, rfl, ha, hl, rfl⟩ := zPf_i hg
  have hap := zapart hts hin ty0 hty hnm hwd.1 hc
  obtain ⟨hB, r', h1, cell, q1, q2, q3, q4⟩ := I.1.2.2 a _ ha
  cases h1.symm.trans hc
  obtain ⟨hS, hfc, kC, hkC, hkind⟩ := hwd.1.1 ci _ hc
  obtain ⟨cf, kf, fi, f, hi, hsl⟩ := hS k hk
  have hlay := hts _ (hin _ (u_in_lay hk))
  unfold u_lay at hlay
  rw [if_neg (by rw [hfin]; decide)] at hlay
  have hst := (u_facts hfc hkC (u_lays hts hin hk) hi).1
  have h6 := u_store hfc hkC hkind hlay hi hd hn hfit
  refine va_WputK hx hb (f := f) hown (va_Nw.use rfl (hwd.2.1 _ hlink rfl)) (hsame _ hi) hst (by rw [q2]; exact h6) q1 q3 (by rw [hsl]; exact k2_hasslot (q4 k hk)) rfl rfl hdg fun H' e1 e2 e3 => ?_
  rw [hsl] at e1 ⊢
  exact kk H' _ (I.put ⟨hB, _, hc, t_OB.to (V := updV (vp_V fs) k v) ⟨_, e1, q2, q3, t_set q4 hap hk v⟩ (fun j _ => vp_updV_set hl v j)⟩ hB e2 e3)
theorem zw_putF (K : zK p l R s m args meth c cc own nL F L G σ0 σF) (I : zI G s σ0 σ H locs) {ref C : String} {T : u_T} {N ci index k : Nat} {r : Option Nat} {v : Value} (hc : zcl[ci]? = some (C, T, N)) (hin : ∀ w ∈ u_ws C T N, w ∈ lw_all) (ty0 : Nat → FieldType) (hty : ∀ k, k < N → parseFieldDescriptor (T k).2.2.1 = some (ty0 k)) (hnm : ∀ a, a < N → ∀ b, b < N → a ≠ b → (T a).2.1 ≠ (T b).2.1) (hk : k < N) (hlink : Cond.fieldLink own index ref (T k).2.1 (T k).2.2.1 ∈ lw_all)
    (hsame : ∀ x, s.fieldFound? (T k).1 (T k).2.1 (T k).2.2.1 = some x → s.fieldFound? ref (T k).2.1 (T k).2.2.1 = some x) (hfin : (T k).2.2.2 = true) (hin2 : meth.name = "<init>") (hdecl : (T k).1 = own) {ty : FieldType} (hd : parseFieldDescriptor (T k).2.2.1 = some ty) (hn : narrow ty v = v) (hfit : fits ty v = true) (hg : zUp (fun h => zPf h r ci k v) σ σ1) (hdg : decode cc pc = .ok (.putfield index, 3))
    (kk : ∀ (H1 : Heap) (locs1 : List Loc), zI G s σ0 σ1 H1 locs1 → W p l e R s m args below meth c H1 locs1 (σ1.1 - σ0.1) (σ1.2.2 - σ0.2.2) Q (F0 m (pc + 3) ls rest)) : W p l e R s m args below meth c H locs (σ.1 - σ0.1) (σ.2.2 - σ0.2.2) Q (F0 m pc ls (v :: va_rf r :: rest)) := by
  obtain ⟨hx, hb, hts, hown, -, -, hwd, -⟩ := K
  obtain ⟨h', hg, rfl⟩ := hg
  obtain ⟨a, fs, rfl, ha, hl, rfl⟩ := zPf_i hg
  have hap := zapart hts hin ty0 hty hnm hwd.1 hc
  obtain ⟨hB, r', h1, cell, q1, q2, q3, q4⟩ := I.1.2.2 a _ ha
  cases h1.symm.trans hc
  obtain ⟨hS, hfc, kC, hkC, hkind⟩ := hwd.1.1 ci _ hc
  obtain ⟨cf, kf, fi, f, hi, hsl⟩ := hS k hk
  have hlay := hts _ (hin _ (u_in_lay hk))
  unfold u_lay at hlay
  rw [if_pos hfin] at hlay
  have hst := (u_facts hfc hkC (u_lays hts hin hk) hi).1
  have hcf : m.cls = cf := by
    obtain ⟨_, _, c', _, _, _, -, -, hf', -, -, -, hown2, -⟩ := Cond.laysFinal_spec hlay
    have e1 : c' = cf := by have := hi.symm.trans hf'; simp at this; exact this.1.symm
    rw [hdecl] at hown2
    rw [← e1]; exact Option.some.inj (hown.symm.trans hown2)
  have h6 := u_fits hfc hkC hkind (Or.inr hlay) hi hd hn hfit
  refine W.putFinK hx hb hown (hts _ hlink) (hsame _ hi) hst hcf hin2 (by rw [q2]; exact h6) q1 q3 (by rw [hsl]; exact k2_hasslot (q4 k hk)) rfl rfl hdg fun H' e1 e2 e3 => ?_
  rw [hsl] at e1 ⊢
  exact kk H' _ (I.put ⟨hB, _, hc, t_OB.to (V := updV (vp_V fs) k v) ⟨_, e1, q2, q3, t_set q4 hap hk v⟩ (fun j _ => vp_updV_set hl v j)⟩ hB e2 e3)
/-! new cells -/
theorem zI.push {e0 : zE} {H1 : Heap} {u : Nat} (I : zI G s σ0 σ H locs) (he : zAt G s H1 σ.1 e0) (hz : H1.size = H.size + 1) (oq : ∀ q : Nat, q < H.size → H1[q]? = H[q]?) : zI G s σ0 (σ.1 + 1, zset σ.2.1 σ.1 e0, σ.2.2 + u) H1 locs :=
  ⟨I.1.push he hz oq, ⟨Nat.le_trans I.2.1.1 (by omega), fun x h1 h2 => (oq x (Nat.lt_of_lt_of_le h1 I.2.1.1)).trans (I.2.1.2.1 x h1 h2), I.2.1.2.2⟩, ⟨Nat.le_succ_of_le I.2.2.1, Nat.le_trans I.2.2.2 (Nat.le_add_right _ _)⟩⟩
theorem zroom {u : Nat} (K : zK p l R s m args meth c cc own nL F L G σ0 σF) (I : zI G s σ0 σ H locs) {h : Nat → Option zE} {n : Nat} (hle : zle (σ.1 + n, h, σ.2.2 + u) σF) : (σ.1 - σ0.1) + n ≤ R.cells ∧ (σ.2.2 - σ0.2.2) + u ≤ R.slots := by
  obtain ⟨-, -, -, -, -, -, -, -, -, -, h1, h2⟩ := K
  obtain ⟨-, -, h3, h4⟩ := I
  obtain ⟨h5, h6⟩ := hle
  dsimp only at h5 h6
  rw [h1, h2]
  omega
theorem zw_new (K : zK p l R s m args meth c cc own nL F L G σ0 σF) (I : zI G s σ0 σ H locs) {C : String} {T : u_T} {N ci index q : Nat} (hc : zcl[ci]? = some (C, T, N)) (hin : ∀ w ∈ u_ws C T N, w ∈ lw_all) (ty : Nat → FieldType) (hty : ∀ k, k < N → parseFieldDescriptor (T k).2.2.1 = some (ty k)) (hcl : Cond.classLink own index C ∈ lw_all) (hinst : Cond.instantiable C N ∈ lw_all) (hini : Cond.initialized C ∈ lw_all)
    {fs : List Value} (hfs : ∀ j, j < N → defaultValue (ty j) = vp_V fs j) (hg : zAl N (true, .inr (ci, fs)) σ q σ1) (hle : zle σ1 σF) (hdg : decode cc pc = .ok (.new index, 3))
    (kk : ∀ H1 : Heap, zI G s σ0 σ1 H1 locs → W p l e R s m args below meth c H1 locs (σ1.1 - σ0.1) (σ1.2.2 - σ0.2.2) Q (F0 m (pc + 3) ls (.ref q :: rest))) : W p l e R s m args below meth c H locs (σ.1 - σ0.1) (σ.2.2 - σ0.2.2) Q (F0 m pc ls rest) := by
  obtain ⟨rfl, rfl⟩ := hg
  obtain ⟨r1, r2⟩ := zroom K I hle
  obtain ⟨hx, hb, hts, hown, -, -, hwd, -⟩ := K
  have hKn := hwd.1.1 ci _ hc
  refine W.newcK hx hb hown (hts _ hcl) (hts _ hinst) (hts _ hini) rfl hdg r1 r2 hKn.2.1 I.1.1 fun H1 kC hkC e1 z1 o1 => ?_
  have h := kk H1 (I.push ⟨I.1.2.1, _, hc, (u_born ty hts hin hKn hkC e1 hty).to hfs⟩ (by rw [z1, I.1.1]) (fun q hq => o1 q (by rw [← I.1.1]; exact hq)))
  have e2 : σ.1 + 1 - σ0.1 = σ.1 - σ0.1 + 1 := by have := I.2.2.1; omega
  have e3 : σ.2.2 + N - σ0.2.2 = σ.2.2 - σ0.2.2 + N := by have := I.2.2.2; omega
  dsimp only at h
  rw [e2, e3] at h
  exact h
theorem ztyp (K : zK p l R s m args meth c cc own nL F L G σ0 σF) {t : Nat} (ht : t < 6) : ArrOfT s (G.2.2.1 t) (zty t) ∧ va_RA s (G.2.2.1 t) (zty t) := by
  obtain ⟨-, -, -, -, -, -, hwd, -⟩ := K
  rcases (show t = 0 ∨ t = 1 ∨ t = 2 ∨ t = 3 ∨ t = 4 ∨ t = 5 by omega) with rfl | rfl | rfl | rfl | rfl | rfl
  · exact hwd.1.2 0 _ rfl
  · exact hwd.1.2 1 _ rfl
  · exact hwd.1.2 2 _ rfl
  · exact hwd.1.2 3 _ rfl
  · exact hwd.1.2 4 _ rfl
  · exact hwd.1.2 5 _ rfl
theorem zw_newa (K : zK p l R s m args meth c cc own nL F L G σ0 σF) (I : zI G s σ0 σ H locs) {atype : ArrayType} {t q : Nat} {n : Int32} {x : vp_A} (ht : t < 4) (hty : newarray.typeOf atype = zty t) (harr : Cond.arrayClass (newarray.typeOf atype) ∈ lw_all) (hx0 : ∀ N j : Nat, zVal (N, x.2) j = defaultValue (zty t)) (hn : ¬ n < 0 ∧ n.toNatClampNeg ≤ 60000000)
    (hg : zAl n.toNatClampNeg (true, .inl (t, (n.toNatClampNeg, x.2))) σ q σ1) (hle : zle σ1 σF) (hdg : decode cc pc = .ok (.newarray atype, 2))
    (kk : ∀ H1 : Heap, zI G s σ0 σ1 H1 locs → W p l e R s m args below meth c H1 locs (σ1.1 - σ0.1) (σ1.2.2 - σ0.2.2) Q (F0 m (pc + 2) ls (.ref q :: rest))) : W p l e R s m args below meth c H locs (σ.1 - σ0.1) (σ.2.2 - σ0.2.2) Q (F0 m pc ls (.int n :: rest)) := by
  obtain ⟨rfl, rfl⟩ := hg
  obtain ⟨r1, r2⟩ := zroom K I hle
  have hT := (ztyp K (show t < 6 by omega)).2
  obtain ⟨hx, hb, hts, hown, -, -, hwd, -⟩ := K
  have hcb : n.toNatClampNeg * componentBytes (newarray.typeOf atype) ≤ 536870912 := by
    have h8 : componentBytes (newarray.typeOf atype) ≤ 8 := by cases atype <;> decide
    exact Nat.le_trans (Nat.mul_le_mul hn.2 h8) (by decide)
  refine va_newaK hx hb (hts _ harr) rfl hdg rfl hn.1 rfl hcb r1 r2 I.1.1 fun H1 cA e1 z1 o1 hAr hNm => ?_
  have hcA : cA = G.2.2.1 t := by
    rw [hty] at hNm
    have h9 : s.vm.findClass ("[" ++ (zty t).toString) = some (G.2.2.1 t) := by
      rcases (show t = 0 ∨ t = 1 ∨ t = 2 ∨ t = 3 by omega) with rfl | rfl | rfl | rfl <;> exact hT
    exact Option.some.inj (hNm.symm.trans h9)
  subst hcA
  have h := kk H1 (I.push ⟨I.1.2.1, by show t < 6; omega, by
      show H1[σ.1]? = some (vp_cell _ _)
      rw [zVal_cell, e1, hty]
      congr 1
      show arrV _ n.toNatClampNeg _ = arrV _ n.toNatClampNeg _
      congr 1
      funext j
      exact (hx0 n.toNatClampNeg j).symm⟩ (by rw [z1, I.1.1]) (fun q hq => o1 q (by rw [← I.1.1]; exact hq)))
  have e2 : σ.1 + 1 - σ0.1 = σ.1 - σ0.1 + 1 := by have := I.2.2.1; omega
  have e3 : σ.2.2 + n.toNatClampNeg - σ0.2.2 = σ.2.2 - σ0.2.2 + n.toNatClampNeg := by have := I.2.2.2; omega
  dsimp only at h
  rw [e2, e3] at h
  exact h
end ZR
