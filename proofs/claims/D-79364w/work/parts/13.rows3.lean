/-! ROWS, as implications: a pure step and a bytecode step together -/
abbrev zρI : Int32 → zRes := fun v => .inr (some (.int v))
abbrev zρJ : Int64 → zRes := fun v => .inr (some (.long v))
abbrev zρF : UInt32 → zRes := fun v => .inr (some (.float v))
abbrev zρD : UInt64 → zRes := fun v => .inr (some (.double v))
abbrev zρA : Option Nat → zRes := fun v => .inr (some (va_rf v))
abbrev zρV : Unit → zRes := fun _ => .inr none
abbrev zX (α : Type) : Type := (String × Nat) ⊕ α
def zρX {α : Type} (ρ : α → zRes) (v : zX α) : zRes := match v with
  | .inl e => .inl e
  | .inr x => ρ x
def zT2 {α β : Type} (q : zX α) (f : String × Nat → zM β) (g : α → zM β) : zM β := match q with
  | .inl e => f e
  | .inr x => g x
/-- a call that may throw; what it throws leaves this method too -/
def zbx {α β : Type} (x : zM (zX α)) (k : α → zM (zX β)) : zM (zX β) := zbnd x fun q => zT2 q (fun e => zret (.inl e)) k
theorem zp {P A B : Prop} (h : A → B) (k : P → A) : P → B := fun hp => h (k hp)
theorem zx_if {α : Type} {c : Prop} {dc : Decidable c} {X Y : zM α} {σ : zS} {q : α × zS} {A B C : Prop} (h : (c → A) → (¬ c → B) → C) (kt : zr X σ = some q → A) (kf : zr Y σ = some q → B) : zr (if c then X else Y) σ = some q → C := fun hf => h (fun hc => kt (zit hc hf)) (fun hc => kf (zif hc hf))
theorem zx_ck {α : Type} {c : Prop} {dc : Decidable c} {k : Unit → zM α} {σ : zS} {q : α × zS} {C : Prop} (kk : c → zr (k ()) σ = some q → C) : zr (zbnd (zck c) k) σ = some q → C := fun hf => kk (zbc hf).1 (zbc hf).2
theorem zx_ret {α β : Type} {t : β} {k : β → zM α} {σ : zS} {q : α × zS} {C : Prop} (kk : zr (k t) σ = some q → C) : zr (zbnd (zret t) k) σ = some q → C := fun hf => kk (by
  obtain ⟨v, b, h1, h2⟩ := zbi hf
  obtain ⟨rfl, rfl⟩ := zret_i h1
  exact h2)
theorem zx_no {α : Type} {σ : zS} {q : α × zS} {C : Prop} : zr (zno : zM α) σ = some q → C := fun hf => zno_i hf
theorem zx_oC {α : Type} {r : Option Nat} {ci : Nat} {k : Nat → zM α} {σ : zS} {q : α × zS} {C : Prop} (kk : ∀ a : Nat, zC σ r ci = some a → zr (k a) σ = some q → C) : zr (zbnd (oC r ci) k) σ = some q → C := fun hf => by
  obtain ⟨a, h1, h2⟩ := zbr hf
  exact kk a h1 h2
theorem znQ {ty : FieldType} (h : ty.isReference = true) (r : Option Nat) : narrow ty (va_rf r) = va_rf r := by
  cases r <;> cases ty <;> first | rfl | cases h
theorem zfQ {ty : FieldType} (h : ty.isReference = true) (r : Option Nat) : fits ty (va_rf r) = true := by
  cases r <;> cases ty <;> first | rfl | cases h
theorem znZ {x : Int32} (h : x = 0 ∨ x = 1) : narrow .boolean (.int x) = .int x := by
  rcases h with rfl | rfl <;> rfl
section ZX
variable {p : Program} {l : Launch} {e : Env} {R : Room} {s : State} {m : MethodId} {args : Array Value} {below : List Frame} {meth : Method} {c : Code} {H : Heap} {locs : List Loc} {cells slots : Nat} {Q : State → Prop}
variable {cc : ByteArray} {pc : Nat} {ls : Array Slot} {rest : List Value} {own : String} {nL F L : Nat} {G : zG} {σ0 σ σ1 σF : zS} {res : zRes} {α : Type} {vF : α}
theorem zx_gI (K : zK p l R s m args meth c cc own nL F L G σ0 σF) (I : zI G s σ0 σ H locs) {ref C : String} {T : u_T} {N ci index k : Nat} {r : Option Nat} {kf : Int32 → zM α} {q : α × zS} (hc : zcl[ci]? = some (C, T, N)) (hin : ∀ w ∈ u_ws C T N, w ∈ lw_all) (hk : k < N) (hlink : Cond.fieldLink own index ref (T k).2.1 (T k).2.2.1 ∈ lw_all)
    (hsame : ∀ x, s.fieldFound? (T k).1 (T k).2.1 (T k).2.2.1 = some x → s.fieldFound? ref (T k).2.1 (T k).2.2.1 = some x) (hdg : decode cc pc = .ok (.getfield index, 3))
    (kk : ∀ x : Int32, zr (kf x) σ = some q → W p l e R s m args below meth c H locs cells slots Q (F0 m (pc + 3) ls (.int x :: rest))) : zr (zbnd (oI r ci k) kf) σ = some q → W p l e R s m args below meth c H locs cells slots Q (F0 m pc ls (va_rf r :: rest)) := fun hf => by
  obtain ⟨x, g, hf⟩ := zbr hf
  exact zw_get K I hc hin hk hlink hsame (zFi_F g) hdg (kk x hf)
theorem zx_gL (K : zK p l R s m args meth c cc own nL F L G σ0 σF) (I : zI G s σ0 σ H locs) {ref C : String} {T : u_T} {N ci index k : Nat} {r : Option Nat} {kf : Int64 → zM α} {q : α × zS} (hc : zcl[ci]? = some (C, T, N)) (hin : ∀ w ∈ u_ws C T N, w ∈ lw_all) (hk : k < N) (hlink : Cond.fieldLink own index ref (T k).2.1 (T k).2.2.1 ∈ lw_all)
    (hsame : ∀ x, s.fieldFound? (T k).1 (T k).2.1 (T k).2.2.1 = some x → s.fieldFound? ref (T k).2.1 (T k).2.2.1 = some x) (hdg : decode cc pc = .ok (.getfield index, 3))
    (kk : ∀ x : Int64, zr (kf x) σ = some q → W p l e R s m args below meth c H locs cells slots Q (F0 m (pc + 3) ls (.long x :: rest))) : zr (zbnd (oL r ci k) kf) σ = some q → W p l e R s m args below meth c H locs cells slots Q (F0 m pc ls (va_rf r :: rest)) := fun hf => by
  obtain ⟨x, g, hf⟩ := zbr hf
  exact zw_get K I hc hin hk hlink hsame (zFl_F g) hdg (kk x hf)
theorem zx_gQ (K : zK p l R s m args meth c cc own nL F L G σ0 σF) (I : zI G s σ0 σ H locs) {ref C : String} {T : u_T} {N ci index k : Nat} {r : Option Nat} {kf : Option Nat → zM α} {q : α × zS} (hc : zcl[ci]? = some (C, T, N)) (hin : ∀ w ∈ u_ws C T N, w ∈ lw_all) (hk : k < N) (hlink : Cond.fieldLink own index ref (T k).2.1 (T k).2.2.1 ∈ lw_all)
    (hsame : ∀ x, s.fieldFound? (T k).1 (T k).2.1 (T k).2.2.1 = some x → s.fieldFound? ref (T k).2.1 (T k).2.2.1 = some x) (hdg : decode cc pc = .ok (.getfield index, 3))
    (kk : ∀ x : Option Nat, zr (kf x) σ = some q → W p l e R s m args below meth c H locs cells slots Q (F0 m (pc + 3) ls (va_rf x :: rest))) : zr (zbnd (oQ r ci k) kf) σ = some q → W p l e R s m args below meth c H locs cells slots Q (F0 m pc ls (va_rf r :: rest)) := fun hf => by
  obtain ⟨x, g, hf⟩ := zbr hf
  exact zw_get K I hc hin hk hlink hsame (zFq_F g) hdg (kk x hf)
theorem zx_gIN (K : zK p l R s m args meth c cc own nL F L G σ0 σF) (I : zI G s σ0 σ H locs) {ref C host : String} {T : u_T} {N ci index k : Nat} {r : Option Nat} {kf : Int32 → zM α} {q : α × zS} (hc : zcl[ci]? = some (C, T, N)) (hin : ∀ w ∈ u_ws C T N, w ∈ lw_all) (hk : k < N) (hlink : Cond.fieldLinkNest own index ref (T k).2.1 (T k).2.2.1 host ∈ lw_tbl)
    (hsame : ∀ x, s.fieldFound? (T k).1 (T k).2.1 (T k).2.2.1 = some x → s.fieldFound? ref (T k).2.1 (T k).2.2.1 = some x) (hdg : decode cc pc = .ok (.getfield index, 3))
    (kk : ∀ x : Int32, zr (kf x) σ = some q → W p l e R s m args below meth c H locs cells slots Q (F0 m (pc + 3) ls (.int x :: rest))) : zr (zbnd (oI r ci k) kf) σ = some q → W p l e R s m args below meth c H locs cells slots Q (F0 m pc ls (va_rf r :: rest)) := fun hf => by
  obtain ⟨x, g, hf⟩ := zbr hf
  exact zw_getN K I hc hin hk hlink hsame (zFi_F g) hdg (kk x hf)
theorem zx_gLN (K : zK p l R s m args meth c cc own nL F L G σ0 σF) (I : zI G s σ0 σ H locs) {ref C host : String} {T : u_T} {N ci index k : Nat} {r : Option Nat} {kf : Int64 → zM α} {q : α × zS} (hc : zcl[ci]? = some (C, T, N)) (hin : ∀ w ∈ u_ws C T N, w ∈ lw_all) (hk : k < N) (hlink : Cond.fieldLinkNest own index ref (T k).2.1 (T k).2.2.1 host ∈ lw_tbl)
    (hsame : ∀ x, s.fieldFound? (T k).1 (T k).2.1 (T k).2.2.1 = some x → s.fieldFound? ref (T k).2.1 (T k).2.2.1 = some x) (hdg : decode cc pc = .ok (.getfield index, 3))
    (kk : ∀ x : Int64, zr (kf x) σ = some q → W p l e R s m args below meth c H locs cells slots Q (F0 m (pc + 3) ls (.long x :: rest))) : zr (zbnd (oL r ci k) kf) σ = some q → W p l e R s m args below meth c H locs cells slots Q (F0 m pc ls (va_rf r :: rest)) := fun hf => by
  obtain ⟨x, g, hf⟩ := zbr hf
  exact zw_getN K I hc hin hk hlink hsame (zFl_F g) hdg (kk x hf)
theorem zx_gQN (K : zK p l R s m args meth c cc own nL F L G σ0 σF) (I : zI G s σ0 σ H locs) {ref C host : String} {T : u_T} {N ci index k : Nat} {r : Option Nat} {kf : Option Nat → zM α} {q : α × zS} (hc : zcl[ci]? = some (C, T, N)) (hin : ∀ w ∈ u_ws C T N, w ∈ lw_all) (hk : k < N) (hlink : Cond.fieldLinkNest own index ref (T k).2.1 (T k).2.2.1 host ∈ lw_tbl)
    (hsame : ∀ x, s.fieldFound? (T k).1 (T k).2.1 (T k).2.2.1 = some x → s.fieldFound? ref (T k).2.1 (T k).2.2.1 = some x) (hdg : decode cc pc = .ok (.getfield index, 3))
    (kk : ∀ x : Option Nat, zr (kf x) σ = some q → W p l e R s m args below meth c H locs cells slots Q (F0 m (pc + 3) ls (va_rf x :: rest))) : zr (zbnd (oQ r ci k) kf) σ = some q → W p l e R s m args below meth c H locs cells slots Q (F0 m pc ls (va_rf r :: rest)) := fun hf => by
  obtain ⟨x, g, hf⟩ := zbr hf
  exact zw_getN K I hc hin hk hlink hsame (zFq_F g) hdg (kk x hf)
theorem zx_p (K : zK p l R s m args meth c cc own nL F L G σ0 σF) (I : zI G s σ0 σ H locs) {ref C : String} {T : u_T} {N ci index k : Nat} {r : Option Nat} {v : Value} {kf : Unit → zM α} (hc : zcl[ci]? = some (C, T, N)) (hin : ∀ w ∈ u_ws C T N, w ∈ lw_all) (ty0 : Nat → FieldType) (hty : ∀ k, k < N → parseFieldDescriptor (T k).2.2.1 = some (ty0 k)) (hnm : ∀ a, a < N → ∀ b, b < N → a ≠ b → (T a).2.1 ≠ (T b).2.1) (hk : k < N) (hlink : Cond.fieldLink own index ref (T k).2.1 (T k).2.2.1 ∈ lw_all)
    (hsame : ∀ x, s.fieldFound? (T k).1 (T k).2.1 (T k).2.2.1 = some x → s.fieldFound? ref (T k).2.1 (T k).2.2.1 = some x) (hfin : (T k).2.2.2 = false) {ty : FieldType} (hd : parseFieldDescriptor (T k).2.2.1 = some ty) (hn : narrow ty v = v) (hfit : fits ty v = true) (hdg : decode cc pc = .ok (.putfield index, 3))
    (kk : ∀ (σ1 : zS) (H : Heap) (locs : List Loc), zI G s σ0 σ1 H locs → zr (kf ()) σ1 = some (vF, σF) → W p l e R s m args below meth c H locs (σ1.1 - σ0.1) (σ1.2.2 - σ0.2.2) Q (F0 m (pc + 3) ls rest)) : zr (zbnd (oP r ci k v) kf) σ = some (vF, σF) → W p l e R s m args below meth c H locs (σ.1 - σ0.1) (σ.2.2 - σ0.2.2) Q (F0 m pc ls (v :: va_rf r :: rest)) := fun hf => by
  obtain ⟨σ1, g, hf⟩ := zbu hf
  exact zw_put K I hc hin ty0 hty hnm hk hlink hsame hfin hd hn hfit g hdg fun H1 locs1 I1 => kk σ1 H1 locs1 I1 hf
theorem zx_pN (K : zK p l R s m args meth c cc own nL F L G σ0 σF) (I : zI G s σ0 σ H locs) {ref C host : String} {T : u_T} {N ci index k : Nat} {r : Option Nat} {v : Value} {kf : Unit → zM α} (hc : zcl[ci]? = some (C, T, N)) (hin : ∀ w ∈ u_ws C T N, w ∈ lw_all) (ty0 : Nat → FieldType) (hty : ∀ k, k < N → parseFieldDescriptor (T k).2.2.1 = some (ty0 k)) (hnm : ∀ a, a < N → ∀ b, b < N → a ≠ b → (T a).2.1 ≠ (T b).2.1) (hk : k < N) (hlink : Cond.fieldLinkNest own index ref (T k).2.1 (T k).2.2.1 host ∈ lw_tbl)
    (hsame : ∀ x, s.fieldFound? (T k).1 (T k).2.1 (T k).2.2.1 = some x → s.fieldFound? ref (T k).2.1 (T k).2.2.1 = some x) (hfin : (T k).2.2.2 = false) {ty : FieldType} (hd : parseFieldDescriptor (T k).2.2.1 = some ty) (hn : narrow ty v = v) (hfit : fits ty v = true) (hdg : decode cc pc = .ok (.putfield index, 3))
    (kk : ∀ (σ1 : zS) (H : Heap) (locs : List Loc), zI G s σ0 σ1 H locs → zr (kf ()) σ1 = some (vF, σF) → W p l e R s m args below meth c H locs (σ1.1 - σ0.1) (σ1.2.2 - σ0.2.2) Q (F0 m (pc + 3) ls rest)) : zr (zbnd (oP r ci k v) kf) σ = some (vF, σF) → W p l e R s m args below meth c H locs (σ.1 - σ0.1) (σ.2.2 - σ0.2.2) Q (F0 m pc ls (v :: va_rf r :: rest)) := fun hf => by
  obtain ⟨σ1, g, hf⟩ := zbu hf
  exact zw_putN K I hc hin ty0 hty hnm hk hlink hsame hfin hd hn hfit g hdg fun H1 locs1 I1 => kk σ1 H1 locs1 I1 hf
theorem zx_pF (K : zK p l R s m args meth c cc own nL F L G σ0 σF) (I : zI G s σ0 σ H locs) {ref C : String} {T : u_T} {N ci index k : Nat} {r : Option Nat} {v : Value} {kf : Unit → zM α} (hc : zcl[ci]? = some (C, T, N)) (hin : ∀ w ∈ u_ws C T N, w ∈ lw_all) (ty0 : Nat → FieldType) (hty : ∀ k, k < N → parseFieldDescriptor (T k).2.2.1 = some (ty0 k)) (hnm : ∀ a, a < N → ∀ b, b < N → a ≠ b → (T a).2.1 ≠ (T b).2.1) (hk : k < N) (hlink : Cond.fieldLink own index ref (T k).2.1 (T k).2.2.1 ∈ lw_all)
    (hsame : ∀ x, s.fieldFound? (T k).1 (T k).2.1 (T k).2.2.1 = some x → s.fieldFound? ref (T k).2.1 (T k).2.2.1 = some x) (hfin : (T k).2.2.2 = true) (hin2 : meth.name = "<init>") (hdecl : (T k).1 = own) {ty : FieldType} (hd : parseFieldDescriptor (T k).2.2.1 = some ty) (hn : narrow ty v = v) (hfit : fits ty v = true) (hdg : decode cc pc = .ok (.putfield index, 3))
    (kk : ∀ (σ1 : zS) (H : Heap) (locs : List Loc), zI G s σ0 σ1 H locs → zr (kf ()) σ1 = some (vF, σF) → W p l e R s m args below meth c H locs (σ1.1 - σ0.1) (σ1.2.2 - σ0.2.2) Q (F0 m (pc + 3) ls rest)) : zr (zbnd (oP r ci k v) kf) σ = some (vF, σF) → W p l e R s m args below meth c H locs (σ.1 - σ0.1) (σ.2.2 - σ0.2.2) Q (F0 m pc ls (v :: va_rf r :: rest)) := fun hf => by
  obtain ⟨σ1, g, hf⟩ := zbu hf
  exact zw_putF K I hc hin ty0 hty hnm hk hlink hsame hfin hin2 hdecl hd hn hfit g hdg fun H1 locs1 I1 => kk σ1 H1 locs1 I1 hf
theorem zx_new (K : zK p l R s m args meth c cc own nL F L G σ0 σF) (I : zI G s σ0 σ H locs) {C : String} {T : u_T} {N ci index : Nat} {kf : Nat → zM α} (hc : zcl[ci]? = some (C, T, N)) (hin : ∀ w ∈ u_ws C T N, w ∈ lw_all) (ty : Nat → FieldType) (hty : ∀ k, k < N → parseFieldDescriptor (T k).2.2.1 = some (ty k)) (hcl : Cond.classLink own index C ∈ lw_all) (hinst : Cond.instantiable C N ∈ lw_all) (hini : Cond.initialized C ∈ lw_all)
    {fs : List Value} (hfs : ∀ j, j < N → defaultValue (ty j) = vp_V fs j) (hdg : decode cc pc = .ok (.new index, 3))
    (kk : ∀ (x : Nat) (σ1 : zS) (H : Heap), zI G s σ0 σ1 H locs → zr (kf x) σ1 = some (vF, σF) → W p l e R s m args below meth c H locs (σ1.1 - σ0.1) (σ1.2.2 - σ0.2.2) Q (F0 m (pc + 3) ls (.ref x :: rest))) : zr (zbnd (oNew ci N fs) kf) σ = some (vF, σF) → W p l e R s m args below meth c H locs (σ.1 - σ0.1) (σ.2.2 - σ0.2.2) Q (F0 m pc ls rest) := fun hf => by
  obtain ⟨x, σ1, g, hf⟩ := zba hf
  exact zw_new K I hc hin ty hty hcl hinst hini hfs g (zr_le hf) hdg fun H1 I1 => kk x σ1 H1 I1 hf
theorem zx_newa (K : zK p l R s m args meth c cc own nL F L G σ0 σF) (I : zI G s σ0 σ H locs) {atype : ArrayType} {t : Nat} {n : Int32} {x : vp_A} {kf : Nat → zM α} (ht : t < 4) (hty : newarray.typeOf atype = zty t) (harr : Cond.arrayClass (newarray.typeOf atype) ∈ lw_all) (hx0 : ∀ N j : Nat, zVal (N, x.2) j = defaultValue (zty t)) (hdg : decode cc pc = .ok (.newarray atype, 2))
    (kk : ∀ (x : Nat) (σ1 : zS) (H : Heap), zI G s σ0 σ1 H locs → zr (kf x) σ1 = some (vF, σF) → W p l e R s m args below meth c H locs (σ1.1 - σ0.1) (σ1.2.2 - σ0.2.2) Q (F0 m (pc + 2) ls (.ref x :: rest))) : zr (zbnd (oNa t n x) kf) σ = some (vF, σF) → W p l e R s m args below meth c H locs (σ.1 - σ0.1) (σ.2.2 - σ0.2.2) Q (F0 m pc ls (.int n :: rest)) := fun hf => by
  obtain ⟨y, σ1, g, hf⟩ := zbi hf
  obtain ⟨g0, g⟩ := zbc g
  cases g
  exact zw_newa K I ht hty harr hx0 g0 ⟨rfl, rfl⟩ (zr_le hf) hdg fun H1 I1 => kk _ _ H1 I1 hf
theorem zx_iald (K : zK p l R s m args meth c cc own nL F L G σ0 σF) (I : zI G s σ0 σ H locs) {r : Option Nat} {i : Int32} {kf : Int32 → zM α} {q : α × zS} (hdg : decode cc pc = .ok (.iaload, 1))
    (kk : ∀ x : Int32, zr (kf x) σ = some q → W p l e R s m args below meth c H locs cells slots Q (F0 m (pc + 1) ls (.int x :: rest))) : zr (zbnd (oAi 0 r i) kf) σ = some q → W p l e R s m args below meth c H locs cells slots Q (F0 m pc ls (.int i :: va_rf r :: rest)) := fun hf => by
  obtain ⟨x, g, hf⟩ := zbr hf
  exact zw_iald K I g hdg (kk x hf)
theorem zx_bald (K : zK p l R s m args meth c cc own nL F L G σ0 σF) (I : zI G s σ0 σ H locs) {r : Option Nat} {i : Int32} {kf : Int32 → zM α} {q : α × zS} (hdg : decode cc pc = .ok (.baload, 1))
    (kk : ∀ x : Int32, zr (kf x) σ = some q → W p l e R s m args below meth c H locs cells slots Q (F0 m (pc + 1) ls (.int x :: rest))) : zr (zbnd (oAi 2 r i) kf) σ = some q → W p l e R s m args below meth c H locs cells slots Q (F0 m pc ls (.int i :: va_rf r :: rest)) := fun hf => by
  obtain ⟨x, g, hf⟩ := zbr hf
  exact zw_bald K I g hdg (kk x hf)
theorem zx_lald (K : zK p l R s m args meth c cc own nL F L G σ0 σF) (I : zI G s σ0 σ H locs) {r : Option Nat} {i : Int32} {kf : Int64 → zM α} {q : α × zS} (hdg : decode cc pc = .ok (.laload, 1))
    (kk : ∀ x : Int64, zr (kf x) σ = some q → W p l e R s m args below meth c H locs cells slots Q (F0 m (pc + 1) ls (.long x :: rest))) : zr (zbnd (oAl 1 r i) kf) σ = some q → W p l e R s m args below meth c H locs cells slots Q (F0 m pc ls (.int i :: va_rf r :: rest)) := fun hf => by
  obtain ⟨x, g, hf⟩ := zbr hf
  exact zw_lald K I g hdg (kk x hf)
theorem zx_dald (K : zK p l R s m args meth c cc own nL F L G σ0 σF) (I : zI G s σ0 σ H locs) {r : Option Nat} {i : Int32} {kf : UInt64 → zM α} {q : α × zS} (hdg : decode cc pc = .ok (.daload, 1))
    (kk : ∀ x : UInt64, zr (kf x) σ = some q → W p l e R s m args below meth c H locs cells slots Q (F0 m (pc + 1) ls (.double x :: rest))) : zr (zbnd (oAd 3 r i) kf) σ = some q → W p l e R s m args below meth c H locs cells slots Q (F0 m pc ls (.int i :: va_rf r :: rest)) := fun hf => by
  obtain ⟨x, g, hf⟩ := zbr hf
  exact zw_dald K I g hdg (kk x hf)
theorem zx_aald (K : zK p l R s m args meth c cc own nL F L G σ0 σF) (I : zI G s σ0 σ H locs) {r : Option Nat} {i : Int32} {t : Nat} {kf : Option Nat → zM α} {q : α × zS} (hty : (zty t).isReference = true) (hdg : decode cc pc = .ok (.aaload, 1))
    (kk : ∀ x : Option Nat, zr (kf x) σ = some q → W p l e R s m args below meth c H locs cells slots Q (F0 m (pc + 1) ls (va_rf x :: rest))) : zr (zbnd (oAq t r i) kf) σ = some q → W p l e R s m args below meth c H locs cells slots Q (F0 m pc ls (.int i :: va_rf r :: rest)) := fun hf => by
  obtain ⟨x, g, hf⟩ := zbr hf
  exact zw_aald K I t hty g hdg (kk x hf)
theorem zx_alen (K : zK p l R s m args meth c cc own nL F L G σ0 σF) (I : zI G s σ0 σ H locs) {r : Option Nat} {kf : Int32 → zM α} {q : α × zS} (hdg : decode cc pc = .ok (.arraylength, 1))
    (kk : ∀ x : Int32, zr (kf x) σ = some q → W p l e R s m args below meth c H locs cells slots Q (F0 m (pc + 1) ls (.int x :: rest))) : zr (zbnd (oAn r) kf) σ = some q → W p l e R s m args below meth c H locs cells slots Q (F0 m pc ls (va_rf r :: rest)) := fun hf => by
  obtain ⟨x, g, hf⟩ := zbr hf
  exact zw_alen K I g hdg (kk x hf)
theorem zx_iast (K : zK p l R s m args meth c cc own nL F L G σ0 σF) (I : zI G s σ0 σ H locs) {r : Option Nat} {i : Int32} {x : Int32} {kf : Unit → zM α} (hdg : decode cc pc = .ok (.iastore, 1))
    (kk : ∀ (σ1 : zS) (H : Heap) (locs : List Loc), zI G s σ0 σ1 H locs → zr (kf ()) σ1 = some (vF, σF) → W p l e R s m args below meth c H locs (σ1.1 - σ0.1) (σ1.2.2 - σ0.2.2) Q (F0 m (pc + 1) ls rest)) : zr (zbnd (oSi 0 r i x) kf) σ = some (vF, σF) → W p l e R s m args below meth c H locs (σ.1 - σ0.1) (σ.2.2 - σ0.2.2) Q (F0 m pc ls (.int x :: .int i :: va_rf r :: rest)) := fun hf => by
  obtain ⟨σ1, g, hf⟩ := zbu hf
  exact zw_iast K I g hdg fun H1 locs1 I1 => kk σ1 H1 locs1 I1 hf
theorem zx_bast (K : zK p l R s m args meth c cc own nL F L G σ0 σF) (I : zI G s σ0 σ H locs) {r : Option Nat} {i : Int32} {x : Int32} {kf : Unit → zM α} (hdg : decode cc pc = .ok (.bastore, 1))
    (kk : ∀ (σ1 : zS) (H : Heap) (locs : List Loc), zI G s σ0 σ1 H locs → zr (kf ()) σ1 = some (vF, σF) → W p l e R s m args below meth c H locs (σ1.1 - σ0.1) (σ1.2.2 - σ0.2.2) Q (F0 m (pc + 1) ls rest)) : zr (zbnd (oSi 2 r i x.toInt8.toInt32) kf) σ = some (vF, σF) → W p l e R s m args below meth c H locs (σ.1 - σ0.1) (σ.2.2 - σ0.2.2) Q (F0 m pc ls (.int x :: .int i :: va_rf r :: rest)) := fun hf => by
  obtain ⟨σ1, g, hf⟩ := zbu hf
  exact zw_bast K I g hdg fun H1 locs1 I1 => kk σ1 H1 locs1 I1 hf
theorem zx_last (K : zK p l R s m args meth c cc own nL F L G σ0 σF) (I : zI G s σ0 σ H locs) {r : Option Nat} {i : Int32} {x : Int64} {kf : Unit → zM α} (hdg : decode cc pc = .ok (.lastore, 1))
    (kk : ∀ (σ1 : zS) (H : Heap) (locs : List Loc), zI G s σ0 σ1 H locs → zr (kf ()) σ1 = some (vF, σF) → W p l e R s m args below meth c H locs (σ1.1 - σ0.1) (σ1.2.2 - σ0.2.2) Q (F0 m (pc + 1) ls rest)) : zr (zbnd (oSl 1 r i x) kf) σ = some (vF, σF) → W p l e R s m args below meth c H locs (σ.1 - σ0.1) (σ.2.2 - σ0.2.2) Q (F0 m pc ls (.long x :: .int i :: va_rf r :: rest)) := fun hf => by
  obtain ⟨σ1, g, hf⟩ := zbu hf
  exact zw_last K I g hdg fun H1 locs1 I1 => kk σ1 H1 locs1 I1 hf
theorem zx_dast (K : zK p l R s m args meth c cc own nL F L G σ0 σF) (I : zI G s σ0 σ H locs) {r : Option Nat} {i : Int32} {x : UInt64} {kf : Unit → zM α} (hdg : decode cc pc = .ok (.dastore, 1))
    (kk : ∀ (σ1 : zS) (H : Heap) (locs : List Loc), zI G s σ0 σ1 H locs → zr (kf ()) σ1 = some (vF, σF) → W p l e R s m args below meth c H locs (σ1.1 - σ0.1) (σ1.2.2 - σ0.2.2) Q (F0 m (pc + 1) ls rest)) : zr (zbnd (oSd 3 r i x) kf) σ = some (vF, σF) → W p l e R s m args below meth c H locs (σ.1 - σ0.1) (σ.2.2 - σ0.2.2) Q (F0 m pc ls (.double x :: .int i :: va_rf r :: rest)) := fun hf => by
  obtain ⟨σ1, g, hf⟩ := zbu hf
  exact zw_dast K I g hdg fun H1 locs1 I1 => kk σ1 H1 locs1 I1 hf
theorem zx_c1 {β : Type} {x : zM β} {kf : β → zM α} (ι : β → Value) {a : Array Value} {st0 : List Value} (I : zI G s σ0 σ H locs) (hr : ∀ (v : β) (σ1 : zS), zr x σ = some (v, σ1) → zle σ σ1 → zle σ1 σF → vx_Run p l e R s m args below meth c H locs (σ.1 - σ0.1) (σ.2.2 - σ0.2.2) (σ1.1 - σ.1) (σ1.2.2 - σ.2.2) (F0 m pc ls st0) rest (zQc G (.inr (some (ι v))) σ1 a) (zXC G (.inr (some (ι v))) σ1) (zOwn G))
    (kk : ∀ (v : β) (σ1 : zS) (H : Heap) (locs : List Loc), zI G s σ0 σ1 H locs → zr (kf v) σ1 = some (vF, σF) → W p l e R s m args below meth c H locs (σ1.1 - σ0.1) (σ1.2.2 - σ0.2.2) Q (F0 m (pc + 3) ls (ι v :: rest))) : zr (zbnd x kf) σ = some (vF, σF) → W p l e R s m args below meth c H locs (σ.1 - σ0.1) (σ.2.2 - σ0.2.2) Q (F0 m pc ls st0) := fun hf => by
  obtain ⟨v, σ1, g, hf⟩ := zbi hf
  exact zw_c1 (hr v σ1 g (zr_le g) (zr_le hf)) I (zr_le g) fun H1 locs1 I1 => kk v σ1 H1 locs1 I1 hf
theorem zx_c1F {β : Type} {x : zM β} {kf : β → zM α} (ι : β → Value) {a : Array Value} {st0 : List Value} (I : zI G s σ0 σ H locs) (hr : ∀ (v : β) (σ1 : zS), zr x σ = some (v, σ1) → zle σ σ1 → zle σ1 σF → vx_Run5 p l e R s m args below meth c H locs (σ.1 - σ0.1) (σ.2.2 - σ0.2.2) (σ1.1 - σ.1) (σ1.2.2 - σ.2.2) (F0 m pc ls st0) rest (zQc G (.inr (some (ι v))) σ1 a) (zXC G (.inr (some (ι v))) σ1) (zOwn G))
    (kk : ∀ (v : β) (σ1 : zS) (H : Heap) (locs : List Loc), zI G s σ0 σ1 H locs → zr (kf v) σ1 = some (vF, σF) → W p l e R s m args below meth c H locs (σ1.1 - σ0.1) (σ1.2.2 - σ0.2.2) Q (F0 m (pc + 5) ls (ι v :: rest))) : zr (zbnd x kf) σ = some (vF, σF) → W p l e R s m args below meth c H locs (σ.1 - σ0.1) (σ.2.2 - σ0.2.2) Q (F0 m pc ls st0) := fun hf => by
  obtain ⟨v, σ1, g, hf⟩ := zbi hf
  exact zw_c1F (hr v σ1 g (zr_le g) (zr_le hf)) I (zr_le g) fun H1 locs1 I1 => kk v σ1 H1 locs1 I1 hf
theorem zx_c0 {x : zM Unit} {kf : Unit → zM α} {a : Array Value} {st0 : List Value} (I : zI G s σ0 σ H locs) (hr : ∀ (v : Unit) (σ1 : zS), zr x σ = some (v, σ1) → zle σ σ1 → zle σ1 σF → vx_Run p l e R s m args below meth c H locs (σ.1 - σ0.1) (σ.2.2 - σ0.2.2) (σ1.1 - σ.1) (σ1.2.2 - σ.2.2) (F0 m pc ls st0) rest (zQc G (.inr none) σ1 a) (zXC G (.inr none) σ1) (zOwn G))
    (kk : ∀ (σ1 : zS) (H : Heap) (locs : List Loc), zI G s σ0 σ1 H locs → zr (kf ()) σ1 = some (vF, σF) → W p l e R s m args below meth c H locs (σ1.1 - σ0.1) (σ1.2.2 - σ0.2.2) Q (F0 m (pc + 3) ls rest)) : zr (zbnd x kf) σ = some (vF, σF) → W p l e R s m args below meth c H locs (σ.1 - σ0.1) (σ.2.2 - σ0.2.2) Q (F0 m pc ls st0) := fun hf => by
  obtain ⟨v, σ1, g, hf⟩ := zbi hf
  exact zw_c0 (hr v σ1 g (zr_le g) (zr_le hf)) I (zr_le g) fun H1 locs1 I1 => kk σ1 H1 locs1 I1 hf
/-- a call that may throw: both ends -/
theorem zx_t1 {β : Type} {x : zM (zX β)} {fe : String × Nat → zM α} {kf : β → zM α} (ι : β → Value) {a : Array Value} {st0 : List Value} (I : zI G s σ0 σ H locs) (hr : ∀ (v : zX β) (σ1 : zS), zr x σ = some (v, σ1) → zle σ σ1 → zle σ1 σF → vx_Run p l e R s m args below meth c H locs (σ.1 - σ0.1) (σ.2.2 - σ0.2.2) (σ1.1 - σ.1) (σ1.2.2 - σ.2.2) (F0 m pc ls st0) rest (zQc G (zρX (fun y => .inr (some (ι y))) v) σ1 a) (zXC G (zρX (fun y => .inr (some (ι y))) v) σ1) (zOwn G))
    (kk : ∀ (v : β) (σ1 : zS) (H : Heap) (locs : List Loc), zI G s σ0 σ1 H locs → zr (kf v) σ1 = some (vF, σF) → W p l e R s m args below meth c H locs (σ1.1 - σ0.1) (σ1.2.2 - σ0.2.2) Q (F0 m (pc + 3) ls (ι v :: rest)))
    (kx : ∀ (E : String) (q : Nat) (ce : Cell) (σ1 : zS) (H : Heap) (locs : List Loc), zI G s σ0 σ1 H locs → H[q]? = some ce → ce.vm = .none → s.vm.findClass E = some ce.cls → zr (fe (E, q)) σ1 = some (vF, σF) → vx_W p l e R s m args below meth c H locs (σ1.1 - σ0.1) (σ1.2.2 - σ0.2.2) Q (F0 m pc ls rest) q) : zr (zbnd x fun q => zT2 q fe kf) σ = some (vF, σF) → W p l e R s m args below meth c H locs (σ.1 - σ0.1) (σ.2.2 - σ0.2.2) Q (F0 m pc ls st0) := fun hf => by
  obtain ⟨v, σ1, g, hf⟩ := zbi hf
  have hr := hr v σ1 g (zr_le g) (zr_le hf)
  rcases v with ⟨E, q⟩ | v
  · exact zw_cX hr I (zr_le g) fun ce H1 locs1 I1 h1 h2 h3 => kx E q ce σ1 H1 locs1 I1 h1 h2 h3 hf
  · exact zw_c1 hr I (zr_le g) fun H1 locs1 I1 => kk v σ1 H1 locs1 I1 hf
theorem zx_t0 {x : zM (zX Unit)} {fe : String × Nat → zM α} {kf : Unit → zM α} {a : Array Value} {st0 : List Value} (I : zI G s σ0 σ H locs) (hr : ∀ (v : zX Unit) (σ1 : zS), zr x σ = some (v, σ1) → zle σ σ1 → zle σ1 σF → vx_Run p l e R s m args below meth c H locs (σ.1 - σ0.1) (σ.2.2 - σ0.2.2) (σ1.1 - σ.1) (σ1.2.2 - σ.2.2) (F0 m pc ls st0) rest (zQc G (zρX zρV v) σ1 a) (zXC G (zρX zρV v) σ1) (zOwn G))
    (kk : ∀ (σ1 : zS) (H : Heap) (locs : List Loc), zI G s σ0 σ1 H locs → zr (kf ()) σ1 = some (vF, σF) → W p l e R s m args below meth c H locs (σ1.1 - σ0.1) (σ1.2.2 - σ0.2.2) Q (F0 m (pc + 3) ls rest))
    (kx : ∀ (E : String) (q : Nat) (ce : Cell) (σ1 : zS) (H : Heap) (locs : List Loc), zI G s σ0 σ1 H locs → H[q]? = some ce → ce.vm = .none → s.vm.findClass E = some ce.cls → zr (fe (E, q)) σ1 = some (vF, σF) → vx_W p l e R s m args below meth c H locs (σ1.1 - σ0.1) (σ1.2.2 - σ0.2.2) Q (F0 m pc ls rest) q) : zr (zbnd x fun q => zT2 q fe kf) σ = some (vF, σF) → W p l e R s m args below meth c H locs (σ.1 - σ0.1) (σ.2.2 - σ0.2.2) Q (F0 m pc ls st0) := fun hf => by
  obtain ⟨v, σ1, g, hf⟩ := zbi hf
  have hr := hr v σ1 g (zr_le g) (zr_le hf)
  rcases v with ⟨E, q⟩ | v
  · exact zw_cX hr I (zr_le g) fun ce H1 locs1 I1 h1 h2 h3 => kx E q ce σ1 H1 locs1 I1 h1 h2 h3 hf
  · exact zw_c0 hr I (zr_le g) fun H1 locs1 I1 => kk σ1 H1 locs1 I1 hf
end ZX
section ZY
variable {p : Program} {l : Launch} {e : Env} {R : Room} {s : State} {m : MethodId} {args : Array Value} {below : List Frame} {meth : Method} {c : Code} {H : Heap} {locs : List Loc} {cells slots : Nat} {Q : State → Prop}
variable {cc : ByteArray} {pc : Nat} {ls : Array Slot} {rest : List Value} {own : String} {nL F L : Nat} {G : zG} {σ0 σ σ1 σF : zS} {res : zRes} {α : Type} {vF : α}
/-- what leaves the method -/
theorem zx_px {ρ : α → zRes} {vF : zX α} {E : String} {q : Nat} {ce : Cell} (K : zK p l R s m args meth c cc own nL F L G σ0 σF) (I : zI G s σ0 σ H locs) (hout : ∀ x ∈ c.exceptionTable.toList, covers x pc = false) (h1 : H[q]? = some ce) (h2 : ce.vm = .none) (h3 : s.vm.findClass E = some ce.cls) : zr (zret (Sum.inl (E, q)) : zM (zX α)) σ = some (vF, σF) → vx_W p l e R s m args below meth c H locs (σ.1 - σ0.1) (σ.2.2 - σ0.2.2) (zQ below G (zρX ρ vF) args s σ0 σF) (F0 m pc ls rest) q := fun hf => by
  obtain ⟨rfl, rfl⟩ := zret_i hf
  exact zw_out K I hout rfl h1 h2 h3
theorem zx_x1 {β : Type} {ρ : α → zRes} {vF : zX α} {x : zM (zX β)} {kf : β → zM (zX α)} (ι : β → Value) {a : Array Value} {st0 : List Value} (K : zK p l R s m args meth c cc own nL F L G σ0 σF) (I : zI G s σ0 σ H locs) (hout : ∀ x ∈ c.exceptionTable.toList, covers x pc = false) (hr : ∀ (v : zX β) (σ1 : zS), zr x σ = some (v, σ1) → zle σ σ1 → zle σ1 σF → vx_Run p l e R s m args below meth c H locs (σ.1 - σ0.1) (σ.2.2 - σ0.2.2) (σ1.1 - σ.1) (σ1.2.2 - σ.2.2) (F0 m pc ls st0) rest (zQc G (zρX (fun y => .inr (some (ι y))) v) σ1 a) (zXC G (zρX (fun y => .inr (some (ι y))) v) σ1) (zOwn G))
    (kk : ∀ (v : β) (σ1 : zS) (H : Heap) (locs : List Loc), zI G s σ0 σ1 H locs → zr (kf v) σ1 = some (vF, σF) → W p l e R s m args below meth c H locs (σ1.1 - σ0.1) (σ1.2.2 - σ0.2.2) (zQ below G (zρX ρ vF) args s σ0 σF) (F0 m (pc + 3) ls (ι v :: rest))) : zr (zbx x kf) σ = some (vF, σF) → W p l e R s m args below meth c H locs (σ.1 - σ0.1) (σ.2.2 - σ0.2.2) (zQ below G (zρX ρ vF) args s σ0 σF) (F0 m pc ls st0) :=
  zx_t1 ι I hr kk fun E q ce σ1 H1 locs1 I1 h1 h2 h3 hf => zx_px K I1 hout h1 h2 h3 hf
theorem zx_x0 {ρ : α → zRes} {vF : zX α} {x : zM (zX Unit)} {kf : Unit → zM (zX α)} {a : Array Value} {st0 : List Value} (K : zK p l R s m args meth c cc own nL F L G σ0 σF) (I : zI G s σ0 σ H locs) (hout : ∀ x ∈ c.exceptionTable.toList, covers x pc = false) (hr : ∀ (v : zX Unit) (σ1 : zS), zr x σ = some (v, σ1) → zle σ σ1 → zle σ1 σF → vx_Run p l e R s m args below meth c H locs (σ.1 - σ0.1) (σ.2.2 - σ0.2.2) (σ1.1 - σ.1) (σ1.2.2 - σ.2.2) (F0 m pc ls st0) rest (zQc G (zρX zρV v) σ1 a) (zXC G (zρX zρV v) σ1) (zOwn G))
    (kk : ∀ (σ1 : zS) (H : Heap) (locs : List Loc), zI G s σ0 σ1 H locs → zr (kf ()) σ1 = some (vF, σF) → W p l e R s m args below meth c H locs (σ1.1 - σ0.1) (σ1.2.2 - σ0.2.2) (zQ below G (zρX ρ vF) args s σ0 σF) (F0 m (pc + 3) ls rest)) : zr (zbx x kf) σ = some (vF, σF) → W p l e R s m args below meth c H locs (σ.1 - σ0.1) (σ.2.2 - σ0.2.2) (zQ below G (zρX ρ vF) args s σ0 σF) (F0 m pc ls st0) :=
  zx_t0 I hr kk fun E q ce σ1 H1 locs1 I1 h1 h2 h3 hf => zx_px K I1 hout h1 h2 h3 hf
theorem zx_iret {t : Int32} (ρ : α → zRes) {v0 : α} (hρ : ρ v0 = .inr (some (.int t))) (K : zK p l R s m args meth c cc own nL F L G σ0 σF) (I : zI G s σ0 σ H locs) (hr : meth.sig.returnType = some .int) (hdg : decode cc pc = .ok (.ireturn, 1)) : zr (zret v0) σ = some (vF, σF) → W p l e R s m args below meth c H locs (σ.1 - σ0.1) (σ.2.2 - σ0.2.2) (zQ below G (ρ vF) args s σ0 σF) (F0 m pc ls [.int t]) := fun hf => by
  obtain ⟨rfl, rfl⟩ := zret_i hf
  exact zw_iret K I hr hρ hdg
theorem zx_zret' {t : Int32} (ρ : α → zRes) {v0 : α} (hρ : ρ v0 = .inr (some (.int t))) (K : zK p l R s m args meth c cc own nL F L G σ0 σF) (I : zI G s σ0 σ H locs) {ty : FieldType} (hr : meth.sig.returnType = some ty) (hn : narrow ty (.int t) = .int t) (hdg : decode cc pc = .ok (.ireturn, 1)) : zr (zret v0) σ = some (vF, σF) → W p l e R s m args below meth c H locs (σ.1 - σ0.1) (σ.2.2 - σ0.2.2) (zQ below G (ρ vF) args s σ0 σF) (F0 m pc ls [.int t]) := fun hf => by
  obtain ⟨rfl, rfl⟩ := zret_i hf
  exact zw_zret K I hr hn hρ hdg
theorem zx_lret {t : Int64} (ρ : α → zRes) {v0 : α} (hρ : ρ v0 = .inr (some (.long t))) (K : zK p l R s m args meth c cc own nL F L G σ0 σF) (I : zI G s σ0 σ H locs) (hr : meth.sig.returnType = some .long) (hdg : decode cc pc = .ok (.lreturn, 1)) : zr (zret v0) σ = some (vF, σF) → W p l e R s m args below meth c H locs (σ.1 - σ0.1) (σ.2.2 - σ0.2.2) (zQ below G (ρ vF) args s σ0 σF) (F0 m pc ls [.long t]) := fun hf => by
  obtain ⟨rfl, rfl⟩ := zret_i hf
  exact zw_lret K I hr hρ hdg
theorem zx_fret {t : UInt32} (ρ : α → zRes) {v0 : α} (hρ : ρ v0 = .inr (some (.float t))) (K : zK p l R s m args meth c cc own nL F L G σ0 σF) (I : zI G s σ0 σ H locs) (hr : meth.sig.returnType = some .float) (hdg : decode cc pc = .ok (.freturn, 1)) : zr (zret v0) σ = some (vF, σF) → W p l e R s m args below meth c H locs (σ.1 - σ0.1) (σ.2.2 - σ0.2.2) (zQ below G (ρ vF) args s σ0 σF) (F0 m pc ls [.float t]) := fun hf => by
  obtain ⟨rfl, rfl⟩ := zret_i hf
  exact zw_fret K I hr hρ hdg
theorem zx_dret {t : UInt64} (ρ : α → zRes) {v0 : α} (hρ : ρ v0 = .inr (some (.double t))) (K : zK p l R s m args meth c cc own nL F L G σ0 σF) (I : zI G s σ0 σ H locs) (hr : meth.sig.returnType = some .double) (hdg : decode cc pc = .ok (.dreturn, 1)) : zr (zret v0) σ = some (vF, σF) → W p l e R s m args below meth c H locs (σ.1 - σ0.1) (σ.2.2 - σ0.2.2) (zQ below G (ρ vF) args s σ0 σF) (F0 m pc ls [.double t]) := fun hf => by
  obtain ⟨rfl, rfl⟩ := zret_i hf
  exact zw_dret K I hr hρ hdg
theorem zx_aret {t : Option Nat} (ρ : α → zRes) {v0 : α} (hρ : ρ v0 = .inr (some (va_rf t))) (K : zK p l R s m args meth c cc own nL F L G σ0 σF) (I : zI G s σ0 σ H locs) {rt : FieldType} (hr : meth.sig.returnType = some rt) (hrt : (∃ n, rt = .object n) ∨ ∃ t, rt = .array t) (hdg : decode cc pc = .ok (.areturn, 1)) : zr (zret v0) σ = some (vF, σF) → W p l e R s m args below meth c H locs (σ.1 - σ0.1) (σ.2.2 - σ0.2.2) (zQ below G (ρ vF) args s σ0 σF) (F0 m pc ls [va_rf t]) := fun hf => by
  obtain ⟨rfl, rfl⟩ := zret_i hf
  exact zw_aret K I hr hrt hρ hdg
theorem zx_vret (ρ : α → zRes) {v0 : α} (hρ : ρ v0 = .inr none) (K : zK p l R s m args meth c cc own nL F L G σ0 σF) (I : zI G s σ0 σ H locs) (hr : meth.sig.returnType = none) (hdg : decode cc pc = .ok (.return_, 1)) : zr (zret v0) σ = some (vF, σF) → W p l e R s m args below meth c H locs (σ.1 - σ0.1) (σ.2.2 - σ0.2.2) (zQ below G (ρ vF) args s σ0 σF) (F0 m pc ls []) := fun hf => by
  obtain ⟨rfl, rfl⟩ := zret_i hf
  exact zw_vret K I hr hρ hdg
theorem zy_objInit (K : zK p l R s m args meth c cc own nL F L G σ0 σF) {index a : Nat} (hlink : Cond.methodLink own index Lib.objectInit ∈ lw_all) (hinst : Cond.instanceMethod Lib.objectInit ∈ lw_all) (hcode : Cond.code Lib.objectInit ⟨#[0xb1]⟩ 1 none ∈ lw_all) (hls : ls.size = nL) (hF : 1 ≤ F) (hL : 20 ≤ L) (hcat : (rest.map fun v => v.category).sum ≤ 8) (hdg : decode cc pc = .ok (.invokespecial index, 3))
    (kk : W p l e R s m args below meth c H locs cells slots Q (F0 m (pc + 3) ls rest)) : W p l e R s m args below meth c H locs cells slots Q (F0 m pc ls (.ref a :: rest)) := by
  obtain ⟨hx, hb, hts, hown, hlk, hml, hwd, hst, h1, h2, h3, h4⟩ := K
  refine W.objInit hx hb hown (hts _ hlink) (hts _ hinst) (hts _ hcode) rfl (by rw [hml]; exact hls) rfl hdg (by rw [h1]; exact hF) ?_ kk
  exact Nat.le_trans (Nat.add_le_add_right (lv_room hcat) 12) (by rw [h2]; exact hL)
end ZY
