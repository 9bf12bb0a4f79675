/-! ROWS: arrays, calls, ends -/
theorem zAi_i {σ : zS} {r : Option Nat} {t : Nat} {i v : Int32} (h : zAi σ r t i = some v) : ∃ n f, zA σ r t = some (n, .inl f) ∧ vp_in i n ∧ v = f i.toNatClampNeg := by
  unfold zAi at h
  split at h
  · rename_i n f he
    split at h
    · rename_i hc
      cases h
      exact ⟨n, f, he, hc, rfl⟩
    · cases h
  · cases h
theorem zAl_i {σ : zS} {r : Option Nat} {t : Nat} {i : Int32} {v : Int64} (h : zAl' σ r t i = some v) : ∃ n f, zA σ r t = some (n, .inr (.inl f)) ∧ vp_in i n ∧ v = f i.toNatClampNeg := by
  unfold zAl' at h
  split at h
  · rename_i n f he
    split at h
    · rename_i hc
      cases h
      exact ⟨n, f, he, hc, rfl⟩
    · cases h
  · cases h
theorem zAd_i {σ : zS} {r : Option Nat} {t : Nat} {i : Int32} {v : UInt64} (h : zAd σ r t i = some v) : ∃ n f, zA σ r t = some (n, .inr (.inr (.inr (.inl f)))) ∧ vp_in i n ∧ v = f i.toNatClampNeg := by
  unfold zAd at h
  split at h
  · rename_i n f he
    split at h
    · rename_i hc
      cases h
      exact ⟨n, f, he, hc, rfl⟩
    · cases h
  · cases h
theorem zAq_i {σ : zS} {r : Option Nat} {t : Nat} {i : Int32} {v : Option Nat} (h : zAq σ r t i = some v) : ∃ n f, zA σ r t = some (n, .inr (.inr (.inr (.inr f)))) ∧ vp_in i n ∧ v = f i.toNatClampNeg := by
  unfold zAq at h
  split at h
  · rename_i n f he
    split at h
    · rename_i hc
      cases h
      exact ⟨n, f, he, hc, rfl⟩
    · cases h
  · cases h
theorem zAn_i {σ : zS} {r : Option Nat} {v : Int32} (h : zAn σ r = some v) : ∃ a w t x, r = some a ∧ σ.2.1 a = some (w, .inl (t, x)) ∧ v = Int32.ofNat x.1 := by
  unfold zAn at h
  cases r with
  | none => cases h
  | some a =>
    dsimp only at h
    split at h
    · rename_i w o he
      cases h
      exact ⟨a, w, o.1, o.2, rfl, he, rfl⟩
    · cases h
theorem zAb_i {σ : zS} {r : Option Nat} {t : Nat} {i : Int32} {b : Bool} (h : zAb σ r t i = some b) : ∃ a x, r = some a ∧ σ.2.1 a = some (true, .inl (t, x)) ∧ b = decide (¬ (i < 0 ∨ x.1 ≤ i.toNatClampNeg)) := by
  unfold zAb at h
  cases r with
  | none => cases h
  | some a =>
    dsimp only at h
    split at h
    · rename_i o he
      split at h
      · rename_i hc
        subst hc
        cases h
        exact ⟨a, o.2, rfl, he, rfl⟩
      · cases h
    · cases h
section ZA
variable {p : Program} {l : Launch} {e : Env} {R : Room} {s : State} {m : MethodId} {args : Array Value} {below : List Frame} {meth : Method} {c : Code} {H : Heap} {locs : List Loc} {cells slots : Nat} {Q : State → Prop}
variable {cc : ByteArray} {pc : Nat} {ls : Array Slot} {rest : List Value} {own : String} {nL F L : Nat} {G : zG} {σ0 σ σ1 σF : zS} {res : zRes}
theorem zAt_arr (K : zK p l R s m args meth c cc own nL F L G σ0 σF) {a t : Nat} {w : Bool} {x : vp_A} (h : zAt G s H a (w, .inl (t, x))) : ∃ cell : Cell, H[a]? = some cell ∧ s.isArrayOf cell (zty t) ∧ cell.vm ≠ .unknown ∧ x.1 ≤ cell.slots.size ∧ cell.slots.size.toInt32 = Int32.ofNat x.1 ∧ ∀ j : Nat, j < x.1 → cell.slots[j]? = some (zVal x j) := by
  cases w with
  | false =>
    obtain ⟨-, h⟩ := h
    exact h
  | true =>
    obtain ⟨-, ht, h⟩ := h
    refine ⟨_, h, ?_, ?_, ?_, ?_, fun j hj => ?_⟩
    · dsimp only; rw [zVal_cell]; exact (ztyp K ht).1 _ _
    · rw [zVal_cell]; exact fun h => by cases h
    · rw [zVal_cell, arrV_size]; exact Nat.le_refl _
    · rw [zVal_cell, arrV_size] <;> rfl
    · rw [zVal_cell]; exact arrV_read _ _ hj
theorem zw_iald (K : zK p l R s m args meth c cc own nL F L G σ0 σF) (I : zI G s σ0 σ H locs) {r : Option Nat} {i v : Int32} (hg : zAi σ r 0 i = some v) (hdg : decode cc pc = .ok (.iaload, 1))
    (kk : W p l e R s m args below meth c H locs cells slots Q (F0 m (pc + 1) ls (.int v :: rest))) : W p l e R s m args below meth c H locs cells slots Q (F0 m pc ls (.int i :: va_rf r :: rest)) := by
  obtain ⟨n, f, hA, hin, rfl⟩ := zAi_i hg
  obtain ⟨a, w, rfl, ha⟩ := zA_i hA
  obtain ⟨cell, q1, q2, q3, q4, q5, q6⟩ := zAt_arr K (I.1.2.2 a _ ha)
  have hlt : i.toNatClampNeg < n := Nat.not_le.mp fun q => hin (Or.inr q)
  exact W.iald (v := .int (f i.toNatClampNeg)) K.1 K.2.1 q1 q2 q3 (fun q => by rcases q with q | q; exact hin (Or.inl q); exact absurd (Nat.le_trans q4 q) (Nat.not_le.mpr hlt)) (q6 _ hlt) rfl rfl hdg kk
theorem zw_bald (K : zK p l R s m args meth c cc own nL F L G σ0 σF) (I : zI G s σ0 σ H locs) {r : Option Nat} {i v : Int32} (hg : zAi σ r 2 i = some v) (hdg : decode cc pc = .ok (.baload, 1))
    (kk : W p l e R s m args below meth c H locs cells slots Q (F0 m (pc + 1) ls (.int v :: rest))) : W p l e R s m args below meth c H locs cells slots Q (F0 m pc ls (.int i :: va_rf r :: rest)) := by
  obtain ⟨n, f, hA, hin, rfl⟩ := zAi_i hg
  obtain ⟨a, w, rfl, ha⟩ := zA_i hA
  obtain ⟨cell, q1, q2, q3, q4, q5, q6⟩ := zAt_arr K (I.1.2.2 a _ ha)
  have hlt : i.toNatClampNeg < n := Nat.not_le.mp fun q => hin (Or.inr q)
  exact W.bald (v := .int (f i.toNatClampNeg)) K.1 K.2.1 q1 q2 q3 (fun q => by rcases q with q | q; exact hin (Or.inl q); exact absurd (Nat.le_trans q4 q) (Nat.not_le.mpr hlt)) (q6 _ hlt) rfl rfl hdg kk
theorem zw_lald (K : zK p l R s m args meth c cc own nL F L G σ0 σF) (I : zI G s σ0 σ H locs) {r : Option Nat} {i : Int32} {v : Int64} (hg : zAl' σ r 1 i = some v) (hdg : decode cc pc = .ok (.laload, 1))
    (kk : W p l e R s m args below meth c H locs cells slots Q (F0 m (pc + 1) ls (.long v :: rest))) : W p l e R s m args below meth c H locs cells slots Q (F0 m pc ls (.int i :: va_rf r :: rest)) := by
  obtain ⟨n, f, hA, hin, rfl⟩ := zAl_i hg
  obtain ⟨a, w, rfl, ha⟩ := zA_i hA
  obtain ⟨cell, q1, q2, q3, q4, q5, q6⟩ := zAt_arr K (I.1.2.2 a _ ha)
  have hlt : i.toNatClampNeg < n := Nat.not_le.mp fun q => hin (Or.inr q)
  exact W.lald (v := .long (f i.toNatClampNeg)) K.1 K.2.1 q1 q2 q3 (fun q => by rcases q with q | q; exact hin (Or.inl q); exact absurd (Nat.le_trans q4 q) (Nat.not_le.mpr hlt)) (q6 _ hlt) rfl rfl hdg kk
theorem zw_dald (K : zK p l R s m args meth c cc own nL F L G σ0 σF) (I : zI G s σ0 σ H locs) {r : Option Nat} {i : Int32} {v : UInt64} (hg : zAd σ r 3 i = some v) (hdg : decode cc pc = .ok (.daload, 1))
    (kk : W p l e R s m args below meth c H locs cells slots Q (F0 m (pc + 1) ls (.double v :: rest))) : W p l e R s m args below meth c H locs cells slots Q (F0 m pc ls (.int i :: va_rf r :: rest)) := by
  obtain ⟨n, f, hA, hin, rfl⟩ := zAd_i hg
  obtain ⟨a, w, rfl, ha⟩ := zA_i hA
  obtain ⟨cell, q1, q2, q3, q4, q5, q6⟩ := zAt_arr K (I.1.2.2 a _ ha)
  have hlt : i.toNatClampNeg < n := Nat.not_le.mp fun q => hin (Or.inr q)
  exact W.dald (v := .double (f i.toNatClampNeg)) K.1 K.2.1 q1 q2 q3 (fun q => by rcases q with q | q; exact hin (Or.inl q); exact absurd (Nat.le_trans q4 q) (Nat.not_le.mpr hlt)) (q6 _ hlt) rfl rfl hdg kk
theorem zw_aald (K : zK p l R s m args meth c cc own nL F L G σ0 σF) (I : zI G s σ0 σ H locs) {r v : Option Nat} {i : Int32} (t : Nat) (hty : (zty t).isReference = true) (hg : zAq σ r t i = some v) (hdg : decode cc pc = .ok (.aaload, 1))
    (kk : W p l e R s m args below meth c H locs cells slots Q (F0 m (pc + 1) ls (va_rf v :: rest))) : W p l e R s m args below meth c H locs cells slots Q (F0 m pc ls (.int i :: va_rf r :: rest)) := by
  obtain ⟨n, f, hA, hin, rfl⟩ := zAq_i hg
  obtain ⟨a, w, rfl, ha⟩ := zA_i hA
  obtain ⟨cell, q1, q2, q3, q4, q5, q6⟩ := zAt_arr K (I.1.2.2 a _ ha)
  have hlt : i.toNatClampNeg < n := Nat.not_le.mp fun q => hin (Or.inr q)
  exact W.aald (v := va_rf (f i.toNatClampNeg)) K.1 K.2.1 q1 q2 hty q3 (fun q => by rcases q with q | q; exact hin (Or.inl q); exact absurd (Nat.le_trans q4 q) (Nat.not_le.mpr hlt)) (q6 _ hlt) rfl rfl hdg kk
theorem zw_alen (K : zK p l R s m args meth c cc own nL F L G σ0 σF) (I : zI G s σ0 σ H locs) {r : Option Nat} {v : Int32} (hg : zAn σ r = some v) (hdg : decode cc pc = .ok (.arraylength, 1))
    (kk : W p l e R s m args below meth c H locs cells slots Q (F0 m (pc + 1) ls (.int v :: rest))) : W p l e R s m args below meth c H locs cells slots Q (F0 m pc ls (va_rf r :: rest)) := by
  obtain ⟨a, w, t, x, rfl, ha, rfl⟩ := zAn_i hg
  obtain ⟨cell, q1, q2, q3, q4, q5, q6⟩ := zAt_arr K (I.1.2.2 a _ ha)
  exact W.alen K.1 K.2.1 q1 q2 q5 rfl rfl hdg kk
theorem zw_iast (K : zK p l R s m args meth c cc own nL F L G σ0 σF) (I : zI G s σ0 σ H locs) {r : Option Nat} {i x : Int32} (hg : zUp (fun h => zSt h r 0 i (zgi i x)) σ σ1) (hdg : decode cc pc = .ok (.iastore, 1))
    (kk : ∀ (H1 : Heap) (locs1 : List Loc), zI G s σ0 σ1 H1 locs1 → W p l e R s m args below meth c H1 locs1 (σ1.1 - σ0.1) (σ1.2.2 - σ0.2.2) Q (F0 m (pc + 1) ls rest)) : W p l e R s m args below meth c H locs (σ.1 - σ0.1) (σ.2.2 - σ0.2.2) Q (F0 m pc ls (.int x :: .int i :: va_rf r :: rest)) := by
  obtain ⟨h', hg, rfl⟩ := hg
  obtain ⟨a, ⟨n, x0⟩, y, rfl, ha, hin, hy, rfl⟩ := zSt_i hg
  obtain ⟨hB, ht, h1⟩ := I.1.2.2 a _ ha
  rcases x0 with f | f | f | f | f <;> simp only [zgi] at hy <;> cases hy
  refine W.iast K.1 K.2.1 h1 ((ztyp K ht).1 n (fun j => .int (f j))) (fun q => by cases q) (by show ¬ (i < 0 ∨ (arrV _ _ _).slots.size ≤ _); rw [arrV_size]; exact hin) rfl rfl hdg fun H1 e z oq => ?_
  refine kk H1 _ (I.put ⟨hB, ht, ?_⟩ hB z oq)
  show H1[a]? = some (vp_cell _ _)
  rw [e, vp_cell_i, vp_cell_i, arrV_store]
  congr 2
  funext q
  by_cases hq : q = i.toNatClampNeg
  · subst hq; simp [updV, upd]
  · simp [updV, upd, hq]
theorem zw_bast (K : zK p l R s m args meth c cc own nL F L G σ0 σF) (I : zI G s σ0 σ H locs) {r : Option Nat} {i x : Int32} (hg : zUp (fun h => zSt h r 2 i (zgi i x.toInt8.toInt32)) σ σ1) (hdg : decode cc pc = .ok (.bastore, 1))
    (kk : ∀ (H1 : Heap) (locs1 : List Loc), zI G s σ0 σ1 H1 locs1 → W p l e R s m args below meth c H1 locs1 (σ1.1 - σ0.1) (σ1.2.2 - σ0.2.2) Q (F0 m (pc + 1) ls rest)) : W p l e R s m args below meth c H locs (σ.1 - σ0.1) (σ.2.2 - σ0.2.2) Q (F0 m pc ls (.int x :: .int i :: va_rf r :: rest)) := by
  obtain ⟨h', hg, rfl⟩ := hg
  obtain ⟨a, ⟨n, x0⟩, y, rfl, ha, hin, hy, rfl⟩ := zSt_i hg
  obtain ⟨hB, ht, h1⟩ := I.1.2.2 a _ ha
  rcases x0 with f | f | f | f | f <;> simp only [zgi] at hy <;> cases hy
  refine W.bast K.1 K.2.1 h1 ((ztyp K ht).1 n (fun j => .int (f j))) (fun q => by cases q) (by show ¬ (i < 0 ∨ (arrV _ _ _).slots.size ≤ _); rw [arrV_size]; exact hin) rfl rfl hdg fun H1 e z oq => ?_
  refine kk H1 _ (I.put ⟨hB, ht, ?_⟩ hB z oq)
  show H1[a]? = some (vp_cell _ _)
  rw [e, vp_cell_i, vp_cell_i, arrV_store]
  congr 2
  funext q
  by_cases hq : q = i.toNatClampNeg
  · subst hq
    simp [updV, upd]
    try rfl
  · simp [updV, upd, hq]
theorem zw_last (K : zK p l R s m args meth c cc own nL F L G σ0 σF) (I : zI G s σ0 σ H locs) {r : Option Nat} {i : Int32} {x : Int64} (hg : zUp (fun h => zSt h r 1 i (zgl i x)) σ σ1) (hdg : decode cc pc = .ok (.lastore, 1))
    (kk : ∀ (H1 : Heap) (locs1 : List Loc), zI G s σ0 σ1 H1 locs1 → W p l e R s m args below meth c H1 locs1 (σ1.1 - σ0.1) (σ1.2.2 - σ0.2.2) Q (F0 m (pc + 1) ls rest)) : W p l e R s m args below meth c H locs (σ.1 - σ0.1) (σ.2.2 - σ0.2.2) Q (F0 m pc ls (.long x :: .int i :: va_rf r :: rest)) := by
  obtain ⟨h', hg, rfl⟩ := hg
  obtain ⟨a, ⟨n, x0⟩, y, rfl, ha, hin, hy, rfl⟩ := zSt_i hg
  obtain ⟨hB, ht, h1⟩ := I.1.2.2 a _ ha
  rcases x0 with f | f | f | f | f <;> simp only [zgl] at hy <;> cases hy
  refine W.last K.1 K.2.1 h1 ((ztyp K ht).1 n (fun j => .long (f j))) (fun q => by cases q) (by show ¬ (i < 0 ∨ (arrV _ _ _).slots.size ≤ _); rw [arrV_size]; exact hin) rfl rfl hdg fun H1 e z oq => ?_
  refine kk H1 _ (I.put ⟨hB, ht, ?_⟩ hB z oq)
  show H1[a]? = some (vp_cell _ _)
  rw [e, vp_cell_l, vp_cell_l, arrV_store]
  congr 2
  funext q
  by_cases hq : q = i.toNatClampNeg
  · subst hq; simp [updV, vp_updL]
  · simp [updV, vp_updL, hq]
theorem zw_dast (K : zK p l R s m args meth c cc own nL F L G σ0 σF) (I : zI G s σ0 σ H locs) {r : Option Nat} {i : Int32} {x : UInt64} (hg : zUp (fun h => zSt h r 3 i (zgd i x)) σ σ1) (hdg : decode cc pc = .ok (.dastore, 1))
    (kk : ∀ (H1 : Heap) (locs1 : List Loc), zI G s σ0 σ1 H1 locs1 → W p l e R s m args below meth c H1 locs1 (σ1.1 - σ0.1) (σ1.2.2 - σ0.2.2) Q (F0 m (pc + 1) ls rest)) : W p l e R s m args below meth c H locs (σ.1 - σ0.1) (σ.2.2 - σ0.2.2) Q (F0 m pc ls (.double x :: .int i :: va_rf r :: rest)) := by
  obtain ⟨h', hg, rfl⟩ := hg
  obtain ⟨a, ⟨n, x0⟩, y, rfl, ha, hin, hy, rfl⟩ := zSt_i hg
  obtain ⟨hB, ht, h1⟩ := I.1.2.2 a _ ha
  rcases x0 with f | f | f | f | f <;> simp only [zgd] at hy <;> cases hy
  refine W.dast K.1 K.2.1 h1 ((ztyp K ht).1 n (fun j => .double (f j))) (fun q => by cases q) (by show ¬ (i < 0 ∨ (arrV _ _ _).slots.size ≤ _); rw [arrV_size]; exact hin) rfl rfl hdg fun H1 e z oq => ?_
  refine kk H1 _ (I.put ⟨hB, ht, ?_⟩ hB z oq)
  show H1[a]? = some (vp_cell _ _)
  rw [e, vp_cell_d, vp_cell_d, arrV_store]
  congr 2
  funext q
  by_cases hq : q = i.toNatClampNeg
  · subst hq; simp [updV, vf_upd]
  · simp [updV, vf_upd, hq]
/-! calls -/
theorem zw_call {a : Array Value} {st0 : List Value} {res1 : zRes} (hr : vx_Run p l e R s m args below meth c H locs (σ.1 - σ0.1) (σ.2.2 - σ0.2.2) (σ1.1 - σ.1) (σ1.2.2 - σ.2.2) (F0 m pc ls st0) rest (zQc G res1 σ1 a) (zXC G res1 σ1) (zOwn G)) (I : zI G s σ0 σ H locs) (hle : zle σ σ1)
    (kk : ∀ (v : Option Value) (H1 : Heap) (locs1 : List Loc), res1 = .inr v → zI G s σ0 σ1 H1 locs1 → W p l e R s m args below meth c H1 locs1 (σ1.1 - σ0.1) (σ1.2.2 - σ0.2.2) Q (F0 m (pc + 3) ls (v.toList ++ rest)))
    (kx : ∀ (E : String) (q : Addr) (ce : Cell) (H1 : Heap) (locs1 : List Loc), res1 = .inl (E, q) → zI G s σ0 σ1 H1 locs1 → H1[q]? = some ce → ce.vm = .none → s.vm.findClass E = some ce.cls → vx_W p l e R s m args below meth c H1 locs1 (σ1.1 - σ0.1) (σ1.2.2 - σ0.2.2) Q (F0 m pc ls rest) q) :
    W p l e R s m args below meth c H locs (σ.1 - σ0.1) (σ.2.2 - σ0.2.2) Q (F0 m pc ls st0) := by
  have c1 : σ.1 - σ0.1 + (σ1.1 - σ.1) = σ1.1 - σ0.1 := by have := I.2.2.1; have := hle.1; omega
  have c2 : σ.2.2 - σ0.2.2 + (σ1.2.2 - σ.2.2) = σ1.2.2 - σ0.2.2 := by have := I.2.2.2; have := hle.2; omega
  intro T hT X
  rcases hr T hT X with ⟨v, st₀, t, T', L, h0, X', hL, e1, e2, ⟨v', hres, hv, hrp, hF⟩, st⟩ | ⟨q, st₀, t, T', L, E, ce, h0, X', hL, e1, e2, ⟨hres, hrp, hF⟩, hce, hcv, hcl, st⟩
  · cases hv
    rw [c1, c2] at X'
    obtain ⟨k1, k2, k3⟩ := vx_keep (A0 := zOwn G) h0 e1 I.2.1 (fun q _ h => h) (fun q h => h) hL hF
    have hI : zI G s σ0 σ1 T'.heap (locs ++ L) := ⟨by rw [e1]; exact hrp.moved (by rw [← e2]; exact X'.warmed.alike.symm), k3, I.2.2.tr hle⟩
    obtain ⟨t2, a1, b1⟩ := kk v T'.heap (locs ++ L) hres hI T' rfl X'
    exact ⟨t2, st t2 a1, b1⟩
  · rw [c1, c2] at X'
    obtain ⟨k1, k2, k3⟩ := vx_keep (A0 := zOwn G) h0 e1 I.2.1 (fun q _ h => h) (fun q h => h) hL hF
    have hI : zI G s σ0 σ1 T'.heap (locs ++ L) := ⟨by rw [e1]; exact hrp.moved (by rw [← e2]; exact X'.warmed.alike.symm), k3, I.2.2.tr hle⟩
    obtain ⟨t2, a1, b1⟩ := kx E q ce T'.heap (locs ++ L) hres hI (by rw [e1]; exact hce) hcv hcl T' rfl X'
    exact ⟨t2, st.trans a1, b1⟩
theorem zw_call5 {a : Array Value} {st0 : List Value} {res1 : zRes} (hr : vx_Run5 p l e R s m args below meth c H locs (σ.1 - σ0.1) (σ.2.2 - σ0.2.2) (σ1.1 - σ.1) (σ1.2.2 - σ.2.2) (F0 m pc ls st0) rest (zQc G res1 σ1 a) (zXC G res1 σ1) (zOwn G)) (I : zI G s σ0 σ H locs) (hle : zle σ σ1)
    (kk : ∀ (v : Option Value) (H1 : Heap) (locs1 : List Loc), res1 = .inr v → zI G s σ0 σ1 H1 locs1 → W p l e R s m args below meth c H1 locs1 (σ1.1 - σ0.1) (σ1.2.2 - σ0.2.2) Q (F0 m (pc + 5) ls (v.toList ++ rest)))
    (kx : ∀ (E : String) (q : Addr), res1 = .inl (E, q) → False) :
    W p l e R s m args below meth c H locs (σ.1 - σ0.1) (σ.2.2 - σ0.2.2) Q (F0 m pc ls st0) := by
  have c1 : σ.1 - σ0.1 + (σ1.1 - σ.1) = σ1.1 - σ0.1 := by have := I.2.2.1; have := hle.1; omega
  have c2 : σ.2.2 - σ0.2.2 + (σ1.2.2 - σ.2.2) = σ1.2.2 - σ0.2.2 := by have := I.2.2.2; have := hle.2; omega
  intro T hT X
  rcases hr T hT X with ⟨v, st₀, t, T', L, h0, X', hL, e1, e2, ⟨v', hres, hv, hrp, hF⟩, st⟩ | ⟨q, st₀, t, T', L, E, ce, h0, X', hL, e1, e2, ⟨hres, hrp, hF⟩, hce, hcv, hcl, st⟩
  · cases hv
    rw [c1, c2] at X'
    obtain ⟨k1, k2, k3⟩ := vx_keep (A0 := zOwn G) h0 e1 I.2.1 (fun q _ h => h) (fun q h => h) hL hF
    have hI : zI G s σ0 σ1 T'.heap (locs ++ L) := ⟨by rw [e1]; exact hrp.moved (by rw [← e2]; exact X'.warmed.alike.symm), k3, I.2.2.tr hle⟩
    obtain ⟨t2, a1, b1⟩ := kk v T'.heap (locs ++ L) hres hI T' rfl X'
    exact ⟨t2, st t2 a1, b1⟩
  · exact (kx E q hres).elim
/-- a call that returns a value -/
theorem zw_c1 {a : Array Value} {st0 : List Value} {x : Value} (hr : vx_Run p l e R s m args below meth c H locs (σ.1 - σ0.1) (σ.2.2 - σ0.2.2) (σ1.1 - σ.1) (σ1.2.2 - σ.2.2) (F0 m pc ls st0) rest (zQc G (.inr (some x)) σ1 a) (zXC G (.inr (some x)) σ1) (zOwn G)) (I : zI G s σ0 σ H locs) (hle : zle σ σ1)
    (kk : ∀ (H1 : Heap) (locs1 : List Loc), zI G s σ0 σ1 H1 locs1 → W p l e R s m args below meth c H1 locs1 (σ1.1 - σ0.1) (σ1.2.2 - σ0.2.2) Q (F0 m (pc + 3) ls (x :: rest))) : W p l e R s m args below meth c H locs (σ.1 - σ0.1) (σ.2.2 - σ0.2.2) Q (F0 m pc ls st0) :=
  zw_call hr I hle (fun v H1 locs1 h hI => by cases h; exact kk H1 locs1 hI) (fun E q ce H1 locs1 h => by cases h)
theorem zw_c0 {a : Array Value} {st0 : List Value} (hr : vx_Run p l e R s m args below meth c H locs (σ.1 - σ0.1) (σ.2.2 - σ0.2.2) (σ1.1 - σ.1) (σ1.2.2 - σ.2.2) (F0 m pc ls st0) rest (zQc G (.inr none) σ1 a) (zXC G (.inr none) σ1) (zOwn G)) (I : zI G s σ0 σ H locs) (hle : zle σ σ1)
    (kk : ∀ (H1 : Heap) (locs1 : List Loc), zI G s σ0 σ1 H1 locs1 → W p l e R s m args below meth c H1 locs1 (σ1.1 - σ0.1) (σ1.2.2 - σ0.2.2) Q (F0 m (pc + 3) ls rest)) : W p l e R s m args below meth c H locs (σ.1 - σ0.1) (σ.2.2 - σ0.2.2) Q (F0 m pc ls st0) :=
  zw_call hr I hle (fun v H1 locs1 h hI => by cases h; exact kk H1 locs1 hI) (fun E q ce H1 locs1 h => by cases h)
/-- a call that throws -/
theorem zw_cX {a : Array Value} {st0 : List Value} {E : String} {q : Nat} (hr : vx_Run p l e R s m args below meth c H locs (σ.1 - σ0.1) (σ.2.2 - σ0.2.2) (σ1.1 - σ.1) (σ1.2.2 - σ.2.2) (F0 m pc ls st0) rest (zQc G (.inl (E, q)) σ1 a) (zXC G (.inl (E, q)) σ1) (zOwn G)) (I : zI G s σ0 σ H locs) (hle : zle σ σ1)
    (kx : ∀ (ce : Cell) (H1 : Heap) (locs1 : List Loc), zI G s σ0 σ1 H1 locs1 → H1[q]? = some ce → ce.vm = .none → s.vm.findClass E = some ce.cls → vx_W p l e R s m args below meth c H1 locs1 (σ1.1 - σ0.1) (σ1.2.2 - σ0.2.2) Q (F0 m pc ls rest) q) : W p l e R s m args below meth c H locs (σ.1 - σ0.1) (σ.2.2 - σ0.2.2) Q (F0 m pc ls st0) :=
  zw_call hr I hle (fun v H1 locs1 h hI => by cases h) (fun E' q' ce H1 locs1 h hI h1 h2 h3 => by cases h; exact kx ce H1 locs1 hI h1 h2 h3)
theorem zw_c1F {a : Array Value} {st0 : List Value} {x : Value} (hr : vx_Run5 p l e R s m args below meth c H locs (σ.1 - σ0.1) (σ.2.2 - σ0.2.2) (σ1.1 - σ.1) (σ1.2.2 - σ.2.2) (F0 m pc ls st0) rest (zQc G (.inr (some x)) σ1 a) (zXC G (.inr (some x)) σ1) (zOwn G)) (I : zI G s σ0 σ H locs) (hle : zle σ σ1)
    (kk : ∀ (H1 : Heap) (locs1 : List Loc), zI G s σ0 σ1 H1 locs1 → W p l e R s m args below meth c H1 locs1 (σ1.1 - σ0.1) (σ1.2.2 - σ0.2.2) Q (F0 m (pc + 5) ls (x :: rest))) : W p l e R s m args below meth c H locs (σ.1 - σ0.1) (σ.2.2 - σ0.2.2) Q (F0 m pc ls st0) :=
  zw_call5 hr I hle (fun v H1 locs1 h hI => by cases h; exact kk H1 locs1 hI) (fun E q h => by cases h)
theorem zfix (K : zK p l R s m args meth c cc own nL F L G σ0 σF) : CallFix p m c cc nL s args lw_all own := ⟨K.1, K.2.1, K.2.2.2.2.2.1, K.2.2.2.1, K.2.2.1⟩
theorem zpre (K : zK p l R s m args meth c cc own nL F L G σ0 σF) (I : zI G s σ0 σ H locs) (as : List Value) : ∀ U : State, U.heap = H → s.WarmedH U.vm → zPc G as σ as.toArray U := by
  obtain ⟨hx, hb, hts, hown, -, -, hwd, -⟩ := K
  intro U hU hW
  refine ⟨rfl, ?_, ?_⟩
  · rw [hU]; exact (hwd.kept I.2.1.2.1).warm hW
  · rw [hU]; exact I.1.moved hW.alike
theorem zcroom (K : zK p l R s m args meth c cc own nL F L G σ0 σF) (I : zI G s σ0 σ H locs) (hle0 : zle σ σ1) (hle : zle σ1 σF) : (σ.1 - σ0.1) + (σ1.1 - σ.1) ≤ R.cells ∧ (σ.2.2 - σ0.2.2) + (σ1.2.2 - σ.2.2) ≤ R.slots := by
  obtain ⟨-, -, -, -, -, -, -, -, -, -, h1, h2⟩ := K
  obtain ⟨-, -, h3, h4⟩ := I
  obtain ⟨h5, h6⟩ := hle0
  obtain ⟨h7, h8⟩ := hle
  rw [h1, h2]
  omega
/-- the fixed part of what a method's name says -/
def zNm (y : MethodName) (n : Nat) : Prop := (y.cls ≠ "java/lang/invoke/MethodHandle" ∧ y.cls ≠ "java/lang/invoke/VarHandle") ∧ (parseMethodDescriptor y.desc).map (fun d => d.parameters.length) = some n
theorem zNm.len {y : MethodName} {n : Nat} (h : zNm y n) : ∀ sig, parseMethodDescriptor y.desc = some sig → n = sig.parameters.length := by
  intro sig hs
  have h2 := h.2
  rw [hs] at h2
  exact (Option.some.inj h2).symm
theorem zcB (K : zK p l R s m args meth c cc own nL F L G σ0 σF) {index n F' L' maxL : Nat} {y : MethodName} {b : ByteArray} {ret : Option FieldType} {ce sl : Nat} (q1 : Cond.methodLink own index y ∈ lw_all) (q4 : Cond.initialized y.cls ∈ lw_all) (q5 : Cond.code y b maxL ret ∈ lw_all) (hn : zNm y n) (hF : F' + 1 ≤ F) (hL : 8 + (maxL + 11) + L' ≤ L) :
    CallB R s args own index y b maxL ret (ws_ y b maxL ret) ({ frames := F', cells := ce, slots := sl, locals := L' } : Room) ce sl n := by
  obtain ⟨-, -, hts, -, -, -, -, -, h1, h2, -, -⟩ := K
  exact ⟨rfl, rfl, by rw [h1]; exact hF, by rw [h2]; exact hL, pay_in hts (lw_meth q5), List.mem_cons_self, hts _ q5, hts _ q4, hn.1, hn.len, hts _ q1⟩
theorem zc_V (K : zK p l R s m args meth c cc own nL F L G σ0 σF) (I : zI G s σ0 σ H locs) {index n F' L' maxL ci a : Nat} {y : MethodName} {b : ByteArray} {ret : Option FieldType} {As : List Value} {r : Option Nat} {vc : vw_C} {res1 : zRes} (hM : zMet l y (ws_ y b maxL ret) F' L' G (.ref a :: As) σ σ1 res1) (hc : zcl[ci]? = some vc) (hcls : zC σ r ci = some a)
    (q1 : Cond.methodLink own index y ∈ lw_all) (q2 : Cond.instanceMethod y ∈ lw_all) (q3 : Cond.selects vc.1 y y ∈ lw_all) (q4 : Cond.initialized y.cls ∈ lw_all) (q5 : Cond.code y b maxL ret ∈ lw_all) (hn : zNm y n) (hF : F' + 1 ≤ F) (hL : 8 + (maxL + 11) + L' ≤ L) (hlen : As.length = n) (hle0 : zle σ σ1) (hle : zle σ1 σF) (hls : ls.size = nL) (hcat : (rest.map fun v => v.category).sum ≤ 8) (hdg : decode cc pc = .ok (.invokevirtual index, 3)) :
    vx_Run p l e R s m args below meth c H locs (σ.1 - σ0.1) (σ.2.2 - σ0.2.2) (σ1.1 - σ.1) (σ1.2.2 - σ.2.2) (F0 m pc ls (As.reverse ++ va_rf r :: rest)) rest (zQc G res1 σ1 (Value.ref a :: As).toArray) (zXC G res1 σ1) (zOwn G) := by
  obtain ⟨rfl, w, fs, ha⟩ := zC_i hcls
  have hts := K.2.2.1
  exact vx_runV (zfix K) hM ⟨zcB K q1 q4 q5 hn hF hL, hts _ q2, hts _ q3⟩ ⟨zPc_blind _ _ _, zAt_recv K.2.2.2.2.2.2.1.1 (I.1.2.2 a _ ha) hc, zpre K I _⟩ rfl hlen hls rfl (lv_room hcat) hdg (zcroom K I hle0 hle)
theorem zc_VX (K : zK p l R s m args meth c cc own nL F L G σ0 σF) (I : zI G s σ0 σ H locs) {index n F' L' maxL ci a : Nat} {y : MethodName} {b : ByteArray} {ret : Option FieldType} {hh : List (Nat × Nat × Nat × Nat)} {As : List Value} {r : Option Nat} {vc : vw_C} {res1 : zRes} (hM : zMet l y (wsW_ y b maxL ret hh) F' L' G (.ref a :: As) σ σ1 res1) (hc : zcl[ci]? = some vc) (hcls : zC σ r ci = some a)
    (q1 : Cond.methodLink own index y ∈ lw_all) (q2 : Cond.instanceMethod y ∈ lw_all) (q3 : Cond.selects vc.1 y y ∈ lw_all) (q4 : Cond.initialized y.cls ∈ lw_all) (q5 : Cond.codeWith y b maxL ret hh ∈ lw_all) (hn : zNm y n) (hF : F' + 1 ≤ F) (hL : 8 + (maxL + 11) + L' ≤ L) (hlen : As.length = n) (hle0 : zle σ σ1) (hle : zle σ1 σF) (hls : ls.size = nL) (hcat : (rest.map fun v => v.category).sum ≤ 8) (hdg : decode cc pc = .ok (.invokevirtual index, 3)) :
    vx_Run p l e R s m args below meth c H locs (σ.1 - σ0.1) (σ.2.2 - σ0.2.2) (σ1.1 - σ.1) (σ1.2.2 - σ.2.2) (F0 m pc ls (As.reverse ++ va_rf r :: rest)) rest (zQc G res1 σ1 (Value.ref a :: As).toArray) (zXC G res1 σ1) (zOwn G) := by
  obtain ⟨rfl, w, fs, ha⟩ := zC_i hcls
  have hK := K
  obtain ⟨-, -, hts, -, -, -, hwd, -, h1, h2, -, -⟩ := K
  exact vx_runVX (zfix hK) hM ⟨⟨rfl, rfl, by rw [h1]; exact hF, by rw [h2]; exact hL, pay_in hts (lw_methW q5), List.mem_cons_self⟩, hts _ q5, hts _ q4, hn.1, hn.len, hts _ q1, hts _ q2, hts _ q3⟩ ⟨zPc_blind _ _ _, zAt_recv hwd.1 (I.1.2.2 a _ ha) hc, zpre hK I _⟩ rfl hlen hls rfl (lv_room hcat) hdg (zcroom hK I hle0 hle)
theorem zc_S (K : zK p l R s m args meth c cc own nL F L G σ0 σF) (I : zI G s σ0 σ H locs) {index n F' L' maxL : Nat} {y : MethodName} {b : ByteArray} {ret : Option FieldType} {As : List Value} {res1 : zRes} (hM : zMet l y (ws_ y b maxL ret) F' L' G As σ σ1 res1)
    (q1 : Cond.methodLink own index y ∈ lw_all) (q2 : Cond.static y ∈ lw_all) (q4 : Cond.initialized y.cls ∈ lw_all) (q5 : Cond.code y b maxL ret ∈ lw_all) (hn : zNm y n) (hF : F' + 1 ≤ F) (hL : 8 + (maxL + 11) + L' ≤ L) (hlen : As.length = n) (hle0 : zle σ σ1) (hle : zle σ1 σF) (hls : ls.size = nL) (hcat : (rest.map fun v => v.category).sum ≤ 8) (hdg : decode cc pc = .ok (.invokestatic index, 3)) :
    vx_Run p l e R s m args below meth c H locs (σ.1 - σ0.1) (σ.2.2 - σ0.2.2) (σ1.1 - σ.1) (σ1.2.2 - σ.2.2) (F0 m pc ls (As.reverse ++ rest)) rest (zQc G res1 σ1 As.toArray) (zXC G res1 σ1) (zOwn G) := by
  have hts := K.2.2.1
  exact vx_runS (zfix K) hM ⟨zcB K q1 q4 q5 hn hF hL, hts _ q2⟩ ⟨zPc_blind _ _ _, zpre K I _⟩ rfl hlen hls rfl (lv_room hcat) hdg (zcroom K I hle0 hle)
theorem zc_SX (K : zK p l R s m args meth c cc own nL F L G σ0 σF) (I : zI G s σ0 σ H locs) {index n F' L' maxL : Nat} {y : MethodName} {b : ByteArray} {ret : Option FieldType} {hh : List (Nat × Nat × Nat × Nat)} {As : List Value} {res1 : zRes} (hM : zMet l y (wsW_ y b maxL ret hh) F' L' G As σ σ1 res1)
    (q1 : Cond.methodLink own index y ∈ lw_all) (q2 : Cond.static y ∈ lw_all) (q4 : Cond.initialized y.cls ∈ lw_all) (q5 : Cond.codeWith y b maxL ret hh ∈ lw_all) (hn : zNm y n) (hF : F' + 1 ≤ F) (hL : 8 + (maxL + 11) + L' ≤ L) (hlen : As.length = n) (hle0 : zle σ σ1) (hle : zle σ1 σF) (hls : ls.size = nL) (hcat : (rest.map fun v => v.category).sum ≤ 8) (hdg : decode cc pc = .ok (.invokestatic index, 3)) :
    vx_Run p l e R s m args below meth c H locs (σ.1 - σ0.1) (σ.2.2 - σ0.2.2) (σ1.1 - σ.1) (σ1.2.2 - σ.2.2) (F0 m pc ls (As.reverse ++ rest)) rest (zQc G res1 σ1 As.toArray) (zXC G res1 σ1) (zOwn G) := by
  have hK := K
  obtain ⟨-, -, hts, -, -, -, hwd, -, h1, h2, -, -⟩ := K
  exact vx_runSX (zfix hK) hM ⟨⟨rfl, rfl, by rw [h1]; exact hF, by rw [h2]; exact hL, pay_in hts (lw_methW q5), List.mem_cons_self⟩, hts _ q5, hts _ q4, hn.1, hn.len, hts _ q1, hts _ q2⟩ ⟨zPc_blind _ _ _, zpre hK I _⟩ rfl hlen hls rfl (lv_room hcat) hdg (zcroom hK I hle0 hle)
theorem zc_I (K : zK p l R s m args meth c cc own nL F L G σ0 σF) (I : zI G s σ0 σ H locs) {index n F' L' maxL a : Nat} {y : MethodName} {b : ByteArray} {As : List Value} {res1 : zRes} (hM : zMet l y (ws_ y b maxL none) F' L' G (.ref a :: As) σ σ1 res1)
    (q1 : Cond.methodLink own index y ∈ lw_all) (q2 : Cond.instanceMethod y ∈ lw_all) (q4 : Cond.initialized y.cls ∈ lw_all) (q5 : Cond.code y b maxL none ∈ lw_all) (hy : y.name = "<init>") (hn : zNm y n) (hF : F' + 1 ≤ F) (hL : 8 + (maxL + 11) + L' ≤ L) (hlen : As.length = n) (hle0 : zle σ σ1) (hle : zle σ1 σF) (hls : ls.size = nL) (hcat : (rest.map fun v => v.category).sum ≤ 8) (hdg : decode cc pc = .ok (.invokespecial index, 3)) :
    vx_Run p l e R s m args below meth c H locs (σ.1 - σ0.1) (σ.2.2 - σ0.2.2) (σ1.1 - σ.1) (σ1.2.2 - σ.2.2) (F0 m pc ls (As.reverse ++ .ref a :: rest)) rest (zQc G res1 σ1 (Value.ref a :: As).toArray) (zXC G res1 σ1) (zOwn G) := by
  have hts := K.2.2.1
  exact vx_runI (zfix K) hM ⟨zcB K q1 q4 q5 hn hF hL, hy, hts _ q2⟩ ⟨zPc_blind _ _ _, zpre K I _⟩ rfl hlen hls rfl (lv_room hcat) hdg (zcroom K I hle0 hle)
theorem zcN (K : zK p l R s m args meth c cc own nL F L G σ0 σF) {index n F' L' maxL : Nat} {host : String} {y : MethodName} {b : ByteArray} {ret : Option FieldType} {ce sl : Nat} (q1 : Cond.methodLinkNest own index y host ∈ lw_tbl) (q4 : Cond.initialized y.cls ∈ lw_all) (q5 : Cond.code y b maxL ret ∈ lw_all) (hn : zNm y n) (hF : F' + 1 ≤ F) (hL : 8 + (maxL + 11) + L' ≤ L) :
    va_CN R s args own index y host b maxL ret (ws_ y b maxL ret) ({ frames := F', cells := ce, slots := sl, locals := L' } : Room) ce sl n := by
  obtain ⟨-, -, hts, -, -, -, hwd, -, h1, h2, -, -⟩ := K
  exact ⟨⟨rfl, rfl, by rw [h1]; exact hF, by rw [h2]; exact hL, pay_in hts (lw_meth q5), List.mem_cons_self⟩, hts _ q5, hts _ q4, hn.1, hn.len, va_Nw.use rfl (hwd.2.1 _ q1 rfl)⟩
theorem zc_IN (K : zK p l R s m args meth c cc own nL F L G σ0 σF) (I : zI G s σ0 σ H locs) {index n F' L' maxL a : Nat} {host : String} {y : MethodName} {b : ByteArray} {As : List Value} {res1 : zRes} (hM : zMet l y (ws_ y b maxL none) F' L' G (.ref a :: As) σ σ1 res1)
    (q1 : Cond.methodLinkNest own index y host ∈ lw_tbl) (q2 : Cond.instanceMethod y ∈ lw_all) (q4 : Cond.initialized y.cls ∈ lw_all) (q5 : Cond.code y b maxL none ∈ lw_all) (hy : y.name = "<init>") (hn : zNm y n) (hF : F' + 1 ≤ F) (hL : 8 + (maxL + 11) + L' ≤ L) (hlen : As.length = n) (hle0 : zle σ σ1) (hle : zle σ1 σF) (hls : ls.size = nL) (hcat : (rest.map fun v => v.category).sum ≤ 8) (hdg : decode cc pc = .ok (.invokespecial index, 3)) :
    vx_Run p l e R s m args below meth c H locs (σ.1 - σ0.1) (σ.2.2 - σ0.2.2) (σ1.1 - σ.1) (σ1.2.2 - σ.2.2) (F0 m pc ls (As.reverse ++ .ref a :: rest)) rest (zQc G res1 σ1 (Value.ref a :: As).toArray) (zXC G res1 σ1) (zOwn G) := by
  have hts := K.2.2.1
  exact vx_runIN (zfix K) hM ⟨zcN K q1 q4 q5 hn hF hL, hy, hts _ q2⟩ ⟨zPc_blind _ _ _, zpre K I _⟩ rfl hlen hls rfl (lv_room hcat) hdg (zcroom K I hle0 hle)
theorem zc_SN (K : zK p l R s m args meth c cc own nL F L G σ0 σF) (I : zI G s σ0 σ H locs) {index n F' L' maxL : Nat} {host : String} {y : MethodName} {b : ByteArray} {ret : Option FieldType} {As : List Value} {res1 : zRes} (hM : zMet l y (ws_ y b maxL ret) F' L' G As σ σ1 res1)
    (q1 : Cond.methodLinkNest own index y host ∈ lw_tbl) (q2 : Cond.static y ∈ lw_all) (q4 : Cond.initialized y.cls ∈ lw_all) (q5 : Cond.code y b maxL ret ∈ lw_all) (hn : zNm y n) (hF : F' + 1 ≤ F) (hL : 8 + (maxL + 11) + L' ≤ L) (hlen : As.length = n) (hle0 : zle σ σ1) (hle : zle σ1 σF) (hls : ls.size = nL) (hcat : (rest.map fun v => v.category).sum ≤ 8) (hdg : decode cc pc = .ok (.invokestatic index, 3)) :
    vx_Run p l e R s m args below meth c H locs (σ.1 - σ0.1) (σ.2.2 - σ0.2.2) (σ1.1 - σ.1) (σ1.2.2 - σ.2.2) (F0 m pc ls (As.reverse ++ rest)) rest (zQc G res1 σ1 As.toArray) (zXC G res1 σ1) (zOwn G) := by
  have hts := K.2.2.1
  exact vx_runSN (zfix K) hM ⟨zcN K q1 q4 q5 hn hF hL, hts _ q2, trivial⟩ ⟨zPc_blind _ _ _, zpre K I _⟩ rfl hlen hls rfl (lv_room hcat) hdg (zcroom K I hle0 hle)
/-- a method of a superclass, run on the subclass's object -/
theorem zc_U (K : zK p l R s m args meth c cc own nL F L G σ0 σF) (I : zI G s σ0 σ H locs) {index n F' L' maxL ci a : Nat} {y : MethodName} {b : ByteArray} {ret : Option FieldType} {As : List Value} {r : Option Nat} {vc : vw_C} {res1 : zRes} (hM : zMet l y (ws_ y b maxL ret) F' L' G (.ref a :: As) σ σ1 res1) (hc : zcl[ci]? = some vc) (hcls : zC σ r ci = some a)
    (q1 : Cond.methodLink own index y ∈ lw_all) (q2 : Cond.instanceMethod y ∈ lw_all) (hsel : (Cond.selects vc.1 y y).before args s = true) (q6 : Cond.sameMethod y.cls y.cls y.name y.desc ∈ lw_all) (q4 : Cond.initialized y.cls ∈ lw_all) (q5 : Cond.code y b maxL ret ∈ lw_all) (hn : zNm y n) (hF : F' + 1 ≤ F) (hL : 8 + (maxL + 11) + L' ≤ L) (hlen : As.length = n) (hle0 : zle σ σ1) (hle : zle σ1 σF) (hls : ls.size = nL) (hcat : (rest.map fun v => v.category).sum ≤ 8) (hdg : decode cc pc = .ok (.invokevirtual index, 3)) :
    vx_Run p l e R s m args below meth c H locs (σ.1 - σ0.1) (σ.2.2 - σ0.2.2) (σ1.1 - σ.1) (σ1.2.2 - σ.2.2) (F0 m pc ls (As.reverse ++ va_rf r :: rest)) rest (zQc G res1 σ1 (Value.ref a :: As).toArray) (zXC G res1 σ1) (zOwn G) := by
  obtain ⟨rfl, w, fs, ha⟩ := zC_i hcls
  have hK := K
  obtain ⟨-, -, hts, -, -, -, hwd, -, h1, h2, -, -⟩ := K
  have hcw : va_CU R s args own vc.1 y.cls index y y b maxL ret (ws_ y b maxL ret) ({ frames := F', cells := σ1.1 - σ.1, slots := σ1.2.2 - σ.2.2, locals := L' } : Room) (σ1.1 - σ.1) (σ1.2.2 - σ.2.2) n :=
    ⟨⟨rfl, rfl, by rw [h1]; exact hF, by rw [h2]; exact hL, pay_in hts (lw_meth q5), List.mem_cons_self⟩, hts _ q5, hts _ q4, hn.1, hn.len, hts _ q1, hts _ q6, va_Decl.of (hts _ q2) (hts _ q5), hsel, hts _ q2⟩
  exact vx_runU (zfix hK) hM hcw ⟨zPc_blind _ _ _, zAt_recv hwd.1 (I.1.2.2 a _ ha) hc, zpre hK I _⟩ rfl hlen hls rfl (lv_room hcat) hdg (zcroom hK I hle0 hle)
/-- super.m(..) -/
theorem zc_SU (K : zK p l R s m args meth c cc own nL F L G σ0 σF) (I : zI G s σ0 σ H locs) {index n F' L' maxL ci a : Nat} {y : MethodName} {b : ByteArray} {ret : Option FieldType} {As : List Value} {r : Option Nat} {vc : vw_C} {res1 : zRes} (hM : zMet l y (ws_ y b maxL ret) F' L' G (.ref a :: As) σ σ1 res1) (hc : zcl[ci]? = some vc) (hcls : zC σ r ci = some a)
    (q1 : Cond.methodLink own index y ∈ lw_all) (q2 : Cond.instanceMethod y ∈ lw_all) (q7 : Cond.superclass own y.cls ∈ lw_all) (q6 : Cond.sameMethod y.cls y.cls y.name y.desc ∈ lw_all) (q4 : Cond.initialized y.cls ∈ lw_all) (q5 : Cond.code y b maxL ret ∈ lw_all) (hy : y.name ≠ "<init>") (hn : zNm y n) (hF : F' + 1 ≤ F) (hL : 8 + (maxL + 11) + L' ≤ L) (hlen : As.length = n) (hle0 : zle σ σ1) (hle : zle σ1 σF) (hls : ls.size = nL) (hcat : (rest.map fun v => v.category).sum ≤ 8) (hdg : decode cc pc = .ok (.invokespecial index, 3)) :
    vx_Run p l e R s m args below meth c H locs (σ.1 - σ0.1) (σ.2.2 - σ0.2.2) (σ1.1 - σ.1) (σ1.2.2 - σ.2.2) (F0 m pc ls (As.reverse ++ va_rf r :: rest)) rest (zQc G res1 σ1 (Value.ref a :: As).toArray) (zXC G res1 σ1) (zOwn G) := by
  obtain ⟨rfl, w, fs, ha⟩ := zC_i hcls
  have hK := K
  obtain ⟨-, -, hts, -, -, -, hwd, -, h1, h2, -, -⟩ := K
  have hG : GoodIn lw_all (va_wsSU own index y (ws_ y b maxL ret)) := by
    refine lw_app ?_ (lw_meth q5)
    intro w hw
    simp only [List.mem_cons, List.not_mem_nil, or_false] at hw
    rcases hw with e | e | e | e | e
    · rw [e]; exact q1
    · rw [e]; exact q6
    · rw [e]; exact q7
    · rw [e]; exact q2
    · rw [e]; exact q4
  exact vx_runSU (hwd.1.1 ci _ hc).2 (zfix hK) hM (va_cwSU n hts hG rfl rfl rfl ⟨hy, hn.2⟩ ⟨by rw [h1]; exact hF, by rw [h2]; exact hL⟩) ⟨zPc_blind _ _ _, zAt_recv hwd.1 (I.1.2.2 a _ ha) hc, zpre hK I _⟩ rfl hlen hls rfl (lv_room hcat) hdg (zcroom hK I hle0 hle)
/-- through an interface -/
theorem zc_F (K : zK p l R s m args meth c cc own nL F L G σ0 σF) (I : zI G s σ0 σ H locs) {index count n F' L' maxL ci a : Nat} {x y : MethodName} {b : ByteArray} {ret : Option FieldType} {As : List Value} {r : Option Nat} {vc : vw_C} {res1 : zRes} (hM : zMet l y (ws_ y b maxL ret) F' L' G (.ref a :: As) σ σ1 res1) (hc : zcl[ci]? = some vc) (hcls : zC σ r ci = some a)
    (q1 : Cond.methodLink own index x ∈ lw_all) (q2 : Cond.instanceMethod y ∈ lw_all) (q3 : Cond.selects vc.1 x y ∈ lw_all) (q4 : Cond.initialized y.cls ∈ lw_all) (q5 : Cond.code y b maxL ret ∈ lw_all) (hfw : (vc.1, x, y) ∈ zFwL) (hn : zNm x n) (hF : F' + 1 ≤ F) (hL : 8 + (maxL + 11) + L' ≤ L) (hlen : As.length = n) (hle0 : zle σ σ1) (hle : zle σ1 σF) (hls : ls.size = nL) (hcat : (rest.map fun v => v.category).sum ≤ 8) (hdg : decode cc pc = .ok (.invokeinterface index count, 5)) :
    vx_Run5 p l e R s m args below meth c H locs (σ.1 - σ0.1) (σ.2.2 - σ0.2.2) (σ1.1 - σ.1) (σ1.2.2 - σ.2.2) (F0 m pc ls (As.reverse ++ va_rf r :: rest)) rest (zQc G res1 σ1 (Value.ref a :: As).toArray) (zXC G res1 σ1) (zOwn G) := by
  obtain ⟨rfl, w, fs, ha⟩ := zC_i hcls
  have hK := K
  obtain ⟨-, -, hts, -, -, -, hwd, -, h1, h2, -, -⟩ := K
  have hG : GoodIn lw_all (va_wsF own index vc.1 x y (ws_ y b maxL ret)) := by
    refine lw_app ?_ (lw_meth q5)
    intro w hw
    simp only [List.mem_cons, List.not_mem_nil, or_false] at hw
    rcases hw with e | e | e | e
    · rw [e]; exact q1
    · rw [e]; exact q3
    · rw [e]; exact q2
    · rw [e]; exact q4
  have hcw := va_cwF (R := R) (rm := ({ frames := F', cells := σ1.1 - σ.1, slots := σ1.2.2 - σ.2.2, locals := L' } : Room)) (mc := σ1.1 - σ.1) (ms := σ1.2.2 - σ.2.2) n hts hG rfl rfl rfl (hwd.2.2.2.2.2.2.2.2.2.2.2.2.1 _ hfw) ⟨hn.1.1, hn.1.2, hn.2⟩ ⟨by rw [h1]; exact hF, by rw [h2]; exact hL⟩
  exact vx_runF (hwd.1.1 ci _ hc).2 (zfix hK) hM hcw ⟨zPc_blind _ _ _, zAt_recv hwd.1 (I.1.2.2 a _ ha) hc, zpre hK I _⟩ rfl hlen hls rfl (lv_room hcat) hdg (zcroom hK I hle0 hle)
/-! ends -/
theorem zw_iret {v : Int32} (K : zK p l R s m args meth c cc own nL F L G σ0 σF) (I : zI G s σ0 σF H locs) (hr : meth.sig.returnType = some .int) (hres : res = .inr (some (.int v))) (hdg : decode cc pc = .ok (.ireturn, 1)) : W p l e R s m args below meth c H locs (σF.1 - σ0.1) (σF.2.2 - σ0.2.2) (zQ below G res args s σ0 σF) (F0 m pc ls [.int v]) :=
  vx_ret (W.iret K.1 K.2.1 hr (fun t ht hW => ⟨_, hres, rfl, by rw [ht]; exact I.1.moved hW.alike, I.2.1.F ht⟩) I.2.1.2.2 hdg K.2.2.2.2.1)
theorem zw_zret {v : Int32} {ty : FieldType} (K : zK p l R s m args meth c cc own nL F L G σ0 σF) (I : zI G s σ0 σF H locs) (hr : meth.sig.returnType = some ty) (hn : narrow ty (.int v) = .int v) (hres : res = .inr (some (.int v))) (hdg : decode cc pc = .ok (.ireturn, 1)) : W p l e R s m args below meth c H locs (σF.1 - σ0.1) (σF.2.2 - σ0.2.2) (zQ below G res args s σ0 σF) (F0 m pc ls [.int v]) :=
  vx_ret (W.zret K.1 K.2.1 hr hn (fun t ht hW => ⟨_, hres, rfl, by rw [ht]; exact I.1.moved hW.alike, I.2.1.F ht⟩) I.2.1.2.2 hdg K.2.2.2.2.1)
theorem zw_lret {v : Int64} (K : zK p l R s m args meth c cc own nL F L G σ0 σF) (I : zI G s σ0 σF H locs) (hr : meth.sig.returnType = some .long) (hres : res = .inr (some (.long v))) (hdg : decode cc pc = .ok (.lreturn, 1)) : W p l e R s m args below meth c H locs (σF.1 - σ0.1) (σF.2.2 - σ0.2.2) (zQ below G res args s σ0 σF) (F0 m pc ls [.long v]) :=
  vx_ret (W.lret K.1 K.2.1 hr (fun t ht hW => ⟨_, hres, rfl, by rw [ht]; exact I.1.moved hW.alike, I.2.1.F ht⟩) I.2.1.2.2 hdg K.2.2.2.2.1)
theorem zw_fret {v : UInt32} (K : zK p l R s m args meth c cc own nL F L G σ0 σF) (I : zI G s σ0 σF H locs) (hr : meth.sig.returnType = some .float) (hres : res = .inr (some (.float v))) (hdg : decode cc pc = .ok (.freturn, 1)) : W p l e R s m args below meth c H locs (σF.1 - σ0.1) (σF.2.2 - σ0.2.2) (zQ below G res args s σ0 σF) (F0 m pc ls [.float v]) :=
  vx_ret (W.fret K.1 K.2.1 hr (fun t ht hW => ⟨_, hres, rfl, by rw [ht]; exact I.1.moved hW.alike, I.2.1.F ht⟩) I.2.1.2.2 hdg K.2.2.2.2.1)
theorem zw_dret {v : UInt64} (K : zK p l R s m args meth c cc own nL F L G σ0 σF) (I : zI G s σ0 σF H locs) (hr : meth.sig.returnType = some .double) (hres : res = .inr (some (.double v))) (hdg : decode cc pc = .ok (.dreturn, 1)) : W p l e R s m args below meth c H locs (σF.1 - σ0.1) (σF.2.2 - σ0.2.2) (zQ below G res args s σ0 σF) (F0 m pc ls [.double v]) :=
  vx_ret (W.dret K.1 K.2.1 hr (fun t ht hW => ⟨_, hres, rfl, by rw [ht]; exact I.1.moved hW.alike, I.2.1.F ht⟩) I.2.1.2.2 hdg K.2.2.2.2.1)
theorem zw_vret (K : zK p l R s m args meth c cc own nL F L G σ0 σF) (I : zI G s σ0 σF H locs) (hr : meth.sig.returnType = none) (hres : res = .inr none) (hdg : decode cc pc = .ok (.return_, 1)) : W p l e R s m args below meth c H locs (σF.1 - σ0.1) (σF.2.2 - σ0.2.2) (zQ below G res args s σ0 σF) (F0 m pc ls []) :=
  vx_ret (W.vret K.1 K.2.1 hr (fun t ht hW => ⟨_, hres, rfl, by rw [ht]; exact I.1.moved hW.alike, I.2.1.F ht⟩) I.2.1.2.2 hdg K.2.2.2.2.1)
theorem zw_aret {r : Option Nat} {rt : FieldType} (K : zK p l R s m args meth c cc own nL F L G σ0 σF) (I : zI G s σ0 σF H locs) (hr : meth.sig.returnType = some rt) (hrt : (∃ n, rt = .object n) ∨ ∃ t, rt = .array t) (hres : res = .inr (some (va_rf r))) (hdg : decode cc pc = .ok (.areturn, 1)) : W p l e R s m args below meth c H locs (σF.1 - σ0.1) (σF.2.2 - σ0.2.2) (zQ below G res args s σ0 σF) (F0 m pc ls [va_rf r]) :=
  vx_ret (W.aret K.1 K.2.1 hr hrt (by cases r with | none => exact Or.inl rfl | some a => exact Or.inr ⟨a, rfl⟩) (fun t ht hW => ⟨_, hres, rfl, by rw [ht]; exact I.1.moved hW.alike, I.2.1.F ht⟩) I.2.1.2.2 hdg K.2.2.2.2.1)
/-- an exception leaves the method -/
theorem zw_out {E : String} {q : Nat} {ce : Cell} (K : zK p l R s m args meth c cc own nL F L G σ0 σF) (I : zI G s σ0 σF H locs) (hout : ∀ x ∈ c.exceptionTable.toList, covers x pc = false) (hres : res = .inl (E, q)) (h1 : H[q]? = some ce) (h2 : ce.vm = .none) (h3 : s.vm.findClass E = some ce.cls) : vx_W p l e R s m args below meth c H locs (σF.1 - σ0.1) (σF.2.2 - σ0.2.2) (zQ below G res args s σ0 σF) (F0 m pc ls rest) q :=
  vx_out hout K.2.2.2.2.1 h1 h2 h3 (fun t ht hW => ⟨hres, by rw [ht]; exact I.1.moved hW, I.2.1.F ht⟩) I.2.1.2.2 (Nat.le_refl _) (Nat.le_refl _)
end ZA
