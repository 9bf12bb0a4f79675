/-! the classes whose objects the pure heap holds, by their numbers -/
def zcl : List vw_C := [(RX1, TX1, 8), (RX2, TX2, 3), (RX3, TX3, 2), (RX4, TX4, 30), (RX5, TX5, 4), (RX6, TX6, 4), (RX7, TX7, 4), (RX8, TX8, 5), (RX9, TX9, 4), (RX10, TX10, 4), (RX11, TX11, 1), (RX12, TX12, 2), (RX13, TX13, 7), (RX14, TX14, 2), (RX15, TX15, 7), (RX16, TX16, 3), (RJ2, TJ2, 3), (RJ3, TJ3, 3), (RJ5, TJ5, 4), (RJ6, TJ6, 4), (RJ12, TJ12, 4)]
def zNc : List (String × String) := [("TermsDesk", "TermsDesk$Refused"), ("TermsDesk", "TermsDesk$SyntaxException"), ("TermsDesk", "java/lang/ArithmeticException"), ("TermsDesk", "java/lang/ArrayIndexOutOfBoundsException"), ("TermsDesk", "java/lang/IllegalArgumentException"), ("TermsDesk", "java/lang/IllegalStateException"), ("TermsDesk", "java/lang/IndexOutOfBoundsException"), ("TermsDesk", "java/lang/UnsupportedOperationException"), ("TermsDesk", "java/util/NoSuchElementException"), ("TermsDesk$Best", "TermsDesk$Refused"), ("TermsDesk$Best", "TermsDesk$SyntaxException"), ("TermsDesk$Best", "java/lang/ArithmeticException"), ("TermsDesk$Best", "java/lang/ArrayIndexOutOfBoundsException"), ("TermsDesk$Best", "java/lang/IllegalArgumentException"), ("TermsDesk$Best", "java/lang/IllegalStateException"), ("TermsDesk$Best", "java/lang/IndexOutOfBoundsException"), ("TermsDesk$Best", "java/lang/UnsupportedOperationException"), ("TermsDesk$Best", "java/util/NoSuchElementException"), ("TermsDesk$Choice", "TermsDesk$Refused"), ("TermsDesk$Choice", "TermsDesk$SyntaxException"), ("TermsDesk$Choice", "java/lang/ArithmeticException"), ("TermsDesk$Choice", "java/lang/ArrayIndexOutOfBoundsException"), ("TermsDesk$Choice", "java/lang/IllegalArgumentException"), ("TermsDesk$Choice", "java/lang/IllegalStateException"), ("TermsDesk$Choice", "java/lang/IndexOutOfBoundsException"), ("TermsDesk$Choice", "java/lang/UnsupportedOperationException"), ("TermsDesk$Choice", "java/util/NoSuchElementException"), ("TermsDesk$Clash", "TermsDesk$Refused"), ("TermsDesk$Clash", "TermsDesk$SyntaxException"), ("TermsDesk$Clash", "java/lang/ArithmeticException"), ("TermsDesk$Clash", "java/lang/ArrayIndexOutOfBoundsException"), ("TermsDesk$Clash", "java/lang/IllegalArgumentException"), ("TermsDesk$Clash", "java/lang/IllegalStateException"), ("TermsDesk$Clash", "java/lang/IndexOutOfBoundsException"), ("TermsDesk$Clash", "java/lang/UnsupportedOperationException"), ("TermsDesk$Clash", "java/util/NoSuchElementException"), ("TermsDesk$Deed", "TermsDesk$Refused"), ("TermsDesk$Deed", "TermsDesk$SyntaxException"), ("TermsDesk$Deed", "java/lang/ArithmeticException"), ("TermsDesk$Deed", "java/lang/ArrayIndexOutOfBoundsException"), ("TermsDesk$Deed", "java/lang/IllegalArgumentException"), ("TermsDesk$Deed", "java/lang/IllegalStateException"), ("TermsDesk$Deed", "java/lang/IndexOutOfBoundsException"), ("TermsDesk$Deed", "java/lang/UnsupportedOperationException"), ("TermsDesk$Deed", "java/util/NoSuchElementException"), ("TermsDesk$Desk", "TermsDesk$Refused"), ("TermsDesk$Desk", "TermsDesk$SyntaxException"), ("TermsDesk$Desk", "java/lang/ArithmeticException"), ("TermsDesk$Desk", "java/lang/ArrayIndexOutOfBoundsException"), ("TermsDesk$Desk", "java/lang/IllegalArgumentException"), ("TermsDesk$Desk", "java/lang/IllegalStateException"), ("TermsDesk$Desk", "java/lang/IndexOutOfBoundsException"), ("TermsDesk$Desk", "java/lang/UnsupportedOperationException"), ("TermsDesk$Desk", "java/util/NoSuchElementException"), ("TermsDesk$Item", "TermsDesk$Refused"), ("TermsDesk$Item", "TermsDesk$SyntaxException"), ("TermsDesk$Item", "java/lang/ArithmeticException"), ("TermsDesk$Item", "java/lang/ArrayIndexOutOfBoundsException"), ("TermsDesk$Item", "java/lang/IllegalArgumentException"), ("TermsDesk$Item", "java/lang/IllegalStateException"), ("TermsDesk$Item", "java/lang/IndexOutOfBoundsException"), ("TermsDesk$Item", "java/lang/UnsupportedOperationException"), ("TermsDesk$Item", "java/util/NoSuchElementException"), ("TermsDesk$Licence", "TermsDesk$Refused"), ("TermsDesk$Licence", "TermsDesk$SyntaxException"), ("TermsDesk$Licence", "java/lang/ArithmeticException"), ("TermsDesk$Licence", "java/lang/ArrayIndexOutOfBoundsException"), ("TermsDesk$Licence", "java/lang/IllegalArgumentException"), ("TermsDesk$Licence", "java/lang/IllegalStateException"), ("TermsDesk$Licence", "java/lang/IndexOutOfBoundsException"), ("TermsDesk$Licence", "java/lang/UnsupportedOperationException"), ("TermsDesk$Licence", "java/util/NoSuchElementException"), ("TermsDesk$Parser", "TermsDesk$Refused"), ("TermsDesk$Parser", "TermsDesk$SyntaxException"), ("TermsDesk$Parser", "java/lang/ArithmeticException"), ("TermsDesk$Parser", "java/lang/ArrayIndexOutOfBoundsException"), ("TermsDesk$Parser", "java/lang/IllegalArgumentException"), ("TermsDesk$Parser", "java/lang/IllegalStateException"), ("TermsDesk$Parser", "java/lang/IndexOutOfBoundsException"), ("TermsDesk$Parser", "java/lang/UnsupportedOperationException"), ("TermsDesk$Parser", "java/util/NoSuchElementException"), ("TermsDesk$Refused", "TermsDesk$SyntaxException"), ("TermsDesk$Refused", "java/lang/ArithmeticException"), ("TermsDesk$Refused", "java/lang/ArrayIndexOutOfBoundsException"), ("TermsDesk$Refused", "java/lang/IllegalArgumentException"), ("TermsDesk$Refused", "java/lang/IllegalStateException"), ("TermsDesk$Refused", "java/lang/IndexOutOfBoundsException"), ("TermsDesk$Refused", "java/lang/UnsupportedOperationException"), ("TermsDesk$Refused", "java/util/NoSuchElementException"), ("TermsDesk$Search", "TermsDesk$Refused"), ("TermsDesk$Search", "TermsDesk$SyntaxException"), ("TermsDesk$Search", "java/lang/ArithmeticException"), ("TermsDesk$Search", "java/lang/ArrayIndexOutOfBoundsException"), ("TermsDesk$Search", "java/lang/IllegalArgumentException"), ("TermsDesk$Search", "java/lang/IllegalStateException"), ("TermsDesk$Search", "java/lang/IndexOutOfBoundsException"), ("TermsDesk$Search", "java/lang/UnsupportedOperationException"), ("TermsDesk$Search", "java/util/NoSuchElementException"), ("TermsDesk$Shelf", "TermsDesk$Refused"), ("TermsDesk$Shelf", "TermsDesk$SyntaxException"), ("TermsDesk$Shelf", "java/lang/ArithmeticException"), ("TermsDesk$Shelf", "java/lang/ArrayIndexOutOfBoundsException"), ("TermsDesk$Shelf", "java/lang/IllegalArgumentException"), ("TermsDesk$Shelf", "java/lang/IllegalStateException"), ("TermsDesk$Shelf", "java/lang/IndexOutOfBoundsException"), ("TermsDesk$Shelf", "java/lang/UnsupportedOperationException"), ("TermsDesk$Shelf", "java/util/NoSuchElementException"), ("TermsDesk$Source", "TermsDesk$Refused"), ("TermsDesk$Source", "TermsDesk$SyntaxException"), ("TermsDesk$Source", "java/lang/ArithmeticException"), ("TermsDesk$Source", "java/lang/ArrayIndexOutOfBoundsException"), ("TermsDesk$Source", "java/lang/IllegalArgumentException"), ("TermsDesk$Source", "java/lang/IllegalStateException"), ("TermsDesk$Source", "java/lang/IndexOutOfBoundsException"), ("TermsDesk$Source", "java/lang/UnsupportedOperationException"), ("TermsDesk$Source", "java/util/NoSuchElementException"), ("TermsDesk$SyntaxException", "TermsDesk$Refused"), ("TermsDesk$SyntaxException", "java/lang/ArithmeticException"), ("TermsDesk$SyntaxException", "java/lang/ArrayIndexOutOfBoundsException"), ("TermsDesk$SyntaxException", "java/lang/IllegalArgumentException"), ("TermsDesk$SyntaxException", "java/lang/IllegalStateException"), ("TermsDesk$SyntaxException", "java/lang/IndexOutOfBoundsException"), ("TermsDesk$SyntaxException", "java/lang/UnsupportedOperationException"), ("TermsDesk$SyntaxException", "java/util/NoSuchElementException"), ("TermsDesk$Work", "TermsDesk$Refused"), ("TermsDesk$Work", "TermsDesk$SyntaxException"), ("TermsDesk$Work", "java/lang/ArithmeticException"), ("TermsDesk$Work", "java/lang/ArrayIndexOutOfBoundsException"), ("TermsDesk$Work", "java/lang/IllegalArgumentException"), ("TermsDesk$Work", "java/lang/IllegalStateException"), ("TermsDesk$Work", "java/lang/IndexOutOfBoundsException"), ("TermsDesk$Work", "java/lang/UnsupportedOperationException"), ("TermsDesk$Work", "java/util/NoSuchElementException"), ("TermsDeskModel", "TermsDesk$Refused"), ("TermsDeskModel", "TermsDesk$SyntaxException"), ("TermsDeskModel", "java/lang/ArithmeticException"), ("TermsDeskModel", "java/lang/ArrayIndexOutOfBoundsException"), ("TermsDeskModel", "java/lang/IllegalArgumentException"), ("TermsDeskModel", "java/lang/IllegalStateException"), ("TermsDeskModel", "java/lang/IndexOutOfBoundsException"), ("TermsDeskModel", "java/lang/UnsupportedOperationException"), ("TermsDeskModel", "java/util/NoSuchElementException"), ("java/lang/ArithmeticException", "TermsDesk$Refused"), ("java/lang/ArithmeticException", "TermsDesk$SyntaxException"), ("java/lang/ArithmeticException", "java/lang/ArrayIndexOutOfBoundsException"), ("java/lang/ArithmeticException", "java/lang/IllegalArgumentException"), ("java/lang/ArithmeticException", "java/lang/IllegalStateException"), ("java/lang/ArithmeticException", "java/lang/IndexOutOfBoundsException"), ("java/lang/ArithmeticException", "java/lang/UnsupportedOperationException"), ("java/lang/ArithmeticException", "java/util/NoSuchElementException"), ("java/lang/ArrayIndexOutOfBoundsException", "TermsDesk$Refused"), ("java/lang/ArrayIndexOutOfBoundsException", "TermsDesk$SyntaxException"), ("java/lang/ArrayIndexOutOfBoundsException", "java/lang/ArithmeticException"), ("java/lang/ArrayIndexOutOfBoundsException", "java/lang/IllegalArgumentException"), ("java/lang/ArrayIndexOutOfBoundsException", "java/lang/IllegalStateException"), ("java/lang/ArrayIndexOutOfBoundsException", "java/lang/UnsupportedOperationException"), ("java/lang/ArrayIndexOutOfBoundsException", "java/util/NoSuchElementException"), ("java/lang/IllegalArgumentException", "TermsDesk$Refused"), ("java/lang/IllegalArgumentException", "TermsDesk$SyntaxException"), ("java/lang/IllegalArgumentException", "java/lang/ArithmeticException"), ("java/lang/IllegalArgumentException", "java/lang/ArrayIndexOutOfBoundsException"), ("java/lang/IllegalArgumentException", "java/lang/IllegalStateException"), ("java/lang/IllegalArgumentException", "java/lang/IndexOutOfBoundsException"), ("java/lang/IllegalArgumentException", "java/lang/UnsupportedOperationException"), ("java/lang/IllegalArgumentException", "java/util/NoSuchElementException"), ("java/lang/IllegalStateException", "TermsDesk$Refused"), ("java/lang/IllegalStateException", "TermsDesk$SyntaxException"), ("java/lang/IllegalStateException", "java/lang/ArithmeticException"), ("java/lang/IllegalStateException", "java/lang/ArrayIndexOutOfBoundsException"), ("java/lang/IllegalStateException", "java/lang/IllegalArgumentException"), ("java/lang/IllegalStateException", "java/lang/IndexOutOfBoundsException"), ("java/lang/IllegalStateException", "java/lang/UnsupportedOperationException"), ("java/lang/IllegalStateException", "java/util/NoSuchElementException"), ("java/lang/IndexOutOfBoundsException", "TermsDesk$Refused"), ("java/lang/IndexOutOfBoundsException", "TermsDesk$SyntaxException"), ("java/lang/IndexOutOfBoundsException", "java/lang/ArithmeticException"), ("java/lang/IndexOutOfBoundsException", "java/lang/ArrayIndexOutOfBoundsException"), ("java/lang/IndexOutOfBoundsException", "java/lang/IllegalArgumentException"), ("java/lang/IndexOutOfBoundsException", "java/lang/IllegalStateException"), ("java/lang/IndexOutOfBoundsException", "java/lang/UnsupportedOperationException"), ("java/lang/IndexOutOfBoundsException", "java/util/NoSuchElementException"), ("java/lang/String", "TermsDesk$Refused"), ("java/lang/String", "TermsDesk$SyntaxException"), ("java/lang/String", "java/lang/ArithmeticException"), ("java/lang/String", "java/lang/ArrayIndexOutOfBoundsException"), ("java/lang/String", "java/lang/IllegalArgumentException"), ("java/lang/String", "java/lang/IllegalStateException"), ("java/lang/String", "java/lang/IndexOutOfBoundsException"), ("java/lang/String", "java/lang/UnsupportedOperationException"), ("java/lang/String", "java/util/NoSuchElementException"), ("java/lang/StringBuilder", "TermsDesk$Refused"), ("java/lang/StringBuilder", "TermsDesk$SyntaxException"), ("java/lang/StringBuilder", "java/lang/ArithmeticException"), ("java/lang/StringBuilder", "java/lang/ArrayIndexOutOfBoundsException"), ("java/lang/StringBuilder", "java/lang/IllegalArgumentException"), ("java/lang/StringBuilder", "java/lang/IllegalStateException"), ("java/lang/StringBuilder", "java/lang/IndexOutOfBoundsException"), ("java/lang/StringBuilder", "java/lang/UnsupportedOperationException"), ("java/lang/StringBuilder", "java/util/NoSuchElementException"), ("java/lang/UnsupportedOperationException", "TermsDesk$Refused"), ("java/lang/UnsupportedOperationException", "TermsDesk$SyntaxException"), ("java/lang/UnsupportedOperationException", "java/lang/ArithmeticException"), ("java/lang/UnsupportedOperationException", "java/lang/ArrayIndexOutOfBoundsException"), ("java/lang/UnsupportedOperationException", "java/lang/IllegalArgumentException"), ("java/lang/UnsupportedOperationException", "java/lang/IllegalStateException"), ("java/lang/UnsupportedOperationException", "java/lang/IndexOutOfBoundsException"), ("java/lang/UnsupportedOperationException", "java/util/NoSuchElementException"), ("java/util/ArrayDeque", "TermsDesk$Refused"), ("java/util/ArrayDeque", "TermsDesk$SyntaxException"), ("java/util/ArrayDeque", "java/lang/ArithmeticException"), ("java/util/ArrayDeque", "java/lang/ArrayIndexOutOfBoundsException"), ("java/util/ArrayDeque", "java/lang/IllegalArgumentException"), ("java/util/ArrayDeque", "java/lang/IllegalStateException"), ("java/util/ArrayDeque", "java/lang/IndexOutOfBoundsException"), ("java/util/ArrayDeque", "java/lang/UnsupportedOperationException"), ("java/util/ArrayDeque", "java/util/NoSuchElementException"), ("java/util/ArrayList", "TermsDesk$Refused"), ("java/util/ArrayList", "TermsDesk$SyntaxException"), ("java/util/ArrayList", "java/lang/ArithmeticException"), ("java/util/ArrayList", "java/lang/ArrayIndexOutOfBoundsException"), ("java/util/ArrayList", "java/lang/IllegalArgumentException"), ("java/util/ArrayList", "java/lang/IllegalStateException"), ("java/util/ArrayList", "java/lang/IndexOutOfBoundsException"), ("java/util/ArrayList", "java/lang/UnsupportedOperationException"), ("java/util/ArrayList", "java/util/NoSuchElementException"), ("java/util/ArrayList$Itr", "TermsDesk$Refused"), ("java/util/ArrayList$Itr", "TermsDesk$SyntaxException"), ("java/util/ArrayList$Itr", "java/lang/ArithmeticException"), ("java/util/ArrayList$Itr", "java/lang/ArrayIndexOutOfBoundsException"), ("java/util/ArrayList$Itr", "java/lang/IllegalArgumentException"), ("java/util/ArrayList$Itr", "java/lang/IllegalStateException"), ("java/util/ArrayList$Itr", "java/lang/IndexOutOfBoundsException"), ("java/util/ArrayList$Itr", "java/lang/UnsupportedOperationException"), ("java/util/ArrayList$Itr", "java/util/NoSuchElementException"), ("java/util/NoSuchElementException", "TermsDesk$Refused"), ("java/util/NoSuchElementException", "TermsDesk$SyntaxException"), ("java/util/NoSuchElementException", "java/lang/ArithmeticException"), ("java/util/NoSuchElementException", "java/lang/ArrayIndexOutOfBoundsException"), ("java/util/NoSuchElementException", "java/lang/IllegalArgumentException"), ("java/util/NoSuchElementException", "java/lang/IllegalStateException"), ("java/util/NoSuchElementException", "java/lang/IndexOutOfBoundsException"), ("java/util/NoSuchElementException", "java/lang/UnsupportedOperationException"), ("jdk/internal/misc/Unsafe", "TermsDesk$Refused"), ("jdk/internal/misc/Unsafe", "TermsDesk$SyntaxException"), ("jdk/internal/misc/Unsafe", "java/lang/ArithmeticException"), ("jdk/internal/misc/Unsafe", "java/lang/ArrayIndexOutOfBoundsException"), ("jdk/internal/misc/Unsafe", "java/lang/IllegalArgumentException"), ("jdk/internal/misc/Unsafe", "java/lang/IllegalStateException"), ("jdk/internal/misc/Unsafe", "java/lang/IndexOutOfBoundsException"), ("jdk/internal/misc/Unsafe", "java/lang/UnsupportedOperationException"), ("jdk/internal/misc/Unsafe", "java/util/NoSuchElementException")]
/-- calls through interfaces: the receiver's class, what the reference names, what is run -/
def zFwL : List (String × MethodName × MethodName) := [("java/util/ArrayList$Itr", ⟨"java/util/Iterator", "hasNext", "()Z"⟩, ⟨"java/util/ArrayList$Itr", "hasNext", "()Z"⟩), ("java/util/ArrayList$Itr", ⟨"java/util/Iterator", "next", "()Ljava/lang/Object;"⟩, ⟨"java/util/ArrayList$Itr", "next", "()Ljava/lang/Object;"⟩), ("java/lang/StringBuilder", ⟨"java/lang/CharSequence", "length", "()I"⟩, ⟨"java/lang/StringBuilder", "length", "()I"⟩), ("java/lang/StringBuilder", ⟨"java/lang/CharSequence", "charAt", "(I)C"⟩, ⟨"java/lang/StringBuilder", "charAt", "(I)C"⟩), ("TermsDesk$Choice", ⟨"java/lang/Comparable", "compareTo", "(Ljava/lang/Object;)I"⟩, ⟨"TermsDesk$Choice", "compareTo", "(Ljava/lang/Object;)I"⟩)]
/-! THE PURE HEAP, and the pure computations over it -/
/-- a cell: may it be written (made by the run itself)?; an array (its kind, length and contents) or an object (its class by its number in zcl, its fields) -/
abbrev zE : Type := Bool × ((Nat × vp_A) ⊕ (Nat × List Value))
/-- the next address, the cells, the elements used -/
abbrev zS : Type := Nat × (Nat → Option zE) × Nat
def zle (a b : zS) : Prop := a.1 ≤ b.1 ∧ a.2.2 ≤ b.2.2
theorem zle.rf {a : zS} : zle a a := ⟨Nat.le_refl _, Nat.le_refl _⟩
theorem zle.tr {a b c : zS} (h : zle a b) (h' : zle b c) : zle a c := ⟨Nat.le_trans h.1 h'.1, Nat.le_trans h.2 h'.2⟩
/-- a computation: it may fail (what isn't modelled), and it never gives room back -/
def zM (α : Type) : Type := { x : zS → Option (α × zS) // ∀ a r b, x a = some (r, b) → zle a b }
def zr {α : Type} (x : zM α) (a : zS) : Option (α × zS) := x.1 a
theorem zr_le {α : Type} {x : zM α} {a b : zS} {r : α} (h : zr x a = some (r, b)) : zle a b := x.2 a r b h
def zret {α : Type} (v : α) : zM α := ⟨fun a => some (v, a), fun a r b h => by cases h; exact zle.rf⟩
def zno {α : Type} : zM α := ⟨fun _ => none, fun a r b h => by cases h⟩
def zbnd {α β : Type} (x : zM α) (k : α → zM β) : zM β := ⟨fun a => match x.1 a with | none => none | some q => (k q.1).1 q.2, fun a r b h => by
  cases hx : x.1 a with
  | none => simp only [hx] at h; cases h
  | some q =>
    simp only [hx] at h
    exact zle.tr (x.2 a q.1 q.2 hx) ((k q.1).2 q.2 r b h)⟩
/-- a reading -/
def zrd {α : Type} (f : zS → Option α) : zM α := ⟨fun a => match f a with | none => none | some v => some (v, a), fun a r b h => by
  cases hx : f a with
  | none => simp only [hx] at h; cases h
  | some v => simp only [hx] at h; cases h; exact zle.rf⟩
/-- a writing of cells that are there -/
def zup (f : (Nat → Option zE) → Option (Nat → Option zE)) : zM Unit := ⟨fun a => match f a.2.1 with | none => none | some h => some ((), (a.1, h, a.2.2)), fun a r b h => by
  cases hx : f a.2.1 with
  | none => simp only [hx] at h; cases h
  | some v => simp only [hx] at h; cases h; exact zle.rf⟩
def zset (h : Nat → Option zE) (a : Nat) (e : zE) : Nat → Option zE := fun q => if q = a then some e else h q
theorem zset_eq (h : Nat → Option zE) (a : Nat) (e : zE) : zset h a e a = some e := if_pos rfl
theorem zset_ne {h : Nat → Option zE} {a q : Nat} {e : zE} (n : q ≠ a) : zset h a e q = h q := if_neg n
/-- a new cell of u elements -/
def zal (u : Nat) (e : zE) : zM Nat := ⟨fun a => some (a.1, (a.1 + 1, zset a.2.1 a.1 e, a.2.2 + u)), fun a r b h => by cases h; exact ⟨Nat.le_succ _, Nat.le_add_right _ _⟩⟩
/-- n cells of u elements that nobody reads: what a throw makes; the thrown one is the k-th -/
def zsk (n u k : Nat) : zM Nat := ⟨fun a => some (a.1 + k, (a.1 + n, a.2.1, a.2.2 + u)), fun a r b h => by cases h; exact ⟨Nat.le_add_right _ _, Nat.le_add_right _ _⟩⟩
/-- a guard -/
def zck (c : Prop) [Decidable c] : zM Unit := if c then zret () else zno
theorem zbi {α β : Type} {x : zM α} {k : α → zM β} {a : zS} {q : β × zS} (h : zr (zbnd x k) a = some q) : ∃ v b, zr x a = some (v, b) ∧ zr (k v) b = some q := by
  unfold zr zbnd at h
  cases hx : x.1 a with
  | none => simp only [hx] at h; cases h
  | some y => simp only [hx] at h; exact ⟨y.1, y.2, hx, h⟩
theorem zb_eq {α β : Type} {x : zM α} {k : α → zM β} {a b : zS} {v : α} (h : zr x a = some (v, b)) : zr (zbnd x k) a = zr (k v) b := by
  unfold zr zbnd
  have h' : x.1 a = some (v, b) := h
  simp only [h']
theorem zr_ret {α : Type} (v : α) (a : zS) : zr (zret v) a = some (v, a) := rfl
theorem zret_i {α : Type} {v w : α} {a b : zS} (h : zr (zret v) a = some (w, b)) : v = w ∧ a = b := by
  have h1 := Option.some.inj ((zr_ret v a).symm.trans h)
  exact ⟨congrArg Prod.fst h1, congrArg Prod.snd h1⟩
theorem zno_i {α : Type} {P : Prop} {a : zS} {q : α × zS} (h : zr (zno : zM α) a = some q) : P := by cases h
/-- a reading ahead of the rest -/
theorem zbr {α β : Type} {f : zS → Option α} {k : α → zM β} {a : zS} {q : β × zS} (h : zr (zbnd (zrd f) k) a = some q) : ∃ v, f a = some v ∧ zr (k v) a = some q := by
  obtain ⟨v, b, h1, h2⟩ := zbi h
  unfold zr zrd at h1
  cases hx : f a with
  | none => simp only [hx] at h1; cases h1
  | some w => simp only [hx] at h1; cases h1; exact ⟨_, rfl, h2⟩
def zUp (f : (Nat → Option zE) → Option (Nat → Option zE)) (a b : zS) : Prop := ∃ h, f a.2.1 = some h ∧ b = (a.1, h, a.2.2)
theorem zbu {β : Type} {f : (Nat → Option zE) → Option (Nat → Option zE)} {k : Unit → zM β} {a : zS} {q : β × zS} (h : zr (zbnd (zup f) k) a = some q) : ∃ b, zUp f a b ∧ zr (k ()) b = some q := by
  obtain ⟨v, b, h1, h2⟩ := zbi h
  unfold zr zup at h1
  cases hx : f a.2.1 with
  | none => simp only [hx] at h1; cases h1
  | some w => simp only [hx] at h1; cases h1; exact ⟨_, ⟨w, hx, rfl⟩, h2⟩
def zAl (u : Nat) (e : zE) (a : zS) (v : Nat) (b : zS) : Prop := v = a.1 ∧ b = (a.1 + 1, zset a.2.1 a.1 e, a.2.2 + u)
theorem zba {β : Type} {u : Nat} {e : zE} {k : Nat → zM β} {a : zS} {q : β × zS} (h : zr (zbnd (zal u e) k) a = some q) : ∃ v b, zAl u e a v b ∧ zr (k v) b = some q := by
  obtain ⟨v, b, h1, h2⟩ := zbi h
  cases h1
  exact ⟨_, _, ⟨rfl, rfl⟩, h2⟩
def zSk (n u k : Nat) (a : zS) (v : Nat) (b : zS) : Prop := v = a.1 + k ∧ b = (a.1 + n, a.2.1, a.2.2 + u)
theorem zbs {β : Type} {n u j : Nat} {k : Nat → zM β} {a : zS} {q : β × zS} (h : zr (zbnd (zsk n u j) k) a = some q) : ∃ v b, zSk n u j a v b ∧ zr (k v) b = some q := by
  obtain ⟨v, b, h1, h2⟩ := zbi h
  cases h1
  exact ⟨_, _, ⟨rfl, rfl⟩, h2⟩
theorem zbc {β : Type} {c : Prop} {dc : Decidable c} {k : Unit → zM β} {a : zS} {q : β × zS} (h : zr (zbnd (zck c) k) a = some q) : c ∧ zr (k ()) a = some q := by
  obtain ⟨v, b, h1, h2⟩ := zbi h
  unfold zck at h1
  split at h1
  · rename_i hc
    obtain ⟨-, rfl⟩ := zret_i h1
    exact ⟨hc, h2⟩
  · exact zno_i h1
theorem zit {α : Type} {c : Prop} {dc : Decidable c} {x y : zM α} {a : zS} {q : α × zS} (hc : c) (h : zr (if c then x else y) a = some q) : zr x a = some q := by rwa [if_pos hc] at h
theorem zif {α : Type} {c : Prop} {dc : Decidable c} {x y : zM α} {a : zS} {q : α × zS} (hc : ¬ c) (h : zr (if c then x else y) a = some q) : zr y a = some q := by rwa [if_neg hc] at h
/-! readings -/
def zF (σ : zS) (r : Option Nat) (ci k : Nat) : Option Value := match r with
  | none => none
  | some a => match σ.2.1 a with
    | some (_, .inr o) => if o.1 = ci then o.2[k]? else none
    | _ => none
def zFi (σ : zS) (r : Option Nat) (ci k : Nat) : Option Int32 := match zF σ r ci k with
  | some (.int i) => some i
  | _ => none
def zFl (σ : zS) (r : Option Nat) (ci k : Nat) : Option Int64 := match zF σ r ci k with
  | some (.long i) => some i
  | _ => none
def zFq (σ : zS) (r : Option Nat) (ci k : Nat) : Option (Option Nat) := match zF σ r ci k with
  | some .null => some none
  | some (.ref a) => some (some a)
  | _ => none
theorem zF_i {σ : zS} {r : Option Nat} {ci k : Nat} {v : Value} (h : zF σ r ci k = some v) : ∃ a w fs, r = some a ∧ σ.2.1 a = some (w, .inr (ci, fs)) ∧ fs[k]? = some v := by
  unfold zF at h
  cases r with
  | none => cases h
  | some a =>
    dsimp only at h
    split at h
    · rename_i w o he
      split at h
      · rename_i hc
        subst hc
        exact ⟨a, w, o.2, rfl, he, h⟩
      · cases h
    · cases h
theorem zFi_F {σ : zS} {r : Option Nat} {ci k : Nat} {v : Int32} (h : zFi σ r ci k = some v) : zF σ r ci k = some (.int v) := by
  unfold zFi at h
  split at h
  · rename_i i he
    cases h
    exact he
  · cases h
theorem zFl_F {σ : zS} {r : Option Nat} {ci k : Nat} {v : Int64} (h : zFl σ r ci k = some v) : zF σ r ci k = some (.long v) := by
  unfold zFl at h
  split at h
  · rename_i i he
    cases h
    exact he
  · cases h
theorem zFq_F {σ : zS} {r : Option Nat} {ci k : Nat} {v : Option Nat} (h : zFq σ r ci k = some v) : zF σ r ci k = some (va_rf v) := by
  unfold zFq at h
  split at h
  · rename_i he
    cases h
    exact he
  · rename_i a he
    cases h
    exact he
  · cases h
def oI (r : Option Nat) (ci k : Nat) : zM Int32 := zrd (fun σ => zFi σ r ci k)
def oL (r : Option Nat) (ci k : Nat) : zM Int64 := zrd (fun σ => zFl σ r ci k)
def oQ (r : Option Nat) (ci k : Nat) : zM (Option Nat) := zrd (fun σ => zFq σ r ci k)
/-- the object's address, if it is of that class -/
def zC (σ : zS) (r : Option Nat) (ci : Nat) : Option Nat := match r with
  | none => none
  | some a => match σ.2.1 a with
    | some (_, .inr o) => if o.1 = ci then some a else none
    | _ => none
theorem zC_i {σ : zS} {r : Option Nat} {ci a : Nat} (h : zC σ r ci = some a) : r = some a ∧ ∃ w fs, σ.2.1 a = some (w, .inr (ci, fs)) := by
  unfold zC at h
  cases r with
  | none => cases h
  | some b =>
    dsimp only at h
    split at h
    · rename_i w o he
      split at h
      · rename_i hc
        subst hc
        cases h
        exact ⟨rfl, w, o.2, he⟩
      · cases h
    · cases h
def oC (r : Option Nat) (ci : Nat) : zM Nat := zrd (fun σ => zC σ r ci)
/-- a cast to a class of ours: null, or of just that class -/
def zKc (σ : zS) (r : Option Nat) (ci : Nat) : Option Unit := match r with
  | none => some ()
  | some _ => match zC σ r ci with
    | some _ => some ()
    | none => none
def oK (r : Option Nat) (ci : Nat) : zM Unit := zrd (fun σ => zKc σ r ci)
def zA (σ : zS) (r : Option Nat) (t : Nat) : Option vp_A := match r with
  | none => none
  | some a => match σ.2.1 a with
    | some (_, .inl o) => if o.1 = t then some o.2 else none
    | _ => none
theorem zA_i {σ : zS} {r : Option Nat} {t : Nat} {x : vp_A} (h : zA σ r t = some x) : ∃ a w, r = some a ∧ σ.2.1 a = some (w, .inl (t, x)) := by
  unfold zA at h
  cases r with
  | none => cases h
  | some b =>
    dsimp only at h
    split at h
    · rename_i w o he
      split at h
      · rename_i hc
        subst hc
        cases h
        exact ⟨b, w, rfl, he⟩
      · cases h
    · cases h
def zAi (σ : zS) (r : Option Nat) (t : Nat) (i : Int32) : Option Int32 := match zA σ r t with
  | some (n, .inl f) => if ¬ (i < 0 ∨ n ≤ i.toNatClampNeg) then some (f i.toNatClampNeg) else none
  | _ => none
def zAl' (σ : zS) (r : Option Nat) (t : Nat) (i : Int32) : Option Int64 := match zA σ r t with
  | some (n, .inr (.inl f)) => if ¬ (i < 0 ∨ n ≤ i.toNatClampNeg) then some (f i.toNatClampNeg) else none
  | _ => none
def zAd (σ : zS) (r : Option Nat) (t : Nat) (i : Int32) : Option UInt64 := match zA σ r t with
  | some (n, .inr (.inr (.inr (.inl f)))) => if ¬ (i < 0 ∨ n ≤ i.toNatClampNeg) then some (f i.toNatClampNeg) else none
  | _ => none
def zAq (σ : zS) (r : Option Nat) (t : Nat) (i : Int32) : Option (Option Nat) := match zA σ r t with
  | some (n, .inr (.inr (.inr (.inr f)))) => if ¬ (i < 0 ∨ n ≤ i.toNatClampNeg) then some (f i.toNatClampNeg) else none
  | _ => none
def zAn (σ : zS) (r : Option Nat) : Option Int32 := match r with
  | none => none
  | some a => match σ.2.1 a with
    | some (_, .inl o) => some (Int32.ofNat o.2.1)
    | _ => none
def oAi (t : Nat) (r : Option Nat) (i : Int32) : zM Int32 := zrd (fun σ => zAi σ r t i)
def oAl (t : Nat) (r : Option Nat) (i : Int32) : zM Int64 := zrd (fun σ => zAl' σ r t i)
def oAd (t : Nat) (r : Option Nat) (i : Int32) : zM UInt64 := zrd (fun σ => zAd σ r t i)
def oAq (t : Nat) (r : Option Nat) (i : Int32) : zM (Option Nat) := zrd (fun σ => zAq σ r t i)
def oAn (r : Option Nat) : zM Int32 := zrd (fun σ => zAn σ r)
/-- is the place within a made array's length? -/
def zAb (σ : zS) (r : Option Nat) (t : Nat) (i : Int32) : Option Bool := match r with
  | none => none
  | some a => match σ.2.1 a with
    | some (true, .inl o) => if o.1 = t then some (decide (¬ (i < 0 ∨ o.2.1 ≤ i.toNatClampNeg))) else none
    | _ => none
def oAb (t : Nat) (r : Option Nat) (i : Int32) : zM Bool := zrd (fun σ => zAb σ r t i)
/-! writings -/
def zPf (h : Nat → Option zE) (r : Option Nat) (ci k : Nat) (v : Value) : Option (Nat → Option zE) := match r with
  | none => none
  | some a => match h a with
    | some (true, .inr o) => if o.1 = ci ∧ k < o.2.length then some (zset h a (true, .inr (ci, o.2.set k v))) else none
    | _ => none
theorem zPf_i {h h' : Nat → Option zE} {r : Option Nat} {ci k : Nat} {v : Value} (e : zPf h r ci k v = some h') : ∃ a fs, r = some a ∧ h a = some (true, .inr (ci, fs)) ∧ k < fs.length ∧ h' = zset h a (true, .inr (ci, fs.set k v)) := by
  unfold zPf at e
  cases r with
  | none => cases e
  | some a =>
    dsimp only at e
    split at e
    · rename_i o he
      split at e
      · rename_i hc
        obtain ⟨rfl, hk⟩ := hc
        cases e
        exact ⟨a, o.2, rfl, he, hk, rfl⟩
      · cases e
    · cases e
def oP (r : Option Nat) (ci k : Nat) (v : Value) : zM Unit := zup (fun h => zPf h r ci k v)
def zSt (h : Nat → Option zE) (r : Option Nat) (t : Nat) (i : Int32) (g : vp_A → Option vp_A) : Option (Nat → Option zE) := match r with
  | none => none
  | some a => match h a with
    | some (true, .inl o) => if o.1 = t ∧ ¬ (i < 0 ∨ o.2.1 ≤ i.toNatClampNeg) then (match g o.2 with | some x => some (zset h a (true, .inl (t, x))) | none => none) else none
    | _ => none
theorem zSt_i {h h' : Nat → Option zE} {r : Option Nat} {t : Nat} {i : Int32} {g : vp_A → Option vp_A} (e : zSt h r t i g = some h') : ∃ a x y, r = some a ∧ h a = some (true, .inl (t, x)) ∧ vp_in i x.1 ∧ g x = some y ∧ h' = zset h a (true, .inl (t, y)) := by
  unfold zSt at e
  cases r with
  | none => cases e
  | some a =>
    dsimp only at e
    split at e
    · rename_i o he
      split at e
      · rename_i hc
        obtain ⟨rfl, hk⟩ := hc
        split at e
        · rename_i y hy
          cases e
          exact ⟨a, o.2, y, rfl, he, hk, hy, rfl⟩
        · cases e
      · cases e
    · cases e
def zgi (i x : Int32) (a : vp_A) : Option vp_A := match a.2 with
  | .inl f => some (a.1, .inl (upd f i.toNatClampNeg x))
  | _ => none
def zgl (i : Int32) (x : Int64) (a : vp_A) : Option vp_A := match a.2 with
  | .inr (.inl f) => some (a.1, .inr (.inl (vp_updL f i.toNatClampNeg x)))
  | _ => none
def zgd (i : Int32) (x : UInt64) (a : vp_A) : Option vp_A := match a.2 with
  | .inr (.inr (.inr (.inl f))) => some (a.1, .inr (.inr (.inr (.inl (vf_upd f i.toNatClampNeg x)))))
  | _ => none
def zgq (i : Int32) (x : Option Nat) (a : vp_A) : Option vp_A := match a.2 with
  | .inr (.inr (.inr (.inr f))) => some (a.1, .inr (.inr (.inr (.inr (va_up f i.toNatClampNeg x)))))
  | _ => none
def oSi (t : Nat) (r : Option Nat) (i x : Int32) : zM Unit := zup (fun h => zSt h r t i (zgi i x))
def oSl (t : Nat) (r : Option Nat) (i : Int32) (x : Int64) : zM Unit := zup (fun h => zSt h r t i (zgl i x))
def oSd (t : Nat) (r : Option Nat) (i : Int32) (x : UInt64) : zM Unit := zup (fun h => zSt h r t i (zgd i x))
def oSq (t : Nat) (r : Option Nat) (i : Int32) (x : Option Nat) : zM Unit := zup (fun h => zSt h r t i (zgq i x))
/-- may it lie in an array of Objects? null, or an object of a class of ours -/
def zO (h : Nat → Option zE) (x : Option Nat) : Bool := match x with
  | none => true
  | some y => match h y with
    | some (_, .inr o) => decide (o.1 < 21)
    | _ => false
def zOr (h : Nat → Option zE) (x : Option Nat) : Bool := match x with
  | none => false
  | some y => match h y with
    | some (true, .inl o) => decide (o.1 = 1)
    | _ => false
/-- a reference into an array of Objects -/
def oSo (r : Option Nat) (i : Int32) (x : Option Nat) : zM Unit := zup (fun h => if zO h x = true then zSt h r 4 i (zgq i x) else none)
/-- a row of longs into an array of rows -/
def oSr (r : Option Nat) (i : Int32) (x : Option Nat) : zM Unit := zup (fun h => if zOr h x = true then zSt h r 5 i (zgq i x) else none)
/-! copies of stretches -/
def zLk (h : Nat → Option zE) (r : Option Nat) (t : Nat) : Option (Nat × Bool × vp_A) := match r with
  | none => none
  | some a => match h a with
    | some (w, .inl o) => if o.1 = t then some (a, w, o.2) else none
    | _ => none
theorem zLk_i {h : Nat → Option zE} {r : Option Nat} {t : Nat} {q : Nat × Bool × vp_A} (e : zLk h r t = some q) : r = some q.1 ∧ h q.1 = some (q.2.1, .inl (t, q.2.2)) := by
  unfold zLk at e
  cases r with
  | none => cases e
  | some a =>
    dsimp only at e
    split at e
    · rename_i w o he
      split at e
      · rename_i hc
        cases e
        subst hc
        exact ⟨rfl, he⟩
      · cases e
    · cases e
def zfit (t : Nat) (f : Nat → Int32) (sp n : Nat) : Bool := (List.range n).all (fun i => fits (match t with | 0 => FieldType.int | _ => FieldType.byte) (.int (f (sp + i))))
/-- ints (kind 0) or bytes (kind 2) -/
def zYi (t : Nat) (h : Nat → Option zE) (src : Option Nat) (sp : Int32) (dst : Option Nat) (dp n : Int32) : Option (Nat → Option zE) :=
  match zLk h src t, zLk h dst t with
  | some (_, _, (n0, .inl f)), some (b, true, (n1, .inl g)) =>
    if (¬ sp < 0) ∧ (¬ dp < 0) ∧ (¬ n < 0) ∧ sp.toNatClampNeg + n.toNatClampNeg ≤ n0 ∧ dp.toNatClampNeg + n.toNatClampNeg ≤ n1 ∧ zfit t f sp.toNatClampNeg n.toNatClampNeg = true then
      some (zset h b (true, .inl (t, (n1, .inl (va_cpy f g sp.toNatClampNeg dp.toNatClampNeg n.toNatClampNeg)))))
    else none
  | _, _ => none
def oYi (t : Nat) (src : Option Nat) (sp : Int32) (dst : Option Nat) (dp n : Int32) : zM Unit := zup (fun h => zYi t h src sp dst dp n)
def zall (h : Nat → Option zE) (f : Nat → Option Nat) (sp n : Nat) : Bool := (List.range n).all (fun i => zO h (f (sp + i)))
/-- references between arrays of Objects -/
def zYq (h : Nat → Option zE) (src : Option Nat) (sp : Int32) (dst : Option Nat) (dp n : Int32) : Option (Nat → Option zE) :=
  match zLk h src 4, zLk h dst 4 with
  | some (_, true, (n0, .inr (.inr (.inr (.inr f))))), some (b, true, (n1, .inr (.inr (.inr (.inr g))))) =>
    if (¬ sp < 0) ∧ (¬ dp < 0) ∧ (¬ n < 0) ∧ sp.toNatClampNeg + n.toNatClampNeg ≤ n0 ∧ dp.toNatClampNeg + n.toNatClampNeg ≤ n1 ∧ zall h f sp.toNatClampNeg n.toNatClampNeg = true then
      some (zset h b (true, .inl (4, (n1, .inr (.inr (.inr (.inr (va_cpy f g sp.toNatClampNeg dp.toNatClampNeg n.toNatClampNeg))))))))
    else none
  | _, _ => none
def oYq (src : Option Nat) (sp : Int32) (dst : Option Nat) (dp n : Int32) : zM Unit := zup (fun h => zYq h src sp dst dp n)
/-- a new array -/
def oNa (t : Nat) (n : Int32) (x : vp_A) : zM Nat := zbnd (zck (¬ n < 0 ∧ n.toNatClampNeg ≤ 60000000)) fun _ => zal n.toNatClampNeg (true, .inl (t, (n.toNatClampNeg, x.2)))
def oNew (ci N : Nat) (fs : List Value) : zM Nat := zal N (true, .inr (ci, fs))
/-- a clone of a byte array -/
def zCl (σ : zS) (r : Option Nat) : Option vp_A := match zA σ r 2 with
  | some (n, .inl f) => if zfit 2 f 0 n = true then some (n, .inl f) else none
  | _ => none
def oCl (r : Option Nat) : zM Nat := zbnd (zrd (fun σ => zCl σ r)) fun x => zal x.1 (true, .inl (2, x))
/-! THE WORLD: the numbers of classes, array classes and slots; what the statics hold -/
/-- the first address that is the run's own; classes and slots; array classes by kind; references held by statics and constants -/
abbrev zG : Type := Nat × va_G × (Nat → ClassId) × (Nat → Option Nat)
def zty (t : Nat) : FieldType := match t with
  | 0 => .int
  | 1 => .long
  | 2 => .byte
  | 3 => .double
  | 4 => .object "java/lang/Object"
  | _ => .array .long
abbrev ztys (G : zG) : List (ClassId × FieldType) := [(G.2.2.1 0, .int), (G.2.2.1 1, .long), (G.2.2.1 2, .byte), (G.2.2.1 3, .double), (G.2.2.1 4, .object "java/lang/Object"), (G.2.2.1 5, .array .long)]
def zVal (x : vp_A) (j : Nat) : Value := match x.2 with
  | .inl f => .int (f j)
  | .inr (.inl f) => .long (f j)
  | .inr (.inr (.inl f)) => .float (f j)
  | .inr (.inr (.inr (.inl f))) => .double (f j)
  | .inr (.inr (.inr (.inr f))) => va_rf (f j)
theorem zVal_cell (cA : ClassId) (x : vp_A) : vp_cell cA x = arrV cA x.1 (zVal x) := by
  obtain ⟨n, f | f | f | f | f⟩ := x <;> rfl
def zAt (G : zG) (U : State) (H : Heap) (a : Nat) (e : zE) : Prop := match e with
  | (true, .inl o) => G.1 ≤ a ∧ o.1 < 6 ∧ H[a]? = some (vp_cell (G.2.2.1 o.1) o.2)
  | (true, .inr o) => G.1 ≤ a ∧ ∃ r : vw_C, zcl[o.1]? = some r ∧ t_OB a (G.2.1.1 o.1) r.2.2 (G.2.1.2 o.1) H (vp_V o.2)
  | (false, .inl o) => a < G.1 ∧ ∃ cell : Cell, H[a]? = some cell ∧ U.isArrayOf cell (zty o.1) ∧ cell.vm ≠ .unknown ∧ o.2.1 ≤ cell.slots.size ∧ cell.slots.size.toInt32 = Int32.ofNat o.2.1 ∧ ∀ j : Nat, j < o.2.1 → cell.slots[j]? = some (zVal o.2 j)
  | (false, .inr o) => a < G.1 ∧ ∃ (r : vw_C) (cell : Cell), zcl[o.1]? = some r ∧ H[a]? = some cell ∧ cell.cls = G.2.1.1 o.1 ∧ cell.vm.isStatics = false ∧ cell.vm ≠ .unknown ∧ ∀ (k : Nat) (v : Value), k < r.2.2 → o.2[k]? = some v → cell.slots[G.2.1.2 o.1 k]? = some v
theorem zAt.lt {G : zG} {U : State} {H : Heap} {a : Nat} {e : zE} (h : zAt G U H a e) : a < H.size := by
  obtain ⟨_ | _, o | o⟩ := e
  · obtain ⟨-, cell, h1, -⟩ := h; exact (Array.getElem?_eq_some_iff.mp h1).1
  · obtain ⟨-, r, cell, -, h1, -⟩ := h; exact (Array.getElem?_eq_some_iff.mp h1).1
  · obtain ⟨-, -, h1⟩ := h; exact (Array.getElem?_eq_some_iff.mp h1).1
  · obtain ⟨-, r, -, cell, h1, -⟩ := h; exact (Array.getElem?_eq_some_iff.mp h1).1
theorem zAt.kept {G : zG} {U : State} {H H1 : Heap} {a : Nat} {e : zE} (h : zAt G U H a e) (hq : H1[a]? = H[a]?) : zAt G U H1 a e := by
  obtain ⟨_ | _, o | o⟩ := e
  · obtain ⟨h0, cell, h1, h2⟩ := h; exact ⟨h0, cell, by rw [hq]; exact h1, h2⟩
  · obtain ⟨h0, r, cell, h2, h1, h3⟩ := h; exact ⟨h0, r, cell, h2, by rw [hq]; exact h1, h3⟩
  · obtain ⟨h0, h2, h1⟩ := h; exact ⟨h0, h2, by rw [hq]; exact h1⟩
  · obtain ⟨h0, r, h2, h1⟩ := h; exact ⟨h0, r, h2, h1.kept hq⟩
theorem zAt.moved {G : zG} {u U : State} {H : Heap} {a : Nat} {e : zE} (hvm : u.vm.Alike U.vm) (h : zAt G u H a e) : zAt G U H a e := by
  obtain ⟨_ | _, o | o⟩ := e
  · obtain ⟨h0, cell, h1, h2, h3⟩ := h; exact ⟨h0, cell, h1, State.isArrayOf_alike hvm h2, h3⟩
  · exact h
  · exact h
  · exact h
/-- the pure heap says what the heap holds -/
def zRp (G : zG) (σ : zS) (U : State) (H : Heap) : Prop := H.size = σ.1 ∧ G.1 ≤ σ.1 ∧ ∀ (a : Nat) (e : zE), σ.2.1 a = some e → zAt G U H a e
theorem zRp.moved {G : zG} {u U : State} {σ : zS} {H : Heap} (hvm : u.vm.Alike U.vm) (h : zRp G σ u H) : zRp G σ U H := ⟨h.1, h.2.1, fun a e he => (h.2.2 a e he).moved hvm⟩
theorem zRp.set {G : zG} {U : State} {σ : zS} {H H1 : Heap} {a : Nat} {e : zE} (h : zRp G σ U H) (he : zAt G U H1 a e) (hz : H1.size = H.size) (oq : ∀ q : Nat, q ≠ a → H1[q]? = H[q]?) : zRp G (σ.1, zset σ.2.1 a e, σ.2.2) U H1 := by
  refine ⟨hz.trans h.1, h.2.1, fun q x hx => ?_⟩
  by_cases hq : q = a
  · subst hq
    dsimp only at hx
    rw [zset_eq] at hx
    cases hx
    exact he
  · dsimp only at hx
    rw [zset_ne hq] at hx
    exact (h.2.2 q x hx).kept (oq q hq)
theorem zRp.push {G : zG} {U : State} {σ : zS} {H H1 : Heap} {e : zE} {u : Nat} (h : zRp G σ U H) (he : zAt G U H1 σ.1 e) (hz : H1.size = H.size + 1) (oq : ∀ q : Nat, q < H.size → H1[q]? = H[q]?) : zRp G (σ.1 + 1, zset σ.2.1 σ.1 e, σ.2.2 + u) U H1 := by
  refine ⟨by rw [hz, h.1], Nat.le_succ_of_le h.2.1, fun q x hx => ?_⟩
  by_cases hq : q = σ.1
  · subst hq
    dsimp only at hx
    rw [zset_eq] at hx
    cases hx
    exact he
  · dsimp only at hx
    rw [zset_ne hq] at hx
    exact (h.2.2 q x hx).kept (oq q (h.2.2 q x hx).lt)
theorem zRp.skip {G : zG} {U : State} {σ : zS} {H H1 : Heap} {n u : Nat} (h : zRp G σ U H) (hz : H1.size = H.size + n) (oq : ∀ q : Nat, q < H.size → H1[q]? = H[q]?) : zRp G (σ.1 + n, σ.2.1, σ.2.2 + u) U H1 :=
  ⟨by rw [hz, h.1], Nat.le_trans h.2.1 (Nat.le_add_right _ _), fun q x hx => (h.2.2 q x hx).kept (oq q (h.2.2 q x hx).lt)⟩
/-- the words that ride with the world, not with the lists -/
def zwk (w : Cond) : Bool := match w with
  | .fieldLinkNest .. => true
  | .methodLinkNest .. => true
  | .castable .. => true
  | .declares .. => true
  | _ => false
theorem zwk_on {w : Cond} (h : zwk w = true) : w.onTables = true := by
  cases w <;> first | rfl | (exact absurd h (by simp [zwk]))
theorem zwk_warm {w : Cond} (h : zwk w = true) {s U : State} (hW : s.WarmedH U.vm) (hZ : va_Nw w s) : va_Nw w U := by
  cases w <;> first | exact va_Nw.warmF hW hZ | exact va_Nw.warmM hW hZ | exact va_Nw.warmC hW hZ | exact va_Nw.warmD hW hZ | (exact absurd h (by simp [zwk]))
/-- arrays over arrays of longs -/
def zAOl (U : State) : Prop := (Cond.arrayOver (.array .long)).before #[] U = true
theorem zAOl.moved {u U : State} (hvm : u.vm.Alike U.vm) (h : zAOl u) : zAOl U := by
  obtain ⟨comp, c, k, h1, h2, h3, h4, h5⟩ := arrayOverA_spec h
  obtain ⟨k', hk', he⟩ := hvm.2.2 _ _ h3
  have hi : (U.vm.classes.findIdx? fun (x : Class) => match x.kind with | .array component _ => component == comp | _ => false) = some c := by
    rw [hvm.findIdx?_eq _ (fun _ => rfl)]
    exact h2
  have hkind : k'.kind = .array comp (.array .long) := by rw [he]; exact h4
  have f1 : U.vm.findClass (FieldType.array .long).toString = some comp := by rw [hvm.findClass]; exact h1
  have f2 : U.vm.findClass ("[" ++ (FieldType.array .long).toString) = some c := by rw [hvm.findClass]; exact h5
  unfold zAOl Cond.before Cond.holds
  simp only [Cond.value]
  rw [f1, Option.bind_some]
  refine (congrArg (fun o : Option Nat => (o.bind (fun c => (U.vm.classes[c]?).map fun (k : Class) => match k.kind with | .array _ ty => decide (ty = FieldType.array .long) && decide (U.vm.findClass ("[" ++ (FieldType.array .long).toString) = some c) | _ => false) == some true)) hi).trans ?_
  simp [hk', hkind, f2]
/-- statics that hold references or null: declaring class, name, descriptor, place in the world's list -/
def zSq : List (String × String × String × Nat) := [("java/util/ArrayList", "DEFAULTCAPACITY_EMPTY_ELEMENTDATA", "[Ljava/lang/Object;", 0), ("java/lang/Integer", "DigitTens", "[B", 1), ("java/lang/Integer", "DigitOnes", "[B", 2), ("java/lang/Throwable", "UNASSIGNED_STACK", "[Ljava/lang/StackTraceElement;", 3), ("java/lang/Throwable", "SUPPRESSED_SENTINEL", "Ljava/util/List;", 4), ("jdk/internal/util/Preconditions", "SIOOBE_FORMATTER", "Ljava/util/function/BiFunction;", 5)]
/-- the String constants: class, entry, text, place -/
def zSk' : List (String × Nat × String × Nat) := [("TermsDesk$Work", 7, "", 10), ("TermsDesk$Desk", 200, "", 10), ("TermsDesk$Desk", 202, "; ", 11), ("TermsDesk$Desk", 211, ":", 12), ("TermsDesk$Desk", 227, " ", 13), ("TermsDesk$Desk", 221, "!", 14)]
/-- private methods of StringBuilder's superclass, called on StringBuilders -/
def zXw : List Cond := [.selects "java/lang/StringBuilder" ⟨"java/lang/AbstractStringBuilder", "ensureCapacityInternal", "(I)V"⟩ ⟨"java/lang/AbstractStringBuilder", "ensureCapacityInternal", "(I)V"⟩, .selects "java/lang/StringBuilder" ⟨"java/lang/AbstractStringBuilder", "newCapacity", "(I)I"⟩ ⟨"java/lang/AbstractStringBuilder", "newCapacity", "(I)I"⟩, .selects "java/lang/StringBuilder" ⟨"java/lang/AbstractStringBuilder", "putStringAt", "(ILjava/lang/String;)V"⟩ ⟨"java/lang/AbstractStringBuilder", "putStringAt", "(ILjava/lang/String;)V"⟩, .selects "java/lang/StringBuilder" ⟨"java/lang/AbstractStringBuilder", "inflateIfNeededFor", "(Ljava/lang/String;)V"⟩ ⟨"java/lang/AbstractStringBuilder", "inflateIfNeededFor", "(Ljava/lang/String;)V"⟩]
theorem zXw_ok : zXw.all (fun w => w.onTables && w.keeps) = true := rfl
theorem zXw_on {w : Cond} (h : w ∈ zXw) : w.onTables = true := by
  have h1 := List.all_eq_true.mp zXw_ok w h
  simp only [Bool.and_eq_true] at h1
  exact h1.1
theorem zXw_warm {w : Cond} {s U : State} (hW : s.WarmedH U.vm) (h : w ∈ zXw) (hZ : va_Nw w s) : va_Nw w U := word_at hW (Or.inl (List.all_eq_true.mp zXw_ok w h)) hZ
def zOwn (G : zG) : Nat → Prop := fun q => G.1 ≤ q
def zWd (G : zG) (U : State) (H : Heap) : Prop :=
  va_K G.2.1 zcl (ztys G) U ∧ (∀ w ∈ lw_tbl, zwk w = true → va_Nw w U) ∧ (∀ q ∈ zNc, va_Nc q.1 q.2 U) ∧ va_AO "java/lang/Object" U ∧ zAOl U ∧
  va_Z "java/lang/String" "COMPACT_STRINGS" "Z" (.int 1) (zOwn G) U H ∧ (∀ q ∈ zSq, va_Z q.1 q.2.1 q.2.2.1 (va_rf (G.2.2.2 q.2.2.2)) (zOwn G) U H) ∧
  vx_L Bundle.tN "UNASSIGNED_STACK" Bundle.steD (zOwn G) U H ∧ vx_L Bundle.tN "SUPPRESSED_SENTINEL" Bundle.listD (zOwn G) U H ∧
  (∀ q ∈ zSk', ∃ a, G.2.2.2 q.2.2.2 = some a ∧ vk_R q.1 q.2.1 q.2.2.1 a U) ∧ (∃ mi, G.2.2.2 6 = some mi ∧ va_Mi "[Ljava/lang/Object;" mi U) ∧ va_Dc U ∧ (∀ q ∈ zFwL, va_Fw q.1 q.2.1 q.2.2 U) ∧ (∀ w ∈ zXw, va_Nw w U)
theorem zFwL_ok : ∀ q ∈ zFwL, q.2.1.cls ≠ "java/lang/invoke/MethodHandle" ∧ q.2.1.cls ≠ "java/lang/invoke/VarHandle" := by decide +kernel
theorem zWd.kept {G : zG} {U : State} {H H1 : Heap} (h : zWd G U H) (hq : ∀ a : Nat, a < H.size → ¬ zOwn G a → H1[a]? = H[a]?) : zWd G U H1 := by
  obtain ⟨h1, h2, h3, h4, h5, h6, h7, h8, h9, h10, h11, h12, h13, h14⟩ := h
  exact ⟨h1, h2, h3, h4, h5, h6.kept hq, fun q hq' => (h7 q hq').kept hq, h8.kept hq, h9.kept hq, h10, h11, h12, h13, h14⟩
theorem zWd.warm {G : zG} {s U : State} {H : Heap} (hW : s.WarmedH U.vm) (h : zWd G s H) : zWd G U H := by
  obtain ⟨h1, h2, h3, h4, h5, h6, h7, h8, h9, h10, h11, h12, h13, h14⟩ := h
  have hvm := hW.alike
  exact ⟨va_K.moved hvm h1, fun w hw hk => zwk_warm hk hW (h2 w hw hk), fun q hq => (h3 q hq).moved hvm, va_AO.moved hvm h4, zAOl.moved hvm h5, va_Z.moved hvm h6, fun q hq => va_Z.moved hvm (h7 q hq), vx_L.moved hvm h8, vx_L.moved hvm h9,
    fun q hq => by obtain ⟨a, e1, e2⟩ := h10 q hq; exact ⟨a, e1, vk_R.warm hW e2⟩, by obtain ⟨mi, e1, e2⟩ := h11; exact ⟨mi, e1, va_Mi.moved hvm e2⟩, va_Dc.moved hvm h12, fun q hq => va_Fw.moved (zFwL_ok q hq) hvm (h13 q hq), fun w hw => zXw_warm hW hw (h14 w hw)⟩
/-- the same tables, another frame -/
theorem zWd.same {G : zG} {u U : State} {H : Heap} (hv : u.vm = U.vm) (h : zWd G u H) : zWd G U H := by
  obtain ⟨h1, h2, h3, h4, h5, h6, h7, h8, h9, h10, h11, h12, h13, h14⟩ := h
  have hvm : u.vm.Alike U.vm := by rw [hv]; exact Vm.Alike.refl _
  exact ⟨va_K.moved hvm h1, fun w hw hk => va_Nw.same (zwk_on hk) hv (h2 w hw hk), fun q hq => (h3 q hq).moved hvm, va_AO.moved hvm h4, zAOl.moved hvm h5, va_Z.moved hvm h6, fun q hq => va_Z.moved hvm (h7 q hq), vx_L.moved hvm h8, vx_L.moved hvm h9,
    fun q hq => by obtain ⟨a, e1, e2⟩ := h10 q hq; exact ⟨a, e1, vk_R.same hv.symm e2⟩, by obtain ⟨mi, e1, e2⟩ := h11; exact ⟨mi, e1, va_Mi.moved hvm e2⟩, va_Dc.moved hvm h12, fun q hq => va_Fw.moved (zFwL_ok q hq) hvm (h13 q hq), fun w hw => va_Nw.same (zXw_on hw) hv (h14 w hw)⟩
