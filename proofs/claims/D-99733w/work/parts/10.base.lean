set_option maxRecDepth 100000
/-! ===== abstract heaps ===== -/
abbrev AV : Type := Int32 ⊕ (Int64 ⊕ Option Nat)
abbrev vi (x : Int32) : AV := Sum.inl x
abbrev vl (x : Int64) : AV := Sum.inr (Sum.inl x)
abbrev vr (x : Option Nat) : AV := Sum.inr (Sum.inr x)
abbrev AH : Type := (Nat → Nat × Nat) × (Nat → Nat → Int32) × (Nat → Nat → Int64) × (Nat → Nat → Option Nat) × Nat × Nat
abbrev hK (h : AH) : Nat → Nat × Nat := h.1
abbrev hI (h : AH) : Nat → Nat → Int32 := h.2.1
abbrev hL (h : AH) : Nat → Nat → Int64 := h.2.2.1
abbrev hR (h : AH) : Nat → Nat → Option Nat := h.2.2.2.1
abbrev hn (h : AH) : Nat := h.2.2.2.2.1
abbrev hs (h : AH) : Nat := h.2.2.2.2.2
def up2 {α : Type} (f : Nat → Nat → α) (a k : Nat) (v : α) : Nat → Nat → α := fun x y => if x = a ∧ y = k then v else f x y
def upA {α : Type} (f : Nat → α) (a : Nat) (v : α) : Nat → α := fun x => if x = a then v else f x
def wI (a k : Nat) (v : Int32) (h : AH) : AH := (hK h, up2 (hI h) a k v, hL h, hR h, hn h, hs h)
def wL (a k : Nat) (v : Int64) (h : AH) : AH := (hK h, hI h, up2 (hL h) a k v, hR h, hn h, hs h)
def wR (a k : Nat) (v : Option Nat) (h : AH) : AH := (hK h, hI h, hL h, up2 (hR h) a k v, hn h, hs h)
/-- abstract addresses below NC are the start's own constants -/
def NC : Nat := 128
/-- the room of the whole run: cells made are NC, NC + 1 .. below CMX -/
def CMX : Nat := 875101
def SMX : Nat := 6471184
/-- a new cell of kind t, length len, sl slots -/
def mk (t len sl : Nat) (h : AH) : AH := (upA (hK h) (hn h) (t, len), upA (hI h) (hn h) (fun _ => 0), upA (hL h) (hn h) (fun _ => 0), upA (hR h) (hn h) (fun _ => none), hn h + 1, hs h + sl)
def alloc (t len sl : Nat) (h : AH) : Option (Option Nat × AH) := if hn h + 1 ≤ CMX ∧ hs h + sl ≤ SMX then some (some (hn h), mk t len sl h) else none
/-! what the functions are made of -/
def isO (t : Nat) (r : Option Nat) (h : AH) : Option Nat := match r with
  | some a => if (hK h a).1 = t then some a else none
  | none => none
def nn (r : Option Nat) : Option Nat := r
def gI (t k : Nat) (r : Option Nat) (h : AH) : Option Int32 := match r with
  | some a => if (hK h a).1 = t then some (hI h a k) else none
  | none => none
def gL (t k : Nat) (r : Option Nat) (h : AH) : Option Int64 := match r with
  | some a => if (hK h a).1 = t then some (hL h a k) else none
  | none => none
def gR (t k : Nat) (r : Option Nat) (h : AH) : Option (Option Nat) := match r with
  | some a => if (hK h a).1 = t then some (hR h a k) else none
  | none => none
def pI (t k : Nat) (r : Option Nat) (v : Int32) (h : AH) : Option AH := match r with
  | some a => if (hK h a).1 = t ∧ NC ≤ a then some (wI a k v h) else none
  | none => none
def pZ (t k : Nat) (r : Option Nat) (v : Int32) (h : AH) : Option AH := match r with
  | some a => if (hK h a).1 = t ∧ NC ≤ a ∧ (v = 0 ∨ v = 1) then some (wI a k v h) else none
  | none => none
def pL (t k : Nat) (r : Option Nat) (v : Int64) (h : AH) : Option AH := match r with
  | some a => if (hK h a).1 = t ∧ NC ≤ a then some (wL a k v h) else none
  | none => none
def pR (t k : Nat) (r : Option Nat) (v : Option Nat) (h : AH) : Option AH := match r with
  | some a => if (hK h a).1 = t ∧ NC ≤ a then some (wR a k v h) else none
  | none => none
def aln (r : Option Nat) (h : AH) : Option Int32 := match r with
  | some a => if 100 ≤ (hK h a).1 ∧ (hK h a).1 ≤ 107 then some (nI (hK h a).2) else none
  | none => none
def xI (t : Nat) (r : Option Nat) (i : Int32) (h : AH) : Option Int32 := match r with
  | some a => if (hK h a).1 = t ∧ ¬ i < 0 ∧ i.toNatClampNeg < (hK h a).2 then some (hI h a i.toNatClampNeg) else none
  | none => none
def xL (t : Nat) (r : Option Nat) (i : Int32) (h : AH) : Option Int64 := match r with
  | some a => if (hK h a).1 = t ∧ ¬ i < 0 ∧ i.toNatClampNeg < (hK h a).2 then some (hL h a i.toNatClampNeg) else none
  | none => none
def xR (t : Nat) (r : Option Nat) (i : Int32) (h : AH) : Option (Option Nat) := match r with
  | some a => if (hK h a).1 = t ∧ ¬ i < 0 ∧ i.toNatClampNeg < (hK h a).2 then some (hR h a i.toNatClampNeg) else none
  | none => none
def sI (t : Nat) (r : Option Nat) (i : Int32) (v : Int32) (h : AH) : Option AH := match r with
  | some a => if (hK h a).1 = t ∧ NC ≤ a ∧ ¬ i < 0 ∧ i.toNatClampNeg < (hK h a).2 then some (wI a i.toNatClampNeg v h) else none
  | none => none
def sL (t : Nat) (r : Option Nat) (i : Int32) (v : Int64) (h : AH) : Option AH := match r with
  | some a => if (hK h a).1 = t ∧ NC ≤ a ∧ ¬ i < 0 ∧ i.toNatClampNeg < (hK h a).2 then some (wL a i.toNatClampNeg v h) else none
  | none => none
def nz (y : Int32) : Option Unit := if y = 0 then none else some ()
def nzL (y : Int64) : Option Unit := if y = 0 then none else some ()
def newA (t : Nat) (n : Int32) (h : AH) : Option (Option Nat × AH) := if n < 0 then none else alloc t n.toNatClampNeg n.toNatClampNeg h
/-- what an array or field of a small type keeps of an int -/
abbrev nB (x : Int32) : Int32 := vp_nar .byte x
abbrev nCh (x : Int32) : Int32 := vp_nar .char x
/-! loops without fuel -/
def itC {σ τ : Type} (b : σ → Option (σ ⊕ τ)) : Nat → σ → Option τ
  | 0, _ => none
  | n + 1, s => match b s with
    | none => none
    | some (.inl s') => itC b n s'
    | some (.inr z) => some z
theorem itC_mono {σ τ : Type} {b : σ → Option (σ ⊕ τ)} : ∀ (n : Nat) (s : σ) (z : τ), itC b n s = some z → itC b (n + 1) s = some z
  | 0, _, _, h => by simp [itC] at h
  | n + 1, s, z, h => by
    rw [itC] at h ⊢
    cases hb : b s with
    | none => rw [hb] at h; cases h
    | some o =>
      rw [hb] at h
      cases o with
      | inl s' => exact itC_mono n s' z h
      | inr y => exact h
theorem itC_le {σ τ : Type} {b : σ → Option (σ ⊕ τ)} {n m : Nat} {s : σ} {z : τ} (h : itC b n s = some z) (hm : n ≤ m) : itC b m s = some z := by
  induction hm with
  | refl => exact h
  | step _ ih => exact itC_mono _ _ _ ih
noncomputable def loopC {σ τ : Type} (b : σ → Option (σ ⊕ τ)) (s : σ) : Option τ :=
  haveI := Classical.propDecidable (∃ n z, itC b n s = some z)
  if h : ∃ n z, itC b n s = some z then some (Classical.choose (Classical.choose_spec h)) else none
theorem loopC_of {σ τ : Type} {b : σ → Option (σ ⊕ τ)} {n : Nat} {s : σ} {z : τ} (h : itC b n s = some z) : loopC b s = some z := by
  have hx : ∃ n z, itC b n s = some z := ⟨n, z, h⟩
  unfold loopC
  rw [dif_pos hx]
  have h2 := Classical.choose_spec (Classical.choose_spec hx)
  have h3 := itC_le h2 (Nat.le_max_left _ n)
  have h4 := itC_le h (Nat.le_max_right (Classical.choose hx) n)
  exact h3.symm.trans h4
theorem loopC_it {σ τ : Type} {b : σ → Option (σ ⊕ τ)} {s : σ} {z : τ} (h : loopC b s = some z) : ∃ n, itC b n s = some z := by
  unfold loopC at h
  split at h
  · rename_i hx
    cases h
    exact ⟨_, Classical.choose_spec (Classical.choose_spec hx)⟩
  · cases h
theorem loopC_none {σ τ : Type} {b : σ → Option (σ ⊕ τ)} {s : σ} (h : b s = none) : loopC b s = none := by
  cases hl : loopC b s with
  | none => rfl
  | some z =>
    obtain ⟨n, hn⟩ := loopC_it hl
    cases n with
    | zero => cases hn
    | succ n => rw [itC, h] at hn; cases hn
theorem loopC_go {σ τ : Type} {b : σ → Option (σ ⊕ τ)} {s s' : σ} (h : b s = some (.inl s')) : loopC b s = loopC b s' := by
  cases hl : loopC b s' with
  | some z =>
    obtain ⟨n, hn⟩ := loopC_it hl
    exact loopC_of (n := n + 1) (by rw [itC, h]; exact hn)
  | none =>
    cases hm : loopC b s with
    | none => rfl
    | some z =>
      obtain ⟨n, hn⟩ := loopC_it hm
      cases n with
      | zero => cases hn
      | succ n =>
        rw [itC, h] at hn
        rw [loopC_of hn] at hl
        cases hl
theorem loopC_end {σ τ : Type} {b : σ → Option (σ ⊕ τ)} {s : σ} {z : τ} (h : b s = some (.inr z)) : loopC b s = some z := loopC_of (n := 1) (by rw [itC, h])
/-- the walk of a loop: from each state to the next, or out -/
theorem loopC_walk {σ τ : Type} {b : σ → Option (σ ⊕ τ)} {Wh : σ → Prop} {PK : τ → Prop}
    (hb : ∀ s o, b s = some o → (match o with | .inl s' => Wh s' | .inr z => PK z) → Wh s) : ∀ s z, loopC b s = some z → PK z → Wh s := by
  intro s z h hz
  obtain ⟨n, hn⟩ := loopC_it h
  clear h
  induction n generalizing s with
  | zero => cases hn
  | succ n ih =>
    rw [itC] at hn
    cases ho : b s with
    | none => rw [ho] at hn; cases hn
    | some o =>
      rw [ho] at hn
      cases o with
      | inl s' => exact hb s _ ho (ih s' hn)
      | inr y => cases hn; exact hb s _ ho hz
theorem ob {α β : Type} {x : Option α} {f : α → Option β} {z : β} (h : x.bind f = some z) : ∃ y, x = some y ∧ f y = some z := Option.bind_eq_some_iff.mp h
def b2 {α β : Type} (x : Option (α × AH)) (f : α → AH → Option β) : Option β := x.bind fun p => f p.1 p.2
theorem ob2 {α β : Type} {x : Option (α × AH)} {f : α → AH → Option β} {z : β} (h : b2 x f = some z) : ∃ v h1, x = some (v, h1) ∧ f v h1 = some z := by
  obtain ⟨⟨v, h1⟩, e1, e2⟩ := ob h
  exact ⟨v, h1, e1, e2⟩
/-! ===== the machine's side ===== -/
abbrev GT : Type := State × (Nat → ClassId) × (Nat → Nat → Nat) × (Nat → ClassId) × Nat × (Nat → Nat)
abbrev g_s (G : GT) : State := G.1
abbrev g_C (G : GT) : Nat → ClassId := G.2.1
abbrev g_I (G : GT) : Nat → Nat → Nat := G.2.2.1
abbrev g_A (G : GT) : Nat → ClassId := G.2.2.2.1
abbrev g_B (G : GT) : Nat := G.2.2.2.2.1
abbrev g_ad (G : GT) : Nat → Nat := G.2.2.2.2.2
def rho (G : GT) (a : Nat) : Nat := if a < NC then g_ad G a else g_B G + (a - NC)
def cv (G : GT) (v : AV) : Value := match v with
  | .inl x => .int x
  | .inr (.inl x) => .long x
  | .inr (.inr r) => va_rf (r.map (rho G))
def cvp (G : GT) (q : Nat × AV) : Nat × Value := (q.1, cv G q.2)
def cat2 (v : AV) : Bool := match v with
  | .inr (.inl _) => true
  | _ => false
/-- the classes by number: X0 .. X22 as in the names, 23 ArrayList, 24 String, 25 StringBuilder -/
abbrev clT : List vw_C := [(RX0, TX0, 18), (RX1, TX1, 9), (RX2, TX2, 8), (RX3, TX3, 8), (RX4, TX4, 1), (RX5, TX5, 10), (RX6, TX6, 10), (RX7, TX7, 117), (RX8, TX8, 2), (RX9, TX9, 1), (RX10, TX10, 2), (RX8, TX8, 2), (RX12, TX12, 2), (RX13, TX13, 3), (RX14, TX14, 1), (RX15, TX15, 1), (RX16, TX16, 3), (RX8, TX8, 2), (RX18, TX18, 2), (RX19, TX19, 1), (RX20, TX8, 0), (RX21, TX21, 3), (RX22, TX22, 5), (RJ2, TJ2, 3), (RJ9, TJ9, 4), (RJ15, TJ15, 4)]
def tyT (ci : Nat) : Nat → FieldType := match ci with
  | 0 => tyX0
  | 1 => tyX1
  | 2 => tyX2
  | 3 => tyX3
  | 4 => tyX4
  | 5 => tyX5
  | 6 => tyX6
  | 7 => tyX7
  | 8 => tyX8
  | 9 => tyX9
  | 10 => tyX10
  | 11 => tyX8
  | 12 => tyX12
  | 13 => tyX13
  | 14 => tyX14
  | 15 => tyX15
  | 16 => tyX16
  | 17 => tyX8
  | 18 => tyX18
  | 19 => tyX19
  | 20 => tyX8
  | 21 => tyX21
  | 22 => tyX22
  | 23 => tyJ2
  | 24 => tyJ9
  | _ => tyJ15
/-- statics that are read: class, name, descriptor, type, place in the pseudo-cell 120 -/
def stT : List (String × String × String × FieldType × Nat) := [("java/lang/String", "COMPACT_STRINGS", "Z", .boolean, 0), ("java/lang/StringUTF16", "$assertionsDisabled", "Z", .boolean, 1), ("java/lang/StringUTF16", "HI_BYTE_SHIFT", "I", .int, 2), ("java/lang/StringUTF16", "LO_BYTE_SHIFT", "I", .int, 3), ("java/util/ArrayList", "EMPTY_ELEMENTDATA", "[Ljava/lang/Object;", .object "", 4), ("java/util/ArrayList", "DEFAULTCAPACITY_EMPTY_ELEMENTDATA", "[Ljava/lang/Object;", .object "", 5), ("TurnedBoards", "ASKED", "[Ljava/lang/String;", .object "", 6), ("TurnedBoards", "LOOKED", "[Ljava/lang/String;", .object "", 7), ("TurnedBoards", "TOLD_OF", "[Ljava/lang/String;", .object "", 8), ("TurnedBoards", "OWN", "[Ljava/lang/String;", .object "", 9), ("java/lang/Throwable", "UNASSIGNED_STACK", "[Ljava/lang/StackTraceElement;", .object "", 10), ("java/lang/Throwable", "SUPPRESSED_SENTINEL", "Ljava/util/List;", .object "", 11), ("jdk/internal/util/ArraysSupport", "JLA", "Ljdk/internal/access/JavaLangAccess;", .object "", 12), ("jdk/internal/util/Preconditions", "SIOOBE_FORMATTER", "Ljava/util/function/BiFunction;", .object "", 13)]
/-- text constants: class, entry, text, abstract address -/
def srT : List (String × Nat × String × Nat) := [("TurnedBoards", 392, "more", 44), ("TurnedBoards", 394, "less", 32), ("TurnedBoards", 396, "ink", 24), ("TurnedBoards", 397, "column", 12), ("TurnedBoards", 399, "row", 62), ("TurnedBoards", 401, "place", 58), ("TurnedBoards", 402, "near", 48), ("TurnedBoards", 404, "year", 68), ("TurnedBoards", 405, "number", 52), ("TurnedBoards", 407, "long", 38), ("TurnedBoards", 413, "line", 36), ("TurnedBoards", 414, "at", 6), ("TurnedBoards", 418, "first", 16), ("TurnedBoards", 420, "last", 28), ("TurnedBoards", 422, "often", 54), ("TurnedBoards", 424, "total", 64), ("TurnedBoards", 426, "most", 46), ("TurnedBoards", 428, "least", 30), ("TurnedBoards", 433, "letter", 34), ("TurnedBoards", 435, "hand", 22), ("TurnedBoards", 436, "is", 26), ("TurnedBoards", 437, "word", 66), ("TurnedBoards", 438, "board", 10), ("TurnedBoards", 440, "doubt", 14), ("TurnedBoards", 441, "rain", 60), ("TurnedBoards", 443, "blank", 8), ("TurnedBoards", 445, "hail", 20), ("TurnedBoards", 446, "or", 56), ("TurnedBoards", 448, "and", 4), ("TurnedBoards", 450, "not", 50), ("TurnedBoards", 452, "all", 2), ("TurnedBoards", 453, "min", 42), ("TurnedBoards", 454, "max", 40), ("TurnedBoards", 455, "forgive", 18), ("TurnedBoards$Reader", 133, "hand", 22), ("TurnedBoards$Reader", 153, "is", 26), ("TurnedBoards$Reader", 191, "letter", 34), ("TurnedBoards$Reader", 192, "word", 66), ("TurnedBoards$Reader", 193, "board", 10), ("TurnedBoards$Reader", 202, "doubt", 14), ("TurnedBoards$Reader", 204, "rain", 60), ("TurnedBoards$Reader", 206, "forgive", 18), ("TurnedBoards$Reader", 208, "blank", 8), ("TurnedBoards$Reader", 210, "hail", 20), ("TurnedBoards$Reader", 284, "min", 42), ("TurnedBoards$Reader", 286, "max", 40), ("TurnedBoards$Reader", 299, "or", 56), ("TurnedBoards$Reader", 308, "and", 4), ("TurnedBoards$Reader", 310, "not", 50), ("TurnedBoards$Reader", 317, "all", 2), ("java/lang/String", 7, "", 0)]
/-- the kinds of array by number -/
def atT (t : Nat) : FieldType := match t with
  | 100 => .int
  | 101 => .byte
  | 102 => .char
  | 103 => .long
  | 104 => .object "java/lang/Object"
  | 105 => .object "java/lang/String"
  | 106 => .array .int
  | _ => .object "TurnedBoards$State"
def fv (G : GT) (ty : FieldType) (h : AH) (a k : Nat) : Value := match ty with
  | .long => .long (hL h a k)
  | .object _ => va_rf ((hR h a k).map (rho G))
  | .array _ => va_rf ((hR h a k).map (rho G))
  | _ => .int (hI h a k)
/-- an array's length: of the start's own only what the instructions see of it -/
def SzOk (c : Cell) (a n : Nat) : Prop := n ≤ c.slots.size ∧ c.slots.size.toInt32 = nI n ∧ (NC ≤ a → c.slots.size = n)
theorem SzOk.ex {c : Cell} {a n : Nat} (h : c.slots.size = n) : SzOk c a n := ⟨Nat.le_of_eq h.symm, by rw [h]; rfl, fun _ => h⟩
theorem SzOk.eq {c c' : Cell} {a n : Nat} (h : c'.slots.size = c.slots.size) (d : SzOk c a n) : SzOk c' a n := ⟨by rw [h]; exact d.1, by rw [h]; exact d.2.1, fun q => by rw [h]; exact d.2.2 q⟩
def cellOf (G : GT) (h : AH) (a : Nat) (c : Cell) : Prop := c.vm ≠ .unknown ∧ (∀ q, c.vm ≠ .statics q) ∧ (NC ≤ a → c.vm = .none) ∧
  (∀ q, clT[(hK h a).1]? = some q → c.cls = g_C G (hK h a).1 ∧ ∀ k, k < q.2.2 → c.slots[g_I G (hK h a).1 k]? = some (fv G (tyT (hK h a).1 k) h a k)) ∧
  (100 ≤ (hK h a).1 → ((g_s G).isArrayOf c (atT (hK h a).1) ∧ (NC ≤ a → c.cls = g_A G (hK h a).1)) ∧ SzOk c a (hK h a).2 ∧ ∀ j, j < (hK h a).2 → c.slots[j]? = some (fv G (atT (hK h a).1) h a j))
/-- statics: the pseudo-cell 120 holds them -/
def StC (G : GT) (h : AH) : Prop := ∀ e ∈ stT, va_Z e.1 e.2.1 e.2.2.1 (fv G e.2.2.2.1 h 120 e.2.2.2.2) (fun _ => False) (g_s G) (g_s G).heap
/-- constants of which only the reference is known, no cell -/
abbrev noK (a : Nat) : Prop := a = 116 ∨ (121 ≤ a ∧ a < NC)
def Abs (G : GT) (h : AH) (H : Heap) : Prop := H.size = g_B G + (hn h - NC) ∧ (NC ≤ hn h ∧ hn h ≤ CMX ∧ hs h ≤ SMX) ∧ ((∀ q, q < g_B G → H[q]? = (g_s G).heap[q]?) ∧ StC G h) ∧ (∀ a, hn h ≤ a ∨ noK a → (hK h a).1 = 999) ∧
  ∀ a, (hK h a).1 ≠ 999 → ∃ c, H[rho G a]? = some c ∧ cellOf G h a c
/-- what the tables say of an array class -/
def AK (G : GT) (s : State) (t : Nat) : Prop := ∃ (kA : Class) (comp : ClassId), s.vm.findClass ("[" ++ (atT t).toString) = some (g_A G t) ∧ s.vm.classes[g_A G t]? = some kA ∧ kA.kind = .array comp (atT t) ∧
  (∀ C, atT t = .object C → s.vm.findClass C = some comp) ∧ (∀ T, atT t = .array T → s.vm.findClass (FieldType.array T).toString = some comp)
def Glob (G : GT) : Prop := (∃ A, ∀ w ∈ lw_tbl, w.before A (g_s G) = true) ∧ (∀ (ci : Nat) (q : vw_C), clT[ci]? = some q → u_Kn (g_s G) q.1 q.2.1 q.2.2 (g_C G ci) (g_I G ci)) ∧
  (∀ t, 100 ≤ t → t ≤ 107 → AK G (g_s G) t) ∧ (∀ a, a < NC → ¬ noK a → g_ad G a < g_B G) ∧ g_B G = (g_s G).heap.size ∧ (∀ e ∈ srT, vk_R e.1 e.2.1 e.2.2.1 (g_ad G e.2.2.2) (g_s G)) ∧ va_Mi "[Ljava/lang/Object;" (g_ad G 116) (g_s G)
theorem AK.moved {G : GT} {u U : State} {t : Nat} (hvm : u.vm.Alike U.vm) (h : AK G u t) : AK G U t := by
  obtain ⟨kA, comp, h1, h2, h3, h4, h5⟩ := h
  obtain ⟨k', hk', he⟩ := hvm.2.2 _ _ h2
  exact ⟨k', comp, by rw [hvm.findClass]; exact h1, hk', by rw [he]; exact h3, fun C hC => by rw [hvm.findClass]; exact h4 C hC, fun T hT => by rw [hvm.findClass]; exact h5 T hT⟩
abbrev CX : Type := Program × Launch × Env × Room × State × MethodId × Array Value × List Frame × Method × Code
def rmOf (d : Nat) (h : AH) : Room := { frames := d, cells := CMX - hn h, slots := SMX - hs h, locals := 64 * d }
def RmLe (r R : Room) : Prop := r.frames ≤ R.frames ∧ r.cells ≤ R.cells ∧ r.slots ≤ R.slots ∧ r.locals ≤ R.locals
/-- what holds all through a method's body -/
def Ok (G : GT) (X : CX) (own : String) (cc : ByteArray) (nL d : Nat) (h0 : AH) : Prop :=
  X.1.tables.exec = Jvm.exec ∧ X.2.2.2.2.2.2.2.2.2.code = cc ∧ X.2.2.2.2.2.2.2.2.2.maxLocals = nL ∧ X.2.2.2.2.1.vm.findClass own = some X.2.2.2.2.2.1.cls ∧ (g_s G).WarmedH X.2.2.2.2.1.vm ∧ X.2.2.2.2.2.2.2.2.1.locks = false ∧ Glob G ∧ RmLe (rmOf d h0) X.2.2.2.1
def V (G : GT) (X : CX) (nL : Nat) (h0 : AH) (Q : State → Prop) (h : AH) (pc : Nat) (lv : List (Nat × AV)) (st : List AV) : Prop :=
  ∀ (H : Heap) (locs : List Loc) (ls : Array Slot), Abs G h H → lv_has ls nL (lv.map (cvp G)) → (∀ q ∈ locs, g_B G ≤ q.base) → hn h0 ≤ hn h ∧ hs h0 ≤ hs h →
    W X.1 X.2.1 X.2.2.1 X.2.2.2.1 X.2.2.2.2.1 X.2.2.2.2.2.1 X.2.2.2.2.2.2.1 X.2.2.2.2.2.2.2.1 X.2.2.2.2.2.2.2.2.1 X.2.2.2.2.2.2.2.2.2 H locs (hn h - hn h0) (hs h - hs h0) Q (F0 X.2.2.2.2.2.1 pc ls (st.map (cv G)))
/-! locals -/
def lget (lv : List (Nat × AV)) (i : Nat) : Option AV := match lv with
  | [] => none
  | (j, v) :: t => cond (Nat.beq j i) (some v) (lget t i)
def ldel (lv : List (Nat × AV)) (i : Nat) : List (Nat × AV) := match lv with
  | [] => []
  | (j, v) :: t => cond (Nat.beq j i || (cat2 v && Nat.beq (j + 1) i)) (ldel t i) ((j, v) :: ldel t i)
abbrev lset (lv : List (Nat × AV)) (i : Nat) (v : AV) : List (Nat × AV) := (i, v) :: ldel lv i
abbrev lset2 (lv : List (Nat × AV)) (i : Nat) (v : AV) : List (Nat × AV) := (i, v) :: ldel (ldel lv i) (i + 1)
def lle (lv : List (Nat × AV)) (m : List (Nat × AV)) : Prop := match m with
  | [] => True
  | (i, v) :: t => lget lv i = some v ∧ lle lv t
theorem lget_mem : ∀ {lv : List (Nat × AV)} {i : Nat} {v : AV}, lget lv i = some v → (i, v) ∈ lv
  | [], i, v, h => by simp [lget] at h
  | (j, w) :: t, i, v, h => by
    rw [lget] at h
    cases hb : Nat.beq j i with
    | true =>
      rw [hb] at h
      have e := Nat.eq_of_beq_eq_true hb
      cases h
      subst e
      exact List.mem_cons_self
    | false =>
      rw [hb] at h
      exact List.mem_cons_of_mem _ (lget_mem h)
theorem ldel_mem : ∀ {lv : List (Nat × AV)} {i : Nat} {q : Nat × AV}, q ∈ ldel lv i → q ∈ lv ∧ q.1 ≠ i ∧ ¬ (cat2 q.2 = true ∧ q.1 + 1 = i)
  | [], i, q, h => by simp [ldel] at h
  | (j, w) :: t, i, q, h => by
    rw [ldel] at h
    cases hb : (Nat.beq j i || (cat2 w && Nat.beq (j + 1) i)) with
    | true =>
      rw [hb] at h
      obtain ⟨h1, h2⟩ := ldel_mem (lv := t) h
      exact ⟨List.mem_cons_of_mem _ h1, h2⟩
    | false =>
      rw [hb] at h
      rcases List.mem_cons.mp h with e | h
      · subst e
        rw [Bool.or_eq_false_iff, Bool.and_eq_false_iff] at hb
        refine ⟨List.mem_cons_self, Nat.ne_of_beq_eq_false hb.1, fun hc => ?_⟩
        rcases hb.2 with z | z
        · rw [z] at hc; cases hc.1
        · exact Nat.ne_of_beq_eq_false z hc.2
      · obtain ⟨h1, h2⟩ := ldel_mem (lv := t) h
        exact ⟨List.mem_cons_of_mem _ h1, h2⟩
theorem lv_lget {G : GT} {ls : Array Slot} {nL : Nat} {lv : List (Nat × AV)} {i : Nat} {v : AV} (h : lv_has ls nL (lv.map (cvp G))) (hg : lget lv i = some v) : ls[i]? = some (.val (cv G v)) :=
  h.2.2 (i, cv G v) (List.mem_map.mpr ⟨(i, v), lget_mem hg, rfl⟩)
theorem lle_mem : ∀ {lv m : List (Nat × AV)}, lle lv m → ∀ q ∈ m, q ∈ lv
  | lv, [], _, q, hq => by cases hq
  | lv, (i, v) :: t, h, q, hq => by
    rcases List.mem_cons.mp hq with e | hq
    · subst e; exact lget_mem h.1
    · exact lle_mem h.2 q hq
theorem lv_lle {G : GT} {ls : Array Slot} {nL : Nat} {lv m : List (Nat × AV)} (h : lv_has ls nL (lv.map (cvp G))) (hm : lle lv m) : lv_has ls nL (m.map (cvp G)) :=
  ⟨h.1, h.2.1, fun q hq => by
    obtain ⟨x, hx, rfl⟩ := List.mem_map.mp hq
    exact h.2.2 _ (List.mem_map.mpr ⟨x, lle_mem hm x hx, rfl⟩)⟩
theorem cat_cv (G : GT) (v : AV) : (cv G v).category = if cat2 v then 2 else 1 := by
  rcases v with x | x | r
  · rfl
  · rfl
  · cases r <;> rfl
theorem lv_lset {G : GT} {ls : Array Slot} {nL : Nat} {lv : List (Nat × AV)} {i : Nat} {v : AV} (h : lv_has ls nL ((i, cv G v) :: (lv.map (cvp G)).filter (fun q => !(q.1 == i) && !(q.1 + 1 == i && q.2.category == 2)))) : lv_has ls nL ((lset lv i v).map (cvp G)) :=
  ⟨h.1, h.2.1, fun q hq => by
    obtain ⟨x, hx, rfl⟩ := List.mem_map.mp hq
    rcases List.mem_cons.mp hx with e | hx
    · subst e; exact h.2.2 _ List.mem_cons_self
    · obtain ⟨h1, h2, h3⟩ := ldel_mem hx
      refine h.2.2 _ (List.mem_cons_of_mem _ (List.mem_filter.mpr ⟨List.mem_map.mpr ⟨x, h1, rfl⟩, ?_⟩))
      simp only [cvp, Bool.and_eq_true, Bool.not_eq_true', beq_eq_false_iff_ne, ne_eq, Bool.and_eq_false_iff]
      refine ⟨h2, ?_⟩
      by_cases hc : x.1 + 1 = i
      · refine Or.inr ?_
        rw [cat_cv]
        cases hz : cat2 x.2 with
        | true => exact absurd ⟨hz, hc⟩ h3
        | false => simp
      · exact Or.inl hc⟩
theorem lv_lset2 {G : GT} {ls : Array Slot} {nL : Nat} {lv : List (Nat × AV)} {i : Nat} {v : AV} (h : lv_has ls nL ((i, cv G v) :: (lv.map (cvp G)).filter (fun q => !(q.1 == i) && (!(q.1 == i + 1) && !(q.1 + 1 == i && q.2.category == 2))))) : lv_has ls nL ((lset2 lv i v).map (cvp G)) :=
  ⟨h.1, h.2.1, fun q hq => by
    obtain ⟨x, hx, rfl⟩ := List.mem_map.mp hq
    rcases List.mem_cons.mp hx with e | hx
    · subst e; exact h.2.2 _ List.mem_cons_self
    · obtain ⟨h0, h4, -⟩ := ldel_mem hx
      obtain ⟨h1, h2, h3⟩ := ldel_mem h0
      refine h.2.2 _ (List.mem_cons_of_mem _ (List.mem_filter.mpr ⟨List.mem_map.mpr ⟨x, h1, rfl⟩, ?_⟩))
      simp only [cvp, Bool.and_eq_true, Bool.not_eq_true', beq_eq_false_iff_ne, ne_eq, Bool.and_eq_false_iff]
      refine ⟨h2, h4, ?_⟩
      by_cases hc : x.1 + 1 = i
      · refine Or.inr ?_
        rw [cat_cv]
        cases hz : cat2 x.2 with
        | true => exact absurd ⟨hz, hc⟩ h3
        | false => simp
      · exact Or.inl hc⟩
