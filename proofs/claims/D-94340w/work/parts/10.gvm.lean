/-! ===== AN ABSTRACT MACHINE OVER THE KIT: values, heaps, what a heap of the machine holds of it ===== -/
abbrev Rf : Type := Nat × Nat
abbrev AV : Type := Int32 ⊕ (Int64 ⊕ Option Rf)
abbrev gI (x : Int32) : AV := Sum.inl x
abbrev gL (x : Int64) : AV := Sum.inr (Sum.inl x)
abbrev gR (o : Option Rf) : AV := Sum.inr (Sum.inr o)
/-- references, lengths, how many of a region there are -/
abbrev Sh : Type := (Nat → Nat → Nat → Option Rf) × (Nat → Nat → Nat) × (Nat → Nat)
/-- ints, longs, shape -/
abbrev Hp : Type := (Nat → Nat → Nat → Int32) × (Nat → Nat → Nat → Int64) × Sh
abbrev hI (h : Hp) : Nat → Nat → Nat → Int32 := h.1
abbrev hL (h : Hp) : Nat → Nat → Nat → Int64 := h.2.1
abbrev hR (h : Hp) : Nat → Nat → Nat → Option Rf := h.2.2.1
abbrev hN (h : Hp) : Nat → Nat → Nat := h.2.2.2.1
abbrev hC (h : Hp) : Nat → Nat := h.2.2.2.2
def u3 {α : Type} (f : Nat → Nat → Nat → α) (b i k : Nat) (v : α) : Nat → Nat → Nat → α := fun b' i' k' => bif Nat.beq b' b && (Nat.beq i' i && Nat.beq k' k) then v else f b' i' k'
abbrev sI (h : Hp) (b i k : Nat) (v : Int32) : Hp := (u3 h.1 b i k v, h.2)
abbrev sL (h : Hp) (b i k : Nat) (v : Int64) : Hp := (h.1, u3 h.2.1 b i k v, h.2.2)
abbrev sR (h : Hp) (b i k : Nat) (v : Option Rf) : Hp := (h.1, h.2.1, u3 h.2.2.1 b i k v, h.2.2.2)
def gtr (ad : Nat → Nat → Nat) : AV → Value
  | .inl x => .int x
  | .inr (.inl x) => .long x
  | .inr (.inr none) => .null
  | .inr (.inr (some r)) => .ref (ad r.1 r.2)
def gcat : AV → Nat
  | .inr (.inl _) => 2
  | _ => 1
theorem gtr_cat (ad : Nat → Nat → Nat) (v : AV) : (gtr ad v).category = gcat v := by
  rcases v with x | x | _ | r <;> rfl
/-- a slot of the type ty -/
def gval (ad : Nat → Nat → Nat) (h : Hp) (ty : FieldType) (b i k : Nat) : Value := match ty with
  | .long => .long (hL h b i k)
  | .object _ => gtr ad (gR (hR h b i k))
  | .array _ => gtr ad (gR (hR h b i k))
  | _ => .int (hI h b i k)
/-- class numbers, places of fields, array classes by region -/
abbrev GD : Type := (Nat → ClassId) × (Nat → Nat → Nat) × (Nat → ClassId)
/-- of a Wrong its cause, stack and suppressed ones are not known -/
def gkn (ci k : Nat) : Bool := !(Nat.beq ci 12) || Nat.ble 4 k
def gmon (cell : Cell) : Prop := cell.monitor = {}
/-- places that are there -/
def gvk (h : Hp) (b i k : Nat) : Prop := match grk b with
  | some (.inr _) => k < hN h b i
  | _ => True
theorem gvk_o {h : Hp} {b i k ci : Nat} (e : grk b = some (.inl ci)) : gvk h b i k := by simp only [gvk, e]
theorem gvk_a {h : Hp} {b i k : Nat} {ty : FieldType} (e : grk b = some (.inr ty)) (hk : k < hN h b i) : gvk h b i k := by simp only [gvk, e]; exact hk
def gfv (ad : Nat → Nat → Nat) (h : Hp) (ci b i k : Nat) (v : Value) : Prop := (gwk ci = false → gkn ci k = true → v = gval ad h (gty ci k) b i k) ∧ (gwk ci = true → ∀ r, hR h b i k = some r → v = .ref (ad r.1 r.2))
def gatO (D : GD) (ad : Nat → Nat → Nat) (h : Hp) (ci b i : Nat) (H : Heap) : Prop := ∃ (r : vw_C) (cell : Cell), gcl[ci]? = some r ∧ H[ad b i]? = some cell ∧ cell.cls = D.1 ci ∧ cell.vm = .none ∧ (∀ k, k < r.2.2 → ∃ v, cell.slots[D.2.1 ci k]? = some v ∧ gfv ad h ci b i k v) ∧ gmon cell
/-- an array's length; of an empty one only what a machine asks -/
def gsz (z N : Nat) : Prop := z = N ∨ (N = 0 ∧ z.toInt32 = 0)
def gatA (D : GD) (ad : Nat → Nat → Nat) (h : Hp) (ty : FieldType) (b i : Nat) (H : Heap) : Prop := ∃ cell : Cell, H[ad b i]? = some cell ∧ cell.cls = D.2.2 b ∧ cell.vm ≠ .unknown ∧ (∀ q, cell.vm ≠ .statics q) ∧ gsz cell.slots.size (hN h b i) ∧ ∀ k, k < hN h b i → cell.slots[k]? = some (gval ad h ty b i k)
def gat (D : GD) (ad : Nat → Nat → Nat) (h : Hp) (b i : Nat) (H : Heap) : Prop := match grk b with
  | some (.inl ci) => gatO D ad h ci b i H
  | some (.inr ty) => gatA D ad h ty b i H
  | none => False
def glv (h : Hp) : AV → Prop
  | .inr (.inr (some r)) => r.2 < hC h r.1
  | _ => True
/-- what a machine heap holds of an abstract one -/
def grep (D : GD) (base : Nat) (ad : Nat → Nat → Nat) (h : Hp) (H : Heap) : Prop :=
  (∀ b i, b ≠ 2 → i < hC h b → gat D ad h b i H) ∧ (∀ b i b' i', 7 < b → i < hC h b → b' ≠ 2 → i' < hC h b' → ad b i = ad b' i' → b = b' ∧ i = i') ∧ (∀ b i, 7 < b → i < hC h b → base ≤ ad b i) ∧ (∀ b i k r, i < hC h b → gvk h b i k → hR h b i k = some r → r.2 < hC h r.1) ∧ (∀ b i, hN h b i < 2 ^ 31) ∧ base ≤ H.size ∧ (hC h 2 = gStr.length ∧ hC h 3 = 1)
def gext (h : Hp) (ad : Nat → Nat → Nat) (h' : Hp) (ad' : Nat → Nat → Nat) : Prop := ∀ b i, i < hC h b → i < hC h' b ∧ ad' b i = ad b i
theorem gext_rf (h : Hp) (ad : Nat → Nat → Nat) : gext h ad h ad := fun _ _ q => ⟨q, rfl⟩
theorem gext_tr {h h1 h2 : Hp} {ad ad1 ad2 : Nat → Nat → Nat} (a : gext h ad h1 ad1) (b : gext h1 ad1 h2 ad2) : gext h ad h2 ad2 := fun x i q => ⟨(b x i (a x i q).1).1, (b x i (a x i q).1).2.trans (a x i q).2⟩
theorem glv_ext {h h' : Hp} {ad ad' : Nat → Nat → Nat} (e : gext h ad h' ad') {v : AV} (q : glv h v) : glv h' v := by
  rcases v with x | x | _ | r
  · trivial
  · trivial
  · trivial
  · exact (e r.1 r.2 q).1
theorem gtr_ext {h h' : Hp} {ad ad' : Nat → Nat → Nat} (e : gext h ad h' ad') {v : AV} (q : glv h v) : gtr ad' v = gtr ad v := by
  rcases v with x | x | _ | r
  · rfl
  · rfl
  · rfl
  · exact congrArg Value.ref (e r.1 r.2 q).2
/-! what the tables say, and what lies in the old part of the heap -/
def gnw : Jvm.Cond → Bool
  | .fieldLinkNest _ _ _ _ _ _ => true
  | .methodLinkNest _ _ _ _ => true
  | .declares _ => true
  | .castable _ _ => true
  | _ => false
theorem gnw_warm {w : Jvm.Cond} (hw : gnw w = true) {s U : State} (hW : s.WarmedH U.vm) (h : va_Nw w s) : va_Nw w U := by
  cases w with
  | fieldLinkNest => exact va_Nw.warmF hW h
  | methodLinkNest => exact va_Nw.warmM hW h
  | declares => exact va_Nw.warmD hW h
  | castable => exact va_Nw.warmC hW h
  | _ => cases hw
