/-! ===== rules for walks ===== -/
def glle : Lo → Lo → Prop
  | [], [] => True
  | none :: a, _ :: b => glle a b
  | some x :: a, some y :: b => x = y ∧ glle a b
  | _, _ => False
theorem glle_spec : ∀ (a b : Lo), glle a b → a.length = b.length ∧ ∀ i v, glo a i = some v → glo b i = some v := by
  intro a
  induction a with
  | nil =>
    intro b h
    cases b with
    | nil => exact ⟨rfl, fun i v q => q⟩
    | cons y b => exact h.elim
  | cons x a ih =>
    intro b h
    cases b with
    | nil => cases x <;> exact h.elim
    | cons y b =>
      cases x with
      | none =>
        obtain ⟨h1, h2⟩ := ih b h
        refine ⟨congrArg Nat.succ h1, fun i v q => ?_⟩
        cases i with
        | zero => cases q
        | succ i => exact h2 i v q
      | some x =>
        cases y with
        | none => exact h.elim
        | some y =>
          obtain ⟨h0, h⟩ := h
          subst h0
          obtain ⟨h1, h2⟩ := ih b h
          refine ⟨congrArg Nat.succ h1, fun i v q => ?_⟩
          cases i with
          | zero => exact q
          | succ i => exact h2 i v q
theorem gT_lo {m : GM} {d : Nat} {B : Nat × Nat} {Qr : List AV → Hp → Prop} {Qx : Rf → Hp → Prop} {u : Nat × Nat} {pc : Nat} {st : List AV} {h : Hp} (lo' : Lo) {lo : Lo} (hl : glle lo' lo) (H : gT m d B Qr Qx pc lo' st h u) : gT m d B Qr Qx pc lo st h u := by
  intro p l e s mi args below meth c D base ad0 h0 Hh locs ls ad cx ex e2 rp vs lk sl u1 u2
  obtain ⟨h1, h2⟩ := glle_spec _ _ hl
  exact H p l e s mi args below meth c D base ad0 h0 Hh locs ls ad cx ex e2 rp vs ⟨lk.1, lk.2.1, h1.trans lk.2.2.1, fun i v q => lk.2.2.2 i v (h2 i v q)⟩ sl u1 u2
/-- a loop that counts up, from its head on -/
theorem gT_for {m : GM} {d : Nat} {B : Nat × Nat} {Qr : List AV → Hp → Prop} {Qx : Rf → Hp → Prop} {u : Nat × Nat} {σ : Type} {pc : Nat} (lo : Nat → σ → Lo) (hp : Nat → σ → Hp) (Inv : Nat → σ → Prop) (N : Nat)
    (hend : ∀ x, Inv N x → gT m d B Qr Qx pc (lo N x) [] (hp N x) u)
    (hstep : ∀ i x, i < N → Inv i x → (∀ x' lo', Inv (i + 1) x' → glle (lo (i + 1) x') lo' → gT m d B Qr Qx pc lo' [] (hp (i + 1) x') u) → gT m d B Qr Qx pc (lo i x) [] (hp i x) u)
    (i : Nat) (x : σ) {lo0 : Lo} (hle : i ≤ N) (h0 : Inv i x) (hl : glle (lo i x) lo0) : gT m d B Qr Qx pc lo0 [] (hp i x) u := by
  have key : ∀ k i x, i + k = N → Inv i x → gT m d B Qr Qx pc (lo i x) [] (hp i x) u := by
    intro k
    induction k with
    | zero =>
      intro i x e hv
      have : i = N := e
      subst this
      exact hend x hv
    | succ k ih =>
      intro i x e hv
      exact hstep i x (by omega) hv (fun x' lo' hx' hl' => gT_lo _ hl' (ih (i + 1) x' (by omega) hx'))
  exact gT_lo _ hl (key (N - i) i x (by omega) h0)
/-- a loop that counts down to 0 and ends at -1 -/
theorem gT_dn {m : GM} {d : Nat} {B : Nat × Nat} {Qr : List AV → Hp → Prop} {Qx : Rf → Hp → Prop} {u : Nat × Nat} {σ : Type} {pc : Nat} (lo : Int32 → σ → Lo) (hp : Nat → σ → Hp) (Inv : Nat → σ → Prop)
    (hend : ∀ x, Inv 0 x → gT m d B Qr Qx pc (lo (-1) x) [] (hp 0 x) u)
    (hstep : ∀ i x, Inv (i + 1) x → (∀ x' y lo', Inv i x' → y + 1 = nI i → glle (lo y x') lo' → gT m d B Qr Qx pc lo' [] (hp i x') u) → gT m d B Qr Qx pc (lo (nI i) x) [] (hp (i + 1) x) u)
    (i : Nat) (x : σ) {lo0 : Lo} (h0 : Inv (i + 1) x) (hl : glle (lo (nI i) x) lo0) : gT m d B Qr Qx pc lo0 [] (hp (i + 1) x) u := by
  have key : ∀ i x y, Inv i x → y + 1 = nI i → gT m d B Qr Qx pc (lo y x) [] (hp i x) u := by
    intro i
    induction i with
    | zero =>
      intro x y hi hy
      have : y = -1 := by
        have e : y = y + 1 - 1 := by grind
        rw [e, hy]; rfl
      subst this
      exact hend x hi
    | succ i ih =>
      intro x y hi hy
      have : y = nI i := by
        have e : y = y + 1 - 1 := by grind
        rw [e, hy]; exact nI_pred i
      subst this
      exact hstep i x hi (fun x' y' lo' hx' hy' hl' => gT_lo _ hl' (ih x' y' hx' hy'))
  exact gT_lo _ hl (key (i + 1) x (nI i) h0 (nI_1 i))
theorem gEnter {m : GM} {d : Nat} {B : Nat × Nat} {av : List AV} {h : Hp} {Qr : List AV → Hp → Prop} {Qx : Rf → Hp → Prop} (n : Nat) (stops : List Nat) (hm : gMok m) (h0 : gmH m = []) (hs : Nat.ble (gsum av) (gmL m) = true)
    (hg : gwm m d B Qr Qx (0, 0) stops n true (gsuf 0 (gmI m)) (gent (gmL m) av) [] h) : gTM m (d + 1) B av h Qr Qx := gTM_of hm h0 hs (gT_go n stops hm hg)
/-- a method that only answers -/
def gP (m : GM) (d : Nat) (av : List AV) (h : Hp) (r : AV) : Prop := gTM m d (0, 0) av h (fun v h' => v = [r] ∧ h' = h) (fun _ _ => False)
theorem gP_use {m : GM} {d : Nat} {av : List AV} {h : Hp} {r : AV} {Q : List AV → Hp → Prop} {X : Rf → Hp → Prop} (H : gP m d av h r) (k : Q [r] h) : gTM m d (0, 0) av h Q X :=
  gTM_mono H (fun v h' q => by obtain ⟨rfl, rfl⟩ := q; exact k) (fun _ _ q => q.elim)
def gSnw (A : Nat → Nat) (h : Nat) : Bool := (List.range (A 1)).any (fun w => decide (0 < A (132 + 24 * w + h)))
def gb (b : Bool) : Int32 := bif b then 1 else 0
theorem gle {x y : Int32} {a b : Nat} (hx : x = nI a) (hy : y = nI b) (ha : a < 2 ^ 31 := by omega) (hb : b < 2 ^ 31 := by omega) : x ≤ y ↔ a ≤ b := by subst hx; subst hy; exact nI_leI ha hb
theorem glt {x y : Int32} {a b : Nat} (hx : x = nI a) (hy : y = nI b) (ha : a < 2 ^ 31 := by omega) (hb : b < 2 ^ 31 := by omega) : x < y ↔ a < b := by subst hx; subst hy; exact nI_ltI ha hb
theorem geq {x y : Int32} {a b : Nat} (hx : x = nI a) (hy : y = nI b) (ha : a < 2 ^ 31 := by omega) (hb : b < 2 ^ 31 := by omega) : x = y ↔ a = b := by subst hx; subst hy; exact nI_eq ha hb
