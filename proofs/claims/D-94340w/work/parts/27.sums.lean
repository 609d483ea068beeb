/-! ===== who leads; the first; sums; the best of sums ===== -/
def gWho (T : Nat → Option Nat) (K N h : Nat) : Nat := match T h with
  | some k => k
  | none => h / K % N
set_option maxRecDepth 100000 in
theorem p_leader (d h : Nat) (hh : h < 24) (A : Nat → Nat) (I : Nat → Nat → Nat → Int32) (hl : gLx I A) (hA : gLd A) (hA2 : 0 < A 2) (T : Nat → Option Nat) (K : Nat) (hK : 0 < K) (hK2 : K < 13) (hT : I 125 0 (29 + h) = gOI (T h)) (hT2 : ∀ k, T h = some k → k < 5) (hKI : I 125 0 53 = nI K) (L : Nat → Nat → Nat → Int64) (y : Dy) :
    gP mX12_leader (d + 1) [gM0, gI (nI h)] (gH I L y) (gI (nI (gWho T K (A 2) h))) := by
  have a2 := hA.2.2.1
  refine gEnter 400 [] kX12_leader rfl rfl ?_
  refine Exists.intro (29 + h) (And.intro (nI_add 29 h) (And.intro (show _ < 156 by omega) ?_))
  refine And.intro (fun c => ?_) (fun c => ?_)
  · refine Exists.intro (53) (And.intro rfl (And.intro (show _ < 156 by omega) ?_))
    refine And.intro (fun q => absurd (hKI.symm.trans q) (nI_ne0 hK (by omega))) ?_
    refine Exists.intro (2) (And.intro rfl (And.intro (show _ < 708 by omega) ?_))
    refine And.intro (fun q => absurd ((hl 2 (by omega)).symm.trans q) (nI_ne0 hA2 (by omega))) ?_
    refine ⟨?_, rfl⟩
    have hn : T h = none := by
      cases q : T h with
      | none => rfl
      | some k => exact absurd (show nI k = -1 from (by rw [q] at hT; exact hT.symm.trans c)) (gOI_ne (by have := hT2 k q; omega))
    unfold gWho
    rw [hn]
    show [gI (nI h / I 125 0 53 - nI h / I 125 0 53 / I 110 0 2 * I 110 0 2)] = _
    rw [hKI, hl 2 (by omega), pk_div (by omega) hK (by omega), pk_rem (Nat.lt_of_le_of_lt (Nat.div_le_self _ _) (by omega)) hA2 (by omega)]
  · refine Exists.intro (29 + h) (And.intro (nI_add 29 h) (And.intro (show _ < 156 by omega) ?_))
    refine ⟨?_, rfl⟩
    cases q : T h with
    | none => exact absurd (by rw [q] at hT; exact hT) c
    | some k =>
      unfold gWho
      rw [q] at hT ⊢
      exact congrArg (fun z => [gI z]) hT
set_option maxRecDepth 100000 in
theorem p_first (d B m : Nat) (hB : B < 2 ^ 31) (hm : m < 32) (ht : B.testBit m = true) (hf : ∀ j, j < m → B.testBit j = false) (H : Hp) : gP mX12_first (d + 1) [gI (nI B)] H (gI (nI m)) := by
  refine gEnter 400 [2] kX12_first rfl rfl ?_
  refine gT_for (σ := Unit) (pc := 2) (lo := fun i _ => [some (gI (nI B)), some (gI (nI i))]) (hp := fun _ _ => H) (Inv := fun _ _ => True) m ?_ ?_ 0 () (Nat.zero_le _) trivial (by (repeat' apply And.intro) <;> first | rfl | trivial | exact congrArg Sum.inl (nI_1 _).symm | exact congrArg Sum.inl (nI_1 _).symm)
  · intro _ _
    refine gT_go 400 [2] kX12_first ?_
    refine bB1 (B.testBit m) (gbit hB hm) (fun _ => ⟨rfl, rfl⟩) (fun c => absurd (ht.symm.trans c) (by decide))
  · intro i _ hi _ hnext
    refine gT_go 400 [2] kX12_first ?_
    refine bB1 (B.testBit i) (gbit hB (by omega)) (fun c => absurd ((hf i hi).symm.trans c) (by decide)) (fun _ => ?_)
    exact hnext () _ trivial (by (repeat' apply And.intro) <;> first | rfl | trivial | exact congrArg Sum.inl (nI_1 _).symm | exact congrArg Sum.inl (nI_1 _).symm)
def gIn : Option (Nat × Nat) → Nat → Bool
  | none, _ => true
  | some (a, b), k => Nat.beq k a || Nat.beq k b
def gPt : Option (Nat × Nat) → Int32 → Int32 → Prop
  | none, x, _ => x = -1
  | some (a, b), x, z => x = nI a ∧ z = nI b ∧ a < 5 ∧ b < 5
def gSu (P : Option (Nat × Nat)) (v : Nat → Int64) : Nat → Int64
  | 0 => 0
  | k + 1 => bif gIn P k then gSu P v k + v k else gSu P v k
theorem gSu_t {P : Option (Nat × Nat)} {v : Nat → Int64} {k : Nat} (h : gIn P k = true) : gSu P v (k + 1) = gSu P v k + v k := by rw [gSu, h]; rfl
theorem gSu_f {P : Option (Nat × Nat)} {v : Nat → Int64} {k : Nat} (h : gIn P k = false) : gSu P v (k + 1) = gSu P v k := by rw [gSu, h]; rfl
theorem gbeqF {a b : Nat} (h : ¬ a = b) : Nat.beq a b = false := by
  cases q : Nat.beq a b with
  | true => exact absurd (Nat.eq_of_beq_eq_true q) h
  | false => rfl
theorem gbeqT {a b : Nat} (h : a = b) : Nat.beq a b = true := by subst h; exact Nat.beq_refl a
set_option maxRecDepth 100000 in
theorem p_sums (d h p n m : Nat) (P : Option (Nat × Nat)) (x z : Int32) (hP : gPt P x z) (hh : h < 24) (hp : p < 12) (hn : 0 < n) (hn2 : n < 13) (hm : m ≤ 24) (A : Nat → Nat) (I : Nat → Nat → Nat → Int32) (hl : gLx I A) (hA : gLd A) (S : Nat) (hS : I 100 0 31 = nI S) (hS2 : S < 13) (sn : Bool) (hsn : I 142 0 h = gb sn) (L : Nat → Nat → Nat → Int64) (y : Dy) :
    gP mX12_sums (d + 4) [gM0, gI x, gI z, gI (nI h), gI (nI p), gI (nI n), gI (nI m)] (gH I L y) (gL (gSu P (fun k => gBr A S sn (fun j => L 139 0 (k * 3900 + j)) h p n m) (A 2))) := by
  have a2 := hA.2.2.1
  refine gEnter 400 [6] kX12_sums rfl rfl ?_
  refine gT_for (σ := Unit) (pc := 6) (lo := fun i _ => [some gM0, some (gI x), some (gI z), some (gI (nI h)), some (gI (nI p)), some (gI (nI n)), some (gI (nI m)), some (gL (gSu P (fun k => gBr A S sn (fun j => L 139 0 (k * 3900 + j)) h p n m) i)), none, some (gI (nI i))]) (hp := fun _ _ => gH I L y) (Inv := fun _ _ => True) (A 2) ?_ ?_ 0 () (Nat.zero_le _) trivial (by (repeat' apply And.intro) <;> first | rfl | trivial | exact congrArg Sum.inl (nI_1 _).symm | exact congrArg Sum.inl (nI_1 _).symm)
  · intro _ _
    refine gT_go 400 [6] kX12_sums ?_
    refine Exists.intro (2) (And.intro rfl (And.intro (show _ < 708 by omega) ?_))
    refine bGe (A 2) (A 2) rfl (hl 2 (by omega)) (fun c => ⟨rfl, rfl⟩) (fun c => absurd c (by omega))
  · intro i _ hi _ hnext
    have hbr := p_brings d 139 (i * 3900) h p n m (Or.inl rfl) (by omega) hh hp hn hn2 hm A I hl hA S hS hS2 sn hsn L y
    refine gT_go 400 [6] kX12_sums ?_
    refine Exists.intro (2) (And.intro rfl (And.intro (show _ < 708 by omega) ?_))
    refine bGe i (A 2) rfl (hl 2 (by omega)) (fun c => absurd c (by omega)) (fun c => ?_)
    cases P with
    | none =>
      refine And.intro (fun _ => ?_) (fun c => absurd hP c)
      refine gP_use (gP_eq (by rw [← pk_mul]; rfl) (hbr)) ?_
      refine hnext () _ trivial ?_
      rw [gSu_t (show gIn none i = true from rfl)]
      exact (by (repeat' apply And.intro) <;> first | rfl | trivial | exact congrArg Sum.inl (nI_1 _).symm | exact congrArg Sum.inl (nI_1 _).symm)
    | some P =>
      obtain ⟨a, b⟩ := P
      obtain ⟨hx, hz, ha, hb⟩ := hP
      refine And.intro (fun c => absurd (hx.symm.trans c) (gOI_ne (by omega))) (fun _ => ?_)
      refine bEq i a rfl hx (fun c1 => ?_) (fun c1 => ?_)
      · refine gP_use (gP_eq (by rw [← pk_mul]; rfl) (hbr)) ?_
        refine hnext () _ trivial ?_
        rw [gSu_t (show gIn (some (a, b)) i = true by show (Nat.beq i a || Nat.beq i b) = true; rw [gbeqT c1]; rfl)]
        exact (by (repeat' apply And.intro) <;> first | rfl | trivial | exact congrArg Sum.inl (nI_1 _).symm | exact congrArg Sum.inl (nI_1 _).symm)
      · refine bNe i b rfl hz (fun c2 => ?_) (fun c2 => ?_)
        · refine hnext () _ trivial ?_
          rw [gSu_f (show gIn (some (a, b)) i = false by show (Nat.beq i a || Nat.beq i b) = false; rw [gbeqF c1, gbeqF c2]; rfl)]
          exact (by (repeat' apply And.intro) <;> first | rfl | trivial | exact congrArg Sum.inl (nI_1 _).symm | exact congrArg Sum.inl (nI_1 _).symm)
        · refine gP_use (gP_eq (by rw [← pk_mul]; rfl) (hbr)) ?_
          refine hnext () _ trivial ?_
          rw [gSu_t (show gIn (some (a, b)) i = true by show (Nat.beq i a || Nat.beq i b) = true; rw [gbeqF c1, gbeqT c2]; rfl)]
          exact (by (repeat' apply And.intro) <;> first | rfl | trivial | exact congrArg Sum.inl (nI_1 _).symm | exact congrArg Sum.inl (nI_1 _).symm)
set_option maxRecDepth 100000 in
theorem p_bestOf (d B h p n : Nat) (P : Option (Nat × Nat)) (x z : Int32) (hP : gPt P x z) (hB : B < 2 ^ 31) (hh : h < 24) (hp : p < 12) (hn : 0 < n) (hn2 : n < 13) (A : Nat → Nat) (I : Nat → Nat → Nat → Int32) (hl : gLx I A) (hA : gLd A) (S : Nat) (hS : I 100 0 31 = nI S) (hS2 : S < 13) (sn : Bool) (hsn : I 142 0 h = gb sn) (L : Nat → Nat → Nat → Int64) (y : Dy) (V : Nat → Int64) (hV : ∀ m, gSu P (fun k => gBr A S sn (fun j => L 139 0 (k * 3900 + j)) h p n m) (A 2) = V m) :
    gP mX12_bestOf (d + 5) [gM0, gI x, gI z, gI (nI B), gI (nI h), gI (nI p), gI (nI n)] (gH I L y) (gI (gOI (gBs B V false (A 1 + 1)))) := by
  have hA1 := hA.2.1
  refine gEnter 400 [9] kX12_bestOf rfl rfl ?_
  refine gT_for (σ := Unit) (pc := 9) (lo := fun i _ => [some gM0, some (gI x), some (gI z), some (gI (nI B)), some (gI (nI h)), some (gI (nI p)), some (gI (nI n)), some (gI (gOI (gBs B V false i))), some (gL (gOv V (gBs B V false i))), none, some (gI (nI i)), none, none]) (hp := fun _ _ => gH I L y) (Inv := fun _ _ => True) (A 1 + 1) ?_ ?_ 0 () (Nat.zero_le _) trivial (by (repeat' apply And.intro) <;> first | rfl | trivial | exact congrArg Sum.inl (nI_1 _).symm | exact congrArg Sum.inl (nI_1 _).symm)
  · intro _ _
    refine gT_go 400 [9] kX12_bestOf ?_
    refine Exists.intro (1) (And.intro rfl (And.intro (show _ < 708 by omega) ?_))
    refine bGt (A 1 + 1) (A 1) rfl (hl 1 (by omega)) (fun c => ⟨rfl, rfl⟩) (fun c => absurd c (by omega))
  · intro i _ hi _ hnext
    have hsu := p_sums d h p n i P x z hP hh hp hn hn2 (by omega) A I hl hA S hS hS2 sn hsn L y
    rw [hV i] at hsu
    refine gT_go 400 [9] kX12_bestOf ?_
    refine Exists.intro (1) (And.intro rfl (And.intro (show _ < 708 by omega) ?_))
    refine bGt i (A 1) rfl (hl 1 (by omega)) (fun c => absurd c (by omega)) (fun c => ?_)
    refine bB1 (B.testBit i) (gbit hB (by omega)) (fun hbt => ?_) (fun hbt => ?_)
    · refine gP_use (hsu) ?_
      cases hg : gBs B V false i with
      | none =>
        refine And.intro (fun _ => ?_) (fun c => absurd rfl c)
        refine hnext () _ trivial ?_
        rw [gBs_n hbt hg]
        exact (by (repeat' apply And.intro) <;> first | rfl | trivial | exact congrArg Sum.inl (nI_1 _).symm | exact congrArg Sum.inl (nI_1 _).symm)
      | some b0 =>
        have hb0 := gBs_lt hg
        refine And.intro (fun c => absurd c (gOI_ne (by omega))) (fun _ => ?_)
        refine bcGt (fun c => ?_) (fun c => ?_)
        · refine hnext () _ trivial ?_
          rw [gBs_f1 hbt hg c]
          exact (by (repeat' apply And.intro) <;> first | rfl | trivial | exact congrArg Sum.inl (nI_1 _).symm | exact congrArg Sum.inl (nI_1 _).symm)
        · refine hnext () _ trivial ?_
          rw [gBs_f0 hbt hg c]
          exact (by (repeat' apply And.intro) <;> first | rfl | trivial | exact congrArg Sum.inl (nI_1 _).symm | exact congrArg Sum.inl (nI_1 _).symm)
    · refine hnext () _ trivial ?_
      rw [gBs_o hbt]
      exact (by (repeat' apply And.intro) <;> first | rfl | trivial | exact congrArg Sum.inl (nI_1 _).symm | exact congrArg Sum.inl (nI_1 _).symm)
