/-! ===== the move that a leader takes ===== -/
/-- of a play: who leads, of which kind, a pact, whether all are voted on, the plan -/
abbrev PP : Type := (Nat → Nat) × (Nat → Nat) × Option (Nat × Nat) × Bool × (Nat → Nat)
def gPin : Option (Nat × Nat) → Nat → Bool
  | none, _ => false
  | some (a, b), k => Nat.beq k a || Nat.beq k b
def gFs (B W : Nat) : Nat := gXb B (fun _ => 0) W
def gKd (z a b c d e f : Nat) : Nat := match z with
  | 0 => a
  | 1 => b
  | 2 => c
  | 3 => d
  | 4 => e
  | _ => f
theorem gKd_cg {z a b c d e e' f : Nat} (h : z = 4 → e = e') : gKd z a b c d e f = gKd z a b c d e' f := match z, h with
  | 0, _ => rfl
  | 1, _ => rfl
  | 2, _ => rfl
  | 3, _ => rfl
  | 4, h => h rfl
  | _ + 5, _ => rfl
theorem gKd_le {z a b c d e f m : Nat} (h1 : a ≤ m) (h2 : b ≤ m) (h3 : c ≤ m) (h4 : d ≤ m) (h5 : e ≤ m) (h6 : f ≤ m) : gKd z a b c d e f ≤ m := match z with
  | 0 => h1
  | 1 => h2
  | 2 => h3
  | 3 => h4
  | 4 => h5
  | _ + 5 => h6
def gChk (A : Nat → Nat) (S : Nat) (s : Bool) (P : PP) (k B : Nat) (W rA rB : Nat → Int64) (h p n : Nat) : Nat :=
  bif P.2.2.2.1 then gVw (fun m => gCt (fun q => gXb B (gBr A S s (fun j => W (q * 3900 + j)) h p n) (A 1)) m (A 2)) (A 1) else
  bif gPin P.2.2.1 k then gXb B (fun m => gSu P.2.2.1 (fun q => gBr A S s (fun j => W (q * 3900 + j)) h p n m) (A 2)) (A 1) else
  gKd (P.2.1 k) (gXb B (gBr A S s (fun j => W (k * 3900 + j)) h p n) (A 1)) (gXb B (gBr A S s (fun j => rA (k * 3900 + j)) h p n) (A 1)) (gXb B (fun m => gSu none (fun q => gBr A S s (fun j => W (q * 3900 + j)) h p n m) (A 2)) (A 1)) (gFs B (A 1)) (gXb B (gBr A S s (fun j => rB (k * 3900 + j)) h p n) (A 1)) (bif B.testBit (P.2.2.2.2 h) then P.2.2.2.2 h else gFs B (A 1))
def gCh (A : Nat → Nat) (S : Nat) (sn : Nat → Bool) (P : PP) (M : Nat → Nat → Nat → Nat → Nat) (W rA rB : Nat → Int64) (h p n : Nat) : Nat :=
  gChk A S (sn h) P (P.1 h) (gMv (M (P.1 h) h p n)) W rA rB h p n
theorem gXb_le (B : Nat) (v : Nat → Int64) (W : Nat) : gXb B v W ≤ W := by
  unfold gXb
  cases h : gBs B v false (W + 1) with
  | none => exact Nat.zero_le _
  | some b => exact Nat.le_of_lt_succ (gBs_lt h).1
theorem gXb_bit {B m0 : Nat} {v : Nat → Int64} {W : Nat} (h0 : B.testBit m0 = true) (h1 : m0 ≤ W) : gBs B v false (W + 1) = some (gXb B v W) ∧ B.testBit (gXb B v W) = true := by
  obtain ⟨b, hb⟩ := gBs_some (v := v) (l := false) h0 (W + 1) (by omega)
  unfold gXb
  rw [hb]
  exact ⟨rfl, (gBs_lt hb).2⟩
theorem gFs_min {B b : Nat} : ∀ k, gBs B (fun _ => 0) false k = some b → ∀ j, j < b → B.testBit j = false := by
  intro k
  induction k with
  | zero => intro h; exact absurd h (by simp [gBs])
  | succ k ih =>
    intro h
    cases hb : B.testBit k with
    | false => rw [gBs_o hb] at h; exact ih h
    | true =>
      cases hg : gBs B (fun _ => 0) false k with
      | some b0 =>
        rw [gBs_f0 hb hg gnlt2] at h
        rw [← hg] at h
        exact ih h
      | none =>
        rw [gBs_n hb hg] at h
        injection h with h
        subst h
        intro j hj
        cases hj2 : B.testBit j with
        | false => rfl
        | true =>
          obtain ⟨b, hb⟩ := gBs_some (v := fun _ => 0) (l := false) hj2 k hj
          rw [hg] at hb
          cases hb
theorem gVw_le2 (c : Nat → Nat) (n : Nat) : gVw c n ≤ n := gVw_le c n
theorem gFs_le (B W : Nat) : gFs B W ≤ W := gXb_le _ _ _
theorem gChk_le {A : Nat → Nat} {S : Nat} {s : Bool} {P : PP} {k B : Nat} {W rA rB : Nat → Int64} {h p n : Nat} (hpl : P.2.2.2.2 h ≤ A 1) : gChk A S s P k B W rA rB h p n ≤ A 1 := by
  unfold gChk
  cases P.2.2.2.1 with
  | true => exact gVw_le _ _
  | false =>
    cases gPin P.2.2.1 k with
    | true => exact gXb_le _ _ _
    | false =>
      refine gKd_le (gXb_le _ _ _) (gXb_le _ _ _) (gXb_le _ _ _) (gFs_le _ _) (gXb_le _ _ _) ?_
      cases B.testBit (P.2.2.2.2 h) with
      | true => exact hpl
      | false => exact gFs_le _ _
/-- what lies in the fields of the play -/
def gPf (A : Nat → Nat) (P : PP) (I : Nat → Nat → Nat → Int32) : Prop :=
  (∀ h, h < A 3 → I 129 0 h = nI (P.1 h) ∧ P.1 h < A 2) ∧ (∀ k, k < A 2 → I 130 0 k = nI (P.2.1 k) ∧ P.2.1 k < 6) ∧
  (match P.2.2.1 with
    | none => I 100 0 33 = -1 ∧ I 100 0 34 = -1
    | some (a, b) => I 100 0 33 = nI a ∧ I 100 0 34 = nI b ∧ a < A 2 ∧ b < A 2) ∧ I 100 0 35 = gb P.2.2.2.1 ∧ ∀ h, h < A 3 → I 125 0 (5 + h) = nI (P.2.2.2.2 h) ∧ P.2.2.2.2 h ≤ A 1
set_option maxRecDepth 100000 in
theorem t_chosen53 {Qr : List AV → Hp → Prop} {Qx : Rf → Hp → Prop} (d h p n k B m0 : Nat) (hB : B < 2 ^ 31) (A : Nat → Nat) (hh : h < A 3) (hp : p < 12) (hn : 0 < n) (hn2 : n < 13) (hk : k < A 2) (I : Nat → Nat → Nat → Int32) (hl : gLx I A) (hA : gLd A) (hm0 : B.testBit m0 = true) (hm1 : m0 ≤ A 1) (S : Nat) (hS : I 100 0 31 = nI S) (hS2 : S < 13) (s : Bool) (hsn : I 142 0 h = gb s) (P : PP) (hP : gPf A P I) (hv : P.2.2.2.1 = false) (hpp : gPin P.2.2.1 k = false) (L : Nat → Nat → Nat → Int64) (y : Dy)
    (hQ : Qr [gI (nI (gChk A S s P k B (L 139 0) (L 140 0) (L 141 0) h p n))] (gH I L y)) :
    gT mX12_chosen (d + 6) (0, 0) Qr Qx 53 [some gM0, some (gI (nI k)), some (gI (nI B)), some (gI (nI h)), some (gI (nI p)), some (gI (nI n)), none] [] (gH I L y) (0, 0) := by
  have a1 := hA.2.1
  have a2 := hA.2.2.1
  have a3 := hA.2.2.2.1
  obtain ⟨P1, P2, P3, P4, P5⟩ := hP
  obtain ⟨k1, k2⟩ := P2 k hk
  obtain ⟨q1, q2⟩ := P5 h hh
  have ebe := fun (b base : Nat) (hb : b = 139 ∨ b = 140 ∨ b = 141) (hba : base + 3900 ≤ 19500) => p_best (d + 1) b base B h p n false hb hba hB (by omega) hp hn hn2 A I hl hA S hS hS2 s hsn L y
  have ebit := fun (v : Nat → Int64) => (gXb_bit (v := v) hm0 hm1).1
  have efirst : gP mX12_first (d + 5) [gI (nI B)] (gH I L y) (gI (nI (gFs B (A 1)))) := by
    have e := ebit (fun _ => 0)
    exact p_first (d + 4) B _ hB (by have := gFs_le B (A 1); unfold gFs at this; omega) (gBs_lt e).2 (gFs_min _ e) _
  unfold gChk at hQ
  rw [hv, hpp] at hQ
  simp only [cond_false] at hQ
  refine gT_go 400 [] kX12_chosen ?_
  refine Exists.intro (k) (And.intro rfl (And.intro (show _ < 5 by omega) ?_))
  match hkd : P.2.1 k, k2 with
  | 0, _ =>
    rw [hkd] at hQ k1
    refine gT_sw (nI 0) k1 34 100 dX12_chosen_66 (by decide) (by decide) rfl rfl ?_
    refine gT_go 400 [] kX12_chosen ?_
    have hb := ebe 139 (k * 3900) (Or.inl rfl) (by omega)
    rw [ebit] at hb
    refine gP_use (gP_eq (by rw [← pk_mul] <;> rfl) (hb)) ?_
    exact hQ
  | 1, _ =>
    rw [hkd] at hQ k1
    refine gT_sw (nI 1) k1 52 118 dX12_chosen_66 (by decide) (by decide) rfl rfl ?_
    refine gT_go 400 [] kX12_chosen ?_
    have hb := ebe 140 (k * 3900) (Or.inr (Or.inl rfl)) (by omega)
    rw [ebit] at hb
    refine gP_use (gP_eq (by rw [← pk_mul] <;> rfl) (hb)) ?_
    exact hQ
  | 2, _ =>
    rw [hkd] at hQ k1
    refine gT_sw (nI 2) k1 70 136 dX12_chosen_66 (by decide) (by decide) rfl rfl ?_
    refine gT_go 400 [] kX12_chosen ?_
    have hb := p_bestOf d B h p n none (-1) (-1) rfl hB (by omega) hp hn hn2 A I hl hA S hS hS2 s hsn L y _ (fun _ => rfl)
    rw [ebit] at hb
    refine gP_use (hb) ?_
    exact hQ
  | 3, _ =>
    rw [hkd] at hQ k1
    refine gT_sw (nI 3) k1 83 149 dX12_chosen_66 (by decide) (by decide) rfl rfl ?_
    refine gT_go 400 [] kX12_chosen ?_
    refine gP_use (efirst) ?_
    exact hQ
  | 4, _ =>
    rw [hkd] at hQ k1
    refine gT_sw (nI 4) k1 88 154 dX12_chosen_66 (by decide) (by decide) rfl rfl ?_
    refine gT_go 400 [] kX12_chosen ?_
    have hb := ebe 141 (k * 3900) (Or.inr (Or.inr rfl)) (by omega)
    rw [ebit] at hb
    refine gP_use (gP_eq (by rw [← pk_mul] <;> rfl) (hb)) ?_
    exact hQ
  | 5, _ =>
    rw [hkd] at hQ k1
    refine gT_swd (x := I 130 0 k) (by rw [k1]; exact Or.inr (by decide)) 172 dX12_chosen_66 rfl ?_
    refine gT_go 400 [] kX12_chosen ?_
    refine Exists.intro (5 + h) (And.intro (nI_add 5 h) (And.intro (show 5 + h < 156 by omega) ?_))
    have ebt : (nI B >>> (I 125 0 (5 + h) &&& 31)) &&& 1 = gb (B.testBit (P.2.2.2.2 h)) := by rw [q1]; exact gbit hB (by omega)
    cases hbt : B.testBit (P.2.2.2.2 h) with
    | true =>
      rw [hbt] at hQ ebt
      refine And.intro (fun c => absurd ebt c) (fun _ => ?_)
      refine Exists.intro (5 + h) (And.intro (nI_add 5 h) (And.intro (show 5 + h < 156 by omega) ?_))
      refine Eq.mp ?_ hQ
      show Qr [gI (nI (P.2.2.2.2 h))] (gH I L y) = Qr [gI (I 125 0 (5 + h))] (gH I L y)
      rw [q1]
    | false =>
      rw [hbt] at hQ ebt
      refine And.intro (fun c => ?_) (fun c => absurd (ebt.symm.trans c) (by decide))
      refine gP_use (efirst) ?_
      exact hQ
  | n + 6, h => exact absurd h (by omega)
set_option maxRecDepth 100000 in
theorem p_chosen (d h p n k B m0 : Nat) (hB : B < 2 ^ 31) (A : Nat → Nat) (hh : h < A 3) (hp : p < 12) (hn : 0 < n) (hn2 : n < 13) (hk : k < A 2) (I : Nat → Nat → Nat → Int32) (hl : gLx I A) (hA : gLd A) (hm0 : B.testBit m0 = true) (hm1 : m0 ≤ A 1) (S : Nat) (hS : I 100 0 31 = nI S) (hS2 : S < 13) (s : Bool) (hsn : I 142 0 h = gb s) (P : PP) (hP : gPf A P I) (L : Nat → Nat → Nat → Int64) (y : Dy) :
    gTM mX12_chosen (d + 6) (0, 0) [gM0, gI (nI k), gI (nI B), gI (nI h), gI (nI p), gI (nI n)] (gH I L y)
      (fun v h' => v = [gI (nI (gChk A S s P k B (L 139 0) (L 140 0) (L 141 0) h p n))] ∧ ∃ I', h' = gH I' L y ∧ ∀ b, b ≠ 143 → I' b = I b) (fun _ _ => False) := by
  have a1 := hA.2.1
  have a2 := hA.2.2.1
  have a3 := hA.2.2.2.1
  have hP' := hP
  obtain ⟨P1, P2, P3, P4, P5⟩ := hP
  refine gEnter 400 [53] kX12_chosen rfl rfl ?_
  refine bB0 P.2.2.2.1 P4 (fun hv => ?_) (fun hv => ?_)
  · have h53 := fun (hpp : gPin P.2.2.1 k = false) => t_chosen53 (Qr := fun v h' => v = [gI (nI (gChk A S s P k B (L 139 0) (L 140 0) (L 141 0) h p n))] ∧ ∃ I', h' = gH I' L y ∧ ∀ b, b ≠ 143 → I' b = I b) (Qx := fun _ _ => False) d h p n k B m0 hB A hh hp hn hn2 hk I hl hA hm0 hm1 S hS hS2 s hsn P hP' hv hpp L y ⟨rfl, I, rfl, fun _ _ => rfl⟩
    match hpa : P.2.2.1, P3 with
    | none, P3 =>
      obtain ⟨z1, z2⟩ := P3
      refine And.intro (fun c => absurd (c.trans z1) (gOI_ne (by omega))) (fun _ => ?_)
      refine And.intro (fun _ => ?_) (fun c => absurd (c.trans z2) (gOI_ne (by omega)))
      exact h53 (by rw [hpa] <;> rfl)
    | some (a, b), P3 =>
      obtain ⟨z1, z2, z3, z4⟩ := P3
      have two : gPin P.2.2.1 k = true → gP mX12_bestOf (d + 5) [gM0, gI (I 100 0 33), gI (I 100 0 34), gI (nI B), gI (nI h), gI (nI p), gI (nI n)] (gH I L y) (gI (nI (gChk A S s P k B (L 139 0) (L 140 0) (L 141 0) h p n))) := by
        intro hin
        have hb := p_bestOf d B h p n P.2.2.1 (I 100 0 33) (I 100 0 34) (by rw [hpa]; exact ⟨z1, z2, by omega, by omega⟩) hB (by omega) hp hn hn2 A I hl hA S hS hS2 s hsn L y _ (fun _ => rfl)
        rw [(gXb_bit hm0 hm1).1] at hb
        unfold gChk
        rw [hv, hin]
        exact hb
      refine bEq k a rfl z1 (fun c => ?_) (fun c => ?_)
      · refine gP_use (two (by rw [hpa]; show (Nat.beq k a || Nat.beq k b) = true; rw [gbeqT c] <;> rfl)) ?_
        exact ⟨rfl, I, rfl, fun _ _ => rfl⟩
      · refine bNe k b rfl z2 (fun c2 => ?_) (fun c2 => ?_)
        · exact h53 (by rw [hpa]; show (Nat.beq k a || Nat.beq k b) = false; rw [gbeqF c, gbeqF c2] <;> rfl)
        · refine gP_use (two (by rw [hpa]; show (Nat.beq k a || Nat.beq k b) = true; rw [gbeqF c, gbeqT c2] <;> rfl)) ?_
          exact ⟨rfl, I, rfl, fun _ _ => rfl⟩
  · refine gTM_mono (p_voted d B h p n m0 hB (by omega) hp hn hn2 A I hl hA hm0 hm1 S hS hS2 s hsn L y (fun q => gBr A S s (fun j => L 139 0 (q * 3900 + j)) h p n) (fun _ => rfl)) (fun v h' q => ?_) (fun _ _ q => q.elim)
    obtain ⟨rfl, I', rfl, hI'⟩ := q
    refine ⟨?_, I', rfl, hI'⟩
    unfold gChk
    rw [hv]
    rfl
