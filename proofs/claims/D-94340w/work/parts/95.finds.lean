/-! ===== the component: a state of a play ===== -/
/-- tables of all persons, through the model's numbers -/
def wOf (r : Nat → Nat → Int64) : Nat → Int64 := fun x => vw (r (x / 3900)) (x % 3900)
theorem wOf_s {r : Nat → Nat → Int64} {k j : Nat} (hj : j < 3900) : wOf r (k * 3900 + j) = vw (r k) j := by
  unfold wOf
  rw [show (k * 3900 + j) / 3900 = k by omega, show (k * 3900 + j) % 3900 = j by omega]
theorem gBw {A : Nat → Nat} {S : Nat} {s : Bool} {r : Nat → Nat → Int64} {q h p n m : Nat} (hA : gLd A) (hS : S < 13) (hh : h < 24) (hn : n < 13) (hp : p < 12) (hm : m ≤ 24) : gBr A S s (fun j => wOf r (q * 3900 + j)) h p n m = gBr A S s (vw (r q)) h p n m :=
  gBr_cg hA hS hn hp hm (fun t k ht hk => wOf_s (sN_lt (by omega) ht hk))
theorem gBr_z {A : Nat → Nat} {S : Nat} {s : Bool} {h p n m : Nat} : gBr A S s (fun _ => 0) h p n m = 0 := by
  unfold gBr
  cases s with
  | true =>
    split
    · exact Int64.mul_zero
    · show lN _ * (0 : Int64) + lN _ * (0 : Int64) = 0
      rw [Int64.mul_zero, Int64.mul_zero] <;> rfl
  | false => split <;> rfl
theorem gBr_add {A : Nat → Nat} {S : Nat} {s : Bool} {f g : Nat → Int64} {h p n m : Nat} : gBr A S s (fun j => f j + g j) h p n m = gBr A S s f h p n m + gBr A S s g h p n m := by
  unfold gBr
  cases s with
  | true =>
    split
    · exact Int64.mul_add
    · show lN _ * (_ + _) + lN _ * (_ + _) = (lN _ * _ + lN _ * _) + (lN _ * _ + lN _ * _)
      grind
  | false => split <;> rfl
theorem gBr_su {A : Nat → Nat} {S : Nat} {s : Bool} {P : Option (Nat × Nat)} {r : Nat → Nat → Int64} {h p n m : Nat} : ∀ N, gBr A S s (vw (fun j => gSu P (fun q => r q j) N)) h p n m = gSu P (fun q => gBr A S s (vw (r q)) h p n m) N := by
  intro N
  induction N with
  | zero => exact gBr_z
  | succ N ih =>
    cases hg : gIn P N with
    | true =>
      rw [gSu_t hg, ← ih, ← gBr_add]
      have e : (vw (fun j => gSu P (fun q => r q j) (N + 1))) = fun j => vw (fun j => gSu P (fun q => r q j) N) j + vw (r N) j := funext fun j => gSu_t hg
      rw [e]
    | false =>
      rw [gSu_f hg, ← ih]
      have e : (vw (fun j => gSu P (fun q => r q j) (N + 1))) = vw (fun j => gSu P (fun q => r q j) N) := funext fun j => gSu_f hg
      rw [e]
theorem gSu_two {a b : Nat} {v : Nat → Int64} (hab : a ≠ b) : ∀ N, gSu (some (a, b)) v N = (if a < N then v a else 0) + (if b < N then v b else 0) := by
  intro N
  induction N with
  | zero => rw [if_neg (Nat.not_lt_zero _), if_neg (Nat.not_lt_zero _)] <;> rfl
  | succ N ih =>
    by_cases c1 : N = a
    · subst c1
      have g : gIn (some (N, b)) N = true := by show (Nat.beq N N || Nat.beq N b) = true; rw [Nat.beq_refl] <;> rfl
      rw [gSu_t g, ih, if_neg (Nat.lt_irrefl N), if_pos (Nat.lt_succ_self N)]
      by_cases c3 : b < N
      · rw [if_pos c3, if_pos (show b < N + 1 by omega), Int64.zero_add, Int64.add_comm]
      · rw [if_neg c3, if_neg (show ¬ b < N + 1 by omega), Int64.zero_add, Int64.add_comm]
    · by_cases c2 : N = b
      · subst c2
        have g : gIn (some (a, N)) N = true := by show (Nat.beq N a || Nat.beq N N) = true; rw [Nat.beq_refl, Bool.or_true]
        rw [gSu_t g, ih, if_neg (Nat.lt_irrefl N), if_pos (Nat.lt_succ_self N), Int64.add_zero]
        by_cases c3 : a < N
        · rw [if_pos c3, if_pos (show a < N + 1 by omega)]
        · rw [if_neg c3, if_neg (show ¬ a < N + 1 by omega)]
      · have g : gIn (some (a, b)) N = false := by show (Nat.beq N a || Nat.beq N b) = false; rw [gbeqF c1, gbeqF c2] <;> rfl
        rw [gSu_f g, ih]
        by_cases c3 : a < N
        · rw [if_pos c3, if_pos (show a < N + 1 by omega)]
          by_cases c4 : b < N
          · rw [if_pos c4, if_pos (show b < N + 1 by omega)]
          · rw [if_neg c4, if_neg (show ¬ b < N + 1 by omega)]
        · rw [if_neg c3, if_neg (show ¬ a < N + 1 by omega)]
          by_cases c4 : b < N
          · rw [if_pos c4, if_pos (show b < N + 1 by omega)]
          · rw [if_neg c4, if_neg (show ¬ b < N + 1 by omega)]
section
variable {A : Nat → Nat} {S : Nat} {s : Bool} {P : PP} {k B : Nat} {W rA rB : Nat → Int64} {h p n : Nat} {V : Nat → Nat → Int64}
theorem chk_v (e : P.2.2.2.1 = true) (hV : ∀ q m, q < A 2 → m ≤ A 1 → gBr A S s (fun j => W (q * 3900 + j)) h p n m = V q m) : gChk A S s P k B W rA rB h p n = gVw (fun m => gCt (fun q => gXb B (V q) (A 1)) m (A 2)) (A 1) := by
  have e1 : (fun m => gCt (fun q => gXb B (gBr A S s (fun j => W (q * 3900 + j)) h p n) (A 1)) m (A 2)) = (fun m => gCt (fun q => gXb B (V q) (A 1)) m (A 2)) := funext fun m => gCt_cg _ (fun q hq => gXb_cg (fun m hm => hV q m hq hm))
  unfold gChk
  rw [e, e1]
  rfl
theorem chk_p (e : P.2.2.2.1 = false) (e2 : gPin P.2.2.1 k = true) (hV : ∀ q m, q < A 2 → m ≤ A 1 → gBr A S s (fun j => W (q * 3900 + j)) h p n m = V q m) : gChk A S s P k B W rA rB h p n = gXb B (fun m => gSu P.2.2.1 (fun q => V q m) (A 2)) (A 1) := by
  unfold gChk
  rw [e, e2]
  exact gXb_cg (fun m hm => gSu_cg _ (fun q hq => hV q m hq hm))
theorem chk_k (e : P.2.2.2.1 = false) (e2 : gPin P.2.2.1 k = false) : gChk A S s P k B W rA rB h p n = gKd (P.2.1 k) (gXb B (gBr A S s (fun j => W (k * 3900 + j)) h p n) (A 1)) (gXb B (gBr A S s (fun j => rA (k * 3900 + j)) h p n) (A 1)) (gXb B (fun m => gSu none (fun q => gBr A S s (fun j => W (q * 3900 + j)) h p n m) (A 2)) (A 1)) (gFs B (A 1)) (gXb B (gBr A S s (fun j => rB (k * 3900 + j)) h p n) (A 1)) (bif B.testBit (P.2.2.2.2 h) then P.2.2.2.2 h else gFs B (A 1)) := by
  unfold gChk
  rw [e, e2]
  rfl
end
/-- how all lead, in the component's rows -/
def cPy (A : Nat → Nat) (T : Nat → Option Nat) (RD : Nat → Nat) (K : Nat) (P : PP) (I : Nat → Nat → Nat → Int32) : Prop :=
  cLe T RD K A I ∧ (∀ h, P.1 h = cWho T RD K (A 2) h) ∧ (∀ k, k < 5 → I 21 0 k = nI (P.2.1 k) ∧ P.2.1 k < 6) ∧ (∀ h, h < 24 → I 22 0 h = nI (P.2.2.2.2 h) ∧ P.2.2.2.2 h ≤ A 1) ∧
  I 60 0 10 = gOI (P.2.2.1.map (·.1)) ∧ I 60 0 11 = gOI (P.2.2.1.map (·.2)) ∧ (∀ a b, P.2.2.1 = some (a, b) → a < A 2 ∧ b < A 2 ∧ a ≠ b) ∧ I 60 0 32 = gb P.2.2.2.1
/-- the move taken, of the component's tables -/
def cCh (A : Nat → Nat) (S : Nat) (R : RL) (P : PP) (L : Nat → Nat → Nat → Int64) (h p n : Nat) : Nat := gCh A S (gSn A) P (gMw A R none) (wOf (L 161)) (wOf (L 162)) (wOf (L 163)) h p n
theorem i8_n : ∀ m, m < 25 → (nI m).toInt8.toInt32 = nI m := by decide +kernel
theorem cPy_cg {A : Nat → Nat} {T : Nat → Option Nat} {RD : Nat → Nat} {K : Nat} {P : PP} {I I' : Nat → Nat → Nat → Int32} (h20 : I' 20 = I 20) (h21 : I' 21 = I 21) (h22 : I' 22 = I 22) (h23 : I' 23 = I 23) (h72 : I' 72 = I 72) (h1 : I' 60 0 10 = I 60 0 10) (h2 : I' 60 0 11 = I 60 0 11) (h3 : I' 60 0 32 = I 60 0 32) (H : cPy A T RD K P I) : cPy A T RD K P I' := by
  unfold cPy cLe at H ⊢
  rw [h20, h21, h22, h23, h72, h1, h2, h3]
  exact H
theorem gKd_0 {a b c d e f : Nat} : gKd 0 a b c d e f = a := rfl
theorem gKd_1 {a b c d e f : Nat} : gKd 1 a b c d e f = b := rfl
theorem gKd_2 {a b c d e f : Nat} : gKd 2 a b c d e f = c := rfl
theorem gKd_3 {a b c d e f : Nat} : gKd 3 a b c d e f = d := rfl
theorem gKd_4 {a b c d e f : Nat} : gKd 4 a b c d e f = e := rfl
theorem gKd_5 {a b c d e f : Nat} : gKd 5 a b c d e f = f := rfl
set_option maxRecDepth 100000 in
theorem o_choose {Qr : List AV → Hp → Prop} {Qx : Rf → Hp → Prop} (d h p n S : Nat) (A : Nat → Nat) (hA : gLd A) (hA2 : 0 < A 2) (hh : h < A 3) (hp : p < A 0) (hn : n ≤ S) (he : aEnd A h p n = 0) (hS : S < 13) (R : RL) (T : Nat → Option Nat) (RD : Nat → Nat) (K : Nat) (P : PP) (I : Nat → Nat → Nat → Int32) (L : Nat → Nat → Nat → Int64) (y : Dy) (hl : cLd y.1 S A I) (kl : cKl A S R I L) (hP : cPy A T RD K P I)
    (k152 : ∀ (x : Nat → Nat → Nat → Int32) (lo' : Lo), (∀ b, b ≠ 95 → x b = I b) → glle [some gG0, some (gI (nI (cN h p n))), some (gI (nI h)), none, none, none, none] lo' → gT mX1_finds (d + 6) (0, 0) Qr Qx 152 lo' [gI (nI (cCh A S R P L h p n))] (gH x L y) (0, 0))
    {lo0 : Lo} (h0 : glle [some gG0, some (gI (nI (cN h p n))), some (gI (nI h)), none, none, none, none] lo0) : gT mX1_finds (d + 6) (0, 0) Qr Qx 102 lo0 [] (gH I L y) (0, 0) := by
  have a0 := hA.1
  have a1 := hA.2.1
  have a2 := hA.2.2.1
  have a3 := hA.2.2.2.1
  have hh24 : h < 24 := by omega
  have hp12 : p < 12 := by omega
  have hn13 : n < 13 := by omega
  have hn0 := (aEnd_0 he).1
  obtain ⟨hle, hw, hkd, hpl, hp1, hp2, hp3, hv⟩ := hP
  have hlt := hle.lt hA2 hh24
  rw [← hw] at hlt
  obtain ⟨k, hk⟩ : ∃ k, k = P.1 h := ⟨_, rfl⟩
  rw [← hk] at hlt
  obtain ⟨m1, m2, m0, m3, m4⟩ := kl.lw hA k h p n hlt hh hp hn he
  obtain ⟨B, hB⟩ : ∃ B, B = gMv (gMw A R none k h p n) := ⟨_, rfl⟩
  have hBl : B < 2 ^ 31 := by rw [hB]; exact gMv_lt m2
  rw [← hB] at m4
  have hch : cCh A S R P L h p n = gChk A S (gSn A h) P k B (wOf (L 161)) (wOf (L 162)) (wOf (L 163)) h p n := by rw [hB, hk] <;> rfl
  have hV : ∀ (r : Nat → Nat → Int64) q m, m ≤ A 1 → gBr A S (gSn A h) (fun j => wOf r (q * 3900 + j)) h p n m = gBr A S (gSn A h) (vw (r q)) h p n m := fun r q m hm => gBw hA hS hh24 hn13 hp12 (by omega)
  have hX : ∀ (r : Nat → Nat → Int64) q, gXb B (gBr A S (gSn A h) (fun j => wOf r (q * 3900 + j)) h p n) (A 1) = gXb B (gBr A S (gSn A h) (vw (r q)) h p n) (A 1) := fun r q => gXb_cg (fun m hm => hV r q m hm)
  have hle' := hle.use (d + 4) h S hh24 hA hA2 L y hl
  rw [← hw, ← hk] at hle'
  have hmay : gP mX1_mayOf (d + 4 + 1) [gG0, gI (nI k), gI (nI (cN h p n))] (gH I L y) (gI (nI B)) := by
    rw [hB]
    exact o_mayOf (d + 4) k h p n _ (by omega) (by omega) hp12 hn13 (by omega) I L y m1
  have hlb := o_leaderBy (d + 4) k (by omega) P.2.2.1 (fun a b q => by have := hp3 a b q; omega) P.2.1 I L y hp1 hp2 (hkd k (by omega))
  refine gT_lo _ h0 ?_
  refine gT_go 400 [152] kX1_finds ?_
  refine gP_use hle' ?_
  have fin : ∀ (x : Nat → Nat → Nat → Int32) (z : Int32) (lo' : Lo), (∀ b, b ≠ 95 → x b = I b) → z = nI (cCh A S R P L h p n) → glle [some gG0, some (gI (nI (cN h p n))), some (gI (nI h)), none, none, none, none] lo' → gT mX1_finds (d + 6) (0, 0) Qr Qx 152 lo' [gI z] (gH x L y) (0, 0) := by
    intro x z lo' hx hz hl'
    rw [hz]
    exact k152 x lo' hx hl'
  refine bB0 P.2.2.2.1 hv (fun c => ?_) (fun c => ?_)
  · cases hg : gPin P.2.2.1 k with
    | true =>
      rw [if_pos hg] at hlb
      refine gP_use hlb ?_
      refine gP_use hmay ?_
      cases hpp : P.2.2.1 with
      | none => rw [hpp] at hg; cases hg
      | some ab =>
        obtain ⟨a, b⟩ := ab
        obtain ⟨b1, b2, b3⟩ := hp3 a b hpp
        rw [hpp] at hp1 hp2
        have ht := o_takes_33 (d + 1) 0 k B h p n S (fun s => L 161 a s + L 161 b s) hBl A hA hh hp12 hn13 hn0 hS I L y hl (o_pact (d + 1) k 0 a b (by omega) (by omega) I L y hp1 hp2)
        rw [(gXb_bit (v := gBr A S (gSn A h) (vw (fun s => L 161 a s + L 161 b s)) h p n) m4 m3).1] at ht
        refine gP_use ht ?_
        refine fin I _ _ (fun _ _ => rfl) (congrArg nI ?_) (by (repeat' apply And.intro) <;> first | rfl | trivial | exact congrArg Sum.inl (nI_1 _).symm | exact congrArg Sum.inl (nI_1 _).symm)
        rw [hch, chk_p c hg (V := fun q m => gBr A S (gSn A h) (vw (L 161 q)) h p n m) (fun q m _ hm => hV (L 161) q m hm), hpp]
        refine gXb_cg (fun m hm => ?_)
        rw [gSu_two b3, if_pos b1, if_pos b2]
        exact gBr_add (f := vw (L 161 a)) (g := vw (L 161 b))
    | false =>
      have hgn : ¬ gPin P.2.2.1 k = true := by rw [hg]; exact Bool.false_ne_true
      rw [if_neg hgn] at hlb
      rw [chk_k c hg] at hch
      have hk6 := (hkd k (by omega)).2
      rcases (show P.2.1 k = 0 ∨ P.2.1 k = 1 ∨ P.2.1 k = 2 ∨ P.2.1 k = 3 ∨ P.2.1 k = 4 ∨ P.2.1 k = 5 by omega) with hz | hz | hz | hz | hz | hz
      · rw [hz, gKd_0] at hch
        rw [hz] at hlb
        refine gP_use hlb ?_
        refine gP_use hmay ?_
        have ht := o_takes_30 (d + 1) 0 k B h p n S (fun s => L 161 k s) hBl A hA hh hp12 hn13 hn0 hS I L y hl (o_ahead (d + 1) k 0 (by omega) I L y)
        rw [(gXb_bit (v := gBr A S (gSn A h) (vw (fun s => L 161 k s)) h p n) m4 m3).1] at ht
        refine gP_use ht ?_
        refine fin I _ _ (fun _ _ => rfl) (congrArg nI ?_) (by (repeat' apply And.intro) <;> first | rfl | trivial | exact congrArg Sum.inl (nI_1 _).symm | exact congrArg Sum.inl (nI_1 _).symm)
        exact (hch.trans (hX (L 161) k)).symm
      · rw [hz, gKd_1] at hch
        rw [hz] at hlb
        refine gP_use hlb ?_
        refine gP_use hmay ?_
        have ht := o_takes_31 (d + 1) 0 k B h p n S (fun s => L 162 k s) hBl A hA hh hp12 hn13 hn0 hS I L y hl (o_own (d + 1) k 0 (by omega) I L y)
        rw [(gXb_bit (v := gBr A S (gSn A h) (vw (fun s => L 162 k s)) h p n) m4 m3).1] at ht
        refine gP_use ht ?_
        refine fin I _ _ (fun _ _ => rfl) (congrArg nI ?_) (by (repeat' apply And.intro) <;> first | rfl | trivial | exact congrArg Sum.inl (nI_1 _).symm | exact congrArg Sum.inl (nI_1 _).symm)
        exact (hch.trans (hX (L 162) k)).symm
      · rw [hz, gKd_2] at hch
        rw [hz] at hlb
        refine gP_use hlb ?_
        refine gP_use hmay ?_
        have ht := o_takes_34 (d + 1) 0 k B h p n S (fun s => gSu none (fun q => L 161 q s) (A 2)) hBl A hA hh hp12 hn13 hn0 hS I L y hl (o_kind (d + 1) k 0 S A hA I L y hl)
        rw [(gXb_bit (v := gBr A S (gSn A h) (vw (fun s => gSu none (fun q => L 161 q s) (A 2))) h p n) m4 m3).1] at ht
        refine gP_use ht ?_
        refine fin I _ _ (fun _ _ => rfl) (congrArg nI ?_) (by (repeat' apply And.intro) <;> first | rfl | trivial | exact congrArg Sum.inl (nI_1 _).symm | exact congrArg Sum.inl (nI_1 _).symm)
        rw [hch]
        refine gXb_cg (fun m hm => ?_)
        rw [gBr_su (A 2)]
        exact gSu_cg _ (fun q hq => (hV (L 161) q m hm).symm)
      · rw [hz, gKd_3] at hch
        rw [hz] at hlb
        refine gP_use hlb ?_
        refine gP_use hmay ?_
        refine gP_use (o_spend (d + 2) B (gFs B (A 1)) 35 0 (Or.inl rfl) hBl (gFs_low m4 m3) _ _ (gH I L y)) ?_
        exact fin I _ _ (fun _ _ => rfl) (congrArg nI hch.symm) (by (repeat' apply And.intro) <;> first | rfl | trivial | exact congrArg Sum.inl (nI_1 _).symm | exact congrArg Sum.inl (nI_1 _).symm)
      · rw [hz, gKd_4] at hch
        rw [hz] at hlb
        refine gP_use hlb ?_
        refine gP_use hmay ?_
        have ht := o_takes_32 (d + 1) 0 k B h p n S (fun s => L 163 k s) hBl A hA hh hp12 hn13 hn0 hS I L y hl (o_fearing (d + 1) k 0 (by omega) I L y)
        rw [(gXb_bit (v := gBr A S (gSn A h) (vw (fun s => L 163 k s)) h p n) m4 m3).1] at ht
        refine gP_use ht ?_
        refine fin I _ _ (fun _ _ => rfl) (congrArg nI ?_) (by (repeat' apply And.intro) <;> first | rfl | trivial | exact congrArg Sum.inl (nI_1 _).symm | exact congrArg Sum.inl (nI_1 _).symm)
        exact (hch.trans (hX (L 163) k)).symm
      · rw [hz, gKd_5] at hch
        rw [hz] at hlb
        obtain ⟨pl1, pl2⟩ := hpl h hh24
        refine gP_use hlb ?_
        refine gP_use hmay ?_
        refine gP_use (o_planned (d + 1) B (gFs B (A 1)) h p n (P.2.2.2.2 h) 0 hh24 hp12 hn13 (by omega) hBl (gFs_low m4 m3) _ I L y pl1) ?_
        exact fin I _ _ (fun _ _ => rfl) (congrArg nI hch.symm) (by (repeat' apply And.intro) <;> first | rfl | trivial | exact congrArg Sum.inl (nI_1 _).symm | exact congrArg Sum.inl (nI_1 _).symm)
  · refine gP_use hmay ?_
    refine gTM_use rfl (o_votedOn d B m0 h p n S hBl A hA hh hp12 hn13 hn0 hS m4 m3 I L y hl (fun k => gBr A S (gSn A h) (vw (fun s => L 161 k s)) h p n) (fun _ => rfl)) (fun v h' q => ?_)
    obtain ⟨rfl, x, rfl, hx⟩ := q
    refine fin x _ _ hx (congrArg nI ?_) (by (repeat' apply And.intro) <;> first | rfl | trivial | exact congrArg Sum.inl (nI_1 _).symm | exact congrArg Sum.inl (nI_1 _).symm)
    rw [hch, chk_v c (V := fun q m => gBr A S (gSn A h) (vw (L 161 q)) h p n m) (fun q m _ hm => hV (L 161) q m hm)]
theorem u3_n2 {α : Type} {f : Nat → Nat → Nat → α} {b i k : Nat} {v : α} {b1 i1 k1 : Nat} {v1 : α} {c q s : Nat} (h1 : c ≠ b) (h2 : c ≠ b1) : u3 (u3 f b i k v) b1 i1 k1 v1 c q s = f c q s := by rw [u3_ne1 h2, u3_ne1 h1]
/-- what finds writes at a state -/
def cFd (A : Nat → Nat) (S : Nat) (R : RL) (P : PP) (h p n : Nat) (I : Nat → Nat → Nat → Int32) (L : Nat → Nat → Nat → Int64) (I' : Nat → Nat → Nat → Int32) (L' : Nat → Nat → Nat → Int64) : Prop :=
  (∀ b, b ≠ 86 → b ≠ 95 → I' b = I b) ∧ (∀ s, s ≠ cN h p n → I' 86 0 s = I 86 0 s) ∧ (∀ b, b ≠ 84 → b ≠ 85 → b ≠ 161 → L' b = L b) ∧ (∀ s, s ≠ cN h p n → L' 84 0 s = L 84 0 s ∧ L' 85 0 s = L 85 0 s ∧ ∀ q, L' 161 q s = L 161 q s) ∧
  I' 86 0 (cN h p n) = (if aEnd A h p n = 0 then nI (cCh A S R P L h p n) else -1) ∧
  (∀ q, q < A 2 → L' 161 q (cN h p n) = if aEnd A h p n = 0 then gBr A S (gSn A h) (vw (L 161 q)) h p n (cCh A S R P L h p n) else gEn A (L 74 0) q h p (aEnd A h p n)) ∧
  L' 84 0 (cN h p n) = (if aEnd A h p n = 0 then gBr A S (gSn A h) (vw (L 84 0)) h p n (cCh A S R P L h p n) else if aEnd A h p n = 1 then L 74 0 h else 0) ∧
  L' 85 0 (cN h p n) = (if aEnd A h p n = 0 then gBr A S (gSn A h) (vw (L 85 0)) h p n (cCh A S R P L h p n) else if aEnd A h p n = 2 then L 74 0 h else 0)
theorem gBr_later {A : Nat → Nat} {S : Nat} {s : Bool} {r r' : Nat → Int64} {h p n m : Nat} (hA : gLd A) (hS : S < 13) (hn : n < 13) (hp : p < 12) (hm : m ≤ 24) (e : ∀ j, j ≠ cN h p n → r' j = r j) : gBr A S s (vw r') h p n m = gBr A S s (vw r) h p n m :=
  gBr_cg hA hS hn hp hm (fun t k ht hk => by rw [vw_s ht hk, vw_s ht hk]; exact e _ (fun q => by have := cN_inj ht hk hp hn q; omega))
set_option maxRecDepth 100000 in
theorem o_finds (d h p n S : Nat) (A : Nat → Nat) (hA : gLd A) (hA2 : 0 < A 2) (hh : h ≤ A 3) (hp : p < A 0) (hn : n ≤ S) (hS : S < 13) (R : RL) (T : Nat → Option Nat) (RD : Nat → Nat) (K : Nat) (P : PP) (I : Nat → Nat → Nat → Int32) (L : Nat → Nat → Nat → Int64) (y : Dy) (hl : cLd y.1 S A I) (kl : cKl A S R I L) (hP : cPy A T RD K P I) :
    gTM mX1_finds (d + 6) (0, 0) [gG0, gI (nI (cN h p n))] (gH I L y) (fun v h' => v = [] ∧ ∃ I' L', h' = gH I' L' y ∧ cFd A S R P h p n I L I' L') (fun _ _ => False) := by
  have a0 := hA.1
  have a1 := hA.2.1
  have a2 := hA.2.2.1
  have a3 := hA.2.2.2.1
  have hp12 : p < 12 := by omega
  have hn13 : n < 13 := by omega
  have hc := cN_lt (show h < 25 by omega) hp12 hn13
  have hen := aEnd_lt A h p n
  refine gEnter 400 [25, 102] kX1_finds rfl rfl ?_
  refine gP_use (o_hourOf (d + 4) h p n (by omega) hp12 hn13 (gH I L y)) ?_
  refine gP_use (o_endedOf (d + 3) h p n S (by omega) hp12 hn13 A hA I L y hl) ?_
  refine bEq (aEnd A h p n) 0 rfl rfl (fun c => ?_) (fun c => ?_)
  · have hh3 : h < A 3 := by have := (aEnd_0 c).2; omega
    have hn0 := (aEnd_0 c).1
    have hh24 : h < 24 := by omega
    have hcm : cCh A S R P L h p n ≤ A 1 := gChk_le (hP.2.2.2.1 h hh24).2
    refine o_choose d h p n S A hA hA2 hh3 hp hn c hS R T RD K P I L y hl kl hP (fun x lo' hx hl' => ?_) (by (repeat' apply And.intro) <;> first | rfl | trivial | exact congrArg Sum.inl (nI_1 _).symm | exact congrArg Sum.inl (nI_1 _).symm)
    have fx : ∀ b v, cLd y.1 S A (u3 x 86 0 b v) := fun b v => cLd_cg (fun q _ _ => (u3_ne1 (by omega)).trans (hx q (by omega))) hl
    have at166 : ∀ (z : Nat → Nat → Nat → Int32) (lo' : Lo), z = u3 x 86 0 (cN h p n) ((nI (cCh A S R P L h p n)).toInt8.toInt32).toInt8.toInt32 → glle [some gG0, some (gI (nI (cN h p n))), some (gI (nI h)), none, none, some (gI (nI (cCh A S R P L h p n))), some (gI (nI 0))] lo' → gT mX1_finds (d + 6) (0, 0) (fun v h' => v = [] ∧ ∃ I' L', h' = gH I' L' y ∧ cFd A S R P h p n I L I' L') (fun _ _ => False) 166 lo' [] (gH z L y) (0, 0) := by
     intro z lo' hz hl'
     have fz : cLd y.1 S A z := by rw [hz]; exact fx _ _
     refine gT_for (σ := Nat → Nat → Nat → Int64) (pc := 166) (lo := fun i _ => [some gG0, some (gI (nI (cN h p n))), some (gI (nI h)), none, none, some (gI (nI (cCh A S R P L h p n))), some (gI (nI i))]) (hp := fun _ w => gH z w y) (Inv := fun i w => (∀ b, b ≠ 161 → w b = L b) ∧ (∀ q s, s ≠ cN h p n → w 161 q s = L 161 q s) ∧ ∀ q, q < i → w 161 q (cN h p n) = gBr A S (gSn A h) (vw (L 161 q)) h p n (cCh A S R P L h p n)) (A 2) ?_ ?_ 0 L (Nat.zero_le _) ⟨fun _ _ => rfl, fun _ _ _ => rfl, fun q hq => absurd hq (Nat.not_lt_zero _)⟩ ?_
     · intro w ⟨w1, w2, w3⟩
       refine gT_go 400 [] kX1_finds ?_
       refine bGe (A 2) (A 2) rfl (fz.1 2 (by decide)) (fun _ => ?_) (fun q => absurd q (by omega))
       have mx1 := o_mixes (d + 2) 84 h p n _ S (Or.inl rfl) A hA hh3 hp12 hn13 hn0 hcm hS z w y fz
       refine gP_use mx1 ?_
       refine Exists.intro (cN h p n) (And.intro rfl (And.intro (show _ < 3900 by omega) ?_))
       have mx2 := o_mixes (d + 2) 85 h p n _ S (Or.inr rfl) A hA hh3 hp12 hn13 hn0 hcm hS z (u3 w 84 0 (cN h p n) (gBr A S (gSn A h) (vw (fun s => w 84 0 s)) h p n (cCh A S R P L h p n))) y fz
       refine gP_use mx2 ?_
       refine Exists.intro (cN h p n) (And.intro rfl (And.intro (show _ < 3900 by omega) ?_))
       refine ⟨rfl, z, _, rfl, fun b b1 b2 => ?_, fun s hs => ?_, fun b b1 b2 b3 => ?_, fun s hs => ⟨?_, ?_, fun q => ?_⟩, ?_, fun q hq => ?_, ?_, ?_⟩
       · rw [hz]; exact (u3_ne1 b1).trans (hx b b2)
       · rw [hz]; exact (u3_ne3 hs).trans (by rw [hx 86 (by decide)])
       · exact (u3_ne1 b2).trans ((u3_ne1 b1).trans (w1 b b3))
       · exact (congrFun (congrFun (u3_ne1 (by decide)) 0) s).trans ((u3_ne3 hs).trans (congrFun (congrFun (w1 84 (by decide)) 0) s))
       · have key : ∀ v v', u3 (u3 w 84 0 (cN h p n) v) 85 0 (cN h p n) v' 85 0 s = w 85 0 s := fun v v' => (u3_ne3 hs).trans (congrFun (congrFun (u3_ne1 (by decide)) 0) s)
         exact (key _ _).trans (congrFun (congrFun (w1 85 (by decide)) 0) s)
       · exact (show u3 (u3 w 84 0 (cN h p n) _) 85 0 (cN h p n) _ 161 q s = w 161 q s from u3_n2 (by decide) (by decide)).trans (w2 q s hs)
       · rw [hz, if_pos c]; exact u3_eq.trans (by rw [i8_n _ (by omega), i8_n _ (by omega)])
       · rw [if_pos c]
         exact (show u3 (u3 w 84 0 (cN h p n) _) 85 0 (cN h p n) _ 161 q (cN h p n) = w 161 q (cN h p n) from u3_n2 (by decide) (by decide)).trans (w3 q hq)
       · rw [if_pos c]
         refine (congrFun (congrFun (u3_ne1 (by decide)) 0) _).trans (u3_eq.trans ?_)
         rw [w1 84 (by decide)]
       · rw [if_pos c]
         refine u3_eq.trans ?_
         refine gBr_later hA hS hn13 hp12 (by omega) (fun j hj => ?_)
         exact (congrFun (congrFun (u3_ne1 (by decide)) 0) j).trans (congrFun (congrFun (w1 85 (by decide)) 0) j)
     · intro i w hi ⟨w1, w2, w3⟩ hnext
       refine gT_go 400 [166] kX1_finds ?_
       refine bGe i (A 2) rfl (fz.1 2 (by decide)) (fun q => absurd q (by omega)) (fun _ => ?_)
       refine Exists.intro (i) (And.intro rfl (And.intro (show _ < 5 by omega) ?_))
       refine gP_use (o_weighs_30 (d + 2) 0 i h p n _ S (fun s => w 161 i s) A hA hh3 hp12 hn13 hn0 hcm hS z w y fz (o_ahead (d + 2) i 0 (by omega) z w y)) ?_
       refine Exists.intro (cN h p n) (And.intro rfl (And.intro (show _ < 3900 by omega) ?_))
       refine hnext _ _ ⟨fun b hb => (u3_ne1 hb).trans (w1 b hb), fun q s hs => (u3_ne3 hs).trans (w2 q s hs), fun q hq => ?_⟩ (by (repeat' apply And.intro) <;> first | rfl | trivial | exact congrArg Sum.inl (nI_1 _).symm | exact congrArg Sum.inl (nI_1 _).symm)
       by_cases e : q = i
       · subst e
         refine u3_eq.trans ?_
         exact gBr_later hA hS hn13 hp12 (by omega) (fun j hj => w2 q j hj)
       · exact (u3_ne (fun z => e z.2.1)).trans (w3 q (by omega))
     · exact hl'
    refine gT_lo _ hl' ?_
    refine gT_go 400 [166] kX1_finds ?_
    refine Exists.intro (cN h p n) (And.intro rfl (And.intro (show _ < 3900 by omega) ?_))
    exact at166 _ _ rfl (by (repeat' apply And.intro) <;> first | rfl | trivial | exact congrArg Sum.inl (nI_1 _).symm | exact congrArg Sum.inl (nI_1 _).symm)
  · have at25 : ∀ (z : Nat → Nat → Nat → Int32) (lo' : Lo), z = u3 I 86 0 (cN h p n) ((-1 : Int32).toInt8.toInt32) → glle [some gG0, some (gI (nI (cN h p n))), some (gI (nI h)), some (gI (nI (aEnd A h p n))), some (gI (nI 0)), none, none] lo' → gT mX1_finds (d + 6) (0, 0) (fun v h' => v = [] ∧ ∃ I' L', h' = gH I' L' y ∧ cFd A S R P h p n I L I' L') (fun _ _ => False) 25 lo' [] (gH z L y) (0, 0) := by
     intro z lo' hz hl'
     have fz : cLd y.1 S A z := by rw [hz]; exact cLd_cg (fun q _ _ => u3_ne1 (by omega)) hl
     refine gT_for (σ := Nat → Nat → Nat → Int64) (pc := 25) (lo := fun i _ => [some gG0, some (gI (nI (cN h p n))), some (gI (nI h)), some (gI (nI (aEnd A h p n))), some (gI (nI i)), none, none]) (hp := fun _ w => gH z w y) (Inv := fun i w => (∀ b, b ≠ 161 → w b = L b) ∧ (∀ q s, s ≠ cN h p n → w 161 q s = L 161 q s) ∧ ∀ q, q < i → w 161 q (cN h p n) = gEn A (L 74 0) q h p (aEnd A h p n)) (A 2) ?_ ?_ 0 L (Nat.zero_le _) ⟨fun _ _ => rfl, fun _ _ _ => rfl, fun q hq => absurd hq (Nat.not_lt_zero _)⟩ (by (repeat' apply And.intro) <;> first | rfl | trivial | exact congrArg Sum.inl (nI_1 _).symm | exact congrArg Sum.inl (nI_1 _).symm)
     · intro w ⟨w1, w2, w3⟩
       have at100 : ∀ (t v : Int64) (lo' : Lo), t = (if aEnd A h p n = 1 then L 74 0 h else 0) → v = (if aEnd A h p n = 2 then L 74 0 h else 0) → glle [none, none, none, none, none, none, none] lo' → gT mX1_finds (d + 6) (0, 0) (fun v h' => v = [] ∧ ∃ I' L', h' = gH I' L' y ∧ cFd A S R P h p n I L I' L') (fun _ _ => False) 100 lo' [gL v, gI (nI (cN h p n)), gR (some (85, 0))] (gH z (u3 w 84 0 (cN h p n) t) y) (0, 0) := by
         intro t v lo' ht hv hl'
         refine gT_lo _ hl' ?_
         refine gT_go 400 [] kX1_finds ?_
         refine Exists.intro (cN h p n) (And.intro rfl (And.intro (show _ < 3900 by omega) ?_))
         refine ⟨rfl, z, _, rfl, fun b b1 b2 => ?_, fun s hs => ?_, fun b b1 b2 b3 => ?_, fun s hs => ⟨?_, ?_, fun q => ?_⟩, ?_, fun q hq => ?_, ?_, ?_⟩
         · rw [hz]; exact u3_ne1 b1
         · rw [hz]; exact u3_ne3 hs
         · exact (u3_ne1 b2).trans ((u3_ne1 b1).trans (w1 b b3))
         · exact (congrFun (congrFun (u3_ne1 (by decide)) 0) s).trans ((u3_ne3 hs).trans (congrFun (congrFun (w1 84 (by decide)) 0) s))
         · have key : ∀ v v', u3 (u3 w 84 0 (cN h p n) v) 85 0 (cN h p n) v' 85 0 s = w 85 0 s := fun v v' => (u3_ne3 hs).trans (congrFun (congrFun (u3_ne1 (by decide)) 0) s)
           exact (key _ _).trans (congrFun (congrFun (w1 85 (by decide)) 0) s)
         · exact (show u3 (u3 w 84 0 (cN h p n) _) 85 0 (cN h p n) _ 161 q s = w 161 q s from u3_n2 (by decide) (by decide)).trans (w2 q s hs)
         · rw [hz, if_neg c]; exact u3_eq.trans (by decide)
         · rw [if_neg c]
           exact (show u3 (u3 w 84 0 (cN h p n) _) 85 0 (cN h p n) _ 161 q (cN h p n) = w 161 q (cN h p n) from u3_n2 (by decide) (by decide)).trans (w3 q hq)
         · rw [if_neg c]; exact (congrFun (congrFun (u3_ne1 (by decide)) 0) _).trans (u3_eq.trans ht)
         · rw [if_neg c]; exact u3_eq.trans hv
       have at79 : ∀ (t : Int64) (lo' : Lo), t = (if aEnd A h p n = 1 then L 74 0 h else 0) → glle [some gG0, some (gI (nI (cN h p n))), some (gI (nI h)), some (gI (nI (aEnd A h p n))), none, none, none] lo' → gT mX1_finds (d + 6) (0, 0) (fun v h' => v = [] ∧ ∃ I' L', h' = gH I' L' y ∧ cFd A S R P h p n I L I' L') (fun _ _ => False) 79 lo' [gL t, gI (nI (cN h p n)), gR (some (84, 0))] (gH z w y) (0, 0) := by
         intro t lo' ht hl'
         refine gT_lo _ hl' ?_
         refine gT_go 400 [100] kX1_finds ?_
         refine Exists.intro (cN h p n) (And.intro rfl (And.intro (show _ < 3900 by omega) ?_))
         refine bNe (aEnd A h p n) 2 rfl rfl (fun c2 => ?_) (fun c2 => ?_)
         · exact at100 _ _ _ ht (if_neg c2).symm (by (repeat' apply And.intro) <;> first | rfl | trivial | exact congrArg Sum.inl (nI_1 _).symm | exact congrArg Sum.inl (nI_1 _).symm)
         · refine Exists.intro (h) (And.intro rfl (And.intro (show _ < 26 by omega) ?_))
           refine at100 _ _ _ ht ?_ (by (repeat' apply And.intro) <;> first | rfl | trivial | exact congrArg Sum.inl (nI_1 _).symm | exact congrArg Sum.inl (nI_1 _).symm)
           rw [if_pos c2]
           exact (show u3 w 84 0 (cN h p n) t 74 0 h = w 74 0 h from congrFun (congrFun (u3_ne1 (by decide)) 0) h).trans (congrFun (congrFun (w1 74 (by decide)) 0) h)
       refine gT_go 400 [79] kX1_finds ?_
       refine bGe (A 2) (A 2) rfl (fz.1 2 (by decide)) (fun _ => ?_) (fun q => absurd q (by omega))
       refine bNe (aEnd A h p n) 1 rfl rfl (fun c2 => ?_) (fun c2 => ?_)
       · exact at79 _ _ (if_neg c2).symm (by (repeat' apply And.intro) <;> first | rfl | trivial | exact congrArg Sum.inl (nI_1 _).symm | exact congrArg Sum.inl (nI_1 _).symm)
       · refine Exists.intro (h) (And.intro rfl (And.intro (show _ < 26 by omega) ?_))
         refine at79 _ _ ?_ (by (repeat' apply And.intro) <;> first | rfl | trivial | exact congrArg Sum.inl (nI_1 _).symm | exact congrArg Sum.inl (nI_1 _).symm)
         rw [if_pos c2, ← w1 74 (by decide)]
     · intro i w hi ⟨w1, w2, w3⟩ hnext
       refine gT_go 400 [25] kX1_finds ?_
       refine bGe i (A 2) rfl (fz.1 2 (by decide)) (fun q => absurd q (by omega)) (fun _ => ?_)
       refine Exists.intro (i) (And.intro rfl (And.intro (show _ < 5 by omega) ?_))
       refine gP_use (o_endsWith (d + 2) i h p n S (by omega) (by omega) hp12 hn13 A hA z w y fz) ?_
       refine Exists.intro (cN h p n) (And.intro rfl (And.intro (show _ < 3900 by omega) ?_))
       refine hnext _ _ ⟨fun b hb => (u3_ne1 hb).trans (w1 b hb), fun q s hs => (u3_ne3 hs).trans (w2 q s hs), fun q hq => ?_⟩ (by (repeat' apply And.intro) <;> first | rfl | trivial | exact congrArg Sum.inl (nI_1 _).symm | exact congrArg Sum.inl (nI_1 _).symm)
       by_cases e : q = i
       · subst e
         refine u3_eq.trans ?_
         rw [w1 74 (by decide)]
       · exact (u3_ne (fun z => e z.2.1)).trans (w3 q (by omega))
    refine Exists.intro (cN h p n) (And.intro rfl (And.intro (show _ < 3900 by omega) ?_))
    exact at25 _ _ rfl (by (repeat' apply And.intro) <;> first | rfl | trivial | exact congrArg Sum.inl (nI_1 _).symm | exact congrArg Sum.inl (nI_1 _).symm)
