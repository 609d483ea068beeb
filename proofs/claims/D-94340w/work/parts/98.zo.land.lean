/-! ===== Bytes: signs and numbers, for both readers (printed by gen_bytes.py) ===== -/
/-- what now() answers -/
def bAt (T : Nat → Nat) (N a : Nat) : Int32 := bif Nat.blt a N then nI (T a) else -1
theorem bAt_in {T : Nat → Nat} {N a : Nat} (h : a < N) : bAt T N a = nI (T a) := by unfold bAt; rw [nblt_t h] <;> rfl
theorem bAt_out {T : Nat → Nat} {N a : Nat} (h : N ≤ a) : bAt T N a = -1 := by unfold bAt; rw [nblt_f h] <;> rfl
/-- a number out of its digits, as the component has it -/
def nW (T : Nat → Nat) (s : Nat) : Nat → Nat
  | 0 => 0
  | i + 1 => if 100000 < 10 * nW T s i + T (s + i) - 48 then 100000 else 10 * nW T s i + T (s + i) - 48
theorem tDg_b {c : Nat} (h : tDg c = true) : 48 ≤ c ∧ c ≤ 57 := by
  have h2 := (Bool.and_eq_true _ _).mp h
  exact ⟨Nat.le_of_ble_eq_true h2.1, Nat.le_of_ble_eq_true h2.2⟩
theorem tSm_b {c : Nat} (h : tSm c = true) : 97 ≤ c ∧ c ≤ 122 := by
  have h2 := (Bool.and_eq_true _ _).mp h
  exact ⟨Nat.le_of_ble_eq_true h2.1, Nat.le_of_ble_eq_true h2.2⟩
theorem nW_V {T : Nat → Nat} {s : Nat} : ∀ i, (∀ j, j < i → tDg (T (s + j)) = true) → nW T s i ≤ 100000 ∧ (nV T s i ≤ 9999 → nW T s i = nV T s i) ∧ (9999 < nV T s i → 9999 < nW T s i) := by
  intro i
  induction i with
  | zero => intro _; exact ⟨Nat.zero_le _, fun _ => rfl, fun h => absurd h (by show ¬ 9999 < 0; omega)⟩
  | succ i ih =>
    intro h
    obtain ⟨h1, h2, h3⟩ := ih (fun j hj => h j (by omega))
    obtain ⟨h4, h5⟩ := tDg_b (h i (by omega))
    rw [nW, nV]
    by_cases q : 9999 < nV T s i
    · have := h3 q
      rw [if_pos q]
      refine ⟨by split <;> omega, fun z => absurd z (by omega), fun _ => by split <;> omega⟩
    · have := h2 (by omega)
      rw [if_neg q, if_neg (by omega)]
      exact ⟨by omega, fun _ => by omega, fun _ => by omega⟩
/-- a number that may not be x -/
def rNumX (T : Nat → Nat) (N lo hi : Nat) (x : Option Nat) (a : Nat) : RR Nat := match rNum T N lo hi a with
  | .inl kp => .inl kp
  | .inr q => if x = some q.1 then .inl (2, sk T N a) else .inr q
theorem rNumX_0 {T : Nat → Nat} {N lo hi a : Nat} : rNumX T N lo hi none a = rNum T N lo hi a := by
  unfold rNumX
  cases rNum T N lo hi a with
  | inl kp => rfl
  | inr q => exact if_neg (fun z => by cases z)
theorem rNumX_W {T : Nat → Nat} {N lo hi a : Nat} {x : Option Nat} (hhi : hi ≤ 10000) (h : ∀ j, j < dE T N (sk T N a) - sk T N a → tDg (T (sk T N a + j)) = true) :
    rNumX T N lo hi x a = if sk T N a < dE T N (sk T N a) then (if lo ≤ nW T (sk T N a) (dE T N (sk T N a) - sk T N a) ∧ nW T (sk T N a) (dE T N (sk T N a) - sk T N a) < hi then (if x = some (nW T (sk T N a) (dE T N (sk T N a) - sk T N a)) then .inl (2, sk T N a) else .inr (nW T (sk T N a) (dE T N (sk T N a) - sk T N a), dE T N (sk T N a))) else .inl (2, sk T N a)) else .inl (1, sk T N a) := by
  obtain ⟨h1, h2, h3⟩ := nW_V _ h
  generalize nW T (sk T N a) (dE T N (sk T N a) - sk T N a) = w at h1 h2 h3 ⊢
  unfold rNumX rNum
  by_cases q : sk T N a < dE T N (sk T N a)
  · rw [nblt_t q, if_pos q]
    by_cases z : nV T (sk T N a) (dE T N (sk T N a) - sk T N a) ≤ 9999
    · have e := h2 z
      rw [← e]
      by_cases z2 : lo ≤ w ∧ w < hi
      · rw [if_pos z2, Nat.ble_eq_true_of_le z2.1, nblt_t z2.2] <;> rfl
      · rw [if_neg z2]
        have : (Nat.ble lo w && Nat.blt w hi) = false := by
          rcases Nat.lt_or_ge w lo with c | c
          · rw [nble_f c] <;> rfl
          · rw [nblt_f (show hi ≤ w by omega), Bool.and_false]
        rw [this] <;> rfl
    · have e := h3 (by omega)
      rw [if_neg (by omega), nblt_f (show hi ≤ nV T (sk T N a) (dE T N (sk T N a) - sk T N a) by omega), Bool.and_false]
      rfl
  · rw [nblt_f (by omega), if_neg q] <;> rfl
/-- a reading that answers a number -/
def rdQ (b i : Nat) (r : RR Nat) (I : Nat → Nat → Nat → Int32) (L : Nat → Nat → Nat → Int64) (y : Dy) : List AV → Hp → Prop := fun v h' => ∃ n a', r = .inr (n, a') ∧ v = [gI (nI n)] ∧ h' = gH (u3 I b i 2 (nI a')) L y
/-- one that answers nothing -/
def rdU (b i : Nat) (r : RR Unit) (I : Nat → Nat → Nat → Int32) (L : Nat → Nat → Nat → Int64) (y : Dy) : List AV → Hp → Prop := fun v h' => ∃ a', r = .inr ((), a') ∧ v = [] ∧ h' = gH (u3 I b i 2 (nI a')) L y
def rdX {α : Type} (b i : Nat) (r : RR α) (I : Nat → Nat → Nat → Int32) (L : Nat → Nat → Nat → Int64) (y : Dy) : Rf → Hp → Prop := fun q h' => ∃ kp, r = .inl kp ∧ wX Gw (Mb b i) kp I L y q h'
theorem nW_st {z : Nat} {X : Int32} (h : X = nI z) (hz : z < 2 ^ 31) : (if (100000 : Int32) < X then (100000 : Int32) else X) = nI (if 100000 < z then 100000 else z) := by
  subst h
  have e : ((100000 : Int32) < nI z) ↔ 100000 < z := nI_ltI (a := 100000) (by decide) hz
  by_cases c : 100000 < z
  · rw [if_pos c, if_pos (e.mpr c)] <;> rfl
  · rw [if_neg c, if_neg (fun q => c (e.mp q))]

set_option maxRecDepth 100000 in
theorem o8_now (d i : Nat) (T : Nat → Nat) (N a : Nat) (I : Nat → Nat → Nat → Int32) (L : Nat → Nat → Nat → Int64) (y : Dy) (H : bS 8 i T N a I y) :
    gTM mX13_now (d + 1) (0, 0) [gR (some (8, i))] (gH I L y) (fun v h' => v = [gI (bAt T N (sk T N a))] ∧ h' = gH (u3 I 8 i 2 (nI (sk T N a))) L y) (fun _ _ => False) := by
  obtain ⟨h0, hR, h1, hN, h2, ha, hT⟩ := id H
  obtain ⟨k1, k2, k3, k4⟩ := sk_ok (T := T) ha
  have m1 : ∀ n, u3 I 8 i 2 (nI n) 8 i 1 = nI N := fun n => (u3_ne3 (by decide)).trans h1
  have m66 : ∀ n j, u3 I 8 i 2 (nI n) 66 0 j = I 66 0 j := fun n j => by rw [u3_ne1 (by decide)]
  have fin : ∀ lo', glle [some (gR (some (8, i)))] lo' → gT mX13_now (d + 1) (0, 0) (fun v h' => v = [gI (bAt T N (sk T N a))] ∧ h' = gH (u3 I 8 i 2 (nI (sk T N a))) L y) (fun _ _ => False) 38 lo' [] (gH (u3 I 8 i 2 (nI (sk T N a))) L y) (0, 0) := by
    intro lo' hl
    refine gT_lo _ hl ?_
    refine gT_go 400 [53] kX13_now ?_
    refine bGe (sk T N a) N u3_eq (m1 _) (fun q => ?_) (fun q => ?_)
    · exact ⟨by rw [bAt_out q]; rfl, rfl⟩
    · refine gT_ref hR ?_
      refine gT_go 400 [] kX13_now ?_
      refine Exists.intro (sk T N a) (And.intro (u3_eq) (And.intro (show sk T N a < 600 by omega) ?_))
      obtain ⟨t1, t2⟩ := hT _ q
      refine ⟨congrArg (fun z => [gI z]) ?_, rfl⟩
      show u3 I 8 i 2 (nI (sk T N a)) 66 0 (sk T N a) &&& 255 = _
      rw [m66, t1, (gBy_f _ t2).2.2, bAt_in q]
  have main : gT mX13_now (d + 1) (0, 0) (fun v h' => v = [gI (bAt T N (sk T N a))] ∧ h' = gH (u3 I 8 i 2 (nI (sk T N a))) L y) (fun _ _ => False) 0 [some (gR (some (8, i)))] [] (gH (u3 I 8 i 2 (nI a)) L y) (0, 0) := by
    refine gT_for (σ := Unit) (pc := 0) (lo := fun _ _ => [some (gR (some (8, i)))]) (hp := fun n _ => gH (u3 I 8 i 2 (nI n)) L y) (Inv := fun n _ => a ≤ n) (sk T N a) ?_ ?_ a () k1 (Nat.le_refl _) (by (repeat' apply And.intro) <;> first | rfl | trivial | exact congrArg Sum.inl (nI_1 _).symm | exact congrArg Sum.inl (nI_1 _).symm)
    · intro _ _
      refine gT_go 400 [0, 15, 38] kX13_now ?_
      refine bGe (sk T N a) N u3_eq (m1 _) (fun q => fin _ (by (repeat' apply And.intro) <;> first | rfl | trivial | exact congrArg Sum.inl (nI_1 _).symm | exact congrArg Sum.inl (nI_1 _).symm)) (fun q => ?_)
      refine gT_ref hR ?_
      refine gT_go 400 [0, 38] kX13_now ?_
      refine Exists.intro (sk T N a) (And.intro (u3_eq) (And.intro (show sk T N a < 600 by omega) ?_))
      obtain ⟨t1, t2⟩ := hT _ q
      refine bByNe (T (sk T N a)) 32 t2 (by decide) ((m66 (sk T N a) _).trans t1) rfl (fun _ => fin _ (by (repeat' apply And.intro) <;> first | rfl | trivial | exact congrArg Sum.inl (nI_1 _).symm | exact congrArg Sum.inl (nI_1 _).symm)) (fun w => absurd w (k4 q))
    · intro n _ hn hv hnext
      have hnN : n < N := by omega
      refine gT_go 400 [0, 15, 38] kX13_now ?_
      refine bGe n N u3_eq (m1 _) (fun q => absurd q (by omega)) (fun _ => ?_)
      refine gT_ref hR ?_
      refine gT_go 400 [0, 38] kX13_now ?_
      refine Exists.intro (n) (And.intro (u3_eq) (And.intro (show n < 600 by omega) ?_))
      obtain ⟨t1, t2⟩ := hT _ hnN
      refine bByNe (T n) 32 t2 (by decide) ((m66 n _).trans t1) rfl (fun w => absurd (k3 n hv hn) w) (fun _ => ?_)
      have eh : u3 (u3 I 8 i 2 (nI n)) 8 i 2 (u3 I 8 i 2 (nI n) 8 i 2 + 1) = u3 I 8 i 2 (nI (n + 1)) := by rw [u3_u3, u3_eq]; exact congrArg (u3 I 8 i 2) (nI_1 n)
      have k := hnext () [some (gR (some (8, i)))] (by omega) (by (repeat' apply And.intro) <;> first | rfl | trivial | exact congrArg Sum.inl (nI_1 _).symm | exact congrArg Sum.inl (nI_1 _).symm)
      rw [← eh] at k
      exact k
  rw [show u3 I 8 i 2 (nI a) = I from u3_self h2] at main
  exact gTM_of kX13_now rfl rfl main
theorem o8_nowS (d i : Nat) (T : Nat → Nat) (N a : Nat) (I : Nat → Nat → Nat → Int32) (L : Nat → Nat → Nat → Int64) (y : Dy) (H : bS 8 i T N a I y) (hs : sk T N a = a) : gP mX13_now (d + 1) [gR (some (8, i))] (gH I L y) (gI (bAt T N a)) := by
  have k := o8_now d i T N a I L y H
  rw [hs, show u3 I 8 i 2 (nI a) = I from u3_self H.2.2.2.2.1] at k
  exact k
set_option maxRecDepth 100000 in
theorem o8_isDigit (d i : Nat) (T : Nat → Nat) (N a : Nat) (I : Nat → Nat → Nat → Int32) (L : Nat → Nat → Nat → Int64) (y : Dy) (H : bS 8 i T N a I y) : gP mX13_isDigit (d + 1) [gR (some (8, i))] (gH I L y) (gI (gb (tDg (cAt T N a)))) := by
  obtain ⟨h0, hR, h1, hN, h2, ha, hT⟩ := id H
  refine gEnter 400 [15, 29, 43] kX13_isDigit rfl rfl ?_
  have at43 : tDg (cAt T N a) = false → ∀ lo', glle [none] lo' → gT mX13_isDigit (d + 1) (0, 0) (fun v h' => v = [gI (gb (tDg (cAt T N a)))] ∧ h' = gH I L y) (fun _ _ => False) 43 lo' [] (gH I L y) (0, 0) := by
    intro e lo' hl
    refine gT_lo _ hl ?_
    refine gT_go 400 [] kX13_isDigit ?_
    exact ⟨Or.inl rfl, by rw [e]; rfl, rfl⟩
  refine bGe a N h2 h1 (fun q => at43 (by rw [cAt_out q] <;> rfl) _ (by (repeat' apply And.intro) <;> first | rfl | trivial | exact congrArg Sum.inl (nI_1 _).symm | exact congrArg Sum.inl (nI_1 _).symm)) (fun q => ?_)
  obtain ⟨t1, t2⟩ := hT _ q
  refine gT_ref hR ?_
  refine gT_go 400 [29, 43] kX13_isDigit ?_
  refine Exists.intro (a) (And.intro (h2) (And.intro (show a < 600 by omega) ?_))
  refine bByLt (T a) 48 t2 (by decide) t1 rfl (fun w => at43 (by rw [cAt_in q]; exact tDg_lo (by omega)) _ (by (repeat' apply And.intro) <;> first | rfl | trivial | exact congrArg Sum.inl (nI_1 _).symm | exact congrArg Sum.inl (nI_1 _).symm)) (fun w => ?_)
  refine gT_ref hR ?_
  refine gT_go 400 [43] kX13_isDigit ?_
  refine Exists.intro (a) (And.intro (h2) (And.intro (show a < 600 by omega) ?_))
  refine bByGt (T a) 57 t2 (by decide) t1 rfl (fun w2 => at43 (by rw [cAt_in q]; exact tDg_lo (by omega)) _ (by (repeat' apply And.intro) <;> first | rfl | trivial | exact congrArg Sum.inl (nI_1 _).symm | exact congrArg Sum.inl (nI_1 _).symm)) (fun w2 => ?_)
  exact ⟨Or.inr rfl, by rw [cAt_in q, tDg_in w.1 (by omega)]; rfl, rfl⟩
set_option maxRecDepth 100000 in
theorem o8_isSmall (d i k : Nat) (hk : k < 1000) (T : Nat → Nat) (N a : Nat) (I : Nat → Nat → Nat → Int32) (L : Nat → Nat → Nat → Int64) (y : Dy) (H : bS 8 i T N a I y) : gP mX13_isSmall (d + 1) [gR (some (8, i)), gI (nI k)] (gH I L y) (gI (gb (tSm (cAt T N k)))) := by
  obtain ⟨h0, hR, h1, hN, h2, ha, hT⟩ := id H
  refine gEnter 400 [12, 23, 34] kX13_isSmall rfl rfl ?_
  have at34 : tSm (cAt T N k) = false → ∀ lo', glle [none, none] lo' → gT mX13_isSmall (d + 1) (0, 0) (fun v h' => v = [gI (gb (tSm (cAt T N k)))] ∧ h' = gH I L y) (fun _ _ => False) 34 lo' [] (gH I L y) (0, 0) := by
    intro e lo' hl
    refine gT_lo _ hl ?_
    refine gT_go 400 [] kX13_isSmall ?_
    exact ⟨Or.inl rfl, by rw [e]; rfl, rfl⟩
  refine bGe k N rfl h1 (fun q => at34 (by rw [cAt_out q] <;> rfl) _ (by (repeat' apply And.intro) <;> first | rfl | trivial | exact congrArg Sum.inl (nI_1 _).symm | exact congrArg Sum.inl (nI_1 _).symm)) (fun q => ?_)
  obtain ⟨t1, t2⟩ := hT _ q
  refine gT_ref hR ?_
  refine gT_go 400 [23, 34] kX13_isSmall ?_
  refine Exists.intro (k) (And.intro rfl (And.intro (show _ < 600 by omega) ?_))
  refine bByLt (T k) 97 t2 (by decide) t1 rfl (fun w => at34 (by rw [cAt_in q]; exact tSm_lo (by omega)) _ (by (repeat' apply And.intro) <;> first | rfl | trivial | exact congrArg Sum.inl (nI_1 _).symm | exact congrArg Sum.inl (nI_1 _).symm)) (fun w => ?_)
  refine gT_ref hR ?_
  refine gT_go 400 [34] kX13_isSmall ?_
  refine Exists.intro (k) (And.intro rfl (And.intro (show _ < 600 by omega) ?_))
  refine bByGt (T k) 122 t2 (by decide) t1 rfl (fun w2 => at34 (by rw [cAt_in q]; exact tSm_lo (by omega)) _ (by (repeat' apply And.intro) <;> first | rfl | trivial | exact congrArg Sum.inl (nI_1 _).symm | exact congrArg Sum.inl (nI_1 _).symm)) (fun w2 => ?_)
  exact ⟨Or.inr rfl, by rw [cAt_in q, tSm_in w.1 (by omega)]; rfl, rfl⟩
set_option maxRecDepth 100000 in
theorem o8_right (d i : Nat) (g : Bool) (T : Nat → Nat) (N a : Nat) (I : Nat → Nat → Nat → Int32) (L : Nat → Nat → Nat → Int64) (y : Dy) (H : bS 8 i T N a I y) :
    gTM mX13_right (d + 7) (1, 8) [gR (some (8, i)), gI (gb g)] (gH I L y) (fun v h' => g = true ∧ v = [] ∧ h' = gH I L y) (fun q h' => g = false ∧ wX Gw (Mb 8 i) (1, a) I L y q h') := by
  refine gEnter 400 [4] kX13_right rfl rfl ?_
  refine bB1 g rfl (fun c => ⟨c, rfl, rfl⟩) (fun c => ?_)
  refine gT_new 37 (by decide) rfl rfl (by decide) dX13_right_4 q912 q913 q159 (by decide) (by decide) ?_
  rw [gNw_gHn 0 rfl (fun z q => by cases q)]
  refine gT_go 400 [] kX13_right ?_
  have e2 : fNw I 0 37 (y.2.2.2.2 37) 8 i 2 = nI a := (congrFun (congrFun (fNw_ne (by decide)) i) 2).trans H.2.2.2.2.1
  refine gTM_use (by rw [← e2] <;> rfl) (o_wrNew d (y.2.2.2.2 37) (nI 1) (nI a) (fNw I 0 37 (y.2.2.2.2 37)) (fNw L 0 37 (y.2.2.2.2 37)) (yNw y 37 0) (gRX_nwN rfl)) (fun v h' q => ?_)
  obtain ⟨rfl, rfl⟩ := q
  exact gTX_out rfl ⟨c, wX_new 1 a rfl⟩
set_option maxRecDepth 100000 in
theorem o8_few (d i : Nat) (g : Bool) (T : Nat → Nat) (N a : Nat) (I : Nat → Nat → Nat → Int32) (L : Nat → Nat → Nat → Int64) (y : Dy) (H : bS 8 i T N a I y) :
    gTM mX13_few (d + 7) (1, 8) [gR (some (8, i)), gI (gb g)] (gH I L y) (fun v h' => g = true ∧ v = [] ∧ h' = gH I L y) (fun q h' => g = false ∧ wX Gw (Mb 8 i) (3, a) I L y q h') := by
  refine gEnter 400 [4] kX13_few rfl rfl ?_
  refine bB1 g rfl (fun c => ⟨c, rfl, rfl⟩) (fun c => ?_)
  refine gT_new 37 (by decide) rfl rfl (by decide) dX13_few_4 q912 q913 q159 (by decide) (by decide) ?_
  rw [gNw_gHn 0 rfl (fun z q => by cases q)]
  refine gT_go 400 [] kX13_few ?_
  have e2 : fNw I 0 37 (y.2.2.2.2 37) 8 i 2 = nI a := (congrFun (congrFun (fNw_ne (by decide)) i) 2).trans H.2.2.2.2.1
  refine gTM_use (by rw [← e2] <;> rfl) (o_wrNew d (y.2.2.2.2 37) (nI 3) (nI a) (fNw I 0 37 (y.2.2.2.2 37)) (fNw L 0 37 (y.2.2.2.2 37)) (yNw y 37 0) (gRX_nwN rfl)) (fun v h' q => ?_)
  obtain ⟨rfl, rfl⟩ := q
  exact gTX_out rfl ⟨c, wX_new 3 a rfl⟩
set_option maxRecDepth 100000 in
theorem o8_skip (d i n : Nat) (T : Nat → Nat) (N a : Nat) (I : Nat → Nat → Nat → Int32) (L : Nat → Nat → Nat → Int64) (y : Dy) (H : bS 8 i T N a I y) : gTM mX13_skip (d + 1) (0, 0) [gR (some (8, i)), gI (nI n)] (gH I L y) (fun v h' => v = [] ∧ h' = gH (u3 I 8 i 2 (nI (a + n))) L y) (fun _ _ => False) := by
  have h2 := H.2.2.2.2.1
  refine gEnter 400 [] kX13_skip rfl rfl ?_
  refine ⟨rfl, ?_⟩
  have e : I 8 i 2 + nI n = nI (a + n) := by rw [h2]; exact nI_add a n
  rw [← e]
set_option maxRecDepth 100000 in
theorem o8_at (d i : Nat) (T : Nat → Nat) (N a : Nat) (I : Nat → Nat → Nat → Int32) (L : Nat → Nat → Nat → Int64) (y : Dy) (H : bS 8 i T N a I y) : gP mX13_at (d + 1) [gR (some (8, i))] (gH I L y) (gI (nI a)) := by
  refine gEnter 400 [] kX13_at rfl rfl ?_
  exact ⟨congrArg (fun z => [gI z]) H.2.2.2.2.1, rfl⟩
set_option maxRecDepth 100000 in
theorem o8_sign (d i c : Nat) (hc : c < 256) (hc0 : 0 < c) (T : Nat → Nat) (N a : Nat) (I : Nat → Nat → Nat → Int32) (L : Nat → Nat → Nat → Int64) (y : Dy) (H : bS 8 i T N a I y) :
    gTM mX13_sign (d + 8) (1, 8) [gR (some (8, i)), gI (nI c)] (gH I L y) (rdU 8 i (rSign T N c a) I L y) (rdX 8 i (rSign T N c a) I L y) := by
  have ha := H.2.2.2.2.2.1
  obtain ⟨k1, k2, k3, k4⟩ := sk_ok (T := T) ha
  have Hs := H.at (by decide) k2
  have at14 : ∀ (g : Bool) (lo' : Lo), g = (Nat.blt (sk T N a) N && Nat.beq (T (sk T N a)) c) → glle [some (gR (some (8, i))), none] lo' → gT mX13_sign (d + 8) (1, 8) (rdU 8 i (rSign T N c a) I L y) (rdX 8 i (rSign T N c a) I L y) 14 lo' [gI (gb g), gR (some (8, i))] (gH (u3 I 8 i 2 (nI (sk T N a))) L y) (0, 0) := by
    intro g lo' hg hl
    refine gT_lo _ hl ?_
    refine gT_callV (k := (1, 8)) rfl rfl rfl rfl rfl dX13_sign_14 (o8_right d i g T N (sk T N a) (u3 I 8 i 2 (nI (sk T N a))) L y Hs) (by decide) (by decide) (fun v h' q => ?_) (fun q h' hq => gTX_out rfl ?_)
    · obtain ⟨g1, rfl, rfl⟩ := q
      refine gT_go 400 [] kX13_sign ?_
      refine ⟨sk T N a + 1, by unfold rSign; rw [← hg, g1]; rfl, rfl, ?_⟩
      have eh : u3 (u3 I 8 i 2 (nI (sk T N a))) 8 i 2 (u3 I 8 i 2 (nI (sk T N a)) 8 i 2 + 1) = u3 I 8 i 2 (nI (sk T N a + 1)) := by rw [u3_u3, u3_eq]; exact congrArg (u3 I 8 i 2) (nI_1 _)
      rw [← eh]
      rfl
    · exact ⟨(1, sk T N a), by unfold rSign; rw [← hg, hq.1]; rfl, hq.2.of (fun _ z => z) (fun _ _ _ z => z) hF.bM⟩
  refine gEnter 400 [14] kX13_sign rfl rfl ?_
  refine gTM_use rfl (o8_now (d + 6) i T N a I L y H) (fun v h' q => ?_)
  obtain ⟨rfl, rfl⟩ := q
  rcases Nat.lt_or_ge (sk T N a) N with w | w
  · have t2 := (H.2.2.2.2.2.2 _ w).2
    refine bNe (T (sk T N a)) c (bAt_in w) rfl (fun z => ?_) (fun z => ?_)
    · exact at14 false _ (by rw [nblt_t w, gbeqF z] <;> rfl) (by (repeat' apply And.intro) <;> first | rfl | trivial | exact congrArg Sum.inl (nI_1 _).symm | exact congrArg Sum.inl (nI_1 _).symm)
    · exact at14 true _ (by rw [nblt_t w, gbeqT z] <;> rfl) (by (repeat' apply And.intro) <;> first | rfl | trivial | exact congrArg Sum.inl (nI_1 _).symm | exact congrArg Sum.inl (nI_1 _).symm)
  · refine And.intro (fun _ => ?_) (fun z => ?_)
    · exact at14 false _ (by rw [nblt_f w] <;> rfl) (by (repeat' apply And.intro) <;> first | rfl | trivial | exact congrArg Sum.inl (nI_1 _).symm | exact congrArg Sum.inl (nI_1 _).symm)
    · exact absurd ((bAt_out (T := T) w).symm.trans z).symm (gOI_ne (by omega))
set_option maxRecDepth 100000 in
theorem o8_number (d i lo hi : Nat) (x : Option Nat) (hlo : lo < 100) (hhi : hi ≤ 10000) (hx : Int32) (hhx : hx = nI hi - 1) (hxx : ∀ v, x = some v → v < 10000) (T : Nat → Nat) (N a : Nat) (I : Nat → Nat → Nat → Int32) (L : Nat → Nat → Nat → Int64) (y : Dy) (H : bS 8 i T N a I y) :
    gTM mX13_number (d + 8) (2, 16) [gR (some (8, i)), gI (nI lo), gI hx, gI (oN x)] (gH I L y) (rdQ 8 i (rNumX T N lo hi x a) I L y) (rdX 8 i (rNumX T N lo hi x a) I L y) := by
  have ha := H.2.2.2.2.2.1
  have hN := H.2.2.2.1
  have hR := H.2.1
  obtain ⟨k1, k2, k3, k4⟩ := sk_ok (T := T) ha
  have hss := sk_sk (T := T) ha
  have Hs := H.at (by decide) k2
  obtain ⟨e1, e2, e3, e4⟩ := dE_ok (T := T) k2
  have hdg : ∀ j, j < dE T N (sk T N a) - sk T N a → tDg (T (sk T N a + j)) = true := fun j hj => e3 _ (by omega) (by omega)
  have spec := rNumX_W (lo := lo) (x := x) hhi hdg
  obtain ⟨Q, hQ⟩ : ∃ Q, Q = rdQ 8 i (rNumX T N lo hi x a) I L y := ⟨_, rfl⟩
  obtain ⟨X, hX⟩ : ∃ X, X = rdX 8 i (rNumX T N lo hi x a) I L y := ⟨_, rfl⟩
  obtain ⟨e, he⟩ : ∃ e, e = dE T N (sk T N a) := ⟨_, rfl⟩
  rw [← hQ, ← hX]
  rw [← he] at e1 e2 e3 e4 hdg spec
  have nw := fun j (hj : j ≤ e - sk T N a) => nW_V (T := T) (s := sk T N a) j (fun z hz => hdg z (by omega))
  have at24 : ∀ (g : Bool) (lo' : Lo), g = tDg (cAt T N (sk T N a)) → glle [some (gR (some (8, i))), some (gI (nI lo)), some (gI hx), some (gI (oN x)), none, none] lo' → gT mX13_number (d + 8) (2, 16) Q X 24 lo' [gI (gb g), gR (some (8, i))] (gH (u3 I 8 i 2 (nI (sk T N a))) L y) (0, 0) := by
    intro g lo' hg hl
    refine gT_lo _ hl ?_
    refine gT_callV (k := (1, 8)) rfl rfl rfl rfl rfl dX13_number_24 (o8_right d i g T N (sk T N a) (u3 I 8 i 2 (nI (sk T N a))) L y Hs) (by decide) (by decide) (fun v h' q => ?_) (fun q h' hq => gTX_out rfl ?_)
    rotate_left
    · rw [hX]
      refine ⟨(1, sk T N a), ?_, hq.2.of (fun _ z => z) (fun _ _ _ z => z) hF.bM⟩
      have : ¬ sk T N a < e := fun z => by
        have := e3 _ (Nat.le_refl _) z
        rw [hq.1, cAt_in (by omega), this] at hg
        cases hg
      rw [spec, if_neg this]
    · obtain ⟨g1, rfl, rfl⟩ := q
      rw [g1] at hg
      have hlt : sk T N a < N := by
        rcases Nat.lt_or_ge (sk T N a) N with w | w
        · exact w
        · rw [cAt_out w] at hg; exact absurd hg (by decide)
      have hse : sk T N a < e := by
        rcases Nat.lt_or_ge (sk T N a) e with w | w
        · exact w
        · have ee : e = sk T N a := by omega
          have := e4 (by omega)
          rw [ee, ← cAt_in (T := T) hlt, ← hg] at this
          cases this
      have spec1 : rNumX T N lo hi x a = if lo ≤ nW T (sk T N a) (e - sk T N a) ∧ nW T (sk T N a) (e - sk T N a) < hi then (if x = some (nW T (sk T N a) (e - sk T N a)) then .inl (2, sk T N a) else .inr (nW T (sk T N a) (e - sk T N a), e)) else .inl (2, sk T N a) := by rw [spec, if_pos hse]
      have m66 : ∀ n j, u3 I 8 i 2 (nI n) 66 0 j = I 66 0 j := fun n j => by rw [u3_ne1 (by decide)]
      refine gT_go 400 [36] kX13_number ?_
      refine gT_for (σ := Unit) (pc := 36) (lo := fun n _ => [some (gR (some (8, i))), some (gI (nI lo)), some (gI hx), some (gI (oN x)), some (gI (nI (sk T N a))), some (gI (nI (nW T (sk T N a) (n - sk T N a))))]) (hp := fun n _ => gH (u3 I 8 i 2 (nI n)) L y) (Inv := fun n _ => sk T N a ≤ n) e ?_ ?_ (sk T N a) () e1 (Nat.le_refl _) (by rw [Nat.sub_self]; exact (by (repeat' apply And.intro) <;> first | rfl | trivial | exact congrArg Sum.inl u3_eq.symm | exact congrArg Sum.inl (nI_1 _).symm))
      · intro _ _
        have hv := (nw (e - sk T N a) (Nat.le_refl _)).1
        obtain ⟨v, hv'⟩ : ∃ v, v = nW T (sk T N a) (e - sk T N a) := ⟨_, rfl⟩
        show gT mX13_number (d + 8) (2, 16) Q X 36 [some (gR (some (8, i))), some (gI (nI lo)), some (gI hx), some (gI (oN x)), some (gI (nI (sk T N a))), some (gI (nI (nW T (sk T N a) (e - sk T N a))))] [] (gH (u3 I 8 i 2 (nI e)) L y) (1, 8)
        rw [← hv'] at hv spec1 ⊢
        have at99 : rNumX T N lo hi x a = .inl (2, sk T N a) → ∀ lo', glle [none, none, none, none, some (gI (nI (sk T N a))), none] lo' → gT mX13_number (d + 8) (2, 16) Q X 99 lo' [] (gH (u3 I 8 i 2 (nI e)) L y) (1, 8) := by
          intro ee lo' hl
          refine gT_lo _ hl ?_
          refine gT_new 37 (by decide) rfl rfl (by decide) dX13_number_99 q912 q913 q159 (by decide) (by decide) ?_
          rw [gNw_gHn 0 rfl (fun z q => by cases q)]
          refine gT_go 400 [] kX13_number ?_
          refine gTM_use rfl (o_wrNew (d + 1) (y.2.2.2.2 37) (nI 2) (nI (sk T N a)) (fNw (u3 I 8 i 2 (nI e)) 0 37 (y.2.2.2.2 37)) (fNw L 0 37 (y.2.2.2.2 37)) (yNw y 37 0) (gRX_nwN rfl)) (fun v h' q => ?_)
          obtain ⟨rfl, rfl⟩ := q
          refine gTX_out rfl ?_
          rw [hX]
          exact ⟨(2, sk T N a), ee, (wX_new (G := Gw) (M := Mb 8 i) 2 (sk T N a) rfl).of (fun _ z => z) (fun _ _ _ z => z) hF.bM⟩
        have at110 : rNumX T N lo hi x a = .inr (v, e) → ∀ lo', glle [none, none, none, none, none, some (gI (nI v))] lo' → gT mX13_number (d + 8) (2, 16) Q X 110 lo' [] (gH (u3 I 8 i 2 (nI e)) L y) (1, 8) := by
          intro ee lo' hl
          refine gT_lo _ hl ?_
          refine gT_go 400 [] kX13_number ?_
          rw [hQ]
          exact ⟨v, e, ee, rfl, rfl⟩
        refine gT_go 400 [81] kX13_number ?_
        refine gP_use (o8_isDigit (d + 6) i T N e (u3 I 8 i 2 (nI e)) L y (H.at (by decide) e2)) ?_
        have hf : tDg (cAt T N e) = false := by
          rcases Nat.lt_or_ge e N with w | w
          · rw [cAt_in w]; exact e4 w
          · rw [cAt_out w] <;> rfl
        refine bB0 (tDg (cAt T N e)) rfl (fun _ => ?_) (fun w => absurd (hf.symm.trans w) (by decide))
        refine gT_go 400 [93, 99, 110] kX13_number ?_
        refine bLt v lo rfl rfl (fun w => at99 (by rw [spec1, if_neg (by omega)]) _ (by (repeat' apply And.intro) <;> first | rfl | trivial | exact congrArg Sum.inl (nI_1 _).symm | exact congrArg Sum.inl (nI_1 _).symm)) (fun w => ?_)
        have last : v < hi → gT mX13_number (d + 8) (2, 16) Q X 93 [some (gR (some (8, i))), some (gI (nI lo)), some (gI hx), some (gI (oN x)), some (gI (nI (sk T N a))), some (gI (nI v))] [] (gH (u3 I 8 i 2 (nI e)) L y) (1, 8) := by
          intro w2
          rw [if_pos ⟨w, w2⟩] at spec1
          refine gT_go 400 [99, 110] kX13_number ?_
          cases x with
          | none =>
            refine And.intro (fun _ => ?_) (fun z => absurd z (gOI_ne (by omega)))
            exact at110 (by rw [spec1, if_neg (fun z => by cases z)]) _ (by (repeat' apply And.intro) <;> first | rfl | trivial | exact congrArg Sum.inl (nI_1 _).symm | exact congrArg Sum.inl (nI_1 _).symm)
          | some z =>
            have := hxx z rfl
            refine bNe v z rfl rfl (fun c => ?_) (fun c => ?_)
            · exact at110 (by rw [spec1, if_neg (fun z => c (Option.some.inj z).symm)]) _ (by (repeat' apply And.intro) <;> first | rfl | trivial | exact congrArg Sum.inl (nI_1 _).symm | exact congrArg Sum.inl (nI_1 _).symm)
            · exact at99 (by rw [spec1, if_pos (by rw [c])]) _ (by (repeat' apply And.intro) <;> first | rfl | trivial | exact congrArg Sum.inl (nI_1 _).symm | exact congrArg Sum.inl (nI_1 _).symm)
        rcases Nat.eq_zero_or_pos hi with h0 | h0
        · have e1 : hx = -1 := by rw [hhx, h0] <;> rfl
          refine And.intro (fun _ => at99 (by rw [spec1, if_neg (by omega)]) _ (by (repeat' apply And.intro) <;> first | rfl | trivial | exact congrArg Sum.inl (nI_1 _).symm | exact congrArg Sum.inl (nI_1 _).symm)) (fun w2 => absurd (show hx < nI v from ?_) w2)
          rw [e1]
          exact Int32.lt_of_lt_of_le (by decide : (-1 : Int32) < 0) (nI_pos' (by omega))
        · refine bGt v (hi - 1) rfl (hhx.trans (pk_sub (b := 1) h0)) (fun w2 => at99 (by rw [spec1, if_neg (by omega)]) _ (by (repeat' apply And.intro) <;> first | rfl | trivial | exact congrArg Sum.inl (nI_1 _).symm | exact congrArg Sum.inl (nI_1 _).symm)) (fun w2 => ?_)
          exact last (by omega)
      · intro n _ hn hv hnext
        have hnN : n < N := by omega
        have ei : sk T N a + (n - sk T N a) = n := by omega
        have hnv := (nw (n - sk T N a) (by omega)).1
        have htd := e3 n hv hn
        obtain ⟨b1, b2⟩ := tDg_b htd
        obtain ⟨t1, t2⟩ := H.2.2.2.2.2.2 n hnN
        have en : nW T (sk T N a) (n + 1 - sk T N a) = if 100000 < 10 * nW T (sk T N a) (n - sk T N a) + T n - 48 then 100000 else 10 * nW T (sk T N a) (n - sk T N a) + T n - 48 := by rw [show n + 1 - sk T N a = (n - sk T N a) + 1 by omega, nW, ei]
        have eX : (nI 10 * nI (nW T (sk T N a) (n - sk T N a)) + u3 I 8 i 2 (nI n) 66 0 n) - nI 48 = nI (10 * nW T (sk T N a) (n - sk T N a) + T n - 48) := by
          rw [m66, t1, (gBy_f _ t2).1 (by omega), pk_mul, nI_add]
          exact pk_sub (by omega)
        refine gT_go 400 [36, 52] kX13_number ?_
        refine gP_use (o8_isDigit (d + 6) i T N n (u3 I 8 i 2 (nI n)) L y (H.at (by decide) (by omega))) ?_
        refine bB0 (tDg (cAt T N n)) rfl (fun w => absurd (w.symm.trans ((congrArg tDg (cAt_in hnN)).trans htd)) (by decide)) (fun _ => ?_)
        refine gT_ref hR ?_
        refine gT_go 400 [36] kX13_number ?_
        refine Exists.intro (n) (And.intro (u3_eq) (And.intro (show n < 600 by omega) ?_))
        have eh : u3 (u3 I 8 i 2 (nI n)) 8 i 2 (u3 I 8 i 2 (nI n) 8 i 2 + 1) = u3 I 8 i 2 (nI (n + 1)) := by rw [u3_u3, u3_eq]; exact congrArg (u3 I 8 i 2) (nI_1 n)
        have k := hnext () [some (gR (some (8, i))), some (gI (nI lo)), some (gI hx), some (gI (oN x)), some (gI (nI (sk T N a))), some (gI (if (100000 : Int32) < (nI 10 * nI (nW T (sk T N a) (n - sk T N a)) + u3 I 8 i 2 (nI n) 66 0 n) - nI 48 then (100000 : Int32) else (nI 10 * nI (nW T (sk T N a) (n - sk T N a)) + u3 I 8 i 2 (nI n) 66 0 n) - nI 48))] (by omega) ⟨rfl, rfl, rfl, rfl, rfl, congrArg Sum.inl (by rw [en, nW_st eX (by omega)]), trivial⟩
        rw [← eh] at k
        exact k
  refine gEnter 400 [24] kX13_number rfl rfl ?_
  refine gTM_use rfl (o8_now (d + 6) i T N a I L y H) (fun v h' q => ?_)
  obtain ⟨rfl, rfl⟩ := q
  rcases Nat.lt_or_ge (sk T N a) N with w | w
  · have t2 := (H.2.2.2.2.2.2 _ w).2
    refine bLt (T (sk T N a)) 48 (bAt_in w) rfl (fun z => at24 false _ (by rw [cAt_in w]; exact (tDg_lo (by omega)).symm) (by (repeat' apply And.intro) <;> first | rfl | trivial | exact congrArg Sum.inl (nI_1 _).symm | exact congrArg Sum.inl (nI_1 _).symm)) (fun z => ?_)
    refine gP_use (o8_nowS (d + 6) i T N (sk T N a) (u3 I 8 i 2 (nI (sk T N a))) L y Hs hss) ?_
    refine bGt (T (sk T N a)) 57 (bAt_in w) rfl (fun z2 => at24 false _ (by rw [cAt_in w]; exact (tDg_lo (by omega)).symm) (by (repeat' apply And.intro) <;> first | rfl | trivial | exact congrArg Sum.inl (nI_1 _).symm | exact congrArg Sum.inl (nI_1 _).symm)) (fun z2 => at24 true _ (by rw [cAt_in w]; exact (tDg_in z z2).symm) (by (repeat' apply And.intro) <;> first | rfl | trivial | exact congrArg Sum.inl (nI_1 _).symm | exact congrArg Sum.inl (nI_1 _).symm))
  · refine And.intro (fun _ => at24 false _ (by rw [cAt_out w] <;> rfl) (by (repeat' apply And.intro) <;> first | rfl | trivial | exact congrArg Sum.inl (nI_1 _).symm | exact congrArg Sum.inl (nI_1 _).symm)) (fun z => absurd (show bAt T N (sk T N a) < 48 from ?_) z)
    rw [bAt_out w]
    decide

set_option maxRecDepth 100000 in
theorem o28_now (d i : Nat) (T : Nat → Nat) (N a : Nat) (I : Nat → Nat → Nat → Int32) (L : Nat → Nat → Nat → Int64) (y : Dy) (H : bS 28 i T N a I y) :
    gTM mX13_now (d + 1) (0, 0) [gR (some (28, i))] (gH I L y) (fun v h' => v = [gI (bAt T N (sk T N a))] ∧ h' = gH (u3 I 28 i 2 (nI (sk T N a))) L y) (fun _ _ => False) := by
  obtain ⟨h0, hR, h1, hN, h2, ha, hT⟩ := id H
  obtain ⟨k1, k2, k3, k4⟩ := sk_ok (T := T) ha
  have m1 : ∀ n, u3 I 28 i 2 (nI n) 28 i 1 = nI N := fun n => (u3_ne3 (by decide)).trans h1
  have m66 : ∀ n j, u3 I 28 i 2 (nI n) 66 0 j = I 66 0 j := fun n j => by rw [u3_ne1 (by decide)]
  have fin : ∀ lo', glle [some (gR (some (28, i)))] lo' → gT mX13_now (d + 1) (0, 0) (fun v h' => v = [gI (bAt T N (sk T N a))] ∧ h' = gH (u3 I 28 i 2 (nI (sk T N a))) L y) (fun _ _ => False) 38 lo' [] (gH (u3 I 28 i 2 (nI (sk T N a))) L y) (0, 0) := by
    intro lo' hl
    refine gT_lo _ hl ?_
    refine gT_go 400 [53] kX13_now ?_
    refine bGe (sk T N a) N u3_eq (m1 _) (fun q => ?_) (fun q => ?_)
    · exact ⟨by rw [bAt_out q]; rfl, rfl⟩
    · refine gT_ref hR ?_
      refine gT_go 400 [] kX13_now ?_
      refine Exists.intro (sk T N a) (And.intro (u3_eq) (And.intro (show sk T N a < 600 by omega) ?_))
      obtain ⟨t1, t2⟩ := hT _ q
      refine ⟨congrArg (fun z => [gI z]) ?_, rfl⟩
      show u3 I 28 i 2 (nI (sk T N a)) 66 0 (sk T N a) &&& 255 = _
      rw [m66, t1, (gBy_f _ t2).2.2, bAt_in q]
  have main : gT mX13_now (d + 1) (0, 0) (fun v h' => v = [gI (bAt T N (sk T N a))] ∧ h' = gH (u3 I 28 i 2 (nI (sk T N a))) L y) (fun _ _ => False) 0 [some (gR (some (28, i)))] [] (gH (u3 I 28 i 2 (nI a)) L y) (0, 0) := by
    refine gT_for (σ := Unit) (pc := 0) (lo := fun _ _ => [some (gR (some (28, i)))]) (hp := fun n _ => gH (u3 I 28 i 2 (nI n)) L y) (Inv := fun n _ => a ≤ n) (sk T N a) ?_ ?_ a () k1 (Nat.le_refl _) (by (repeat' apply And.intro) <;> first | rfl | trivial | exact congrArg Sum.inl (nI_1 _).symm | exact congrArg Sum.inl (nI_1 _).symm)
    · intro _ _
      refine gT_go 400 [0, 15, 38] kX13_now ?_
      refine bGe (sk T N a) N u3_eq (m1 _) (fun q => fin _ (by (repeat' apply And.intro) <;> first | rfl | trivial | exact congrArg Sum.inl (nI_1 _).symm | exact congrArg Sum.inl (nI_1 _).symm)) (fun q => ?_)
      refine gT_ref hR ?_
      refine gT_go 400 [0, 38] kX13_now ?_
      refine Exists.intro (sk T N a) (And.intro (u3_eq) (And.intro (show sk T N a < 600 by omega) ?_))
      obtain ⟨t1, t2⟩ := hT _ q
      refine bByNe (T (sk T N a)) 32 t2 (by decide) ((m66 (sk T N a) _).trans t1) rfl (fun _ => fin _ (by (repeat' apply And.intro) <;> first | rfl | trivial | exact congrArg Sum.inl (nI_1 _).symm | exact congrArg Sum.inl (nI_1 _).symm)) (fun w => absurd w (k4 q))
    · intro n _ hn hv hnext
      have hnN : n < N := by omega
      refine gT_go 400 [0, 15, 38] kX13_now ?_
      refine bGe n N u3_eq (m1 _) (fun q => absurd q (by omega)) (fun _ => ?_)
      refine gT_ref hR ?_
      refine gT_go 400 [0, 38] kX13_now ?_
      refine Exists.intro (n) (And.intro (u3_eq) (And.intro (show n < 600 by omega) ?_))
      obtain ⟨t1, t2⟩ := hT _ hnN
      refine bByNe (T n) 32 t2 (by decide) ((m66 n _).trans t1) rfl (fun w => absurd (k3 n hv hn) w) (fun _ => ?_)
      have eh : u3 (u3 I 28 i 2 (nI n)) 28 i 2 (u3 I 28 i 2 (nI n) 28 i 2 + 1) = u3 I 28 i 2 (nI (n + 1)) := by rw [u3_u3, u3_eq]; exact congrArg (u3 I 28 i 2) (nI_1 n)
      have k := hnext () [some (gR (some (28, i)))] (by omega) (by (repeat' apply And.intro) <;> first | rfl | trivial | exact congrArg Sum.inl (nI_1 _).symm | exact congrArg Sum.inl (nI_1 _).symm)
      rw [← eh] at k
      exact k
  rw [show u3 I 28 i 2 (nI a) = I from u3_self h2] at main
  exact gTM_of kX13_now rfl rfl main
theorem o28_nowS (d i : Nat) (T : Nat → Nat) (N a : Nat) (I : Nat → Nat → Nat → Int32) (L : Nat → Nat → Nat → Int64) (y : Dy) (H : bS 28 i T N a I y) (hs : sk T N a = a) : gP mX13_now (d + 1) [gR (some (28, i))] (gH I L y) (gI (bAt T N a)) := by
  have k := o28_now d i T N a I L y H
  rw [hs, show u3 I 28 i 2 (nI a) = I from u3_self H.2.2.2.2.1] at k
  exact k
set_option maxRecDepth 100000 in
theorem o28_isDigit (d i : Nat) (T : Nat → Nat) (N a : Nat) (I : Nat → Nat → Nat → Int32) (L : Nat → Nat → Nat → Int64) (y : Dy) (H : bS 28 i T N a I y) : gP mX13_isDigit (d + 1) [gR (some (28, i))] (gH I L y) (gI (gb (tDg (cAt T N a)))) := by
  obtain ⟨h0, hR, h1, hN, h2, ha, hT⟩ := id H
  refine gEnter 400 [15, 29, 43] kX13_isDigit rfl rfl ?_
  have at43 : tDg (cAt T N a) = false → ∀ lo', glle [none] lo' → gT mX13_isDigit (d + 1) (0, 0) (fun v h' => v = [gI (gb (tDg (cAt T N a)))] ∧ h' = gH I L y) (fun _ _ => False) 43 lo' [] (gH I L y) (0, 0) := by
    intro e lo' hl
    refine gT_lo _ hl ?_
    refine gT_go 400 [] kX13_isDigit ?_
    exact ⟨Or.inl rfl, by rw [e]; rfl, rfl⟩
  refine bGe a N h2 h1 (fun q => at43 (by rw [cAt_out q] <;> rfl) _ (by (repeat' apply And.intro) <;> first | rfl | trivial | exact congrArg Sum.inl (nI_1 _).symm | exact congrArg Sum.inl (nI_1 _).symm)) (fun q => ?_)
  obtain ⟨t1, t2⟩ := hT _ q
  refine gT_ref hR ?_
  refine gT_go 400 [29, 43] kX13_isDigit ?_
  refine Exists.intro (a) (And.intro (h2) (And.intro (show a < 600 by omega) ?_))
  refine bByLt (T a) 48 t2 (by decide) t1 rfl (fun w => at43 (by rw [cAt_in q]; exact tDg_lo (by omega)) _ (by (repeat' apply And.intro) <;> first | rfl | trivial | exact congrArg Sum.inl (nI_1 _).symm | exact congrArg Sum.inl (nI_1 _).symm)) (fun w => ?_)
  refine gT_ref hR ?_
  refine gT_go 400 [43] kX13_isDigit ?_
  refine Exists.intro (a) (And.intro (h2) (And.intro (show a < 600 by omega) ?_))
  refine bByGt (T a) 57 t2 (by decide) t1 rfl (fun w2 => at43 (by rw [cAt_in q]; exact tDg_lo (by omega)) _ (by (repeat' apply And.intro) <;> first | rfl | trivial | exact congrArg Sum.inl (nI_1 _).symm | exact congrArg Sum.inl (nI_1 _).symm)) (fun w2 => ?_)
  exact ⟨Or.inr rfl, by rw [cAt_in q, tDg_in w.1 (by omega)]; rfl, rfl⟩
set_option maxRecDepth 100000 in
theorem o28_isSmall (d i k : Nat) (hk : k < 1000) (T : Nat → Nat) (N a : Nat) (I : Nat → Nat → Nat → Int32) (L : Nat → Nat → Nat → Int64) (y : Dy) (H : bS 28 i T N a I y) : gP mX13_isSmall (d + 1) [gR (some (28, i)), gI (nI k)] (gH I L y) (gI (gb (tSm (cAt T N k)))) := by
  obtain ⟨h0, hR, h1, hN, h2, ha, hT⟩ := id H
  refine gEnter 400 [12, 23, 34] kX13_isSmall rfl rfl ?_
  have at34 : tSm (cAt T N k) = false → ∀ lo', glle [none, none] lo' → gT mX13_isSmall (d + 1) (0, 0) (fun v h' => v = [gI (gb (tSm (cAt T N k)))] ∧ h' = gH I L y) (fun _ _ => False) 34 lo' [] (gH I L y) (0, 0) := by
    intro e lo' hl
    refine gT_lo _ hl ?_
    refine gT_go 400 [] kX13_isSmall ?_
    exact ⟨Or.inl rfl, by rw [e]; rfl, rfl⟩
  refine bGe k N rfl h1 (fun q => at34 (by rw [cAt_out q] <;> rfl) _ (by (repeat' apply And.intro) <;> first | rfl | trivial | exact congrArg Sum.inl (nI_1 _).symm | exact congrArg Sum.inl (nI_1 _).symm)) (fun q => ?_)
  obtain ⟨t1, t2⟩ := hT _ q
  refine gT_ref hR ?_
  refine gT_go 400 [23, 34] kX13_isSmall ?_
  refine Exists.intro (k) (And.intro rfl (And.intro (show _ < 600 by omega) ?_))
  refine bByLt (T k) 97 t2 (by decide) t1 rfl (fun w => at34 (by rw [cAt_in q]; exact tSm_lo (by omega)) _ (by (repeat' apply And.intro) <;> first | rfl | trivial | exact congrArg Sum.inl (nI_1 _).symm | exact congrArg Sum.inl (nI_1 _).symm)) (fun w => ?_)
  refine gT_ref hR ?_
  refine gT_go 400 [34] kX13_isSmall ?_
  refine Exists.intro (k) (And.intro rfl (And.intro (show _ < 600 by omega) ?_))
  refine bByGt (T k) 122 t2 (by decide) t1 rfl (fun w2 => at34 (by rw [cAt_in q]; exact tSm_lo (by omega)) _ (by (repeat' apply And.intro) <;> first | rfl | trivial | exact congrArg Sum.inl (nI_1 _).symm | exact congrArg Sum.inl (nI_1 _).symm)) (fun w2 => ?_)
  exact ⟨Or.inr rfl, by rw [cAt_in q, tSm_in w.1 (by omega)]; rfl, rfl⟩
set_option maxRecDepth 100000 in
theorem o28_right (d i : Nat) (g : Bool) (T : Nat → Nat) (N a : Nat) (I : Nat → Nat → Nat → Int32) (L : Nat → Nat → Nat → Int64) (y : Dy) (H : bS 28 i T N a I y) :
    gTM mX13_right (d + 7) (1, 8) [gR (some (28, i)), gI (gb g)] (gH I L y) (fun v h' => g = true ∧ v = [] ∧ h' = gH I L y) (fun q h' => g = false ∧ wX Gw (Mb 28 i) (1, a) I L y q h') := by
  refine gEnter 400 [4] kX13_right rfl rfl ?_
  refine bB1 g rfl (fun c => ⟨c, rfl, rfl⟩) (fun c => ?_)
  refine gT_new 37 (by decide) rfl rfl (by decide) dX13_right_4 q912 q913 q159 (by decide) (by decide) ?_
  rw [gNw_gHn 0 rfl (fun z q => by cases q)]
  refine gT_go 400 [] kX13_right ?_
  have e2 : fNw I 0 37 (y.2.2.2.2 37) 28 i 2 = nI a := (congrFun (congrFun (fNw_ne (by decide)) i) 2).trans H.2.2.2.2.1
  refine gTM_use (by rw [← e2] <;> rfl) (o_wrNew d (y.2.2.2.2 37) (nI 1) (nI a) (fNw I 0 37 (y.2.2.2.2 37)) (fNw L 0 37 (y.2.2.2.2 37)) (yNw y 37 0) (gRX_nwN rfl)) (fun v h' q => ?_)
  obtain ⟨rfl, rfl⟩ := q
  exact gTX_out rfl ⟨c, wX_new 1 a rfl⟩
set_option maxRecDepth 100000 in
theorem o28_few (d i : Nat) (g : Bool) (T : Nat → Nat) (N a : Nat) (I : Nat → Nat → Nat → Int32) (L : Nat → Nat → Nat → Int64) (y : Dy) (H : bS 28 i T N a I y) :
    gTM mX13_few (d + 7) (1, 8) [gR (some (28, i)), gI (gb g)] (gH I L y) (fun v h' => g = true ∧ v = [] ∧ h' = gH I L y) (fun q h' => g = false ∧ wX Gw (Mb 28 i) (3, a) I L y q h') := by
  refine gEnter 400 [4] kX13_few rfl rfl ?_
  refine bB1 g rfl (fun c => ⟨c, rfl, rfl⟩) (fun c => ?_)
  refine gT_new 37 (by decide) rfl rfl (by decide) dX13_few_4 q912 q913 q159 (by decide) (by decide) ?_
  rw [gNw_gHn 0 rfl (fun z q => by cases q)]
  refine gT_go 400 [] kX13_few ?_
  have e2 : fNw I 0 37 (y.2.2.2.2 37) 28 i 2 = nI a := (congrFun (congrFun (fNw_ne (by decide)) i) 2).trans H.2.2.2.2.1
  refine gTM_use (by rw [← e2] <;> rfl) (o_wrNew d (y.2.2.2.2 37) (nI 3) (nI a) (fNw I 0 37 (y.2.2.2.2 37)) (fNw L 0 37 (y.2.2.2.2 37)) (yNw y 37 0) (gRX_nwN rfl)) (fun v h' q => ?_)
  obtain ⟨rfl, rfl⟩ := q
  exact gTX_out rfl ⟨c, wX_new 3 a rfl⟩
set_option maxRecDepth 100000 in
theorem o28_skip (d i n : Nat) (T : Nat → Nat) (N a : Nat) (I : Nat → Nat → Nat → Int32) (L : Nat → Nat → Nat → Int64) (y : Dy) (H : bS 28 i T N a I y) : gTM mX13_skip (d + 1) (0, 0) [gR (some (28, i)), gI (nI n)] (gH I L y) (fun v h' => v = [] ∧ h' = gH (u3 I 28 i 2 (nI (a + n))) L y) (fun _ _ => False) := by
  have h2 := H.2.2.2.2.1
  refine gEnter 400 [] kX13_skip rfl rfl ?_
  refine ⟨rfl, ?_⟩
  have e : I 28 i 2 + nI n = nI (a + n) := by rw [h2]; exact nI_add a n
  rw [← e]
set_option maxRecDepth 100000 in
theorem o28_at (d i : Nat) (T : Nat → Nat) (N a : Nat) (I : Nat → Nat → Nat → Int32) (L : Nat → Nat → Nat → Int64) (y : Dy) (H : bS 28 i T N a I y) : gP mX13_at (d + 1) [gR (some (28, i))] (gH I L y) (gI (nI a)) := by
  refine gEnter 400 [] kX13_at rfl rfl ?_
  exact ⟨congrArg (fun z => [gI z]) H.2.2.2.2.1, rfl⟩
set_option maxRecDepth 100000 in
theorem o28_sign (d i c : Nat) (hc : c < 256) (hc0 : 0 < c) (T : Nat → Nat) (N a : Nat) (I : Nat → Nat → Nat → Int32) (L : Nat → Nat → Nat → Int64) (y : Dy) (H : bS 28 i T N a I y) :
    gTM mX13_sign (d + 8) (1, 8) [gR (some (28, i)), gI (nI c)] (gH I L y) (rdU 28 i (rSign T N c a) I L y) (rdX 28 i (rSign T N c a) I L y) := by
  have ha := H.2.2.2.2.2.1
  obtain ⟨k1, k2, k3, k4⟩ := sk_ok (T := T) ha
  have Hs := H.at (by decide) k2
  have at14 : ∀ (g : Bool) (lo' : Lo), g = (Nat.blt (sk T N a) N && Nat.beq (T (sk T N a)) c) → glle [some (gR (some (28, i))), none] lo' → gT mX13_sign (d + 8) (1, 8) (rdU 28 i (rSign T N c a) I L y) (rdX 28 i (rSign T N c a) I L y) 14 lo' [gI (gb g), gR (some (28, i))] (gH (u3 I 28 i 2 (nI (sk T N a))) L y) (0, 0) := by
    intro g lo' hg hl
    refine gT_lo _ hl ?_
    refine gT_callV (k := (1, 8)) rfl rfl rfl rfl rfl dX13_sign_14 (o28_right d i g T N (sk T N a) (u3 I 28 i 2 (nI (sk T N a))) L y Hs) (by decide) (by decide) (fun v h' q => ?_) (fun q h' hq => gTX_out rfl ?_)
    · obtain ⟨g1, rfl, rfl⟩ := q
      refine gT_go 400 [] kX13_sign ?_
      refine ⟨sk T N a + 1, by unfold rSign; rw [← hg, g1]; rfl, rfl, ?_⟩
      have eh : u3 (u3 I 28 i 2 (nI (sk T N a))) 28 i 2 (u3 I 28 i 2 (nI (sk T N a)) 28 i 2 + 1) = u3 I 28 i 2 (nI (sk T N a + 1)) := by rw [u3_u3, u3_eq]; exact congrArg (u3 I 28 i 2) (nI_1 _)
      rw [← eh]
      rfl
    · exact ⟨(1, sk T N a), by unfold rSign; rw [← hg, hq.1]; rfl, hq.2.of (fun _ z => z) (fun _ _ _ z => z) hF.bM⟩
  refine gEnter 400 [14] kX13_sign rfl rfl ?_
  refine gTM_use rfl (o28_now (d + 6) i T N a I L y H) (fun v h' q => ?_)
  obtain ⟨rfl, rfl⟩ := q
  rcases Nat.lt_or_ge (sk T N a) N with w | w
  · have t2 := (H.2.2.2.2.2.2 _ w).2
    refine bNe (T (sk T N a)) c (bAt_in w) rfl (fun z => ?_) (fun z => ?_)
    · exact at14 false _ (by rw [nblt_t w, gbeqF z] <;> rfl) (by (repeat' apply And.intro) <;> first | rfl | trivial | exact congrArg Sum.inl (nI_1 _).symm | exact congrArg Sum.inl (nI_1 _).symm)
    · exact at14 true _ (by rw [nblt_t w, gbeqT z] <;> rfl) (by (repeat' apply And.intro) <;> first | rfl | trivial | exact congrArg Sum.inl (nI_1 _).symm | exact congrArg Sum.inl (nI_1 _).symm)
  · refine And.intro (fun _ => ?_) (fun z => ?_)
    · exact at14 false _ (by rw [nblt_f w] <;> rfl) (by (repeat' apply And.intro) <;> first | rfl | trivial | exact congrArg Sum.inl (nI_1 _).symm | exact congrArg Sum.inl (nI_1 _).symm)
    · exact absurd ((bAt_out (T := T) w).symm.trans z).symm (gOI_ne (by omega))
set_option maxRecDepth 100000 in
theorem o28_number (d i lo hi : Nat) (x : Option Nat) (hlo : lo < 100) (hhi : hi ≤ 10000) (hx : Int32) (hhx : hx = nI hi - 1) (hxx : ∀ v, x = some v → v < 10000) (T : Nat → Nat) (N a : Nat) (I : Nat → Nat → Nat → Int32) (L : Nat → Nat → Nat → Int64) (y : Dy) (H : bS 28 i T N a I y) :
    gTM mX13_number (d + 8) (2, 16) [gR (some (28, i)), gI (nI lo), gI hx, gI (oN x)] (gH I L y) (rdQ 28 i (rNumX T N lo hi x a) I L y) (rdX 28 i (rNumX T N lo hi x a) I L y) := by
  have ha := H.2.2.2.2.2.1
  have hN := H.2.2.2.1
  have hR := H.2.1
  obtain ⟨k1, k2, k3, k4⟩ := sk_ok (T := T) ha
  have hss := sk_sk (T := T) ha
  have Hs := H.at (by decide) k2
  obtain ⟨e1, e2, e3, e4⟩ := dE_ok (T := T) k2
  have hdg : ∀ j, j < dE T N (sk T N a) - sk T N a → tDg (T (sk T N a + j)) = true := fun j hj => e3 _ (by omega) (by omega)
  have spec := rNumX_W (lo := lo) (x := x) hhi hdg
  obtain ⟨Q, hQ⟩ : ∃ Q, Q = rdQ 28 i (rNumX T N lo hi x a) I L y := ⟨_, rfl⟩
  obtain ⟨X, hX⟩ : ∃ X, X = rdX 28 i (rNumX T N lo hi x a) I L y := ⟨_, rfl⟩
  obtain ⟨e, he⟩ : ∃ e, e = dE T N (sk T N a) := ⟨_, rfl⟩
  rw [← hQ, ← hX]
  rw [← he] at e1 e2 e3 e4 hdg spec
  have nw := fun j (hj : j ≤ e - sk T N a) => nW_V (T := T) (s := sk T N a) j (fun z hz => hdg z (by omega))
  have at24 : ∀ (g : Bool) (lo' : Lo), g = tDg (cAt T N (sk T N a)) → glle [some (gR (some (28, i))), some (gI (nI lo)), some (gI hx), some (gI (oN x)), none, none] lo' → gT mX13_number (d + 8) (2, 16) Q X 24 lo' [gI (gb g), gR (some (28, i))] (gH (u3 I 28 i 2 (nI (sk T N a))) L y) (0, 0) := by
    intro g lo' hg hl
    refine gT_lo _ hl ?_
    refine gT_callV (k := (1, 8)) rfl rfl rfl rfl rfl dX13_number_24 (o28_right d i g T N (sk T N a) (u3 I 28 i 2 (nI (sk T N a))) L y Hs) (by decide) (by decide) (fun v h' q => ?_) (fun q h' hq => gTX_out rfl ?_)
    rotate_left
    · rw [hX]
      refine ⟨(1, sk T N a), ?_, hq.2.of (fun _ z => z) (fun _ _ _ z => z) hF.bM⟩
      have : ¬ sk T N a < e := fun z => by
        have := e3 _ (Nat.le_refl _) z
        rw [hq.1, cAt_in (by omega), this] at hg
        cases hg
      rw [spec, if_neg this]
    · obtain ⟨g1, rfl, rfl⟩ := q
      rw [g1] at hg
      have hlt : sk T N a < N := by
        rcases Nat.lt_or_ge (sk T N a) N with w | w
        · exact w
        · rw [cAt_out w] at hg; exact absurd hg (by decide)
      have hse : sk T N a < e := by
        rcases Nat.lt_or_ge (sk T N a) e with w | w
        · exact w
        · have ee : e = sk T N a := by omega
          have := e4 (by omega)
          rw [ee, ← cAt_in (T := T) hlt, ← hg] at this
          cases this
      have spec1 : rNumX T N lo hi x a = if lo ≤ nW T (sk T N a) (e - sk T N a) ∧ nW T (sk T N a) (e - sk T N a) < hi then (if x = some (nW T (sk T N a) (e - sk T N a)) then .inl (2, sk T N a) else .inr (nW T (sk T N a) (e - sk T N a), e)) else .inl (2, sk T N a) := by rw [spec, if_pos hse]
      have m66 : ∀ n j, u3 I 28 i 2 (nI n) 66 0 j = I 66 0 j := fun n j => by rw [u3_ne1 (by decide)]
      refine gT_go 400 [36] kX13_number ?_
      refine gT_for (σ := Unit) (pc := 36) (lo := fun n _ => [some (gR (some (28, i))), some (gI (nI lo)), some (gI hx), some (gI (oN x)), some (gI (nI (sk T N a))), some (gI (nI (nW T (sk T N a) (n - sk T N a))))]) (hp := fun n _ => gH (u3 I 28 i 2 (nI n)) L y) (Inv := fun n _ => sk T N a ≤ n) e ?_ ?_ (sk T N a) () e1 (Nat.le_refl _) (by rw [Nat.sub_self]; exact (by (repeat' apply And.intro) <;> first | rfl | trivial | exact congrArg Sum.inl u3_eq.symm | exact congrArg Sum.inl (nI_1 _).symm))
      · intro _ _
        have hv := (nw (e - sk T N a) (Nat.le_refl _)).1
        obtain ⟨v, hv'⟩ : ∃ v, v = nW T (sk T N a) (e - sk T N a) := ⟨_, rfl⟩
        show gT mX13_number (d + 8) (2, 16) Q X 36 [some (gR (some (28, i))), some (gI (nI lo)), some (gI hx), some (gI (oN x)), some (gI (nI (sk T N a))), some (gI (nI (nW T (sk T N a) (e - sk T N a))))] [] (gH (u3 I 28 i 2 (nI e)) L y) (1, 8)
        rw [← hv'] at hv spec1 ⊢
        have at99 : rNumX T N lo hi x a = .inl (2, sk T N a) → ∀ lo', glle [none, none, none, none, some (gI (nI (sk T N a))), none] lo' → gT mX13_number (d + 8) (2, 16) Q X 99 lo' [] (gH (u3 I 28 i 2 (nI e)) L y) (1, 8) := by
          intro ee lo' hl
          refine gT_lo _ hl ?_
          refine gT_new 37 (by decide) rfl rfl (by decide) dX13_number_99 q912 q913 q159 (by decide) (by decide) ?_
          rw [gNw_gHn 0 rfl (fun z q => by cases q)]
          refine gT_go 400 [] kX13_number ?_
          refine gTM_use rfl (o_wrNew (d + 1) (y.2.2.2.2 37) (nI 2) (nI (sk T N a)) (fNw (u3 I 28 i 2 (nI e)) 0 37 (y.2.2.2.2 37)) (fNw L 0 37 (y.2.2.2.2 37)) (yNw y 37 0) (gRX_nwN rfl)) (fun v h' q => ?_)
          obtain ⟨rfl, rfl⟩ := q
          refine gTX_out rfl ?_
          rw [hX]
          exact ⟨(2, sk T N a), ee, (wX_new (G := Gw) (M := Mb 28 i) 2 (sk T N a) rfl).of (fun _ z => z) (fun _ _ _ z => z) hF.bM⟩
        have at110 : rNumX T N lo hi x a = .inr (v, e) → ∀ lo', glle [none, none, none, none, none, some (gI (nI v))] lo' → gT mX13_number (d + 8) (2, 16) Q X 110 lo' [] (gH (u3 I 28 i 2 (nI e)) L y) (1, 8) := by
          intro ee lo' hl
          refine gT_lo _ hl ?_
          refine gT_go 400 [] kX13_number ?_
          rw [hQ]
          exact ⟨v, e, ee, rfl, rfl⟩
        refine gT_go 400 [81] kX13_number ?_
        refine gP_use (o28_isDigit (d + 6) i T N e (u3 I 28 i 2 (nI e)) L y (H.at (by decide) e2)) ?_
        have hf : tDg (cAt T N e) = false := by
          rcases Nat.lt_or_ge e N with w | w
          · rw [cAt_in w]; exact e4 w
          · rw [cAt_out w] <;> rfl
        refine bB0 (tDg (cAt T N e)) rfl (fun _ => ?_) (fun w => absurd (hf.symm.trans w) (by decide))
        refine gT_go 400 [93, 99, 110] kX13_number ?_
        refine bLt v lo rfl rfl (fun w => at99 (by rw [spec1, if_neg (by omega)]) _ (by (repeat' apply And.intro) <;> first | rfl | trivial | exact congrArg Sum.inl (nI_1 _).symm | exact congrArg Sum.inl (nI_1 _).symm)) (fun w => ?_)
        have last : v < hi → gT mX13_number (d + 8) (2, 16) Q X 93 [some (gR (some (28, i))), some (gI (nI lo)), some (gI hx), some (gI (oN x)), some (gI (nI (sk T N a))), some (gI (nI v))] [] (gH (u3 I 28 i 2 (nI e)) L y) (1, 8) := by
          intro w2
          rw [if_pos ⟨w, w2⟩] at spec1
          refine gT_go 400 [99, 110] kX13_number ?_
          cases x with
          | none =>
            refine And.intro (fun _ => ?_) (fun z => absurd z (gOI_ne (by omega)))
            exact at110 (by rw [spec1, if_neg (fun z => by cases z)]) _ (by (repeat' apply And.intro) <;> first | rfl | trivial | exact congrArg Sum.inl (nI_1 _).symm | exact congrArg Sum.inl (nI_1 _).symm)
          | some z =>
            have := hxx z rfl
            refine bNe v z rfl rfl (fun c => ?_) (fun c => ?_)
            · exact at110 (by rw [spec1, if_neg (fun z => c (Option.some.inj z).symm)]) _ (by (repeat' apply And.intro) <;> first | rfl | trivial | exact congrArg Sum.inl (nI_1 _).symm | exact congrArg Sum.inl (nI_1 _).symm)
            · exact at99 (by rw [spec1, if_pos (by rw [c])]) _ (by (repeat' apply And.intro) <;> first | rfl | trivial | exact congrArg Sum.inl (nI_1 _).symm | exact congrArg Sum.inl (nI_1 _).symm)
        rcases Nat.eq_zero_or_pos hi with h0 | h0
        · have e1 : hx = -1 := by rw [hhx, h0] <;> rfl
          refine And.intro (fun _ => at99 (by rw [spec1, if_neg (by omega)]) _ (by (repeat' apply And.intro) <;> first | rfl | trivial | exact congrArg Sum.inl (nI_1 _).symm | exact congrArg Sum.inl (nI_1 _).symm)) (fun w2 => absurd (show hx < nI v from ?_) w2)
          rw [e1]
          exact Int32.lt_of_lt_of_le (by decide : (-1 : Int32) < 0) (nI_pos' (by omega))
        · refine bGt v (hi - 1) rfl (hhx.trans (pk_sub (b := 1) h0)) (fun w2 => at99 (by rw [spec1, if_neg (by omega)]) _ (by (repeat' apply And.intro) <;> first | rfl | trivial | exact congrArg Sum.inl (nI_1 _).symm | exact congrArg Sum.inl (nI_1 _).symm)) (fun w2 => ?_)
          exact last (by omega)
      · intro n _ hn hv hnext
        have hnN : n < N := by omega
        have ei : sk T N a + (n - sk T N a) = n := by omega
        have hnv := (nw (n - sk T N a) (by omega)).1
        have htd := e3 n hv hn
        obtain ⟨b1, b2⟩ := tDg_b htd
        obtain ⟨t1, t2⟩ := H.2.2.2.2.2.2 n hnN
        have en : nW T (sk T N a) (n + 1 - sk T N a) = if 100000 < 10 * nW T (sk T N a) (n - sk T N a) + T n - 48 then 100000 else 10 * nW T (sk T N a) (n - sk T N a) + T n - 48 := by rw [show n + 1 - sk T N a = (n - sk T N a) + 1 by omega, nW, ei]
        have eX : (nI 10 * nI (nW T (sk T N a) (n - sk T N a)) + u3 I 28 i 2 (nI n) 66 0 n) - nI 48 = nI (10 * nW T (sk T N a) (n - sk T N a) + T n - 48) := by
          rw [m66, t1, (gBy_f _ t2).1 (by omega), pk_mul, nI_add]
          exact pk_sub (by omega)
        refine gT_go 400 [36, 52] kX13_number ?_
        refine gP_use (o28_isDigit (d + 6) i T N n (u3 I 28 i 2 (nI n)) L y (H.at (by decide) (by omega))) ?_
        refine bB0 (tDg (cAt T N n)) rfl (fun w => absurd (w.symm.trans ((congrArg tDg (cAt_in hnN)).trans htd)) (by decide)) (fun _ => ?_)
        refine gT_ref hR ?_
        refine gT_go 400 [36] kX13_number ?_
        refine Exists.intro (n) (And.intro (u3_eq) (And.intro (show n < 600 by omega) ?_))
        have eh : u3 (u3 I 28 i 2 (nI n)) 28 i 2 (u3 I 28 i 2 (nI n) 28 i 2 + 1) = u3 I 28 i 2 (nI (n + 1)) := by rw [u3_u3, u3_eq]; exact congrArg (u3 I 28 i 2) (nI_1 n)
        have k := hnext () [some (gR (some (28, i))), some (gI (nI lo)), some (gI hx), some (gI (oN x)), some (gI (nI (sk T N a))), some (gI (if (100000 : Int32) < (nI 10 * nI (nW T (sk T N a) (n - sk T N a)) + u3 I 28 i 2 (nI n) 66 0 n) - nI 48 then (100000 : Int32) else (nI 10 * nI (nW T (sk T N a) (n - sk T N a)) + u3 I 28 i 2 (nI n) 66 0 n) - nI 48))] (by omega) ⟨rfl, rfl, rfl, rfl, rfl, congrArg Sum.inl (by rw [en, nW_st eX (by omega)]), trivial⟩
        rw [← eh] at k
        exact k
  refine gEnter 400 [24] kX13_number rfl rfl ?_
  refine gTM_use rfl (o28_now (d + 6) i T N a I L y H) (fun v h' q => ?_)
  obtain ⟨rfl, rfl⟩ := q
  rcases Nat.lt_or_ge (sk T N a) N with w | w
  · have t2 := (H.2.2.2.2.2.2 _ w).2
    refine bLt (T (sk T N a)) 48 (bAt_in w) rfl (fun z => at24 false _ (by rw [cAt_in w]; exact (tDg_lo (by omega)).symm) (by (repeat' apply And.intro) <;> first | rfl | trivial | exact congrArg Sum.inl (nI_1 _).symm | exact congrArg Sum.inl (nI_1 _).symm)) (fun z => ?_)
    refine gP_use (o28_nowS (d + 6) i T N (sk T N a) (u3 I 28 i 2 (nI (sk T N a))) L y Hs hss) ?_
    refine bGt (T (sk T N a)) 57 (bAt_in w) rfl (fun z2 => at24 false _ (by rw [cAt_in w]; exact (tDg_lo (by omega)).symm) (by (repeat' apply And.intro) <;> first | rfl | trivial | exact congrArg Sum.inl (nI_1 _).symm | exact congrArg Sum.inl (nI_1 _).symm)) (fun z2 => at24 true _ (by rw [cAt_in w]; exact (tDg_in z z2).symm) (by (repeat' apply And.intro) <;> first | rfl | trivial | exact congrArg Sum.inl (nI_1 _).symm | exact congrArg Sum.inl (nI_1 _).symm))
  · refine And.intro (fun _ => at24 false _ (by rw [cAt_out w] <;> rfl) (by (repeat' apply And.intro) <;> first | rfl | trivial | exact congrArg Sum.inl (nI_1 _).symm | exact congrArg Sum.inl (nI_1 _).symm)) (fun z => absurd (show bAt T N (sk T N a) < 48 from ?_) z)
    rw [bAt_out w]
    decide
/-! ===== Bytes: words, for both readers (printed by gen_bytes.py) ===== -/
/-- the signs of the text k stand at s, of the first j -/
def wG (T : Nat → Nat) (N s k : Nat) (g : Bool) : Nat → Bool
  | 0 => g
  | j + 1 => wG T N s k g j && (Nat.blt (s + j) N && Nat.beq (T (s + j)) (gch k j))
theorem wG_le {T : Nat → Nat} {N s k : Nat} {g : Bool} : ∀ j n, wG T N s k g n = false → wG T N s k g (n + j) = false := by
  intro j
  induction j with
  | zero => intro n h; exact h
  | succ j ih => intro n h; show (wG T N s k g (n + j) && _) = false; rw [ih n h] <;> rfl
theorem wG_t {T : Nat → Nat} {N s k : Nat} {g : Bool} : ∀ n, wG T N s k g n = true ↔ g = true ∧ ∀ j, j < n → s + j < N ∧ T (s + j) = gch k j := by
  intro n
  induction n with
  | zero => exact ⟨fun h => ⟨h, fun j hj => absurd hj (Nat.not_lt_zero _)⟩, fun h => h.1⟩
  | succ n ih =>
    constructor
    · intro h
      have h' : (wG T N s k g n && (Nat.blt (s + n) N && Nat.beq (T (s + n)) (gch k n))) = true := h
      rw [Bool.and_eq_true, Bool.and_eq_true] at h'
      obtain ⟨a, b, c⟩ := h'
      obtain ⟨g1, g2⟩ := ih.mp a
      refine ⟨g1, fun j hj => ?_⟩
      by_cases e : j = n
      · subst e; exact ⟨Nat.le_of_ble_eq_true b, nbeq c⟩
      · exact g2 j (by omega)
    · rintro ⟨g1, g2⟩
      show (wG T N s k g n && (Nat.blt (s + n) N && Nat.beq (T (s + n)) (gch k n))) = true
      obtain ⟨a, b⟩ := g2 n (by omega)
      rw [ih.mpr ⟨g1, fun j hj => g2 j (by omega)⟩, nblt_t a, gbeqT b]
      rfl
/-- digits to the base 32, none of them 0, tell the words -/
theorem wF_inj {T : Nat → Nat} {s k : Nat} (hk : k < 22) : ∀ n m, m ≤ gsl k → (∀ j, j < n → tSm (T (s + j)) = true) → wF T s n = wv k m → n = m ∧ ∀ j, j < n → T (s + j) = gch k j := by
  obtain ⟨c1, c2, c3⟩ := gch_all k hk
  intro n
  induction n with
  | zero =>
    intro m hm _ h
    cases m with
    | zero => exact ⟨rfl, fun j hj => absurd hj (Nat.not_lt_zero _)⟩
    | succ m =>
      have := c3 m (by omega) (by omega)
      rw [wF, wv] at h
      omega
  | succ n ih =>
    intro m hm hs h
    obtain ⟨b1, b2⟩ := tSm_b (hs n (by omega))
    cases m with
    | zero => rw [wF, wv] at h; omega
    | succ m =>
      have q := c3 m (by omega) (by omega)
      rw [wF, wv] at h
      have e1 : wF T s n = wv k m := by omega
      have e2 : T (s + n) = gch k m := by omega
      obtain ⟨i1, i2⟩ := ih m (by omega) (fun j hj => hs j (by omega)) e1
      subst i1
      refine ⟨rfl, fun j hj => ?_⟩
      by_cases e : j = n
      · subst e; exact e2
      · exact i2 j (by omega)
theorem wF_same {T : Nat → Nat} {s k : Nat} : ∀ n, (∀ j, j < n → T (s + j) = gch k j) → wF T s n = wv k n := by
  intro n
  induction n with
  | zero => intro _; rfl
  | succ n ih => intro h; rw [wF, wv, ih (fun j hj => h j (by omega)), h n (by omega)]
theorem wd_pos : ∀ k, k < 22 → 0 < wd k ∧ 0 < gsl k := by decide +kernel
/-- whether a word stands there, told both ways -/
theorem isW_ok {T : Nat → Nat} {N a k : Nat} (hk : k < 22) (ha : sk T N a ≤ N) : (wG T N (sk T N a) k (!tSm (cAt T N (sk T N a + gsl k))) (gsl k) = true ↔ rWord T N a = wd k) ∧ (rWord T N a = wd k → wE T N (sk T N a) = sk T N a + gsl k) := by
  obtain ⟨c1, c2, c3⟩ := gch_all k hk
  obtain ⟨w1, w2, w3, w4⟩ := wE_ok (T := T) ha
  have hp := wd_pos k hk
  have back : rWord T N a = wd k → wE T N (sk T N a) - sk T N a = gsl k ∧ ∀ j, j < gsl k → T (sk T N a + j) = gch k j := by
    intro h
    unfold rWord wVal at h
    by_cases q : wE T N (sk T N a) - sk T N a ≤ 6
    · rw [if_pos q] at h
      obtain ⟨e1, e2⟩ := wF_inj hk _ _ (Nat.le_refl _) (fun j hj => w3 (sk T N a + j) (by omega) (by omega)) h
      exact ⟨e1, fun j hj => e2 j (by omega)⟩
    · rw [if_neg q] at h; omega
  refine ⟨?_, fun h => by have := (back h).1; omega⟩
  rw [wG_t]
  constructor
  · rintro ⟨g1, g2⟩
    have e : wE T N (sk T N a) = sk T N a + gsl k := by
      have lo : sk T N a + gsl k ≤ wE T N (sk T N a) := by
        rcases Nat.lt_or_ge (wE T N (sk T N a)) (sk T N a + gsl k) with q | q
        · exfalso
          obtain ⟨z1, z2⟩ := g2 (wE T N (sk T N a) - sk T N a) (by omega)
          rw [show sk T N a + (wE T N (sk T N a) - sk T N a) = wE T N (sk T N a) by omega] at z1 z2
          have z3 := w4 z1
          obtain ⟨-, z4, z5⟩ := c3 (wE T N (sk T N a) - sk T N a) (by omega) (by omega)
          rw [z2, tSm_in z4 z5] at z3
          cases z3
        · exact q
      rcases Nat.lt_or_ge (sk T N a + gsl k) (wE T N (sk T N a)) with q | q
      · exfalso
        have z := w3 (sk T N a + gsl k) (by omega) q
        rw [cAt_in (show sk T N a + gsl k < N by omega), z] at g1
        cases g1
      · omega
    unfold rWord wVal
    rw [if_pos (by omega), show wE T N (sk T N a) - sk T N a = gsl k by omega]
    exact wF_same _ (fun j hj => (g2 j hj).2)
  · intro h
    obtain ⟨b1, b2⟩ := back h
    refine ⟨?_, fun j hj => ⟨by omega, b2 j hj⟩⟩
    have e : wE T N (sk T N a) = sk T N a + gsl k := by omega
    rcases Nat.lt_or_ge (sk T N a + gsl k) N with q | q
    · rw [cAt_in q, ← e, w4 (by omega)] <;> rfl
    · rw [cAt_out q] <;> rfl
theorem isW_b {T : Nat → Nat} {N a k : Nat} (hk : k < 22) (ha : sk T N a ≤ N) : wG T N (sk T N a) k (!tSm (cAt T N (sk T N a + gsl k))) (gsl k) = decide (rWord T N a = wd k) := by
  have h := (isW_ok hk ha).1
  cases q : wG T N (sk T N a) k (!tSm (cAt T N (sk T N a + gsl k))) (gsl k) with
  | true => exact (decide_eq_true (h.mp q)).symm
  | false => exact (decide_eq_false (fun z => by rw [h.mpr z] at q; cases q)).symm

set_option maxRecDepth 100000 in
theorem o8_isWord (d i k : Nat) (hk : k < 22) (T : Nat → Nat) (N a : Nat) (I : Nat → Nat → Nat → Int32) (L : Nat → Nat → Nat → Int64) (y : Dy) (H : bS 8 i T N a I y) :
    gTM mX13_isWord (d + 5) (0, 0) [gR (some (8, i)), gR (some (2, k))] (gH I L y) (fun v h' => v = [gI (gb (decide (rWord T N a = wd k)))] ∧ h' = gH (u3 I 8 i 2 (nI (sk T N a))) L y) (fun _ _ => False) := by
  have ha := H.2.2.2.2.2.1
  have hN := H.2.2.2.1
  have hR := H.2.1
  obtain ⟨k1, k2, k3, k4⟩ := sk_ok (T := T) ha
  obtain ⟨c1, c2, c3⟩ := gch_all k hk
  have hk' : k < gStr.length := by rw [gStr_22]; exact hk
  have Hs := H.at (by decide) k2
  have hlen : gP mJ7_length (d + 4) [gR (some (2, k))] (gH (u3 I 8 i 2 (nI (sk T N a))) L y) (gI (nI (gsl k))) := by rw [← c2]; exact p_length (d + 2) k hk' _
  have m1 : u3 I 8 i 2 (nI (sk T N a)) 8 i 1 = nI N := (u3_ne3 (by decide)).trans H.2.2.1
  have m2 : u3 I 8 i 2 (nI (sk T N a)) 8 i 2 = nI (sk T N a) := u3_eq
  have m66 : ∀ j, u3 I 8 i 2 (nI (sk T N a)) 66 0 j = I 66 0 j := fun j => by rw [u3_ne1 (by decide)]
  have ea : ∀ n, u3 I 8 i 2 (nI (sk T N a)) 8 i 2 + nI n = nI (sk T N a + n) := fun n => by rw [m2]; exact nI_add _ _
  obtain ⟨g0, hg0⟩ : ∃ g0, g0 = !tSm (cAt T N (sk T N a + gsl k)) := ⟨_, rfl⟩
  have hfin : wG T N (sk T N a) k g0 (gsl k) = decide (rWord T N a = wd k) := by rw [hg0]; exact isW_b hk k2
  have at85 : ∀ (g : Bool) (lo' : Lo), g = wG T N (sk T N a) k g0 (gsl k) → glle [none, none, some (gI (gb g)), none] lo' → gT mX13_isWord (d + 5) (0, 0) (fun v h' => v = [gI (gb (decide (rWord T N a = wd k)))] ∧ h' = gH (u3 I 8 i 2 (nI (sk T N a))) L y) (fun _ _ => False) 85 lo' [] (gH (u3 I 8 i 2 (nI (sk T N a))) L y) (0, 0) := by
    intro g lo' hg hl
    refine gT_lo _ hl ?_
    refine gT_go 400 [] kX13_isWord ?_
    exact ⟨gbo_b g, by rw [hg, hfin] <;> rfl, rfl⟩
  have at29 : ∀ lo', glle [some (gR (some (8, i))), some (gR (some (2, k))), some (gI (gb g0)), some (gI (nI 0))] lo' → gT mX13_isWord (d + 5) (0, 0) (fun v h' => v = [gI (gb (decide (rWord T N a = wd k)))] ∧ h' = gH (u3 I 8 i 2 (nI (sk T N a))) L y) (fun _ _ => False) 29 lo' [] (gH (u3 I 8 i 2 (nI (sk T N a))) L y) (0, 0) := by
    intro lo' hl
    refine gT_for (σ := Unit) (pc := 29) (lo := fun j _ => [some (gR (some (8, i))), some (gR (some (2, k))), some (gI (gb (wG T N (sk T N a) k g0 j))), some (gI (nI j))]) (hp := fun _ _ => gH (u3 I 8 i 2 (nI (sk T N a))) L y) (Inv := fun _ _ => True) (gsl k) ?_ ?_ 0 () (Nat.zero_le _) trivial hl
    · intro _ _
      refine gT_go 400 [85] kX13_isWord ?_
      refine gP_use hlen ?_
      refine bGe (gsl k) (gsl k) rfl rfl (fun _ => ?_) (fun q => absurd q (by omega))
      exact at85 _ _ rfl (by (repeat' apply And.intro) <;> first | rfl | trivial | exact congrArg Sum.inl (nI_1 _).symm | exact congrArg Sum.inl (nI_1 _).symm)
    · intro j _ hj _ hnext
      obtain ⟨b1, b2, b3⟩ := c3 j (by omega) hj
      have hg : ∀ g, g = (Nat.blt (sk T N a + j) N && Nat.beq (T (sk T N a + j)) (gch k j)) → wG T N (sk T N a) k g0 j = true → ∀ lo', glle [some (gR (some (8, i))), some (gR (some (2, k))), none, some (gI (nI j))] lo' → gT mX13_isWord (d + 5) (0, 0) (fun v h' => v = [gI (gb (decide (rWord T N a = wd k)))] ∧ h' = gH (u3 I 8 i 2 (nI (sk T N a))) L y) (fun _ _ => False) 78 lo' [gI (gb g)] (gH (u3 I 8 i 2 (nI (sk T N a))) L y) (0, 0) := by
        intro g hg1 hg2 lo' hl
        refine gT_lo _ hl ?_
        have e : wG T N (sk T N a) k g0 (j + 1) = g := by
          show (wG T N (sk T N a) k g0 j && _) = g
          rw [hg2, hg1] <;> rfl
        refine gT_go 400 [29] kX13_isWord ?_
        refine hnext () _ trivial ?_
        rw [e, ← nI_1 j]
        exact (by (repeat' apply And.intro) <;> first | rfl | trivial | exact congrArg Sum.inl (nI_1 _).symm | exact congrArg Sum.inl (nI_1 _).symm)
      refine gT_go 400 [58, 78, 85] kX13_isWord ?_
      refine gP_use hlen ?_
      refine bGe j (gsl k) rfl rfl (fun q => absurd q (by omega)) (fun _ => ?_)
      refine bB0 (wG T N (sk T N a) k g0 j) rfl (fun q => ?_) (fun q => ?_)
      · refine at85 _ _ ?_ (by (repeat' apply And.intro) <;> first | rfl | trivial | exact congrArg Sum.inl (nI_1 _).symm | exact congrArg Sum.inl (nI_1 _).symm)
        have z := wG_le (gsl k - j) j q
        rw [show j + (gsl k - j) = gsl k by omega] at z
        exact q.trans z.symm
      · refine bGe (sk T N a + j) N (ea j) m1 (fun w => ?_) (fun w => ?_)
        · exact hg false (by rw [nblt_f w] <;> rfl) q _ (by (repeat' apply And.intro) <;> first | rfl | trivial | exact congrArg Sum.inl (nI_1 _).symm | exact congrArg Sum.inl (nI_1 _).symm)
        · refine gT_ref hR ?_
          obtain ⟨t1, t2⟩ := H.2.2.2.2.2.2 _ w
          refine gT_go 400 [78] kX13_isWord ?_
          refine Exists.intro (sk T N a + j) (And.intro (ea j) (And.intro (show sk T N a + j < 600 by omega) ?_))
          refine gP_use (p_charAt d k j hk hj _) ?_
          refine bByNe (T (sk T N a + j)) (gch k j) t2 (by omega) ((m66 _).trans t1) rfl (fun z => ?_) (fun z => ?_)
          · exact hg false (by rw [gbeqF z, Bool.and_false]) q _ (by (repeat' apply And.intro) <;> first | rfl | trivial | exact congrArg Sum.inl (nI_1 _).symm | exact congrArg Sum.inl (nI_1 _).symm)
          · exact hg true (by rw [nblt_t w, gbeqT z] <;> rfl) q _ (by (repeat' apply And.intro) <;> first | rfl | trivial | exact congrArg Sum.inl (nI_1 _).symm | exact congrArg Sum.inl (nI_1 _).symm)
  refine gEnter 400 [29] kX13_isWord rfl rfl ?_
  refine gTM_use rfl (o8_now (d + 3) i T N a I L y H) (fun v h' q => ?_)
  obtain ⟨rfl, rfl⟩ := q
  refine gP_use hlen ?_
  refine gP_use (gP_eq (congrArg (fun z => [gR (some (8, i)), gI z]) (ea (gsl k))) (o8_isSmall (d + 3) i (sk T N a + gsl k) (by omega) T N (sk T N a) _ L y Hs)) ?_
  refine bB1 (tSm (cAt T N (sk T N a + gsl k))) rfl (fun q => ?_) (fun q => ?_)
  · have e : g0 = false := by rw [hg0, q] <;> rfl
    rw [e] at at29
    exact at29 _ (by (repeat' apply And.intro) <;> first | rfl | trivial | exact congrArg Sum.inl (nI_1 _).symm | exact congrArg Sum.inl (nI_1 _).symm)
  · have e : g0 = true := by rw [hg0, q] <;> rfl
    rw [e] at at29
    exact at29 _ (by (repeat' apply And.intro) <;> first | rfl | trivial | exact congrArg Sum.inl (nI_1 _).symm | exact congrArg Sum.inl (nI_1 _).symm)
/-- where the reader stands behind a word that may be eaten -/
theorem o8_eats (d i k : Nat) (hk : k < 22) (T : Nat → Nat) (N a : Nat) (I : Nat → Nat → Nat → Int32) (L : Nat → Nat → Nat → Int64) (y : Dy) (H : bS 8 i T N a I y) :
    gTM mX13_eats (d + 6) (0, 0) [gR (some (8, i)), gR (some (2, k))] (gH I L y) (fun v h' => v = [gI (gb (decide (rWord T N a = wd k)))] ∧ h' = gH (u3 I 8 i 2 (nI (if rWord T N a = wd k then wE T N (sk T N a) else sk T N a))) L y) (fun _ _ => False) := by
  have ha := H.2.2.2.2.2.1
  obtain ⟨k1, k2, k3, k4⟩ := sk_ok (T := T) ha
  obtain ⟨c1, c2, c3⟩ := gch_all k hk
  have hk' : k < gStr.length := by rw [gStr_22]; exact hk
  have hlen : gP mJ7_length (d + 5) [gR (some (2, k))] (gH (u3 I 8 i 2 (nI (sk T N a))) L y) (gI (nI (gsl k))) := by rw [← c2]; exact p_length (d + 3) k hk' _
  have at23 : ∀ (n : Nat) (lo' : Lo), sk T N a + n = (if rWord T N a = wd k then wE T N (sk T N a) else sk T N a) → glle [none, none, some (gI (gb (decide (rWord T N a = wd k))))] lo' → gT mX13_eats (d + 6) (0, 0) (fun v h' => v = [gI (gb (decide (rWord T N a = wd k)))] ∧ h' = gH (u3 I 8 i 2 (nI (if rWord T N a = wd k then wE T N (sk T N a) else sk T N a))) L y) (fun _ _ => False) 23 lo' [gI (nI n), gI (u3 I 8 i 2 (nI (sk T N a)) 8 i 2), gR (some (8, i))] (gH (u3 I 8 i 2 (nI (sk T N a))) L y) (0, 0) := by
    intro n lo' hn hl
    refine gT_lo _ hl ?_
    refine gT_go 400 [] kX13_eats ?_
    refine ⟨gbo_b _, rfl, ?_⟩
    have e : u3 (u3 I 8 i 2 (nI (sk T N a))) 8 i 2 (u3 I 8 i 2 (nI (sk T N a)) 8 i 2 + nI n) = u3 I 8 i 2 (nI (sk T N a + n)) := by rw [u3_u3, u3_eq]; exact congrArg (u3 I 8 i 2) (nI_add _ _)
    rw [← hn, ← e]
  refine gEnter 400 [23] kX13_eats rfl rfl ?_
  refine gTM_use rfl (o8_isWord d i k hk T N a I L y H) (fun v h' q => ?_)
  obtain ⟨rfl, rfl⟩ := q
  refine bB0 (decide (rWord T N a = wd k)) rfl (fun q => ?_) (fun q => ?_)
  · exact at23 0 _ (by rw [if_neg (of_decide_eq_false q)] <;> rfl) (by (repeat' apply And.intro) <;> first | rfl | trivial | exact congrArg Sum.inl (nI_1 _).symm | exact congrArg Sum.inl (nI_1 _).symm)
  · refine gP_use hlen ?_
    exact at23 (gsl k) _ (by rw [if_pos (of_decide_eq_true q), (isW_ok hk k2).2 (of_decide_eq_true q)]) (by (repeat' apply And.intro) <;> first | rfl | trivial | exact congrArg Sum.inl (nI_1 _).symm | exact congrArg Sum.inl (nI_1 _).symm)
set_option maxRecDepth 100000 in
theorem o8_which (d i j n : Nat) (f : Nat → Nat) (T : Nat → Nat) (N a : Nat) (I : Nat → Nat → Nat → Int32) (L : Nat → Nat → Nat → Int64) (y : Dy) (H : bS 8 i T N a I y) (hn : n = 9) (hf : ∀ t, t < n → f t < 22 ∧ gRX y 9 j t = some (2, f t)) :
    gTM mX13_which (d + 6) (0, 0) [gR (some (8, i)), gR (some (9, j))] (gH I L y) (fun v h' => (∃ o, v = [gI (oN o)] ∧ (∀ t, o = some t → t < n ∧ rWord T N a = wd (f t)) ∧ (o = none → ∀ t, t < n → ¬ rWord T N a = wd (f t))) ∧ h' = gH (u3 I 8 i 2 (nI (sk T N a))) L y) (fun _ _ => False) := by
  have ha := H.2.2.2.2.2.1
  have h2 := H.2.2.2.2.1
  obtain ⟨k1, k2, k3, k4⟩ := sk_ok (T := T) ha
  have hss := sk_sk (T := T) ha
  refine gEnter 400 [2] kX13_which rfl rfl ?_
  have main : gT mX13_which (d + 6) (0, 0) (fun v h' => (∃ o, v = [gI (oN o)] ∧ (∀ t, o = some t → t < n ∧ rWord T N a = wd (f t)) ∧ (o = none → ∀ t, t < n → ¬ rWord T N a = wd (f t))) ∧ h' = gH (u3 I 8 i 2 (nI (sk T N a))) L y) (fun _ _ => False) 2 [some (gR (some (8, i))), some (gR (some (9, j))), some (gI (nI 0))] [] (gH (u3 I 8 i 2 (nI a)) L y) (0, 0) := by
    refine gT_for (σ := Nat) (pc := 2) (lo := fun t _ => [some (gR (some (8, i))), some (gR (some (9, j))), some (gI (nI t))]) (hp := fun _ p => gH (u3 I 8 i 2 (nI p)) L y) (Inv := fun t p => ((t = 0 ∧ p = a) ∨ p = sk T N a) ∧ ∀ z, z < t → ¬ rWord T N a = wd (f z)) n ?_ ?_ 0 a (Nat.zero_le _) ⟨Or.inl ⟨rfl, rfl⟩, fun z hz => absurd hz (Nat.not_lt_zero _)⟩ (by (repeat' apply And.intro) <;> first | rfl | trivial | exact congrArg Sum.inl (nI_1 _).symm | exact congrArg Sum.inl (nI_1 _).symm)
    · intro p ⟨hp, hw⟩
      have ep : p = sk T N a := by rcases hp with ⟨z, -⟩ | z; omega; exact z
      subst ep
      refine gT_go 400 [] kX13_which ?_
      refine bGe n 9 rfl rfl (fun _ => ?_) (fun q => absurd q (by omega))
      exact ⟨⟨none, rfl, fun t z => (by cases z), fun _ => hw⟩, rfl⟩
    · intro t p ht ⟨hp, hw⟩ hnext
      have hpN : p ≤ N := by rcases hp with ⟨-, z⟩ | z <;> omega
      have esk : sk T N p = sk T N a := by rcases hp with ⟨-, z⟩ | z; rw [z]; rw [z]; exact hss
      have ewd : rWord T N p = rWord T N a := by rcases hp with ⟨-, z⟩ | z; rw [z]; rw [z]; exact rWord_sk ha
      obtain ⟨f1, f2⟩ := hf t ht
      refine gT_go 400 [2, 12] kX13_which ?_
      refine bGe t 9 rfl rfl (fun q => absurd q (by omega)) (fun _ => ?_)
      refine Exists.intro t (And.intro rfl (And.intro (show t < 9 by omega) ?_))
      refine gT_ref f2 ?_
      refine gT_go 400 [2] kX13_which ?_
      refine gTM_use rfl (o8_isWord d i (f t) f1 T N p (u3 I 8 i 2 (nI p)) L y (H.at (by decide) hpN)) (fun v h' q => ?_)
      obtain ⟨rfl, e2⟩ := q
      have e3 : h' = gH (u3 I 8 i 2 (nI (sk T N a))) L y := by rw [e2, esk]; exact congrArg (fun z => gH z L y) u3_u3
      subst e3
      refine bB0 (decide (rWord T N p = wd (f t))) rfl (fun q => ?_) (fun q => ?_)
      · refine hnext (sk T N a) _ ⟨Or.inr rfl, fun z hz => ?_⟩ (by (repeat' apply And.intro) <;> first | rfl | trivial | exact congrArg Sum.inl (nI_1 _).symm | exact congrArg Sum.inl (nI_1 _).symm)
        by_cases e : z = t
        · subst e
          rw [← ewd]
          exact of_decide_eq_false q
        · exact hw z (by omega)
      · refine ⟨⟨some t, rfl, fun z hz => ?_, fun z => by cases z⟩, rfl⟩
        cases hz
        exact ⟨ht, by rw [← ewd]; exact of_decide_eq_true q⟩
  rw [show u3 I 8 i 2 (nI a) = I from u3_self h2] at main
  exact main

set_option maxRecDepth 100000 in
theorem o28_isWord (d i k : Nat) (hk : k < 22) (T : Nat → Nat) (N a : Nat) (I : Nat → Nat → Nat → Int32) (L : Nat → Nat → Nat → Int64) (y : Dy) (H : bS 28 i T N a I y) :
    gTM mX13_isWord (d + 5) (0, 0) [gR (some (28, i)), gR (some (2, k))] (gH I L y) (fun v h' => v = [gI (gb (decide (rWord T N a = wd k)))] ∧ h' = gH (u3 I 28 i 2 (nI (sk T N a))) L y) (fun _ _ => False) := by
  have ha := H.2.2.2.2.2.1
  have hN := H.2.2.2.1
  have hR := H.2.1
  obtain ⟨k1, k2, k3, k4⟩ := sk_ok (T := T) ha
  obtain ⟨c1, c2, c3⟩ := gch_all k hk
  have hk' : k < gStr.length := by rw [gStr_22]; exact hk
  have Hs := H.at (by decide) k2
  have hlen : gP mJ7_length (d + 4) [gR (some (2, k))] (gH (u3 I 28 i 2 (nI (sk T N a))) L y) (gI (nI (gsl k))) := by rw [← c2]; exact p_length (d + 2) k hk' _
  have m1 : u3 I 28 i 2 (nI (sk T N a)) 28 i 1 = nI N := (u3_ne3 (by decide)).trans H.2.2.1
  have m2 : u3 I 28 i 2 (nI (sk T N a)) 28 i 2 = nI (sk T N a) := u3_eq
  have m66 : ∀ j, u3 I 28 i 2 (nI (sk T N a)) 66 0 j = I 66 0 j := fun j => by rw [u3_ne1 (by decide)]
  have ea : ∀ n, u3 I 28 i 2 (nI (sk T N a)) 28 i 2 + nI n = nI (sk T N a + n) := fun n => by rw [m2]; exact nI_add _ _
  obtain ⟨g0, hg0⟩ : ∃ g0, g0 = !tSm (cAt T N (sk T N a + gsl k)) := ⟨_, rfl⟩
  have hfin : wG T N (sk T N a) k g0 (gsl k) = decide (rWord T N a = wd k) := by rw [hg0]; exact isW_b hk k2
  have at85 : ∀ (g : Bool) (lo' : Lo), g = wG T N (sk T N a) k g0 (gsl k) → glle [none, none, some (gI (gb g)), none] lo' → gT mX13_isWord (d + 5) (0, 0) (fun v h' => v = [gI (gb (decide (rWord T N a = wd k)))] ∧ h' = gH (u3 I 28 i 2 (nI (sk T N a))) L y) (fun _ _ => False) 85 lo' [] (gH (u3 I 28 i 2 (nI (sk T N a))) L y) (0, 0) := by
    intro g lo' hg hl
    refine gT_lo _ hl ?_
    refine gT_go 400 [] kX13_isWord ?_
    exact ⟨gbo_b g, by rw [hg, hfin] <;> rfl, rfl⟩
  have at29 : ∀ lo', glle [some (gR (some (28, i))), some (gR (some (2, k))), some (gI (gb g0)), some (gI (nI 0))] lo' → gT mX13_isWord (d + 5) (0, 0) (fun v h' => v = [gI (gb (decide (rWord T N a = wd k)))] ∧ h' = gH (u3 I 28 i 2 (nI (sk T N a))) L y) (fun _ _ => False) 29 lo' [] (gH (u3 I 28 i 2 (nI (sk T N a))) L y) (0, 0) := by
    intro lo' hl
    refine gT_for (σ := Unit) (pc := 29) (lo := fun j _ => [some (gR (some (28, i))), some (gR (some (2, k))), some (gI (gb (wG T N (sk T N a) k g0 j))), some (gI (nI j))]) (hp := fun _ _ => gH (u3 I 28 i 2 (nI (sk T N a))) L y) (Inv := fun _ _ => True) (gsl k) ?_ ?_ 0 () (Nat.zero_le _) trivial hl
    · intro _ _
      refine gT_go 400 [85] kX13_isWord ?_
      refine gP_use hlen ?_
      refine bGe (gsl k) (gsl k) rfl rfl (fun _ => ?_) (fun q => absurd q (by omega))
      exact at85 _ _ rfl (by (repeat' apply And.intro) <;> first | rfl | trivial | exact congrArg Sum.inl (nI_1 _).symm | exact congrArg Sum.inl (nI_1 _).symm)
    · intro j _ hj _ hnext
      obtain ⟨b1, b2, b3⟩ := c3 j (by omega) hj
      have hg : ∀ g, g = (Nat.blt (sk T N a + j) N && Nat.beq (T (sk T N a + j)) (gch k j)) → wG T N (sk T N a) k g0 j = true → ∀ lo', glle [some (gR (some (28, i))), some (gR (some (2, k))), none, some (gI (nI j))] lo' → gT mX13_isWord (d + 5) (0, 0) (fun v h' => v = [gI (gb (decide (rWord T N a = wd k)))] ∧ h' = gH (u3 I 28 i 2 (nI (sk T N a))) L y) (fun _ _ => False) 78 lo' [gI (gb g)] (gH (u3 I 28 i 2 (nI (sk T N a))) L y) (0, 0) := by
        intro g hg1 hg2 lo' hl
        refine gT_lo _ hl ?_
        have e : wG T N (sk T N a) k g0 (j + 1) = g := by
          show (wG T N (sk T N a) k g0 j && _) = g
          rw [hg2, hg1] <;> rfl
        refine gT_go 400 [29] kX13_isWord ?_
        refine hnext () _ trivial ?_
        rw [e, ← nI_1 j]
        exact (by (repeat' apply And.intro) <;> first | rfl | trivial | exact congrArg Sum.inl (nI_1 _).symm | exact congrArg Sum.inl (nI_1 _).symm)
      refine gT_go 400 [58, 78, 85] kX13_isWord ?_
      refine gP_use hlen ?_
      refine bGe j (gsl k) rfl rfl (fun q => absurd q (by omega)) (fun _ => ?_)
      refine bB0 (wG T N (sk T N a) k g0 j) rfl (fun q => ?_) (fun q => ?_)
      · refine at85 _ _ ?_ (by (repeat' apply And.intro) <;> first | rfl | trivial | exact congrArg Sum.inl (nI_1 _).symm | exact congrArg Sum.inl (nI_1 _).symm)
        have z := wG_le (gsl k - j) j q
        rw [show j + (gsl k - j) = gsl k by omega] at z
        exact q.trans z.symm
      · refine bGe (sk T N a + j) N (ea j) m1 (fun w => ?_) (fun w => ?_)
        · exact hg false (by rw [nblt_f w] <;> rfl) q _ (by (repeat' apply And.intro) <;> first | rfl | trivial | exact congrArg Sum.inl (nI_1 _).symm | exact congrArg Sum.inl (nI_1 _).symm)
        · refine gT_ref hR ?_
          obtain ⟨t1, t2⟩ := H.2.2.2.2.2.2 _ w
          refine gT_go 400 [78] kX13_isWord ?_
          refine Exists.intro (sk T N a + j) (And.intro (ea j) (And.intro (show sk T N a + j < 600 by omega) ?_))
          refine gP_use (p_charAt d k j hk hj _) ?_
          refine bByNe (T (sk T N a + j)) (gch k j) t2 (by omega) ((m66 _).trans t1) rfl (fun z => ?_) (fun z => ?_)
          · exact hg false (by rw [gbeqF z, Bool.and_false]) q _ (by (repeat' apply And.intro) <;> first | rfl | trivial | exact congrArg Sum.inl (nI_1 _).symm | exact congrArg Sum.inl (nI_1 _).symm)
          · exact hg true (by rw [nblt_t w, gbeqT z] <;> rfl) q _ (by (repeat' apply And.intro) <;> first | rfl | trivial | exact congrArg Sum.inl (nI_1 _).symm | exact congrArg Sum.inl (nI_1 _).symm)
  refine gEnter 400 [29] kX13_isWord rfl rfl ?_
  refine gTM_use rfl (o28_now (d + 3) i T N a I L y H) (fun v h' q => ?_)
  obtain ⟨rfl, rfl⟩ := q
  refine gP_use hlen ?_
  refine gP_use (gP_eq (congrArg (fun z => [gR (some (28, i)), gI z]) (ea (gsl k))) (o28_isSmall (d + 3) i (sk T N a + gsl k) (by omega) T N (sk T N a) _ L y Hs)) ?_
  refine bB1 (tSm (cAt T N (sk T N a + gsl k))) rfl (fun q => ?_) (fun q => ?_)
  · have e : g0 = false := by rw [hg0, q] <;> rfl
    rw [e] at at29
    exact at29 _ (by (repeat' apply And.intro) <;> first | rfl | trivial | exact congrArg Sum.inl (nI_1 _).symm | exact congrArg Sum.inl (nI_1 _).symm)
  · have e : g0 = true := by rw [hg0, q] <;> rfl
    rw [e] at at29
    exact at29 _ (by (repeat' apply And.intro) <;> first | rfl | trivial | exact congrArg Sum.inl (nI_1 _).symm | exact congrArg Sum.inl (nI_1 _).symm)
/-- where the reader stands behind a word that may be eaten -/
theorem o28_eats (d i k : Nat) (hk : k < 22) (T : Nat → Nat) (N a : Nat) (I : Nat → Nat → Nat → Int32) (L : Nat → Nat → Nat → Int64) (y : Dy) (H : bS 28 i T N a I y) :
    gTM mX13_eats (d + 6) (0, 0) [gR (some (28, i)), gR (some (2, k))] (gH I L y) (fun v h' => v = [gI (gb (decide (rWord T N a = wd k)))] ∧ h' = gH (u3 I 28 i 2 (nI (if rWord T N a = wd k then wE T N (sk T N a) else sk T N a))) L y) (fun _ _ => False) := by
  have ha := H.2.2.2.2.2.1
  obtain ⟨k1, k2, k3, k4⟩ := sk_ok (T := T) ha
  obtain ⟨c1, c2, c3⟩ := gch_all k hk
  have hk' : k < gStr.length := by rw [gStr_22]; exact hk
  have hlen : gP mJ7_length (d + 5) [gR (some (2, k))] (gH (u3 I 28 i 2 (nI (sk T N a))) L y) (gI (nI (gsl k))) := by rw [← c2]; exact p_length (d + 3) k hk' _
  have at23 : ∀ (n : Nat) (lo' : Lo), sk T N a + n = (if rWord T N a = wd k then wE T N (sk T N a) else sk T N a) → glle [none, none, some (gI (gb (decide (rWord T N a = wd k))))] lo' → gT mX13_eats (d + 6) (0, 0) (fun v h' => v = [gI (gb (decide (rWord T N a = wd k)))] ∧ h' = gH (u3 I 28 i 2 (nI (if rWord T N a = wd k then wE T N (sk T N a) else sk T N a))) L y) (fun _ _ => False) 23 lo' [gI (nI n), gI (u3 I 28 i 2 (nI (sk T N a)) 28 i 2), gR (some (28, i))] (gH (u3 I 28 i 2 (nI (sk T N a))) L y) (0, 0) := by
    intro n lo' hn hl
    refine gT_lo _ hl ?_
    refine gT_go 400 [] kX13_eats ?_
    refine ⟨gbo_b _, rfl, ?_⟩
    have e : u3 (u3 I 28 i 2 (nI (sk T N a))) 28 i 2 (u3 I 28 i 2 (nI (sk T N a)) 28 i 2 + nI n) = u3 I 28 i 2 (nI (sk T N a + n)) := by rw [u3_u3, u3_eq]; exact congrArg (u3 I 28 i 2) (nI_add _ _)
    rw [← hn, ← e]
  refine gEnter 400 [23] kX13_eats rfl rfl ?_
  refine gTM_use rfl (o28_isWord d i k hk T N a I L y H) (fun v h' q => ?_)
  obtain ⟨rfl, rfl⟩ := q
  refine bB0 (decide (rWord T N a = wd k)) rfl (fun q => ?_) (fun q => ?_)
  · exact at23 0 _ (by rw [if_neg (of_decide_eq_false q)] <;> rfl) (by (repeat' apply And.intro) <;> first | rfl | trivial | exact congrArg Sum.inl (nI_1 _).symm | exact congrArg Sum.inl (nI_1 _).symm)
  · refine gP_use hlen ?_
    exact at23 (gsl k) _ (by rw [if_pos (of_decide_eq_true q), (isW_ok hk k2).2 (of_decide_eq_true q)]) (by (repeat' apply And.intro) <;> first | rfl | trivial | exact congrArg Sum.inl (nI_1 _).symm | exact congrArg Sum.inl (nI_1 _).symm)
set_option maxRecDepth 100000 in
theorem o28_which (d i j n : Nat) (f : Nat → Nat) (T : Nat → Nat) (N a : Nat) (I : Nat → Nat → Nat → Int32) (L : Nat → Nat → Nat → Int64) (y : Dy) (H : bS 28 i T N a I y) (hn : n = 8) (hf : ∀ t, t < n → f t < 22 ∧ gRX y 29 j t = some (2, f t)) :
    gTM mX13_which (d + 6) (0, 0) [gR (some (28, i)), gR (some (29, j))] (gH I L y) (fun v h' => (∃ o, v = [gI (oN o)] ∧ (∀ t, o = some t → t < n ∧ rWord T N a = wd (f t)) ∧ (o = none → ∀ t, t < n → ¬ rWord T N a = wd (f t))) ∧ h' = gH (u3 I 28 i 2 (nI (sk T N a))) L y) (fun _ _ => False) := by
  have ha := H.2.2.2.2.2.1
  have h2 := H.2.2.2.2.1
  obtain ⟨k1, k2, k3, k4⟩ := sk_ok (T := T) ha
  have hss := sk_sk (T := T) ha
  refine gEnter 400 [2] kX13_which rfl rfl ?_
  have main : gT mX13_which (d + 6) (0, 0) (fun v h' => (∃ o, v = [gI (oN o)] ∧ (∀ t, o = some t → t < n ∧ rWord T N a = wd (f t)) ∧ (o = none → ∀ t, t < n → ¬ rWord T N a = wd (f t))) ∧ h' = gH (u3 I 28 i 2 (nI (sk T N a))) L y) (fun _ _ => False) 2 [some (gR (some (28, i))), some (gR (some (29, j))), some (gI (nI 0))] [] (gH (u3 I 28 i 2 (nI a)) L y) (0, 0) := by
    refine gT_for (σ := Nat) (pc := 2) (lo := fun t _ => [some (gR (some (28, i))), some (gR (some (29, j))), some (gI (nI t))]) (hp := fun _ p => gH (u3 I 28 i 2 (nI p)) L y) (Inv := fun t p => ((t = 0 ∧ p = a) ∨ p = sk T N a) ∧ ∀ z, z < t → ¬ rWord T N a = wd (f z)) n ?_ ?_ 0 a (Nat.zero_le _) ⟨Or.inl ⟨rfl, rfl⟩, fun z hz => absurd hz (Nat.not_lt_zero _)⟩ (by (repeat' apply And.intro) <;> first | rfl | trivial | exact congrArg Sum.inl (nI_1 _).symm | exact congrArg Sum.inl (nI_1 _).symm)
    · intro p ⟨hp, hw⟩
      have ep : p = sk T N a := by rcases hp with ⟨z, -⟩ | z; omega; exact z
      subst ep
      refine gT_go 400 [] kX13_which ?_
      refine bGe n 8 rfl rfl (fun _ => ?_) (fun q => absurd q (by omega))
      exact ⟨⟨none, rfl, fun t z => (by cases z), fun _ => hw⟩, rfl⟩
    · intro t p ht ⟨hp, hw⟩ hnext
      have hpN : p ≤ N := by rcases hp with ⟨-, z⟩ | z <;> omega
      have esk : sk T N p = sk T N a := by rcases hp with ⟨-, z⟩ | z; rw [z]; rw [z]; exact hss
      have ewd : rWord T N p = rWord T N a := by rcases hp with ⟨-, z⟩ | z; rw [z]; rw [z]; exact rWord_sk ha
      obtain ⟨f1, f2⟩ := hf t ht
      refine gT_go 400 [2, 12] kX13_which ?_
      refine bGe t 8 rfl rfl (fun q => absurd q (by omega)) (fun _ => ?_)
      refine Exists.intro t (And.intro rfl (And.intro (show t < 8 by omega) ?_))
      refine gT_ref f2 ?_
      refine gT_go 400 [2] kX13_which ?_
      refine gTM_use rfl (o28_isWord d i (f t) f1 T N p (u3 I 28 i 2 (nI p)) L y (H.at (by decide) hpN)) (fun v h' q => ?_)
      obtain ⟨rfl, e2⟩ := q
      have e3 : h' = gH (u3 I 28 i 2 (nI (sk T N a))) L y := by rw [e2, esk]; exact congrArg (fun z => gH z L y) u3_u3
      subst e3
      refine bB0 (decide (rWord T N p = wd (f t))) rfl (fun q => ?_) (fun q => ?_)
      · refine hnext (sk T N a) _ ⟨Or.inr rfl, fun z hz => ?_⟩ (by (repeat' apply And.intro) <;> first | rfl | trivial | exact congrArg Sum.inl (nI_1 _).symm | exact congrArg Sum.inl (nI_1 _).symm)
        by_cases e : z = t
        · subst e
          rw [← ewd]
          exact of_decide_eq_false q
        · exact hw z (by omega)
      · refine ⟨⟨some t, rfl, fun z hz => ?_, fun z => by cases z⟩, rfl⟩
        cases hz
        exact ⟨ht, by rw [← ewd]; exact of_decide_eq_true q⟩
  rw [show u3 I 28 i 2 (nI a) = I from u3_self h2] at main
  exact main
/-! ===== a new Land ===== -/
theorem q196b : Jvm.Cond.classLink "GlassLeaders$Land" 35 ("[" ++ (FieldType.array FieldType.int).toString) ∈ lw_all := by
  have h : "[" ++ (FieldType.array FieldType.int).toString = "[[I" := by decide +kernel
  rw [h]; exact q196
/-- how long the arrays of a Land are -/
def ldL : Nat → Nat := fun q => if q = 0 then 12 else if q = 1 then 12 else if q = 2 then 24 else if q = 3 then 24 else if q = 4 then 5 else if q = 5 then 24 else 5
/-- the cells of the Land c, m of its arrays made -/
def ldN (c m b i : Nat) : Prop := (b = 40 ∧ i = c) ∨ (47 ≤ b ∧ b < 47 + m ∧ i = c) ∨ (6 ≤ m ∧ b = 54 ∧ 24 * c ≤ i ∧ i < 24 * c + 24) ∨ (7 ≤ m ∧ b = 55 ∧ 5 * c ≤ i ∧ i < 5 * c + 5)
/-- what an array of arrays makes -/
theorem gMu_all {h : Hp} {b b2 n k : Nat} (hne : b ≠ b2) : ∀ j, (∀ b' i k', ¬ (b' = b ∧ i = hC h b) → ¬ (b' = b2 ∧ hC h b2 ≤ i ∧ i < hC h b2 + j) → hI (gMu h b b2 n k j) b' i k' = hI h b' i k' ∧ hL (gMu h b b2 n k j) b' i k' = hL h b' i k' ∧ hR (gMu h b b2 n k j) b' i k' = hR h b' i k' ∧ hN (gMu h b b2 n k j) b' i = hN h b' i) ∧
    (∀ k', hI (gMu h b b2 n k j) b (hC h b) k' = 0) ∧ (∀ t, t < j → (∀ k', hI (gMu h b b2 n k j) b2 (hC h b2 + t) k' = 0) ∧ hN (gMu h b b2 n k j) b2 (hC h b2 + t) = k ∧ hR (gMu h b b2 n k j) b (hC h b) t = some (b2, hC h b2 + t)) ∧ ∀ b', b' ≠ b → b' ≠ b2 → hC (gMu h b b2 n k j) b' = hC h b' := by
  intro j
  induction j with
  | zero =>
    refine ⟨fun b' i k' h1 _ => ⟨gNw_I h1, gNw_L h1, gNw_R h1, gNw_N h1⟩, fun k' => gNw_I0, fun t ht => absurd ht (Nat.not_lt_zero _), fun b' h1 _ => gNw_C h1⟩
  | succ j ih =>
    obtain ⟨i1, i2, i3, i4⟩ := ih
    have cj := (gMu_C (h := h) (n := n) (k := k) hne j).1
    have e2 : ∀ {b' i}, ¬ (b' = b2 ∧ i = hC h b2 + j) → ¬ (b' = b2 ∧ i = hC (gMu h b b2 n k j) b2) := fun q z => q ⟨z.1, z.2.trans cj⟩
    refine ⟨fun b' i k' h1 h2 => ?_, fun k' => ?_, fun t ht => ?_, fun b' h1 h2 => ?_⟩
    · have ne : ¬ (b' = b2 ∧ i = hC (gMu h b b2 n k j) b2) := e2 (fun z => h2 ⟨z.1, by omega, by omega⟩)
      obtain ⟨a1, a2, a3, a4⟩ := i1 b' i k' h1 (fun z => h2 ⟨z.1, z.2.1, by omega⟩)
      exact ⟨(gNw_I (n := k) ne).trans a1, (gNw_L (n := k) ne).trans a2, (u3_ne (fun z => h1 ⟨z.1, z.2.1⟩)).trans ((gNw_R (n := k) ne).trans a3), (gNw_N (n := k) ne).trans a4⟩
    · exact (gNw_I (n := k) (fun z => hne z.1)).trans (i2 k')
    · by_cases e : t = j
      · subst e
        refine ⟨fun k' => ?_, ?_, u3_eq⟩
        · show hI (gNw (gMu h b b2 n k t) b2 k) b2 (hC h b2 + t) k' = 0
          rw [← cj]; exact gNw_I0
        · show hN (gNw (gMu h b b2 n k t) b2 k) b2 (hC h b2 + t) = k
          rw [← cj]; exact gNw_N0
      · obtain ⟨a1, a2, a3⟩ := i3 t (by omega)
        have ne : ¬ (b2 = b2 ∧ hC h b2 + t = hC (gMu h b b2 n k j) b2) := e2 (fun z => by have := z.2; omega)
        refine ⟨fun k' => (gNw_I (n := k) ne).trans (a1 k'), (gNw_N (n := k) ne).trans a2, (u3_ne3 e).trans ((gNw_R (n := k) (fun z => hne z.1)).trans a3)⟩
    · exact (gNw_C h2).trans (i4 b' h1 h2)
/-- a Land is being made -/
def ldP (I : Nat → Nat → Nat → Int32) (L : Nat → Nat → Nat → Int64) (y : Dy) (c m : Nat) (z : Nat → Int32) (h : Hp) : Prop :=
  (∀ b i k, ¬ ldN c m b i → hI h b i k = I b i k ∧ hL h b i k = L b i k ∧ hR h b i k = gRX y b i k ∧ hN h b i = gNX y b i) ∧ (∀ k, hR h 40 c k = if 7 ≤ k ∧ k < 7 + m then some (40 + k, c) else none) ∧ (∀ k, hI h 40 c k = z k) ∧
  (∀ q, q < m → (∀ k, hI h (47 + q) c k = 0) ∧ hN h (47 + q) c = ldL q) ∧ (6 ≤ m → ∀ t, t < 24 → (∀ k, hI h 54 (24 * c + t) k = 0) ∧ hN h 54 (24 * c + t) = 24 ∧ hR h 52 c t = some (54, 24 * c + t)) ∧ (7 ≤ m → ∀ t, t < 5 → (∀ k, hI h 55 (5 * c + t) k = 0) ∧ hN h 55 (5 * c + t) = 12 ∧ hR h 53 c t = some (55, 5 * c + t)) ∧
  hC h 40 = c + 1 ∧ (∀ q, q < 7 → hC h (47 + q) = if q < m then c + 1 else c) ∧ hC h 54 = (if 6 ≤ m then 24 * c + 24 else 24 * c) ∧ hC h 55 = (if 7 ≤ m then 5 * c + 5 else 5 * c) ∧ ∀ b, ¬ b = 40 → ¬ (47 ≤ b ∧ b ≤ 55) → hC h b = y.2.2.2.2 b
theorem ldP_0 {I : Nat → Nat → Nat → Int32} {L : Nat → Nat → Nat → Int64} {y : Dy} {c : Nat} (hc : y.2.2.2.2 40 = c) (hcc : ∀ b, 47 ≤ b → b ≤ 53 → y.2.2.2.2 b = c) (h54 : y.2.2.2.2 54 = 24 * c) (h55 : y.2.2.2.2 55 = 5 * c) : ldP I L y c 0 (fun _ => 0) (gNw (gH I L y) 40 0) := by
  subst hc
  refine ⟨fun b i k q => ?_, fun k => ?_, fun k => gNw_I0, fun q hq => absurd hq (Nat.not_lt_zero _), fun z => absurd z (by decide), fun z => absurd z (by decide), gNw_C0, fun q hq => ?_, (gNw_C (by decide)).trans h54, (gNw_C (by decide)).trans h55, fun b h1 _ => gNw_C h1⟩
  · have e : ¬ (b = 40 ∧ i = hC (gH I L y) 40) := fun z => q (Or.inl z)
    exact ⟨gNw_I e, gNw_L e, gNw_R e, gNw_N e⟩
  · rw [if_neg (by omega)]; exact gNw_R0
  · rw [if_neg (Nat.not_lt_zero _)]; exact (gNw_C (by omega)).trans (hcc (47 + q) (by omega) (by omega))
theorem ldP_i {I : Nat → Nat → Nat → Int32} {L : Nat → Nat → Nat → Int64} {y : Dy} {c m : Nat} {z : Nat → Int32} {h : Hp} (H : ldP I L y c m z h) (p : Nat) (v : Int32) : ldP I L y c m (fun k => if k = p then v else z k) (sI h 40 c p v) := by
  obtain ⟨h1, h2, h3, h4, h5, h6, h7⟩ := H
  have n3 : ∀ {b i k}, ¬ b = 40 → hI (sI h 40 c p v) b i k = hI h b i k := fun hb => u3_ne (fun z => hb z.1)
  refine ⟨fun b i k q => ?_, h2, fun k => ?_, fun q hq => ⟨fun k => (n3 (by omega)).trans ((h4 q hq).1 k), (h4 q hq).2⟩, fun a t ht => ⟨fun k => (n3 (by decide)).trans ((h5 a t ht).1 k), (h5 a t ht).2⟩, fun a t ht => ⟨fun k => (n3 (by decide)).trans ((h6 a t ht).1 k), (h6 a t ht).2⟩, h7⟩
  · obtain ⟨g1, g2⟩ := h1 b i k q
    exact ⟨(u3_ne (fun z => q (Or.inl ⟨z.1, z.2.1⟩))).trans g1, g2⟩
  · show u3 (hI h) 40 c p v 40 c k = if k = p then v else z k
    by_cases e : k = p
    · subst e; rw [if_pos rfl]; exact u3_eq
    · rw [if_neg e, u3_ne3 e]; exact h3 k
theorem ldP_s {I : Nat → Nat → Nat → Int32} {L : Nat → Nat → Nat → Int64} {y : Dy} {c m : Nat} {z : Nat → Int32} {h : Hp} (hm : m < 5) (H : ldP I L y c m z h) : ldP I L y c (m + 1) z (sR (gNw h (47 + m) (ldL m)) 40 c (7 + m) (some (47 + m, c))) := by
  obtain ⟨h1, h2, h3, h4, h5, h6, h7, h8, h9, h10, h11⟩ := H
  have hc : hC h (47 + m) = c := by rw [h8 m (by omega), if_neg (Nat.lt_irrefl _)]
  have nb : ∀ {b i}, ¬ (b = 47 + m ∧ i = c) → ¬ (b = 47 + m ∧ i = hC h (47 + m)) := fun q z => q ⟨z.1, z.2.trans hc⟩
  refine ⟨fun b i k q => ?_, fun k => ?_, fun k => (gNw_I (n := ldL m) (fun z => by have := z.1; omega)).trans (h3 k), fun q hq => ?_, fun z => absurd z (by omega), fun z => absurd z (by omega), (gNw_C (by omega)).trans h7, fun q hq => ?_, ?_, ?_, fun b b1 b2 => (gNw_C (by omega)).trans (h11 b b1 b2)⟩
  · have e : ¬ (b = 47 + m ∧ i = hC h (47 + m)) := nb (fun z => q (Or.inr (Or.inl ⟨by omega, by omega, z.2⟩)))
    have q' : ¬ ldN c m b i := fun z => q (by unfold ldN at z ⊢; omega)
    obtain ⟨g1, g2, g3, g4⟩ := h1 b i k q'
    exact ⟨(gNw_I (n := ldL m) e).trans g1, (gNw_L (n := ldL m) e).trans g2, (u3_ne (fun z => q (Or.inl ⟨z.1, z.2.1⟩))).trans ((gNw_R (n := ldL m) e).trans g3), (gNw_N (n := ldL m) e).trans g4⟩
  · show u3 (hR (gNw h (47 + m) (ldL m))) 40 c (7 + m) (some (47 + m, c)) 40 c k = _
    by_cases e : k = 7 + m
    · subst e
      rw [if_pos (by omega), show 40 + (7 + m) = 47 + m by omega]; exact u3_eq
    · rw [u3_ne3 e, gNw_R (fun z => by have := z.1; omega), h2 k]
      by_cases w : 7 ≤ k ∧ k < 7 + m
      · rw [if_pos w, if_pos (by omega)]
      · rw [if_neg w, if_neg (by omega)]
  · by_cases e : q = m
    · subst e
      refine ⟨fun k => ?_, ?_⟩
      · show hI (gNw h (47 + q) (ldL q)) (47 + q) c k = 0
        rw [← hc]; exact gNw_I0
      · show hN (gNw h (47 + q) (ldL q)) (47 + q) c = ldL q
        rw [← hc]; exact gNw_N0
    · have e2 : ¬ (47 + q = 47 + m ∧ c = hC h (47 + m)) := nb (fun z => by have := z.1; omega)
      exact ⟨fun k => (gNw_I (n := ldL m) e2).trans ((h4 q (by omega)).1 k), (gNw_N (n := ldL m) e2).trans (h4 q (by omega)).2⟩
  · show hC (gNw h (47 + m) (ldL m)) (47 + q) = _
    by_cases e : q = m
    · subst e; rw [if_pos (by omega), gNw_C0, hc]
    · rw [gNw_C (by omega), h8 q hq]
      by_cases w : q < m
      · rw [if_pos w, if_pos (by omega)]
      · rw [if_neg w, if_neg (by omega)]
  · rw [if_neg (by omega)]
    exact (gNw_C (by omega)).trans (by rw [h9, if_neg (by omega)])
  · rw [if_neg (by omega)]
    exact (gNw_C (by omega)).trans (by rw [h10, if_neg (by omega)])
theorem ldP_6 {I : Nat → Nat → Nat → Int32} {L : Nat → Nat → Nat → Int64} {y : Dy} {c : Nat} {z : Nat → Int32} {h : Hp} (H : ldP I L y c 5 z h) : ldP I L y c 6 z (sR (gMu h 52 54 24 24 24) 40 c 12 (some (52, c))) := by
  obtain ⟨h1, h2, h3, h4, h5, h6, h7, h8, h9, h10, h11⟩ := H
  have c52 : hC h 52 = c := h8 5 (by decide)
  have c54 : hC h 54 = 24 * c := h9
  obtain ⟨m1, m2, m3, m4⟩ := gMu_all (h := h) (b := 52) (b2 := 54) (n := 24) (k := 24) (by decide) 24
  obtain ⟨m5, m6⟩ := gMu_C (h := h) (b := 52) (b2 := 54) (n := 24) (k := 24) (by decide) 24
  have mN := gMu_N (h := h) (b := 52) (b2 := 54) (n := 24) (k := 24) (by decide) 24
  rw [c52] at m1 m2 m3 m6 mN
  rw [c54] at m1 m3 m5
  have same : ∀ b i k, ¬ (b = 52 ∧ i = c) → ¬ (b = 54 ∧ 24 * c ≤ i ∧ i < 24 * c + 24) → _ := m1
  refine ⟨fun b i k q => ?_, fun k => ?_, fun k => (m1 40 c k (fun z => by cases z.1) (fun z => by cases z.1)).1.trans (h3 k), fun q hq => ?_, fun _ t ht => ⟨(m3 t ht).1, (m3 t ht).2.1, (u3_ne (f := hR (gMu h 52 54 24 24 24)) (b := 40) (i := c) (k := 12) (v := some (52, c)) (fun z => by cases z.1)).trans (m3 t ht).2.2⟩, fun z => absurd z (by decide), (m4 40 (by decide) (by decide)).trans h7, fun q hq => ?_, m5, (m4 55 (by decide) (by decide)).trans h10, fun b b1 b2 => (m4 b (by omega) (by omega)).trans (h11 b b1 b2)⟩
  · obtain ⟨a1, a2, a3, a4⟩ := m1 b i k (fun z => q (Or.inr (Or.inl ⟨by omega, by omega, z.2⟩))) (fun z => q (Or.inr (Or.inr (Or.inl ⟨by decide, z.1, z.2.1, z.2.2⟩))))
    obtain ⟨g1, g2, g3, g4⟩ := h1 b i k (fun z => q (by unfold ldN at z ⊢; omega))
    exact ⟨a1.trans g1, a2.trans g2, (u3_ne (fun z => q (Or.inl ⟨z.1, z.2.1⟩))).trans (a3.trans g3), a4.trans g4⟩
  · show u3 (hR (gMu h 52 54 24 24 24)) 40 c 12 (some (52, c)) 40 c k = _
    by_cases e : k = 12
    · subst e; rw [if_pos (by omega)]; exact u3_eq
    · rw [u3_ne3 e, (m1 40 c k (fun z => by cases z.1) (fun z => by cases z.1)).2.2.1, h2 k]
      by_cases w : 7 ≤ k ∧ k < 7 + 5
      · rw [if_pos w, if_pos (by omega)]
      · rw [if_neg w, if_neg (by omega)]
  · by_cases e : q = 5
    · subst e; exact ⟨m2, mN⟩
    · have a := fun k => m1 (47 + q) c k (fun z => by have := z.1; omega) (fun z => by have := z.1; omega)
      exact ⟨fun k => (a k).1.trans ((h4 q (by omega)).1 k), (a 0).2.2.2.trans (h4 q (by omega)).2⟩
  · show hC (gMu h 52 54 24 24 24) (47 + q) = _
    by_cases e : q = 5
    · subst e; exact m6
    · rw [m4 (47 + q) (by omega) (by omega), h8 q hq]
      by_cases w : q < 5
      · rw [if_pos w, if_pos (by omega)]
      · rw [if_neg w, if_neg (by omega)]
theorem ldP_7 {I : Nat → Nat → Nat → Int32} {L : Nat → Nat → Nat → Int64} {y : Dy} {c : Nat} {z : Nat → Int32} {h : Hp} (H : ldP I L y c 6 z h) : ldP I L y c 7 z (sR (gMu h 53 55 5 12 5) 40 c 13 (some (53, c))) := by
  obtain ⟨h1, h2, h3, h4, h5, h6, h7, h8, h9, h10, h11⟩ := H
  have c52 : hC h 53 = c := h8 6 (by decide)
  have c54 : hC h 55 = 5 * c := h10
  obtain ⟨m1, m2, m3, m4⟩ := gMu_all (h := h) (b := 53) (b2 := 55) (n := 5) (k := 12) (by decide) 5
  obtain ⟨m5, m6⟩ := gMu_C (h := h) (b := 53) (b2 := 55) (n := 5) (k := 12) (by decide) 5
  have mN := gMu_N (h := h) (b := 53) (b2 := 55) (n := 5) (k := 12) (by decide) 5
  rw [c52] at m1 m2 m3 m6 mN
  rw [c54] at m1 m3 m5
  refine ⟨fun b i k q => ?_, fun k => ?_, fun k => (m1 40 c k (fun z => by cases z.1) (fun z => by cases z.1)).1.trans (h3 k), fun q hq => ?_, fun _ t ht => ?_, fun _ t ht => ⟨(m3 t ht).1, (m3 t ht).2.1, (u3_ne (f := hR (gMu h 53 55 5 12 5)) (b := 40) (i := c) (k := 13) (v := some (53, c)) (fun z => by cases z.1)).trans (m3 t ht).2.2⟩, (m4 40 (by decide) (by decide)).trans h7, fun q hq => ?_, (m4 54 (by decide) (by decide)).trans h9, m5, fun b b1 b2 => (m4 b (by omega) (by omega)).trans (h11 b b1 b2)⟩
  · obtain ⟨a1, a2, a3, a4⟩ := m1 b i k (fun z => q (Or.inr (Or.inl ⟨by omega, by omega, z.2⟩))) (fun z => q (Or.inr (Or.inr (Or.inr ⟨by decide, z.1, z.2.1, z.2.2⟩))))
    obtain ⟨g1, g2, g3, g4⟩ := h1 b i k (fun z => q (by unfold ldN at z ⊢; omega))
    exact ⟨a1.trans g1, a2.trans g2, (u3_ne (fun z => q (Or.inl ⟨z.1, z.2.1⟩))).trans (a3.trans g3), a4.trans g4⟩
  · show u3 (hR (gMu h 53 55 5 12 5)) 40 c 13 (some (53, c)) 40 c k = _
    by_cases e : k = 13
    · subst e; rw [if_pos (by omega)]; exact u3_eq
    · rw [u3_ne3 e, (m1 40 c k (fun z => by cases z.1) (fun z => by cases z.1)).2.2.1, h2 k]
      by_cases w : 7 ≤ k ∧ k < 7 + 6
      · rw [if_pos w, if_pos (by omega)]
      · rw [if_neg w, if_neg (by omega)]
  · by_cases e : q = 6
    · subst e; exact ⟨m2, mN⟩
    · have a := fun k => m1 (47 + q) c k (fun z => by have := z.1; omega) (fun z => by have := z.1; omega)
      exact ⟨fun k => (a k).1.trans ((h4 q (by omega)).1 k), (a 0).2.2.2.trans (h4 q (by omega)).2⟩
  · obtain ⟨g1, g2, g3⟩ := h5 (by decide) t ht
    have a := fun k => m1 54 (24 * c + t) k (fun z => by cases z.1) (fun z => by cases z.1)
    exact ⟨fun k => (a k).1.trans (g1 k), (a 0).2.2.2.trans g2, (u3_ne (f := hR (gMu h 53 55 5 12 5)) (b := 40) (i := c) (k := 13) (v := some (53, c)) (fun z => by cases z.1)).trans ((m1 52 c t (fun z => by cases z.1) (fun z => by cases z.1)).2.2.1.trans g3)⟩
  · show hC (gMu h 53 55 5 12 5) (47 + q) = _
    by_cases e : q = 6
    · subst e; exact m6
    · rw [m4 (47 + q) (by omega) (by omega), h8 q hq]
      by_cases w : q < 6
      · rw [if_pos w, if_pos (by omega)]
      · rw [if_neg w, if_neg (by omega)]
/-- the shape knows all that is there of a new Land -/
theorem ldP_eqv {I : Nat → Nat → Nat → Int32} {L : Nat → Nat → Nat → Int64} {y : Dy} {c : Nat} {z : Nat → Int32} {h : Hp} (H : ldP I L y c 7 z h) (hn : ∀ b i, hN h b i < 2 ^ 31) : gEqv h (gH (hI h) (hL h) (stY y h)) := by
  obtain ⟨h1, h2, h3, h4, h5, h6, h7, h8, h9, h10, h11⟩ := H
  have kR : ∀ b i k, gvk h b i k → gRX (stY y h) b i k = hR h b i k := by
    intro b i k hk
    show (match glk (gRt y) b with | some f => f i k | none => hR h b i k) = hR h b i k
    cases q : glk (gRt y) b with
    | none => rfl
    | some f =>
      show f i k = hR h b i k
      by_cases e : ldN c 7 b i
      · rcases e with ⟨rfl, rfl⟩ | ⟨e1, e2, rfl⟩ | ⟨-, rfl, -⟩ | ⟨-, rfl, -⟩
        · have ef : f = fun i k => bif Nat.beq k 12 then some (52, i) else bif Nat.beq k 13 then some (53, i) else bif Nat.ble 7 k && Nat.ble k 11 then some (40 + k, i) else none := by cases q; rfl
          rw [h2 k, ef]
          show (bif Nat.beq k 12 then some (52, i) else bif Nat.beq k 13 then some (53, i) else bif Nat.ble 7 k && Nat.ble k 11 then some (40 + k, i) else none) = _
          by_cases w : 7 ≤ k ∧ k < 7 + 7
          · rw [if_pos w]
            by_cases w1 : k = 12
            · subst w1; rfl
            · by_cases w2 : k = 13
              · subst w2; rfl
              · rw [gbeqF w1, gbeqF w2, Nat.ble_eq_true_of_le w.1, Nat.ble_eq_true_of_le (show k ≤ 11 by omega)] <;> rfl
          · rw [if_neg w, gbeqF (show ¬ k = 12 by omega), gbeqF (show ¬ k = 13 by omega)]
            have : (Nat.ble 7 k && Nat.ble k 11) = false := by
              rcases Nat.lt_or_ge k 7 with q | q
              · rw [nble_f q] <;> rfl
              · rw [nble_f (show 11 < k by omega), Bool.and_false]
            rw [this] <;> rfl
        · have q7 := h4 (b - 47) (by omega)
          rw [show 47 + (b - 47) = b by omega] at q7
          rcases (show b = 47 ∨ b = 48 ∨ b = 49 ∨ b = 50 ∨ b = 51 ∨ b = 52 ∨ b = 53 by omega) with rfl | rfl | rfl | rfl | rfl | rfl | rfl
          · cases q
          · cases q
          · cases q
          · cases q
          · cases q
          · have hk' : k < hN h 52 i := hk
            have ef : f = fun i k => some (54, 24 * i + k) := by cases q; rfl
            rw [q7.2] at hk'
            rw [(h5 (by decide) k hk').2.2, ef]
          · have hk' : k < hN h 53 i := hk
            have ef : f = fun i k => some (55, 5 * i + k) := by cases q; rfl
            rw [q7.2] at hk'
            rw [(h6 (by decide) k hk').2.2, ef]
        · cases q
        · cases q
      · rw [(h1 b i k e).2.2.1]
        unfold gRX
        rw [q]
  have kN : ∀ b i, gNX (stY y h) b i = hN h b i := by
    intro b i
    show (match glk gNt b with | some n => n | none => hN h b i) = hN h b i
    cases q : glk gNt b with
    | none => rfl
    | some n =>
      show n = hN h b i
      by_cases e : ldN c 7 b i
      · rcases e with ⟨rfl, rfl⟩ | ⟨e1, e2, rfl⟩ | ⟨-, rfl, e2, e3⟩ | ⟨-, rfl, e2, e3⟩
        · cases q
        · have q7 := (h4 (b - 47) (by omega)).2
          rw [show 47 + (b - 47) = b by omega] at q7
          rw [q7]
          rcases (show b = 47 ∨ b = 48 ∨ b = 49 ∨ b = 50 ∨ b = 51 ∨ b = 52 ∨ b = 53 by omega) with rfl | rfl | rfl | rfl | rfl | rfl | rfl <;> (cases q; rfl)
        · have q7 := (h5 (by decide) (i - 24 * c) (by omega)).2.1
          rw [show 24 * c + (i - 24 * c) = i by omega] at q7
          rw [q7]
          cases q; rfl
        · have q7 := (h6 (by decide) (i - 5 * c) (by omega)).2.1
          rw [show 5 * c + (i - 5 * c) = i by omega] at q7
          rw [q7]
          cases q; rfl
      · rw [(h1 b i 0 e).2.2.2]
        unfold gNX
        rw [q]
  exact ⟨fun b i k _ hk => ⟨rfl, rfl, kR b i k hk⟩, fun b i _ => kN b i, rfl, fun b i => by show gNX (stY y h) b i < 2 ^ 31; rw [kN b i]; exact hn b i⟩
section GLN
variable {m : GM} {d : Nat} {B : Nat × Nat} {Qr : List AV → Hp → Prop} {Qx : Rf → Hp → Prop} {u : Nat × Nat} {pc : Nat} {lo : Lo} {r : List AV} {h : Hp}
theorem gT_lens (K : (∀ b i, hN h b i < 2 ^ 31) → gT m d B Qr Qx pc lo r h u) : gT m d B Qr Qx pc lo r h u :=
  fun p l e s mi args below meth c D base ad0 h0 H locs ls ad cx ex e2 rp vs lk sl u1 u2 => K rp.2.2.2.2.1 p l e s mi args below meth c D base ad0 h0 H locs ls ad cx ex e2 rp vs lk sl u1 u2
end GLN
/-- regions in which a Land makes cells -/
def Gld : Nat → Prop := fun b => b = 40 ∨ (47 ≤ b ∧ b ≤ 55)
/-- counts of lands go up by one -/
def ldC (c : Nat) (y' : Dy) : Prop := y'.2.2.2.2 40 = c + 1 ∧ (∀ b, 47 ≤ b → b ≤ 53 → y'.2.2.2.2 b = c + 1) ∧ y'.2.2.2.2 54 = 24 * (c + 1) ∧ y'.2.2.2.2 55 = 5 * (c + 1)
theorem gSnw_0 {A : Nat → Nat} {h : Nat} (h1 : A 1 = 0) : gSnw A h = false := by unfold gSnw; rw [h1] <;> rfl
theorem ldP_fin {I : Nat → Nat → Nat → Int32} {L : Nat → Nat → Nat → Int64} {y : Dy} {c : Nat} {z : Nat → Int32} {h : Hp} (hc : y.2.2.2.2 40 = c) (hcc : ∀ b, 47 ≤ b → b ≤ 53 → y.2.2.2.2 b = c) (h54 : y.2.2.2.2 54 = 24 * c) (h55 : y.2.2.2.2 55 = 5 * c) (hz : ∀ k, z k = if k = 4 then 12 else if k = 3 then 12 else 0) (H : ldP I L y c 7 z h) : hF Gld (fun _ _ _ => False) I L y (hI h) (hL h) (stY y h) ∧ ldC c (stY y h) ∧ cLd c 12 aNew (hI h) := by
  obtain ⟨h1, h2, h3, h4, h5, h6, h7, h8, h9, h10, h11⟩ := H
  have no : ∀ b i, (Gld b → i < y.2.2.2.2 b) → ¬ ldN c 7 b i := by
    intro b i g e
    rcases e with ⟨rfl, rfl⟩ | ⟨e1, e2, rfl⟩ | ⟨-, rfl, e2, e3⟩ | ⟨-, rfl, e2, e3⟩
    · have := g (Or.inl rfl); omega
    · have := g (Or.inr ⟨e1, by omega⟩)
      rw [hcc b e1 (by omega)] at this; omega
    · have := g (Or.inr ⟨by decide, by decide⟩); omega
    · have := g (Or.inr ⟨by decide, by decide⟩); omega
  have cnt : ∀ b, hC h b = (if b = 40 then c + 1 else if 47 ≤ b ∧ b ≤ 53 then c + 1 else if b = 54 then 24 * c + 24 else if b = 55 then 5 * c + 5 else y.2.2.2.2 b) := by
    intro b
    by_cases e0 : b = 40
    · subst e0; rw [if_pos rfl]; exact h7
    · rw [if_neg e0]
      by_cases e1 : 47 ≤ b ∧ b ≤ 53
      · have q := h8 (b - 47) (by omega)
        rw [show 47 + (b - 47) = b by omega, if_pos (by omega)] at q
        rw [if_pos e1]; exact q
      · rw [if_neg e1]
        by_cases e2 : b = 54
        · subst e2; rw [if_pos rfl]; exact h9
        · rw [if_neg e2]
          by_cases e3 : b = 55
          · subst e3; rw [if_pos rfl]; exact h10
          · rw [if_neg e3]; exact h11 b e0 (by omega)
  have cntY : ∀ b, (stY y h).2.2.2.2 b = hC h b := fun _ => rfl
  refine ⟨⟨⟨rfl, rfl⟩, fun b i k g _ => (h1 b i k (no b i g)).1, fun b i k g => ?_, fun b => ?_, fun b g => ?_⟩, ⟨?_, fun b b1 b2 => ?_, ?_, ?_⟩, ?_⟩
  · obtain ⟨a1, a2, a3, a4⟩ := h1 b i k (no b i g)
    refine ⟨a2, ?_, ?_⟩
    · show (match glk (gRt y) b with | some f => f i k | none => hR h b i k) = gRX y b i k
      rw [a3]
      unfold gRX
      cases glk (gRt y) b <;> rfl
    · show (match glk gNt b with | some n => n | none => hN h b i) = gNX y b i
      rw [a4]
      unfold gNX
      cases glk gNt b <;> rfl
  · rw [cntY, cnt b]
    split
    · next e => rw [e, hc]; omega
    · split
      · next e => rw [hcc b e.1 e.2]; omega
      · split
        · next e => rw [e, h54]; omega
        · split
          · next e => rw [e, h55]; omega
          · exact Nat.le_refl _
  · rw [cntY, cnt b, if_neg (fun e => g (Or.inl e)), if_neg (fun e => g (Or.inr ⟨e.1, by omega⟩)), if_neg (fun e => g (Or.inr ⟨by omega, by omega⟩)), if_neg (fun e => g (Or.inr ⟨by omega, by omega⟩))]
  · rw [cntY]; exact h7
  · rw [cntY, cnt b, if_neg (by omega), if_pos ⟨b1, b2⟩]
  · rw [cntY, h9, if_pos (by decide)]; omega
  · rw [cntY, h10, if_pos (by decide)]; omega
  · have z0 : ∀ k, hI h 40 c k = if k = 4 then 12 else if k = 3 then 12 else 0 := fun k => (h3 k).trans (hz k)
    have zA : ∀ j, j ≠ 3 → j ≠ 4 → aNew j = 0 := fun j a b => by unfold aNew; rw [if_neg (by omega)]
    refine ⟨fun k hk => ?_, z0 4, z0 5, z0 6, fun p hp => ?_, fun w hw => ?_, fun k hk => ?_, fun k p hk hp => ?_, fun w t hw ht => ?_, 0, z0 14, by decide, fun t ht => ?_⟩
    · rw [z0 k]
      rcases (show k = 0 ∨ k = 1 ∨ k = 2 ∨ k = 3 by omega) with rfl | rfl | rfl | rfl <;> rfl
    · rw [zA (7 + p) (by omega) (by omega)]
      exact ⟨(h4 0 (by decide)).1 p, (h4 1 (by decide)).1 p⟩
    · rw [zA (19 + w) (by omega) (by omega), zA (43 + w) (by omega) (by omega)]
      exact ⟨(h4 2 (by decide)).1 w, (h4 3 (by decide)).1 w⟩
    · rw [zA (67 + k) (by omega) (by omega)]
      exact (h4 4 (by decide)).1 k
    · rw [zA (72 + 12 * k + p) (by omega) (by omega)]
      exact (h6 (by decide) k hk).1 p
    · unfold gSnA
      rw [zA (132 + 24 * w + t) (by omega) (by omega)]
      exact (h5 (by decide) w hw).1 t
    · rw [gSnw_0 (zA 1 (by decide) (by decide)), Nat.zero_testBit]
set_option maxRecDepth 100000 in
theorem o_ldNew (d c : Nat) (I : Nat → Nat → Nat → Int32) (L : Nat → Nat → Nat → Int64) (y : Dy) (hc : y.2.2.2.2 40 = c) (hcc : ∀ b, 47 ≤ b → b ≤ 53 → y.2.2.2.2 b = c) (h54 : y.2.2.2.2 54 = 24 * c) (h55 : y.2.2.2.2 55 = 5 * c) :
    gTM mX2_init (d + 2) (36, 742) [gR (some (40, c))] (gNw (gH I L y) 40 0) (fun v h' => v = [] ∧ ∃ I' L' y', h' = gH I' L' y' ∧ hF Gld (fun _ _ _ => False) I L y I' L' y' ∧ ldC c y' ∧ cLd c 12 aNew I') (fun _ _ => False) := by
  obtain ⟨h0, e0⟩ : ∃ h0, h0 = gNw (gH I L y) 40 0 := ⟨_, rfl⟩
  have p0 : ldP I L y c 0 (fun _ => 0) h0 := e0 ▸ ldP_0 hc hcc h54 h55
  rw [← e0]
  refine gEnter 400 [19] kX2_init rfl rfl ?_
  have q0 := ldP_i (ldP_i p0 3 12) 4 12
  obtain ⟨z, ez⟩ : ∃ z : Nat → Int32, z = fun k => if k = 4 then 12 else if k = 3 then 12 else 0 := ⟨_, rfl⟩
  rw [show (fun k => if k = 4 then (12 : Int32) else if k = 3 then 12 else 0) = z from ez.symm] at q0
  change gT _ _ _ _ _ _ _ _ (sI (sI h0 40 c 3 12) 40 c 4 12) _
  obtain ⟨k0, e0'⟩ : ∃ k0, k0 = sI (sI h0 40 c 3 12) 40 c 4 12 := ⟨_, rfl⟩
  rw [← e0'] at q0 ⊢
  refine gT_newA 47 12 (by decide) rfl rfl rfl rfl rfl (by decide) q269 dX2_init_19 (by decide) (by decide) ?_
  rw [show hC k0 47 = c from q0.2.2.2.2.2.2.2.1 0 (by decide)]
  obtain ⟨k1, e1⟩ : ∃ k1, k1 = sR (gNw k0 47 12) 40 c 7 (some (47, c)) := ⟨_, rfl⟩
  have p1 : ldP I L y c 1 z k1 := e1 ▸ ldP_s (m := 0) (by decide) q0
  refine gT_go 400 [27] kX2_init ?_
  change gT _ _ _ _ _ _ _ _ (sR (gNw k0 47 12) 40 c 7 (some (47, c))) _
  rw [← e1]
  refine gT_newA 48 12 (by decide) rfl rfl rfl rfl rfl (by decide) q269 dX2_init_27 (by decide) (by decide) ?_
  rw [show hC k1 48 = c from p1.2.2.2.2.2.2.2.1 1 (by decide)]
  obtain ⟨k2, e2⟩ : ∃ k2, k2 = sR (gNw k1 48 12) 40 c 8 (some (48, c)) := ⟨_, rfl⟩
  have p2 : ldP I L y c 2 z k2 := e2 ▸ ldP_s (m := 1) (by decide) p1
  refine gT_go 400 [35] kX2_init ?_
  change gT _ _ _ _ _ _ _ _ (sR (gNw k1 48 12) 40 c 8 (some (48, c))) _
  rw [← e2]
  refine gT_newA 49 24 (by decide) rfl rfl rfl rfl rfl (by decide) q270 dX2_init_35 (by decide) (by decide) ?_
  rw [show hC k2 49 = c from p2.2.2.2.2.2.2.2.1 2 (by decide)]
  obtain ⟨k3, e3⟩ : ∃ k3, k3 = sR (gNw k2 49 24) 40 c 9 (some (49, c)) := ⟨_, rfl⟩
  have p3 : ldP I L y c 3 z k3 := e3 ▸ ldP_s (m := 2) (by decide) p2
  refine gT_go 400 [43] kX2_init ?_
  change gT _ _ _ _ _ _ _ _ (sR (gNw k2 49 24) 40 c 9 (some (49, c))) _
  rw [← e3]
  refine gT_newA 50 24 (by decide) rfl rfl rfl rfl rfl (by decide) q270 dX2_init_43 (by decide) (by decide) ?_
  rw [show hC k3 50 = c from p3.2.2.2.2.2.2.2.1 3 (by decide)]
  obtain ⟨k4, e4⟩ : ∃ k4, k4 = sR (gNw k3 50 24) 40 c 10 (some (50, c)) := ⟨_, rfl⟩
  have p4 : ldP I L y c 4 z k4 := e4 ▸ ldP_s (m := 3) (by decide) p3
  refine gT_go 400 [50] kX2_init ?_
  change gT _ _ _ _ _ _ _ _ (sR (gNw k3 50 24) 40 c 10 (some (50, c))) _
  rw [← e4]
  refine gT_newA 51 5 (by decide) rfl rfl rfl rfl rfl (by decide) q270 dX2_init_50 (by decide) (by decide) ?_
  rw [show hC k4 51 = c from p4.2.2.2.2.2.2.2.1 4 (by decide)]
  obtain ⟨k5, e5⟩ : ∃ k5, k5 = sR (gNw k4 51 5) 40 c 11 (some (51, c)) := ⟨_, rfl⟩
  have p5 : ldP I L y c 5 z k5 := e5 ▸ ldP_s (m := 4) (by decide) p4
  refine gT_go 400 [60] kX2_init ?_
  change gT _ _ _ _ _ _ _ _ (sR (gNw k4 51 5) 40 c 11 (some (51, c))) _
  rw [← e5]
  refine gT_mul 52 54 24 24 (by decide) (by decide) (by decide) rfl rfl rfl rfl rfl rfl rfl rfl rfl (by decide) (by decide) q196b (by decide) q270 dX2_init_60 (by decide) (by decide) ?_
  rw [show hC k5 52 = c from p5.2.2.2.2.2.2.2.1 5 (by decide)]
  obtain ⟨k6, e6⟩ : ∃ k6, k6 = sR (gMu k5 52 54 24 24 24) 40 c 12 (some (52, c)) := ⟨_, rfl⟩
  have p6 : ldP I L y c 6 z k6 := e6 ▸ ldP_6 p5
  refine gT_go 400 [71] kX2_init ?_
  change gT _ _ _ _ _ _ _ _ (sR (gMu k5 52 54 24 24 24) 40 c 12 (some (52, c))) _
  rw [← e6]
  refine gT_mul 53 55 5 12 (by decide) (by decide) (by decide) rfl rfl rfl rfl rfl rfl rfl rfl rfl (by decide) (by decide) q196b (by decide) q270 dX2_init_71 (by decide) (by decide) ?_
  rw [show hC k6 53 = c from p6.2.2.2.2.2.2.2.1 6 (by decide)]
  obtain ⟨k7, e7⟩ : ∃ k7, k7 = sR (gMu k6 53 55 5 12 5) 40 c 13 (some (53, c)) := ⟨_, rfl⟩
  have p7 : ldP I L y c 7 z k7 := e7 ▸ ldP_7 p6
  refine gT_go 400 [78] kX2_init ?_
  change gT _ _ _ _ _ _ _ _ (sR (gMu k6 53 55 5 12 5) 40 c 13 (some (53, c))) _
  rw [← e7]
  refine gT_lens (fun hn => ?_)
  refine gT_eqv _ (ldP_eqv p7 hn) ?_
  obtain ⟨f1, f2, f3⟩ := ldP_fin hc hcc h54 h55 (fun k => by rw [ez]) p7
  refine gT_go 400 [] kX2_init ?_
  exact ⟨rfl, _, _, _, rfl, f1, f2, f3⟩
/-! ===== reading a land, in the component ===== -/
theorem rNum_sk {T : Nat → Nat} {N lo hi a : Nat} (h : a ≤ N) : rNum T N lo hi (sk T N a) = rNum T N lo hi a := by unfold rNum; rw [sk_sk h]
theorem rNum_inr {T : Nat → Nat} {N lo hi a n b : Nat} (h : rNum T N lo hi a = .inr (n, b)) (ha : a ≤ N) : b ≤ N ∧ a < b ∧ lo ≤ n ∧ n < hi := by
  obtain ⟨k1, k2, k3, k4⟩ := sk_ok (T := T) ha
  obtain ⟨e1, e2, e3, e4⟩ := dE_ok (T := T) k2
  have h1 := rNum_lt h
  have h2 := rNum_at h
  have h3 : b = dE T N (sk T N a) := by
    unfold rNum at h
    cases q1 : Nat.blt (sk T N a) (dE T N (sk T N a)) with
    | false => rw [q1] at h; cases h
    | true =>
      rw [q1] at h
      cases q2 : (Nat.ble lo (nV T (sk T N a) (dE T N (sk T N a) - sk T N a)) && Nat.blt (nV T (sk T N a) (dE T N (sk T N a) - sk T N a)) hi) with
      | false => rw [cond_true, q2] at h; cases h
      | true => rw [cond_true, q2] at h; cases h; rfl
  have h2' : sk T N a < b := h2
  omega
theorem rNumX_inr {T : Nat → Nat} {N lo hi a n b : Nat} {x : Option Nat} (h : rNumX T N lo hi x a = .inr (n, b)) : rNum T N lo hi a = .inr (n, b) ∧ ¬ x = some n := by
  unfold rNumX at h
  cases q : rNum T N lo hi a with
  | inl kp => rw [q] at h; cases h
  | inr z =>
    rw [q] at h
    by_cases c : x = some z.1
    · change (if x = some z.1 then (.inl (2, sk T N a) : RR Nat) else .inr z) = .inr (n, b) at h
      rw [if_pos c] at h
      cases h
    · change (if x = some z.1 then (.inl (2, sk T N a) : RR Nat) else .inr z) = .inr (n, b) at h
      rw [if_neg c] at h
      cases h
      exact ⟨rfl, c⟩
theorem rNumX_inl {T : Nat → Nat} {N lo hi a : Nat} {x : Option Nat} {kp : Nat × Nat} (h : rNumX T N lo hi x a = .inl kp) : rNum T N lo hi a = .inl kp ∨ ∃ n b, rNum T N lo hi a = .inr (n, b) ∧ x = some n ∧ kp = (2, sk T N a) := by
  unfold rNumX at h
  cases q : rNum T N lo hi a with
  | inl kp' => rw [q] at h; exact Or.inl h
  | inr z =>
    rw [q] at h
    by_cases c : x = some z.1
    · change (if x = some z.1 then (.inl (2, sk T N a) : RR Nat) else .inr z) = .inl kp at h
      rw [if_pos c] at h
      cases h
      exact Or.inr ⟨z.1, z.2, rfl, c, rfl⟩
    · change (if x = some z.1 then (.inl (2, sk T N a) : RR Nat) else .inr z) = .inl kp at h
      rw [if_neg c] at h
      cases h
/-! what a land holds, place by place -/
theorem gSnw_iff {A : Nat → Nat} {h : Nat} : gSnw A h = true ↔ ∃ w, w < A 1 ∧ 0 < A (132 + 24 * w + h) := by
  unfold gSnw
  rw [List.any_eq_true]
  constructor
  · rintro ⟨w, h1, h2⟩
    exact ⟨w, List.mem_range.mp h1, of_decide_eq_true h2⟩
  · rintro ⟨w, h1, h2⟩
    exact ⟨w, List.mem_range.mpr h1, decide_eq_true h2⟩
theorem aSnw_iff {A : Nat → Nat} {h : Nat} : ∀ n, aSnw A h n = true ↔ ∃ w, w < n ∧ 0 < A (132 + 24 * w + h) := by
  intro n
  constructor
  · intro q
    by_cases c : ∃ w, w < n ∧ 0 < A (132 + 24 * w + h)
    · exact c
    · have := aSnw_f (A := A) (h := h) n (fun w hw => by
        rcases Nat.eq_zero_or_pos (A (132 + 24 * w + h)) with z | z
        · exact z
        · exact absurd ⟨w, hw, z⟩ c)
      rw [this] at q; cases q
  · rintro ⟨w, h1, h2⟩
    exact aSnw_t h2 n h1
/-- ways that aren't there have no snow -/
def zS (A : Nat → Nat) : Prop := ∀ w h, A 1 ≤ w → w < 24 → h < 24 → A (132 + 24 * w + h) = 0
theorem zS_snw {A : Nat → Nat} (H : zS A) (h1 : A 1 ≤ 24) {h : Nat} (hh : h < 24) : aSnw A h 24 = gSnw A h := by
  rw [Bool.eq_iff_iff, aSnw_iff, gSnw_iff]
  constructor
  · rintro ⟨w, a, b⟩
    rcases Nat.lt_or_ge w (A 1) with q | q
    · exact ⟨w, q, b⟩
    · have := H w h q a hh; omega
  · rintro ⟨w, a, b⟩
    exact ⟨w, by omega, b⟩
theorem gSnw_same {A A' : Nat → Nat} (h1 : A' 1 = A 1) (h2 : ∀ j, 132 ≤ j → A' j = A j) (h : Nat) : gSnw A' h = gSnw A h := by
  rw [Bool.eq_iff_iff, gSnw_iff, gSnw_iff, h1]
  constructor
  · rintro ⟨w, a, b⟩
    rw [h2 _ (by omega)] at b
    exact ⟨w, a, b⟩
  · rintro ⟨w, a, b⟩
    exact ⟨w, a, by rw [h2 _ (by omega)]; exact b⟩
section GCL
variable {c : Nat} {A A' : Nat → Nat} {I I' : Nat → Nat → Nat → Int32}
theorem cLd_40 (H : cLd c (A 4) A I) : ∀ k, k < 7 → I 40 c k = nI (A k) := by
  obtain ⟨l1, l2, l3, l4, -⟩ := H
  intro k hk
  rcases (show k < 4 ∨ k = 4 ∨ k = 5 ∨ k = 6 by omega) with h | rfl | rfl | rfl
  · exact l1 k h
  · exact l2
  · exact l3
  · exact l4
theorem cLd_of (h40 : ∀ k, k < 7 → I' 40 c k = nI (A' k)) (h47 : ∀ p, p < 12 → I' 47 c p = gb (decide (A' (7 + p) = 1)) ∧ I' 48 c p = gb (decide (A' (7 + p) = 2))) (h49 : ∀ w, w < 24 → I' 49 c w = nI (A' (19 + w)) ∧ I' 50 c w = nI (A' (43 + w))) (h51 : ∀ k, k < 5 → I' 51 c k = nI (A' (67 + k)))
    (h55 : ∀ k p, k < 5 → p < 12 → I' 55 (5 * c + k) p = nI (A' (72 + 12 * k + p))) (h54 : ∀ w h, w < 24 → h < 24 → I' 54 (24 * c + w) h = nI (A' (132 + 24 * w + h))) (h14 : ∃ sb, I' 40 c 14 = nI sb ∧ sb < 2 ^ 24 ∧ ∀ h, h < 24 → sb.testBit h = gSnw A' h) : cLd c (A' 4) A' I' :=
  ⟨fun k hk => h40 k (by omega), h40 4 (by decide), h40 5 (by decide), h40 6 (by decide), h47, h49, h51, h55, h54, h14⟩
/-- one of the plain numbers -/
theorem cLd_n (H : cLd c (A 4) A I) (j v : Nat) (hj : j < 7) (h1 : j ≠ 1) : cLd c (aUp A j v 4) (aUp A j v) (u3 I 40 c j (nI v)) := by
  obtain ⟨l1, l2, l3, l4, l5, l6, l7, l8, l9, sb, b1, b2, b3⟩ := id H
  refine cLd_of (fun k hk => ?_) (fun p hp => ?_) (fun w hw => ?_) (fun k hk => ?_) (fun k p hk hp => ?_) (fun w h hw hh => ?_) ⟨sb, (u3_ne3 (by omega)).trans b1, b2, fun h hh => ?_⟩
  · by_cases e : k = j
    · subst e; rw [aUp_eq]; exact u3_eq
    · rw [aUp_ne e, u3_ne3 e]; exact cLd_40 H k hk
  · rw [u3_ne1 (by decide), u3_ne1 (by decide), aUp_ne (by omega)]; exact l5 p hp
  · rw [u3_ne1 (by decide), u3_ne1 (by decide), aUp_ne (by omega), aUp_ne (by omega)]; exact l6 w hw
  · rw [u3_ne1 (by decide), aUp_ne (by omega)]; exact l7 k hk
  · rw [u3_ne1 (by decide), aUp_ne (by omega)]; exact l8 k p hk hp
  · rw [u3_ne1 (by decide), aUp_ne (by omega)]; exact l9 w h hw hh
  · rw [b3 h hh, gSnw_same (aUp_ne (by omega)) (fun j hj => aUp_ne (by omega))]
/-- one more way -/
theorem cLd_w (H : cLd c (A 4) A I) (hz : zS A) (h1 : A 1 < 24) : cLd c (aUp A 1 (A 1 + 1) 4) (aUp A 1 (A 1 + 1)) (u3 I 40 c 1 (nI (A 1 + 1))) := by
  obtain ⟨l1, l2, l3, l4, l5, l6, l7, l8, l9, sb, b1, b2, b3⟩ := id H
  refine cLd_of (fun k hk => ?_) (fun p hp => ?_) (fun w hw => ?_) (fun k hk => ?_) (fun k p hk hp => ?_) (fun w h hw hh => ?_) ⟨sb, (u3_ne3 (by omega)).trans b1, b2, fun h hh => ?_⟩
  · by_cases e : k = 1
    · subst e; rw [aUp_eq]; exact u3_eq
    · rw [aUp_ne e, u3_ne3 e]; exact cLd_40 H k hk
  · rw [u3_ne1 (by decide), u3_ne1 (by decide), aUp_ne (by omega)]; exact l5 p hp
  · rw [u3_ne1 (by decide), u3_ne1 (by decide), aUp_ne (by omega), aUp_ne (by omega)]; exact l6 w hw
  · rw [u3_ne1 (by decide), aUp_ne (by omega)]; exact l7 k hk
  · rw [u3_ne1 (by decide), aUp_ne (by omega)]; exact l8 k p hk hp
  · rw [u3_ne1 (by decide), aUp_ne (by omega)]; exact l9 w h hw hh
  · rw [b3 h hh, Bool.eq_iff_iff, gSnw_iff, gSnw_iff, aUp_eq]
    constructor
    · rintro ⟨w, a, b⟩
      exact ⟨w, by omega, by rw [aUp_ne (by omega)]; exact b⟩
    · rintro ⟨w, a, b⟩
      rw [aUp_ne (by omega)] at b
      rcases Nat.lt_or_ge w (A 1) with q | q
      · exact ⟨w, q, b⟩
      · have := hz w h q (by omega) hh; omega
theorem cLd_49 (H : cLd c (A 4) A I) (w v : Nat) (hw : w < 24) : cLd c (aUp A (19 + w) v 4) (aUp A (19 + w) v) (u3 I 49 c w (nI v)) := by
  obtain ⟨l1, l2, l3, l4, l5, l6, l7, l8, l9, sb, b1, b2, b3⟩ := id H
  refine cLd_of (fun k hk => ?_) (fun p hp => ?_) (fun w' hw' => ?_) (fun k hk => ?_) (fun k p hk hp => ?_) (fun w h hw hh => ?_) ⟨sb, by rw [u3_ne1 (by decide)]; exact b1, b2, fun h hh => ?_⟩
  · rw [u3_ne1 (by decide), aUp_ne (by omega)]; exact cLd_40 H k hk
  · rw [u3_ne1 (by decide), u3_ne1 (by decide), aUp_ne (by omega)]; exact l5 p hp
  · rw [u3_ne1 (show ¬ 50 = 49 by decide), aUp_ne (show 43 + w' ≠ 19 + w by omega)]
    refine ⟨?_, (l6 w' hw').2⟩
    by_cases e : w' = w
    · subst e; rw [aUp_eq]; exact u3_eq
    · rw [aUp_ne (by omega), u3_ne3 e]; exact (l6 w' hw').1
  · rw [u3_ne1 (by decide), aUp_ne (by omega)]; exact l7 k hk
  · rw [u3_ne1 (by decide), aUp_ne (by omega)]; exact l8 k p hk hp
  · rw [u3_ne1 (by decide), aUp_ne (by omega)]; exact l9 w h hw hh
  · rw [b3 h hh, gSnw_same (aUp_ne (by omega)) (fun j hj => aUp_ne (by omega))]
theorem cLd_50 (H : cLd c (A 4) A I) (w v : Nat) (hw : w < 24) : cLd c (aUp A (43 + w) v 4) (aUp A (43 + w) v) (u3 I 50 c w (nI v)) := by
  obtain ⟨l1, l2, l3, l4, l5, l6, l7, l8, l9, sb, b1, b2, b3⟩ := id H
  refine cLd_of (fun k hk => ?_) (fun p hp => ?_) (fun w' hw' => ?_) (fun k hk => ?_) (fun k p hk hp => ?_) (fun w h hw hh => ?_) ⟨sb, by rw [u3_ne1 (by decide)]; exact b1, b2, fun h hh => ?_⟩
  · rw [u3_ne1 (by decide), aUp_ne (by omega)]; exact cLd_40 H k hk
  · rw [u3_ne1 (by decide), u3_ne1 (by decide), aUp_ne (by omega)]; exact l5 p hp
  · rw [u3_ne1 (show ¬ 49 = 50 by decide), aUp_ne (show 19 + w' ≠ 43 + w by omega)]
    refine ⟨(l6 w' hw').1, ?_⟩
    by_cases e : w' = w
    · subst e; rw [aUp_eq]; exact u3_eq
    · rw [aUp_ne (by omega), u3_ne3 e]; exact (l6 w' hw').2
  · rw [u3_ne1 (by decide), aUp_ne (by omega)]; exact l7 k hk
  · rw [u3_ne1 (by decide), aUp_ne (by omega)]; exact l8 k p hk hp
  · rw [u3_ne1 (by decide), aUp_ne (by omega)]; exact l9 w h hw hh
  · rw [b3 h hh, gSnw_same (aUp_ne (by omega)) (fun j hj => aUp_ne (by omega))]
theorem cLd_51 (H : cLd c (A 4) A I) (w v : Nat) (hw : w < 5) : cLd c (aUp A (67 + w) v 4) (aUp A (67 + w) v) (u3 I 51 c w (nI v)) := by
  obtain ⟨l1, l2, l3, l4, l5, l6, l7, l8, l9, sb, b1, b2, b3⟩ := id H
  refine cLd_of (fun k hk => ?_) (fun p hp => ?_) (fun w' hw' => ?_) (fun k hk => ?_) (fun k p hk hp => ?_) (fun w h hw hh => ?_) ⟨sb, by rw [u3_ne1 (by decide)]; exact b1, b2, fun h hh => ?_⟩
  · rw [u3_ne1 (by decide), aUp_ne (by omega)]; exact cLd_40 H k hk
  · rw [u3_ne1 (by decide), u3_ne1 (by decide), aUp_ne (by omega)]; exact l5 p hp
  · rw [u3_ne1 (by decide), u3_ne1 (by decide), aUp_ne (by omega), aUp_ne (by omega)]; exact l6 w' hw'
  · by_cases e : k = w
    · subst e; rw [aUp_eq]; exact u3_eq
    · rw [aUp_ne (by omega), u3_ne3 e]; exact l7 k hk
  · rw [u3_ne1 (by decide), aUp_ne (by omega)]; exact l8 k p hk hp
  · rw [u3_ne1 (by decide), aUp_ne (by omega)]; exact l9 w h hw hh
  · rw [b3 h hh, gSnw_same (aUp_ne (by omega)) (fun j hj => aUp_ne (by omega))]
theorem cLd_55 (H : cLd c (A 4) A I) (k0 p0 v : Nat) (hk0 : k0 < 5) (hp0 : p0 < 12) : cLd c (aUp A (72 + 12 * k0 + p0) v 4) (aUp A (72 + 12 * k0 + p0) v) (u3 I 55 (5 * c + k0) p0 (nI v)) := by
  obtain ⟨l1, l2, l3, l4, l5, l6, l7, l8, l9, sb, b1, b2, b3⟩ := id H
  refine cLd_of (fun k hk => ?_) (fun p hp => ?_) (fun w' hw' => ?_) (fun k hk => ?_) (fun k p hk hp => ?_) (fun w h hw hh => ?_) ⟨sb, by rw [u3_ne1 (by decide)]; exact b1, b2, fun h hh => ?_⟩
  · rw [u3_ne1 (by decide), aUp_ne (by omega)]; exact cLd_40 H k hk
  · rw [u3_ne1 (by decide), u3_ne1 (by decide), aUp_ne (by omega)]; exact l5 p hp
  · rw [u3_ne1 (by decide), u3_ne1 (by decide), aUp_ne (by omega), aUp_ne (by omega)]; exact l6 w' hw'
  · rw [u3_ne1 (by decide), aUp_ne (by omega)]; exact l7 k hk
  · by_cases e : k = k0 ∧ p = p0
    · obtain ⟨rfl, rfl⟩ := e; rw [aUp_eq]; exact u3_eq
    · rw [aUp_ne (by omega), u3_ne (fun z => e ⟨by omega, z.2.2⟩)]; exact l8 k p hk hp
  · rw [u3_ne1 (by decide), aUp_ne (by omega)]; exact l9 w h hw hh
  · rw [b3 h hh, gSnw_same (aUp_ne (by omega)) (fun j hj => aUp_ne (by omega))]
/-- of what sort a place is -/
theorem cLd_47 (H : cLd c (A 4) A I) (p0 s : Nat) (hp0 : p0 < 12) : cLd c (aUp A (7 + p0) s 4) (aUp A (7 + p0) s) (u3 (u3 I 47 c p0 (gb (decide (s = 1)))) 48 c p0 (gb (decide (s = 2)))) := by
  obtain ⟨l1, l2, l3, l4, l5, l6, l7, l8, l9, sb, b1, b2, b3⟩ := id H
  have e : ∀ b, b ≠ 47 → b ≠ 48 → u3 (u3 I 47 c p0 (gb (decide (s = 1)))) 48 c p0 (gb (decide (s = 2))) b = I b := fun b h1 h2 => (u3_ne1 h2).trans (u3_ne1 h1)
  refine cLd_of (fun k hk => ?_) (fun p hp => ?_) (fun w' hw' => ?_) (fun k hk => ?_) (fun k p hk hp => ?_) (fun w h hw hh => ?_) ⟨sb, by rw [e 40 (by decide) (by decide)]; exact b1, b2, fun h hh => ?_⟩
  · rw [e 40 (by decide) (by decide), aUp_ne (by omega)]; exact cLd_40 H k hk
  · rw [u3_ne1 (show ¬ 47 = 48 by decide)]
    by_cases q : p = p0
    · subst q; rw [aUp_eq]; exact ⟨u3_eq, u3_eq⟩
    · rw [aUp_ne (by omega), u3_ne3 q, u3_ne3 q, u3_ne1 (show ¬ 48 = 47 by decide)]; exact l5 p hp
  · rw [e 49 (by decide) (by decide), e 50 (by decide) (by decide), aUp_ne (by omega), aUp_ne (by omega)]; exact l6 w' hw'
  · rw [e 51 (by decide) (by decide), aUp_ne (by omega)]; exact l7 k hk
  · rw [e 55 (by decide) (by decide), aUp_ne (by omega)]; exact l8 k p hk hp
  · rw [e 54 (by decide) (by decide), aUp_ne (by omega)]; exact l9 w h hw hh
  · rw [b3 h hh, gSnw_same (aUp_ne (by omega)) (fun j hj => aUp_ne (by omega))]
end GCL
/-- what the reader i changes, with the land c -/
def Ml (i c : Nat) : Nat → Nat → Nat → Prop := fun b j k => Mb 8 i b j k ∨ (b = 40 ∧ j = c) ∨ (47 ≤ b ∧ b ≤ 51 ∧ j = c) ∨ (b = 54 ∧ 24 * c ≤ j ∧ j < 24 * c + 24) ∨ (b = 55 ∧ 5 * c ≤ j ∧ j < 5 * c + 5)
/-- the reader i of the land c stands at a, the land is A so far -/
def kS (i c : Nat) (T : Nat → Nat) (N a : Nat) (A : Nat → Nat) (I : Nat → Nat → Nat → Int32) (y : Dy) : Prop := bS 8 i T N a I y ∧ gRX y 8 i 4 = some (40, c) ∧ cLd c (A 4) A I
theorem kS.at {i c N a a' : Nat} {T : Nat → Nat} {A : Nat → Nat} {I : Nat → Nat → Nat → Int32} {y : Dy} (H : kS i c T N a A I y) (h : a' ≤ N) : kS i c T N a' A (u3 I 8 i 2 (nI a')) y :=
  ⟨H.1.at (by decide) h, H.2.1, cLd_cg2 (fun b b1 b2 => u3_ne1 (by omega)) H.2.2⟩
/-- a place of the land is set -/
theorem kS.up {i c N a b j k : Nat} {T : Nat → Nat} {A A' : Nat → Nat} {I : Nat → Nat → Nat → Int32} {v : Int32} {y : Dy} (H : kS i c T N a A I y) (hb : 40 ≤ b ∧ b < 56) (h : cLd c (A' 4) A' (u3 I b j k v)) : kS i c T N a A' (u3 I b j k v) y := by
  obtain ⟨⟨h1, h2, h3, h4, h5, h6, h7⟩, h8, h9⟩ := H
  have e8 : u3 I b j k v 8 = I 8 := u3_ne1 (by omega)
  have e66 : u3 I b j k v 66 = I 66 := u3_ne1 (by omega)
  exact ⟨⟨h1, h2, by rw [e8]; exact h3, h4, by rw [e8]; exact h5, h6, fun j hj => by rw [e66]; exact h7 j hj⟩, h8, h⟩
def kQ (i c : Nat) (T : Nat → Nat) (N : Nat) (r : RR (Nat → Nat)) (I : Nat → Nat → Nat → Int32) (L : Nat → Nat → Nat → Int64) (y : Dy) : List AV → Hp → Prop := fun v h' => ∃ A' b, r = .inr (A', b) ∧ v = [] ∧ ∃ I', h' = gH I' L y ∧ hF Gw (Ml i c) I L y I' L y ∧ kS i c T N b A' I' y
def kX {α : Type} (i c : Nat) (r : RR α) (I : Nat → Nat → Nat → Int32) (L : Nat → Nat → Nat → Int64) (y : Dy) : Rf → Hp → Prop := fun q h' => ∃ kp, r = .inl kp ∧ wX Gw (Ml i c) kp I L y q h'
section GML2
variable {i c : Nat} {I I1 : Nat → Nat → Nat → Int32} {L : Nat → Nat → Nat → Int64} {y : Dy}
theorem hFl_bM {a : Nat} (f : hF Gw (Ml i c) I L y I1 L y) : hF Gw (Ml i c) I L y (u3 I1 8 i 2 (nI a)) L y := f.put (Or.inl ⟨rfl, rfl, Or.inl rfl⟩) _
theorem hFl_40 {k : Nat} {v : Int32} (f : hF Gw (Ml i c) I L y I1 L y) : hF Gw (Ml i c) I L y (u3 I1 40 c k v) L y := f.put (Or.inr (Or.inl ⟨rfl, rfl⟩)) _
theorem hFl_47 {b k : Nat} {v : Int32} (hb : 47 ≤ b ∧ b ≤ 51) (f : hF Gw (Ml i c) I L y I1 L y) : hF Gw (Ml i c) I L y (u3 I1 b c k v) L y := f.put (Or.inr (Or.inr (Or.inl ⟨hb.1, hb.2, rfl⟩))) _
theorem hFl_54 {w k : Nat} {v : Int32} (hw : w < 24) (f : hF Gw (Ml i c) I L y I1 L y) : hF Gw (Ml i c) I L y (u3 I1 54 (24 * c + w) k v) L y := f.put (Or.inr (Or.inr (Or.inr (Or.inl ⟨rfl, by omega, by omega⟩)))) _
theorem hFl_55 {w k : Nat} {v : Int32} (hw : w < 5) (f : hF Gw (Ml i c) I L y I1 L y) : hF Gw (Ml i c) I L y (u3 I1 55 (5 * c + w) k v) L y := f.put (Or.inr (Or.inr (Or.inr (Or.inr ⟨rfl, by omega, by omega⟩)))) _
theorem kX_of {α : Type} {kp : Nat × Nat} {r : RR α} {q : Rf} {h' : Hp} (f : hF Gw (Ml i c) I L y I1 L y) (hr : r = .inl kp) (hx : wX Gw (Mb 8 i) kp I1 L y q h') : kX i c r I L y q h' := ⟨kp, hr, hx.of (fun _ z => z) (fun _ _ _ z => Or.inl z) f⟩
end GML2
set_option maxRecDepth 100000 in
theorem o_placeHere (d i c : Nat) (x : Option Nat) (hxx : ∀ v, x = some v → v < 10000) (T : Nat → Nat) (N a : Nat) (A : Nat → Nat) (hA : A 0 ≤ 12) (I : Nat → Nat → Nat → Int32) (L : Nat → Nat → Nat → Int64) (y : Dy) (K : kS i c T N a A I y) :
    gTM mX14_placeHere (d + 9) (2, 16) [gR (some (8, i)), gI (oN x)] (gH I L y) (rdQ 8 i (rNumX T N 0 (A 0) x a) I L y) (rdX 8 i (rNumX T N 0 (A 0) x a) I L y) := by
  obtain ⟨hB, hL, hl⟩ := K
  have l0 := hl.1 0 (by decide)
  refine gEnter 400 [6] kX14_placeHere rfl rfl ?_
  refine gT_ref (hL) ?_
  refine gT_go 400 [12] kX14_placeHere ?_
  refine gT_callV (k := (2, 16)) rfl rfl rfl rfl rfl dX14_placeHere_12 (o8_number d i 0 (A 0) x (by decide) (by omega) (I 40 c 0 - 1) (by rw [l0]) hxx T N a I L y hB) (by decide) (by decide) (fun v h' q => ?_) (fun q h' hq => gTX_out rfl hq)
  obtain ⟨n, b, e, rfl, rfl⟩ := q
  refine gT_go 400 [] kX14_placeHere ?_
  exact ⟨n, b, e, rfl, rfl⟩
set_option maxRecDepth 100000 in
theorem o_place (d i c : Nat) (T : Nat → Nat) (N a : Nat) (A : Nat → Nat) (hA : A 0 < 12) (I : Nat → Nat → Nat → Int32) (L : Nat → Nat → Nat → Int64) (y : Dy) (K : kS i c T N a A I y) :
    gTM mX14_place (d + 7) (0, 0) [gR (some (8, i))] (gH I L y) (kQ i c T N (rPlc T N A a) I L y) (fun _ _ => False) := by
  obtain ⟨hB, hL, hl⟩ := id K
  have ha := hB.2.2.2.2.2.1
  obtain ⟨k1, k2, k3, k4⟩ := sk_ok (T := T) ha
  obtain ⟨w1, w2, w3, w4⟩ := wE_ok (T := T) k2
  have l0 := hl.1 0 (by decide)
  -- the end: the sort is known
  have at68 : ∀ (s b : Nat) (J : Nat → Nat → Nat → Int32) (lo' : Lo), s < 3 → b ≤ N → rPlc T N A a = .inr (aUp (aUp A (7 + A 0) s) 0 (A 0 + 1), b) → hF Gw (Ml i c) I L y J L y → kS i c T N b (aUp A (7 + A 0) s) J y → glle [some (gR (some (8, i)))] lo' → gT mX14_place (d + 7) (0, 0) (kQ i c T N (rPlc T N A a) I L y) (fun _ _ => False) 68 lo' [] (gH J L y) (0, 0) := by
    intro s b J lo' hs hb hr f KJ hl'
    refine gT_lo _ hl' ?_
    refine gT_go 400 [72] kX14_place ?_
    refine gT_ref (hL) ?_
    refine gT_go 400 [] kX14_place ?_
    have j0 : J 40 c 0 = nI (A 0) := (KJ.2.2.1 0 (by decide)).trans (congrArg nI (aUp_ne (by omega)))
    have e : J 40 c 0 + 1 = nI (A 0 + 1) := by rw [j0]; exact nI_1 _
    refine ⟨_, b, hr, rfl, u3 J 40 c 0 (J 40 c 0 + 1), rfl, hFl_40 f, KJ.up (by decide) ?_⟩
    rw [e]
    exact cLd_n KJ.2.2 0 (A 0 + 1) (by decide) (by decide)
  have at67 : ∀ (g1 g2 : Bool) (s b : Nat) (J : Nat → Nat → Nat → Int32) (lo' : Lo), s < 3 → b ≤ N → g1 = decide (s = 1) → g2 = decide (s = 2) → rPlc T N A a = .inr (aUp (aUp A (7 + A 0) s) 0 (A 0 + 1), b) → J = u3 (u3 (u3 I 8 i 2 (nI (if rWord T N a = wd 9 then wE T N (sk T N a) else sk T N a))) 47 c (A 0) (gb g1)) 8 i 2 (nI b) → glle [some (gR (some (8, i)))] lo' →
      gT mX14_place (d + 7) (0, 0) (kQ i c T N (rPlc T N A a) I L y) (fun _ _ => False) 67 lo' [gI (gb g2), gI (nI (A 0)), gR (some (48, c))] (gH J L y) (0, 0) := by
    intro g1 g2 s b J lo' hs hb e1 e2 hr hJ hl'
    refine gT_lo _ hl' ?_
    refine gT_go 400 [68] kX14_place ?_
    refine And.intro (gbo_b g2) ?_
    refine Exists.intro (A 0) (And.intro rfl (And.intro (show _ < 12 by omega) ?_))
    have f : hF Gw (Ml i c) I L y J L y := by rw [hJ]; exact hFl_bM (hFl_47 (by decide) (hFl_bM hF.rf))
    have K2 := cLd_47 (K.at (i := i) hb).2.2 (A 0) s hA
    have eJ : u3 J 48 c (A 0) (gb g2) = u3 (u3 (u3 I 8 i 2 (nI b)) 47 c (A 0) (gb (decide (s = 1)))) 48 c (A 0) (gb (decide (s = 2))) := by
      rw [hJ, e1, e2]
      refine congrArg (fun z => u3 z 48 c (A 0) (gb (decide (s = 2)))) ?_
      funext b' i' k'
      by_cases q : b' = 47
      · subst q
        by_cases q2 : i' = c ∧ k' = A 0
        · obtain ⟨rfl, rfl⟩ := q2
          rw [u3_ne1 (show ¬ 47 = 8 by decide), u3_eq, u3_eq]
        · rw [u3_ne1 (show ¬ 47 = 8 by decide), u3_ne (fun z => q2 z.2), u3_ne (fun z => q2 z.2), u3_ne1 (show ¬ 47 = 8 by decide), u3_ne1 (show ¬ 47 = 8 by decide)]
      · rw [u3_ne1 (f := u3 I 8 i 2 (nI b)) q]
        by_cases q2 : b' = 8 ∧ i' = i ∧ k' = 2
        · obtain ⟨rfl, rfl, rfl⟩ := q2; rw [u3_eq, u3_eq]
        · rw [u3_ne q2, u3_ne1 q, u3_ne q2, u3_ne q2]
    have eb : J 8 i 2 = nI b := by rw [hJ]; exact u3_eq
    refine at68 s b _ _ hs hb hr (hFl_47 (by decide) f) ⟨hB.fr (hFl_47 (by decide) f) (by unfold Gw; decide) (fun z => ?_) (fun j z => ?_) ((congrFun (congrFun (u3_ne1 (by decide)) i) 2).trans eb) hb, hL, by rw [eJ]; exact K2⟩ (by (repeat' apply And.intro) <;> first | rfl | trivial | exact congrArg Sum.inl (nI_1 _).symm | exact congrArg Sum.inl (nI_1 _).symm)
    · rcases z with ⟨-, -, z⟩ | ⟨z, -⟩ | ⟨z, -⟩ | ⟨z, -⟩ | ⟨z, -⟩ <;> omega
    · rcases z with ⟨z, -⟩ | ⟨z, -⟩ | ⟨z, z2, -⟩ | ⟨z, -⟩ | ⟨z, -⟩ <;> omega
  refine gEnter 400 [4] kX14_place rfl rfl ?_
  refine gT_ref (hL) ?_
  refine gT_go 400 [11] kX14_place ?_
  refine gT_ref (hL) ?_
  refine gT_go 400 [25] kX14_place ?_
  refine gTM_use rfl (o8_eats d i 9 (by decide) T N a I L y hB) (fun v h' q => ?_)
  obtain ⟨rfl, rfl⟩ := q
  refine And.intro (gbo_b _) ?_
  refine Exists.intro (A 0) (And.intro (l0) (And.intro (show A 0 < 12 by omega) ?_))
  obtain ⟨b1, hb1⟩ : ∃ b1, b1 = (if rWord T N a = wd 9 then wE T N (sk T N a) else sk T N a) := ⟨_, rfl⟩
  have hb1N : b1 ≤ N := by rw [hb1]; split <;> omega
  obtain ⟨I1, hI1⟩ : ∃ I1, I1 = u3 (u3 I 8 i 2 (nI b1)) 47 c (A 0) (gb (decide (rWord T N a = wd 9))) := ⟨_, rfl⟩
  have i40 : I1 40 c 0 = nI (A 0) := by rw [hI1, u3_ne1 (by decide), u3_ne1 (by decide)]; exact l0
  have at25 : gT mX14_place (d + 7) (0, 0) (kQ i c T N (rPlc T N A a) I L y) (fun _ _ => False) 25 [some (gR (some (8, i)))] [gR (gRX y 8 i 4)] (gH I1 L y) (0, 0) := by
    refine gT_ref (hL) ?_
    refine gT_go 400 [32] kX14_place ?_
    refine gT_ref (hL) ?_
    refine gT_go 400 [39] kX14_place ?_
    refine gT_ref (hL) ?_
    refine gT_go 400 [46] kX14_place ?_
    refine gT_ref (hL) ?_
    refine gT_go 400 [67] kX14_place ?_
    refine Exists.intro (A 0) (And.intro (i40) (And.intro (show A 0 < 12 by omega) ?_))
    have i47 : I1 47 c (A 0) = gb (decide (rWord T N a = wd 9)) := by rw [hI1]; exact u3_eq
    have B1 : bS 8 i T N b1 I1 y := by
      rw [hI1]
      exact (hB.at (by decide) hb1N).fr (L := L) (L' := L) (hFl_47 (i := i) (c := c) (by decide) hF.rf) (by unfold Gw; decide) (fun z => by rcases z with ⟨-, -, z⟩ | ⟨z, -⟩ | ⟨z, -⟩ | ⟨z, -⟩ | ⟨z, -⟩ <;> omega) (fun j z => by rcases z with ⟨z, -⟩ | ⟨z, -⟩ | ⟨z, z2, -⟩ | ⟨z, -⟩ | ⟨z, -⟩ <;> omega) ((congrFun (congrFun (u3_ne1 (by decide)) i) 2).trans u3_eq) hb1N
    refine bB1 (decide (rWord T N a = wd 9)) i47 (fun q => ?_) (fun q => ?_)
    · have q' := of_decide_eq_true q
      have eb : b1 = wE T N (sk T N a) := by rw [hb1, if_pos q']
      refine gT_int2 i40 ?_
      exact at67 true false 1 b1 I1 _ (by decide) hb1N rfl rfl (by unfold rPlc; rw [if_pos q', eb]) (by rw [hI1, hb1, q]; exact (u3_self (congrFun (congrFun (u3_ne1 (by decide)) i) 2 |>.trans u3_eq)).symm) (by (repeat' apply And.intro) <;> first | rfl | trivial | exact congrArg Sum.inl (nI_1 _).symm | exact congrArg Sum.inl (nI_1 _).symm)
    · have q' := of_decide_eq_false q
      have eb : b1 = sk T N a := by rw [hb1, if_neg q']
      refine gTM_use rfl (o8_eats d i 10 (by decide) T N b1 I1 L y B1) (fun v h' w => ?_)
      obtain ⟨rfl, rfl⟩ := w
      have esk : sk T N b1 = sk T N a := by rw [eb]; exact sk_sk ha
      have ewd : rWord T N b1 = rWord T N a := by rw [eb]; exact rWord_sk ha
      rw [esk, ewd]
      refine bB0 (decide (rWord T N a = wd 10)) rfl (fun q2 => ?_) (fun q2 => ?_)
      · have q2' := of_decide_eq_false q2
        rw [if_neg q2']
        refine gT_int2 i40 ?_
        exact at67 false false 0 (sk T N a) _ _ (by decide) k2 rfl rfl (by unfold rPlc; rw [if_neg q', if_neg q2']) (by rw [hI1, hb1, q]) (by (repeat' apply And.intro) <;> first | rfl | trivial | exact congrArg Sum.inl (nI_1 _).symm | exact congrArg Sum.inl (nI_1 _).symm)
      · have q2' := of_decide_eq_true q2
        rw [if_pos q2']
        refine gT_int2 i40 ?_
        exact at67 false true 2 (wE T N (sk T N a)) _ _ (by decide) w2 rfl rfl (by unfold rPlc; rw [if_neg q', if_pos q2']) (by rw [hI1, hb1, q]) (by (repeat' apply And.intro) <;> first | rfl | trivial | exact congrArg Sum.inl (nI_1 _).symm | exact congrArg Sum.inl (nI_1 _).symm)
  rw [hI1, hb1] at at25
  exact at25
/-! ===== reading a land, in the component: clauses ===== -/
theorem rbd_l {α β : Type} {r : RR α} {kp : Nat × Nat} {f : α → Nat → RR β} (h : r = .inl kp) : rbd r f = .inl kp := by rw [h] <;> rfl
theorem rbd_r {α β : Type} {r : RR α} {n : α} {b : Nat} {f : α → Nat → RR β} (h : r = .inr (n, b)) : rbd r f = f n b := by rw [h] <;> rfl
theorem o8_num (d i lo hi : Nat) (hlo : lo < 100) (hhi : hi ≤ 10000) (hx : Int32) (hhx : hx = nI hi - 1) (T : Nat → Nat) (N a : Nat) (I : Nat → Nat → Nat → Int32) (L : Nat → Nat → Nat → Int64) (y : Dy) (H : bS 8 i T N a I y) :
    gTM mX13_number (d + 8) (2, 16) [gR (some (8, i)), gI (nI lo), gI hx, gI (-1)] (gH I L y) (rdQ 8 i (rNum T N lo hi a) I L y) (rdX 8 i (rNum T N lo hi a) I L y) := by
  have k := o8_number d i lo hi none hlo hhi hx hhx (fun v z => by cases z) T N a I L y H
  rw [rNumX_0] at k
  exact k
/-- from a place where the reader stands already -/
theorem o8_numM (d i lo hi : Nat) (hlo : lo < 100) (hhi : hi ≤ 10000) (hx : Int32) (hhx : hx = nI hi - 1) (T : Nat → Nat) (N a b : Nat) (I : Nat → Nat → Nat → Int32) (L : Nat → Nat → Nat → Int64) (y : Dy) (H : bS 8 i T N a I y) (hb : b ≤ N) :
    gTM mX13_number (d + 8) (2, 16) [gR (some (8, i)), gI (nI lo), gI hx, gI (-1)] (gH (u3 I 8 i 2 (nI b)) L y) (rdQ 8 i (rNum T N lo hi b) I L y) (rdX 8 i (rNum T N lo hi b) I L y) := by
  refine gTM_mono (o8_num d i lo hi hlo hhi hx hhx T N b (u3 I 8 i 2 (nI b)) L y (H.at (by decide) hb)) (fun v h' q => ?_) (fun q h' hq => ?_)
  · obtain ⟨n, b2, e1, e2, e3⟩ := q
    exact ⟨n, b2, e1, e2, e3.trans (congrArg (fun z => gH z L y) u3_u3)⟩
  · obtain ⟨kp, e1, e2⟩ := hq
    exact ⟨kp, e1, e2.of (fun _ z => z) (fun _ _ _ z => z) hF.bM⟩
theorem bits_r : ∀ x, x < 24 → ∀ z, z < 24 → x ≤ z → (nI 1 <<< ((nI z + 1) &&& 31)) - (nI 1 <<< (nI x &&& 31)) = nI (2 ^ (z + 1) - 2 ^ x) ∧ 2 ^ (z + 1) - 2 ^ x < 2 ^ 24 := by decide +kernel
theorem bits_t : ∀ x, x < 24 → ∀ z, z < 24 → x ≤ z → ∀ h, h < 24 → (2 ^ (z + 1) - 2 ^ x).testBit h = (Nat.ble x h && Nat.ble h z) := by decide +kernel
theorem bsm_hi {n : Nat} (hn : n < 2 ^ 24) : ∀ k, bsm n (24 + k) = bsm n 24 := by
  intro k
  induction k with
  | zero => rfl
  | succ k ih =>
    have h24 : n < 2 ^ (24 + k) := Nat.lt_of_lt_of_le hn (Nat.pow_le_pow_right (by decide) (by omega))
    show bsm n (24 + k) + (bif n.testBit (24 + k) then 1 else 0) = bsm n 24
    rw [ih, Nat.testBit_lt_two_pow h24]
    rfl
theorem aCnt_bsm {A : Nat → Nat} {sb x z : Nat} (h1 : A 1 ≤ 24) (hz : zS A) (hsb : ∀ h, h < 24 → sb.testBit h = gSnw A h) (hx : x < 24) (hz2 : z < 24) (hxz : x ≤ z) : ∀ n, n ≤ 24 → bsm (sb ||| (2 ^ (z + 1) - 2 ^ x)) n = aCnt A x z n := by
  intro n
  induction n with
  | zero => intro _; rfl
  | succ n ih =>
    intro hn
    rw [bsm, aCnt, ih (by omega), Nat.testBit_or, hsb n (by omega), bits_t x hx z hz2 hxz n (by omega), zS_snw hz h1 (show n < 24 by omega)]
    cases (gSnw A n || (Nat.ble x n && Nat.ble n z)) <;> rfl
/-- snow put into a land -/
theorem cLd_snow {c w x z n sb : Nat} {A : Nat → Nat} {I J : Nat → Nat → Nat → Int32} (H : cLd c (A 4) A I) (hw : w < A 1) (h1 : A 1 ≤ 24) (hx : x < 24) (hz : z < 24) (hxz : x ≤ z) (hn : 0 < n) (hsb : sb < 2 ^ 24 ∧ ∀ h, h < 24 → sb.testBit h = gSnw A h)
    (j0 : ∀ b, b ≠ 54 → b ≠ 40 → J b = I b) (j40 : ∀ k, k ≠ 14 → J 40 c k = I 40 c k) (j14 : J 40 c 14 = nI (sb ||| (2 ^ (z + 1) - 2 ^ x))) (j54 : ∀ j k, J 54 j k = if j = 24 * c + w ∧ x ≤ k ∧ k < x + (z + 1 - x) then nI n else I 54 j k) : cLd c (aPut A w x n (z + 1 - x) 4) (aPut A w x n (z + 1 - x)) J := by
  obtain ⟨l1, l2, l3, l4, l5, l6, l7, l8, l9, l10⟩ := id H
  have lo : ∀ j, j < 132 → aPut A w x n (z + 1 - x) j = A j := fun j hj => by rw [aPut_eq, if_neg (by omega)]
  obtain ⟨bt, b2⟩ := bits_r x hx z hz hxz
  refine cLd_of (fun k hk => ?_) (fun p hp => ?_) (fun w' hw' => ?_) (fun k hk => ?_) (fun k p hk hp => ?_) (fun w' h hw' hh => ?_) ⟨_, j14, Nat.or_lt_two_pow hsb.1 b2, fun h hh => ?_⟩
  · rw [j40 k (by omega), lo k (by omega)]; exact cLd_40 H k hk
  · rw [j0 47 (by decide) (by decide), j0 48 (by decide) (by decide), lo _ (by omega)]; exact l5 p hp
  · rw [j0 49 (by decide) (by decide), j0 50 (by decide) (by decide), lo _ (by omega), lo _ (by omega)]; exact l6 w' hw'
  · rw [j0 51 (by decide) (by decide), lo _ (by omega)]; exact l7 k hk
  · rw [j0 55 (by decide) (by decide), lo _ (by omega)]; exact l8 k p hk hp
  · rw [j54, aPut_eq]
    by_cases e : 24 * c + w' = 24 * c + w ∧ x ≤ h ∧ h < x + (z + 1 - x)
    · rw [if_pos e, if_pos (by omega)]
    · rw [if_neg e, if_neg (by omega)]; exact l9 w' h hw' hh
  · rw [Nat.testBit_or, hsb.2 h hh, bits_t x hx z hz hxz h hh, Bool.eq_iff_iff, Bool.or_eq_true, gSnw_iff, gSnw_iff, lo 1 (by decide)]
    constructor
    · rintro (⟨w', a, b⟩ | q)
      · refine ⟨w', a, ?_⟩
        rw [aPut_eq]
        split
        · exact hn
        · exact b
      · rw [Bool.and_eq_true] at q
        have q1 := Nat.le_of_ble_eq_true q.1
        have q2 := Nat.le_of_ble_eq_true q.2
        refine ⟨w, hw, ?_⟩
        rw [aPut_eq, if_pos (by omega)]
        exact hn
    · rintro ⟨w', a, b⟩
      rw [aPut_eq] at b
      by_cases e : 132 + 24 * w + x ≤ 132 + 24 * w' + h ∧ 132 + 24 * w' + h < 132 + 24 * w + x + (z + 1 - x)
      · refine Or.inr ?_
        rw [Nat.ble_eq_true_of_le (show x ≤ h by omega), Nat.ble_eq_true_of_le (show h ≤ z by omega)]
        rfl
      · rw [if_neg e] at b
        exact Or.inl ⟨w', a, b⟩
set_option maxRecDepth 100000 in
theorem o_snow (d i c : Nat) (T : Nat → Nat) (N a : Nat) (A : Nat → Nat) (h1 : A 1 ≤ 24) (hz : zS A) (I : Nat → Nat → Nat → Int32) (L : Nat → Nat → Nat → Int64) (y : Dy) (K : kS i c T N a A I y) :
    gTM mX14_snow (d + 9) (9, 72) [gR (some (8, i))] (gH I L y) (kQ i c T N (rSnow T N A a) I L y) (kX i c (rSnow T N A a) I L y) := by
  obtain ⟨hB, hL, hl⟩ := id K
  have hN := hB.2.2.2.1
  have ha := hB.2.2.2.2.2.1
  have l1 := hl.1 1 (by decide)
  obtain ⟨sb, s1, s2, s3⟩ := hl.2.2.2.2.2.2.2.2.2
  have fx : ∀ {α : Type} {r : RR α} {q : Rf} {h' : Hp} (kp : Nat × Nat), rdX 8 i r I L y q h' → (∀ kp, r = .inl kp → rSnow T N A a = .inl kp) → kX i c (rSnow T N A a) I L y q h' := by
    intro α r q h' kp hq hr
    obtain ⟨kp', e1, e2⟩ := hq
    exact kX_of hF.rf (hr _ e1) e2
  refine gEnter 400 [6] kX14_snow rfl rfl ?_
  refine gT_ref (hL) ?_
  refine gT_go 400 [12] kX14_snow ?_
  refine gT_callV (k := (2, 16)) rfl rfl rfl rfl rfl dX14_snow_12 (o8_num d i 0 (A 1) (by decide) (by omega) (I 40 c 1 - 1) (by rw [l1]) T N a I L y hB) (by decide) (by decide) (fun v h' q => ?_) (fun q h' hq => gTX_out rfl (fx (0, 0) hq (fun kp e => by unfold rSnow; rw [rbd_l e])))
  obtain ⟨w, b1, e1, rfl, rfl⟩ := q
  obtain ⟨hb1, -, -, hw⟩ := rNum_inr e1 ha
  refine gT_go 400 [21] kX14_snow ?_
  refine gT_callV (k := (2, 16)) rfl rfl rfl rfl rfl dX14_snow_21 (o8_numM d i 0 24 (by decide) (by decide) 23 rfl T N a b1 I L y hB hb1) (by decide) (by decide) (fun v h' q => ?_) (fun q h' hq => gTX_out rfl (fx (0, 0) hq (fun kp e => by unfold rSnow; rw [rbd_r e1, rbd_l e])))
  obtain ⟨x, b2, e2, rfl, rfl⟩ := q
  obtain ⟨hb2, -, -, hx⟩ := rNum_inr e2 hb1
  have hs := (sk_ok (T := T) hb2).2.1
  refine gT_go 400 [40] kX14_snow ?_
  refine gTM_use rfl (o8_now (d + 7) i T N b2 (u3 I 8 i 2 (nI b2)) L y (hB.at (by decide) hb2)) (fun v h' q => ?_)
  obtain ⟨rfl, q⟩ := q
  have e3 : h' = gH (u3 I 8 i 2 (nI (sk T N b2))) L y := q.trans (congrArg (fun z => gH z L y) u3_u3)
  subst e3
  refine gP_use (o8_at (d + 7) i T N (sk T N b2) (u3 I 8 i 2 (nI (sk T N b2))) L y (hB.at (by decide) hs)) ?_
  refine gT_callV (k := (2, 16)) rfl rfl rfl rfl rfl dX14_snow_40 (o8_numM d i x 24 (by omega) (by decide) 23 rfl T N a (sk T N b2) I L y hB hs) (by decide) (by decide) (fun v h' q => ?_) (fun q h' hq => gTX_out rfl (fx (0, 0) hq (fun kp e => by unfold rSnow; rw [rbd_r e1, rbd_r e2, rbd_l e])))
  obtain ⟨z, b3, e3, rfl, rfl⟩ := q
  obtain ⟨hb3, -, hxz, hz2⟩ := rNum_inr e3 hs
  obtain ⟨bt, bt2⟩ := bits_r x hx z hz2 hxz
  obtain ⟨hb, hhb⟩ : ∃ hb, hb = sb ||| (2 ^ (z + 1) - 2 ^ x) := ⟨_, rfl⟩
  have hbl : hb < 2 ^ 24 := by rw [hhb]; exact Nat.or_lt_two_pow s2 bt2
  have ehb : u3 I 8 i 2 (nI b3) 40 c 14 ||| ((nI 1 <<< ((nI z + 1) &&& 31)) - (nI 1 <<< (nI x &&& 31))) = nI hb := by
    rw [u3_ne1 (by decide), s1, bt, hhb, gIor]
  have hcnt : pcn 32 hb = aCnt A x z 24 := by
    rw [pcn_bsm, show (32 : Nat) = 24 + 8 from rfl, bsm_hi hbl, hhb]
    exact aCnt_bsm h1 hz s3 hx hz2 hxz 24 (Nat.le_refl _)
  have at65 : gT mX14_snow (d + 9) (9, 72) (kQ i c T N (rSnow T N A a) I L y) (kX i c (rSnow T N A a) I L y) 65 [some (gR (some (8, i))), some (gI (nI w)), some (gI (nI x)), some (gI (nI (sk T N b2))), some (gI (nI z)), some (gI (nI hb)), none, none] [] (gH (u3 I 8 i 2 (nI b3)) L y) (6, 48) := by
    refine gT_go 400 [75, 85] kX14_snow ?_
    refine gP_use (p_bitCount (d + 7) hb (by omega) _) ?_
    refine bLe (pcn 32 hb) 10 rfl rfl (fun q => ?_) (fun q => ?_) (by have := pcn_le 32 hb; omega)
    · rw [hcnt] at q
      refine gT_go 400 [90] kX14_snow ?_
      refine gT_callV (k := (2, 16)) rfl rfl rfl rfl rfl dX14_snow_90 (o8_numM d i 1 17 (by decide) (by decide) 16 rfl T N a b3 I L y hB hb3) (by decide) (by decide) (fun v h' q' => ?_) (fun q' h' hq => gTX_out rfl (fx (0, 0) hq (fun kp e => by unfold rSnow; rw [rbd_r e1, rbd_r e2, rbd_r e3, if_neg (by omega), rbd_r rfl, rbd_l e])))
      obtain ⟨n, b4, e4, rfl, rfl⟩ := q'
      obtain ⟨hb4, -, hn, hn2⟩ := rNum_inr e4 hb3
      have hr : rSnow T N A a = .inr (aPut A w x n (z + 1 - x), b4) := by unfold rSnow; rw [rbd_r e1, rbd_r e2, rbd_r e3, if_neg (by omega), rbd_r rfl, rbd_r e4]
      refine gT_go 400 [99] kX14_snow ?_
      refine gT_ref (hL) ?_
      refine gT_go 400 [107] kX14_snow ?_
      obtain ⟨J, hJ⟩ : ∃ J, J = u3 (u3 I 8 i 2 (nI b4)) 40 c 14 (nI hb) := ⟨_, rfl⟩
      change gT _ _ _ _ _ _ _ _ (gH (u3 (u3 I 8 i 2 (nI b4)) 40 c 14 (nI hb)) L y) _
      rw [← hJ]
      have fJ : hF Gw (Ml i c) I L y J L y := by rw [hJ]; exact hFl_40 (hFl_bM hF.rf)
      refine gT_for (σ := Nat → Nat → Nat → Int32) (pc := 107) (lo := fun t _ => [some (gR (some (8, i))), some (gI (nI w)), some (gI (nI x)), none, some (gI (nI z)), none, some (gI (nI n)), some (gI (nI (x + t)))]) (hp := fun _ s => gH s L y)
        (Inv := fun t s => hF Gw (Ml i c) I L y s L y ∧ (∀ b, b ≠ 54 → s b = J b) ∧ ∀ j k, s 54 j k = if j = 24 * c + w ∧ x ≤ k ∧ k < x + t then nI n else J 54 j k) (z + 1 - x) ?_ ?_ 0 J (Nat.zero_le _) ⟨fJ, fun _ _ => rfl, fun j k => by rw [if_neg (by omega)]⟩ (by (repeat' apply And.intro) <;> first | rfl | trivial | exact congrArg Sum.inl (nI_1 _).symm | exact congrArg Sum.inl (nI_1 _).symm)
      · intro s ⟨t1, t2, t3⟩
        refine gT_go 400 [] kX14_snow ?_
        refine bGt (x + (z + 1 - x)) z rfl rfl (fun _ => ?_) (fun q => absurd q (by omega))
        have j8 : s 8 i 2 = nI b4 := by rw [t2 8 (by decide), hJ, u3_ne1 (by decide)]; exact u3_eq
        refine ⟨_, b4, hr, rfl, s, rfl, t1, hB.fr t1 (by unfold Gw; decide) (fun z => ?_) (fun j z => ?_) j8 hb4, hL, ?_⟩
        · rcases z with ⟨-, -, z⟩ | ⟨z, -⟩ | ⟨z, -⟩ | ⟨z, -⟩ | ⟨z, -⟩ <;> omega
        · rcases z with ⟨z, -⟩ | ⟨z, -⟩ | ⟨z, z2, -⟩ | ⟨z, -⟩ | ⟨z, -⟩ <;> omega
        · refine cLd_snow (K.at (i := i) hb4).2.2 hw h1 hx hz2 hxz (by omega) ⟨s2, s3⟩ (fun b q1 q2 => ?_) (fun k hk => ?_) ?_ (fun j k => ?_)
          · rw [t2 b q1, hJ, u3_ne1 q2]
          · rw [t2 40 (by decide), hJ, u3_ne3 hk]
          · rw [t2 40 (by decide), hJ, ← hhb]; exact u3_eq
          · rw [t3 j k, hJ, u3_ne1 (show ¬ 54 = 40 by decide)]
      · intro t s ht ⟨t1, t2, t3⟩ hnext
        refine gT_go 400 [107, 118] kX14_snow ?_
        refine bGt (x + t) z rfl rfl (fun q => absurd q (by omega)) (fun _ => ?_)
        refine gT_ref (hL) ?_
        refine gT_go 400 [107] kX14_snow ?_
        refine Exists.intro (w) (And.intro rfl (And.intro (show _ < 24 by omega) ?_))
        refine Exists.intro ((x + t)) (And.intro rfl (And.intro (show _ < 24 by omega) ?_))
        refine hnext _ _ ⟨hFl_54 (by omega) t1, fun b hb => (u3_ne1 hb).trans (t2 b hb), fun j k => ?_⟩ ?_
        · by_cases e : j = 24 * c + w ∧ k = x + t
          · obtain ⟨rfl, rfl⟩ := e
            rw [if_pos (by omega)]
            exact u3_eq
          · refine (u3_ne (fun z => e z.2)).trans ((t3 j k).trans ?_)
            by_cases e2 : j = 24 * c + w ∧ x ≤ k ∧ k < x + t
            · rw [if_pos e2, if_pos (by omega)]
            · rw [if_neg e2, if_neg (by omega)]
        · rw [← Nat.add_assoc, ← nI_1 (x + t)]
          exact (by (repeat' apply And.intro) <;> first | rfl | trivial | exact congrArg Sum.inl (nI_1 _).symm | exact congrArg Sum.inl (nI_1 _).symm)
    · rw [hcnt] at q
      refine gT_new 37 (by decide) rfl rfl (by decide) dX14_snow_75 q999 q913 q159 (by decide) (by decide) ?_
      rw [gNw_gHn 0 rfl (fun z q => by cases q)]
      refine gT_go 400 [] kX14_snow ?_
      refine gTM_use rfl (o_wrNew (d + 2) (y.2.2.2.2 37) (nI 2) (nI (sk T N b2)) (fNw (u3 I 8 i 2 (nI b3)) 0 37 (y.2.2.2.2 37)) (fNw L 0 37 (y.2.2.2.2 37)) (yNw y 37 0) (gRX_nwN rfl)) (fun v h' q => ?_)
      obtain ⟨rfl, rfl⟩ := q
      refine gTX_out rfl ?_
      exact ⟨(2, sk T N b2), by unfold rSnow; rw [rbd_r e1, rbd_r e2, rbd_r e3, if_pos (by omega)]; rfl, (wX_new (G := Gw) (M := Ml i c) 2 (sk T N b2) rfl).of (fun _ z => z) (fun _ _ _ z => z) (hFl_bM hF.rf)⟩
  refine gT_go 400 [49] kX14_snow ?_
  refine gT_ref hL ?_
  refine gT_go 400 [65] kX14_snow ?_
  rw [← ehb] at at65
  exact at65
/-! ===== reading a land, in the component: the whole ===== -/
theorem zS_up {A : Nat → Nat} (H : zS A) (j v : Nat) (h1 : j ≠ 1) (h2 : j < 132) : zS (aUp A j v) := by
  intro w h a b e
  rw [aUp_ne (by omega)] at a
  rw [aUp_ne (by omega)]
  exact H w h a b e
theorem rCl_zs {T : Nat → Nat} {N : Nat} {A A' : Nat → Nat} {w a b : Nat} (h : zS A) (h0 : A 0 ≤ 12) (h1 : A 1 ≤ 24) (h2 : A 2 ≤ 5) (hf : rIsF A w = false) (e : rCl T N A w a = .inr (A', b)) : zS A' := by
  have hf' := of_decide_eq_false (show decide _ = false from hf)
  have d01 : wd 0 ≠ wd 1 ∧ wd 0 ≠ wd 3 ∧ wd 1 ≠ wd 3 := by decide +kernel
  unfold rCl at e
  split at e
  · next c =>
    have two : ∀ s, zS (aUp (aUp A (7 + A 0) s) 0 (A 0 + 1)) := fun s => zS_up (zS_up h _ _ (by omega) (by omega)) _ _ (by omega) (by omega)
    unfold rPlc at e
    split at e
    · cases e; exact two 1
    · split at e
      · cases e; exact two 2
      · cases e; exact two 0
  · split at e
    · next c0 c =>
      have a1 : A 1 < 24 := by omega
      obtain ⟨p, b1, e1, e⟩ := rbd_inr e
      obtain ⟨q, b2, e2, e⟩ := rbd_inr e
      split at e
      · cases e
      · cases e
        intro w h9 x1 x2 x3
        rw [aUp_eq] at x1
        rw [aUp_ne (by omega), aUp_ne (by omega), aUp_ne (by omega)]
        exact h w h9 (by omega) x2 x3
    · split at e
      · obtain ⟨w', b1, e1, e⟩ := rbd_inr e
        obtain ⟨x, b2, e2, e⟩ := rbd_inr e
        obtain ⟨z, b3, e3, e⟩ := rbd_inr e
        obtain ⟨_, b4, e4, e⟩ := rbd_inr e
        obtain ⟨n, b5, e5, e⟩ := rbd_inr e
        have hw := (rNum_lt e1).2
        have hx := (rNum_lt e2).2
        have hz := (rNum_lt e3).2
        cases e
        intro w h9 x1 x2 x3
        rw [aPut_eq, if_neg (by omega)] at x1
        rw [aPut_eq, if_neg (by omega)]
        exact h w h9 x1 x2 x3
      · split at e
        · obtain ⟨c', b1, e1, e⟩ := rbd_inr e
          cases e
          exact zS_up (zS_up h _ _ (by omega) (by omega)) _ _ (by omega) (by omega)
        · split at e
          · obtain ⟨k, b1, e1, e⟩ := rbd_inr e
            obtain ⟨p, b2, e2, e⟩ := rbd_inr e
            obtain ⟨v, b3, e3, e⟩ := rbd_inr e
            have hk := (rNum_lt e1).2
            have hp := (rNum_lt e2).2
            cases e
            exact zS_up h _ _ (by omega) (by omega)
          · split at e
            · obtain ⟨v, b1, e1, e⟩ := rbd_inr e
              cases e
              exact zS_up h _ _ (by omega) (by omega)
            · split at e
              · obtain ⟨v, b1, e1, e⟩ := rbd_inr e
                cases e
                exact zS_up h _ _ (by omega) (by omega)
              · split at e
                · obtain ⟨v, b1, e1, e⟩ := rbd_inr e
                  cases e
                  exact zS_up h _ _ (by omega) (by omega)
                · obtain ⟨v, b1, e1, e⟩ := rbd_inr e
                  cases e
                  exact zS_up h _ _ (by omega) (by omega)
theorem wd_ne : ∀ i, i < 9 → ∀ j, j < 9 → i ≠ j → ¬ wd i = wd j := by decide +kernel
/-- which clause a word begins -/
theorem rCl_k {T : Nat → Nat} {N : Nat} {A : Nat → Nat} {a : Nat} : rCl T N A (wd 0) a = rPlc T N A a ∧ rCl T N A (wd 1) a = rWay T N A a ∧ rCl T N A (wd 2) a = rSnow T N A a ∧ rCl T N A (wd 3) a = rbd (rNum T N 0 10 a) (fun c b => .inr (aUp (aUp A (67 + A 2) c) 2 (A 2 + 1), b)) ∧ rCl T N A (wd 4) a = rWants T N A a ∧ rCl T N A (wd 5) a = rOneA T N A 3 1 25 a ∧ rCl T N A (wd 6) a = rOneA T N A 4 1 13 a ∧ rCl T N A (wd 7) a = rOneA T N A 5 0 100 a ∧ rCl T N A (wd 8) a = rOneA T N A 6 0 (A 0) a := by
  have n := fun i j (h1 : i < 9) (h2 : j < 9) (h3 : i ≠ j) => wd_ne i h1 j h2 h3
  unfold rCl
  refine ⟨if_pos rfl, ?_, ?_, ?_, ?_, ?_, ?_, ?_, ?_⟩
  · rw [if_neg (n 1 0 (by decide) (by decide) (by decide)), if_pos rfl]
  · rw [if_neg (n 2 0 (by decide) (by decide) (by decide)), if_neg (n 2 1 (by decide) (by decide) (by decide)), if_pos rfl]
  · rw [if_neg (n 3 0 (by decide) (by decide) (by decide)), if_neg (n 3 1 (by decide) (by decide) (by decide)), if_neg (n 3 2 (by decide) (by decide) (by decide)), if_pos rfl]
  · rw [if_neg (n 4 0 (by decide) (by decide) (by decide)), if_neg (n 4 1 (by decide) (by decide) (by decide)), if_neg (n 4 2 (by decide) (by decide) (by decide)), if_neg (n 4 3 (by decide) (by decide) (by decide)), if_pos rfl]
  · rw [if_neg (n 5 0 (by decide) (by decide) (by decide)), if_neg (n 5 1 (by decide) (by decide) (by decide)), if_neg (n 5 2 (by decide) (by decide) (by decide)), if_neg (n 5 3 (by decide) (by decide) (by decide)), if_neg (n 5 4 (by decide) (by decide) (by decide)), if_pos rfl]
  · rw [if_neg (n 6 0 (by decide) (by decide) (by decide)), if_neg (n 6 1 (by decide) (by decide) (by decide)), if_neg (n 6 2 (by decide) (by decide) (by decide)), if_neg (n 6 3 (by decide) (by decide) (by decide)), if_neg (n 6 4 (by decide) (by decide) (by decide)), if_neg (n 6 5 (by decide) (by decide) (by decide)), if_pos rfl]
  · rw [if_neg (n 7 0 (by decide) (by decide) (by decide)), if_neg (n 7 1 (by decide) (by decide) (by decide)), if_neg (n 7 2 (by decide) (by decide) (by decide)), if_neg (n 7 3 (by decide) (by decide) (by decide)), if_neg (n 7 4 (by decide) (by decide) (by decide)), if_neg (n 7 5 (by decide) (by decide) (by decide)), if_neg (n 7 6 (by decide) (by decide) (by decide)), if_pos rfl]
  · rw [if_neg (n 8 0 (by decide) (by decide) (by decide)), if_neg (n 8 1 (by decide) (by decide) (by decide)), if_neg (n 8 2 (by decide) (by decide) (by decide)), if_neg (n 8 3 (by decide) (by decide) (by decide)), if_neg (n 8 4 (by decide) (by decide) (by decide)), if_neg (n 8 5 (by decide) (by decide) (by decide)), if_neg (n 8 6 (by decide) (by decide) (by decide)), if_neg (n 8 7 (by decide) (by decide) (by decide))]
set_option maxRecDepth 100000 in
theorem o_clause (d i c k : Nat) (hk : k < 9) (T : Nat → Nat) (N a : Nat) (A : Nat → Nat) (h0 : A 0 ≤ 12) (h1 : A 1 ≤ 24) (h2 : A 2 ≤ 5) (hf : rIsF A (wd k) = false) (hz : zS A) (I : Nat → Nat → Nat → Int32) (L : Nat → Nat → Nat → Int64) (y : Dy) (K : kS i c T N a A I y) :
    gTM mX14_clause (d + 10) (9, 72) [gR (some (8, i)), gI (nI k)] (gH I L y) (kQ i c T N (rCl T N A (wd k) a) I L y) (kX i c (rCl T N A (wd k) a) I L y) := by
  obtain ⟨hB, hL, hl⟩ := id K
  have hN := hB.2.2.2.1
  have ha := hB.2.2.2.2.2.1
  have hf' := of_decide_eq_false (show decide _ = false from hf)
  obtain ⟨R, hR⟩ : ∃ R, R = rCl T N A (wd k) a := ⟨_, rfl⟩
  rw [← hR]
  have fx : ∀ {α : Type} {r : RR α} {J : Nat → Nat → Nat → Int32} {q : Rf} {h' : Hp}, hF Gw (Ml i c) I L y J L y → rdX 8 i r J L y q h' → (∀ kp, r = .inl kp → R = .inl kp) → kX i c R I L y q h' := by
    intro α r J q h' f hq hr
    obtain ⟨kp', e1, e2⟩ := hq
    exact kX_of f (hr _ e1) e2
  obtain ⟨c0, c1, c2, c3, c4, c5, c6, c7, c8⟩ := rCl_k (T := T) (N := N) (A := A) (a := a)
  have fin : ∀ (A' : Nat → Nat) (b : Nat) (J : Nat → Nat → Nat → Int32) (lo' : Lo) (u : Nat × Nat), R = .inr (A', b) → hF Gw (Ml i c) I L y J L y → kS i c T N b A' J y → glle [none, none, none, none] lo' → gT mX14_clause (d + 10) (9, 72) (kQ i c T N R I L y) (kX i c R I L y) 269 lo' [] (gH J L y) u := by
    intro A' b J lo' u e f KJ hl'
    refine gT_lo _ hl' ?_
    refine gT_go 400 [] kX14_clause ?_
    exact ⟨A', b, e, rfl, J, rfl, f, KJ⟩
  refine gEnter 400 [1] kX14_clause rfl rfl ?_
  rcases (show k = 0 ∨ k = 1 ∨ k = 2 ∨ k = 3 ∨ k = 4 ∨ k = 5 ∨ k = 6 ∨ k = 7 ∨ k = 8 by omega) with rfl | rfl | rfl | rfl | rfl | rfl | rfl | rfl | rfl
  · refine gT_sw (nI 0) rfl 47 48 dX14_clause_1 (by decide) (by decide) rfl rfl ?_
    refine gT_go 400 [269] kX14_clause ?_
    refine gTM_use rfl (o_place (d + 2) i c T N a A (by omega) I L y K) (fun v h' q => ?_)
    obtain ⟨A', b, e, rfl, J, rfl, f, KJ⟩ := q
    exact fin A' b J _ _ (hR.trans (c0.trans e)) f KJ (by (repeat' apply And.intro) <;> first | rfl | trivial | exact congrArg Sum.inl (nI_1 _).symm | exact congrArg Sum.inl (nI_1 _).symm)
  · refine gT_sw (nI 1) rfl 54 55 dX14_clause_1 (by decide) (by decide) rfl rfl ?_
    have l1 := hl.1 1 (by decide)
    have a1 : A 1 < 24 := by omega
    refine gT_go 400 [57] kX14_clause ?_
    refine gT_callV (k := (2, 16)) rfl rfl rfl rfl rfl dX14_clause_57 (o_placeHere d i c none (fun v z => by cases z) T N a A h0 I L y K) (by decide) (by decide) (fun v h' q => ?_) (fun q h' hq => gTX_out rfl (fx hF.rf hq (fun kp e => by rw [hR, c1]; unfold rWay; rw [rNumX_0] at e; rw [rbd_l e])))
    obtain ⟨p, b1, e1, rfl, rfl⟩ := q
    rw [rNumX_0] at e1
    obtain ⟨hb1, -, -, hp⟩ := rNum_inr e1 ha
    have m1 : u3 I 8 i 2 (nI b1) 40 c 1 = nI (A 1) := by rw [u3_ne1 (by decide)]; exact l1
    refine gT_go 400 [65] kX14_clause ?_
    refine gT_ref (hL) ?_
    refine gT_go 400 [72] kX14_clause ?_
    refine gT_ref (hL) ?_
    refine gT_go 400 [81] kX14_clause ?_
    refine Exists.intro (A 1) (And.intro (m1) (And.intro (show A 1 < 24 by omega) ?_))
    obtain ⟨I1, hI1⟩ : ∃ I1, I1 = u3 (u3 I 8 i 2 (nI b1)) 49 c (A 1) (nI p) := ⟨_, rfl⟩
    change gT _ _ _ _ _ _ _ _ (gH (u3 (u3 I 8 i 2 (nI b1)) 49 c (A 1) (nI p)) L y) _
    rw [← hI1]
    have K1 : kS i c T N b1 (aUp A (19 + A 1) p) I1 y := by rw [hI1]; exact (K.at hb1).up (by decide) (cLd_49 (K.at hb1).2.2 (A 1) p a1)
    have f1 : hF Gw (Ml i c) I L y I1 L y := by rw [hI1]; exact hFl_47 (by decide) (hFl_bM hF.rf)
    have i1 : I1 40 c 1 = nI (A 1) := by rw [hI1, u3_ne1 (by decide)]; exact m1
    have A0 : aUp A (19 + A 1) p 0 = A 0 := aUp_ne (by omega)
    refine gT_ref (hL) ?_
    refine gT_go 400 [88] kX14_clause ?_
    refine gT_ref (hL) ?_
    refine gT_go 400 [93] kX14_clause ?_
    refine gT_callV (k := (2, 16)) rfl rfl rfl rfl rfl dX14_clause_93 (o_placeHere d i c (some p) (fun v z => by cases z; omega) T N b1 _ (by rw [A0]; exact h0) I1 L y K1) (by decide) (by decide) (fun v h' q => ?_) (fun q h' hq => gTX_out rfl (fx f1 hq (fun kp e => ?_)))
    rotate_left
    · rw [hR, c1]
      unfold rWay
      rw [rbd_r e1, rNum_sk hb1]
      rw [A0] at e
      rcases rNumX_inl e with e | ⟨n, b, e2, e3, e4⟩
      · rw [rbd_l e]
      · rw [rbd_r e2, if_pos (Option.some.inj e3), e4]
    obtain ⟨q2, b2, e2, rfl, rfl⟩ := q
    rw [A0] at e2
    obtain ⟨e2', hne⟩ := rNumX_inr e2
    obtain ⟨hb2, -, -, hq⟩ := rNum_inr e2' hb1
    have er : R = .inr (aUp (aUp (aUp A (19 + A 1) p) (43 + A 1) q2) 1 (A 1 + 1), b2) := by
      rw [hR, c1]
      unfold rWay
      rw [rbd_r e1, rNum_sk hb1, rbd_r e2', if_neg (fun z => hne (congrArg some z))]
    have K2 : kS i c T N b2 (aUp A (19 + A 1) p) (u3 I1 8 i 2 (nI b2)) y := K1.at hb2
    refine gT_go 400 [101] kX14_clause ?_
    refine Exists.intro (A 1) (And.intro (i1) (And.intro (show A 1 < 24 by omega) ?_))
    have K3 := K2.up (v := nI q2) (by decide) (cLd_50 K2.2.2 (A 1) q2 a1)
    obtain ⟨I3, hI3⟩ : ∃ I3, I3 = u3 (u3 I1 8 i 2 (nI b2)) 50 c (A 1) (nI q2) := ⟨_, rfl⟩
    change gT _ _ _ _ _ _ _ _ (gH (u3 (u3 I1 8 i 2 (nI b2)) 50 c (A 1) (nI q2)) L y) _
    rw [← hI3] at K3 ⊢
    have f3 : hF Gw (Ml i c) I L y I3 L y := by rw [hI3]; exact hFl_47 (by decide) (hFl_bM f1)
    have i3 : I3 40 c 1 = nI (A 1) := by rw [hI3, u3_ne1 (by decide), u3_ne1 (by decide)]; exact i1
    have w1 : aUp (aUp A (19 + A 1) p) (43 + A 1) q2 1 = A 1 := (aUp_ne (by omega)).trans (aUp_ne (by omega))
    have z3 : zS (aUp (aUp A (19 + A 1) p) (43 + A 1) q2) := zS_up (zS_up hz _ _ (by omega) (by omega)) _ _ (by omega) (by omega)
    have C3 := cLd_w K3.2.2 z3 (by rw [w1]; exact a1)
    rw [w1] at C3
    refine gT_ref (hL) ?_
    refine gT_go 400 [269] kX14_clause ?_
    have e9 : I3 40 c 1 + 1 = nI (A 1 + 1) := by rw [i3]; exact nI_1 _
    rw [← e9] at C3
    exact fin _ b2 _ _ _ er (hFl_40 f3) (K3.up (by decide) C3) (by (repeat' apply And.intro) <;> first | rfl | trivial | exact congrArg Sum.inl (nI_1 _).symm | exact congrArg Sum.inl (nI_1 _).symm)
  · refine gT_sw (nI 2) rfl 112 113 dX14_clause_1 (by decide) (by decide) rfl rfl ?_
    refine gT_go 400 [114] kX14_clause ?_
    refine gT_callV (k := (9, 72)) rfl rfl rfl rfl rfl dX14_clause_114 (o_snow d i c T N a A h1 hz I L y K) (by decide) (by decide) (fun v h' q => ?_) (fun q h' hq => gTX_out rfl ?_)
    · obtain ⟨A', b, e, rfl, J, rfl, f, KJ⟩ := q
      refine gT_go 400 [269] kX14_clause ?_
      exact fin A' b J _ _ (hR.trans (c2.trans e)) f KJ (by (repeat' apply And.intro) <;> first | rfl | trivial | exact congrArg Sum.inl (nI_1 _).symm | exact congrArg Sum.inl (nI_1 _).symm)
    · obtain ⟨kp, e, hx⟩ := hq
      exact ⟨kp, hR.trans (c2.trans e), hx⟩
  · refine gT_sw (nI 3) rfl 119 120 dX14_clause_1 (by decide) (by decide) rfl rfl ?_
    have l2 := hl.1 2 (by decide)
    have a2 : A 2 < 5 := by omega
    refine gT_go 400 [124] kX14_clause ?_
    refine gT_ref (hL) ?_
    refine gT_go 400 [131] kX14_clause ?_
    refine gT_ref (hL) ?_
    refine gT_go 400 [139] kX14_clause ?_
    refine gT_callV (k := (2, 16)) rfl rfl rfl rfl rfl dX14_clause_139 (o8_num (d + 1) i 0 10 (by decide) (by decide) 9 rfl T N a I L y hB) (by decide) (by decide) (fun v h' q => ?_) (fun q h' hq => gTX_out rfl (fx hF.rf hq (fun kp e => by rw [hR, c3, rbd_l e])))
    obtain ⟨p, b1, e1, rfl, rfl⟩ := q
    obtain ⟨hb1, -, -, hp⟩ := rNum_inr e1 ha
    have K1 := K.at hb1
    refine gT_go 400 [147] kX14_clause ?_
    refine Exists.intro (A 2) (And.intro (l2) (And.intro (show A 2 < 5 by omega) ?_))
    have K2 := K1.up (v := nI p) (by decide) (cLd_51 K1.2.2 (A 2) p a2)
    obtain ⟨I2, hI2⟩ : ∃ I2, I2 = u3 (u3 I 8 i 2 (nI b1)) 51 c (A 2) (nI p) := ⟨_, rfl⟩
    change gT _ _ _ _ _ _ _ _ (gH (u3 (u3 I 8 i 2 (nI b1)) 51 c (A 2) (nI p)) L y) _
    rw [← hI2] at K2 ⊢
    have f2 : hF Gw (Ml i c) I L y I2 L y := by rw [hI2]; exact hFl_47 (by decide) (hFl_bM hF.rf)
    have i2 : I2 40 c 2 = nI (A 2) := by rw [hI2, u3_ne1 (by decide), u3_ne1 (by decide)]; exact l2
    have C2 := cLd_n K2.2.2 2 (A 2 + 1) (by decide) (by decide)
    refine gT_ref (hL) ?_
    refine gT_go 400 [269] kX14_clause ?_
    have e9 : I2 40 c 2 + 1 = nI (A 2 + 1) := by rw [i2]; exact nI_1 _
    rw [← e9] at C2
    exact fin _ b1 _ _ _ (by rw [hR, c3, rbd_r e1]) (hFl_40 f2) (K2.up (by decide) C2) (by (repeat' apply And.intro) <;> first | rfl | trivial | exact congrArg Sum.inl (nI_1 _).symm | exact congrArg Sum.inl (nI_1 _).symm)
  · refine gT_sw (nI 4) rfl 158 159 dX14_clause_1 (by decide) (by decide) rfl rfl ?_
    have l2 := hl.1 2 (by decide)
    refine gT_go 400 [165] kX14_clause ?_
    refine gT_ref (hL) ?_
    refine gT_go 400 [171] kX14_clause ?_
    refine gT_callV (k := (2, 16)) rfl rfl rfl rfl rfl dX14_clause_171 (o8_num (d + 1) i 0 (A 2) (by decide) (by omega) (I 40 c 2 - 1) (by rw [l2]) T N a I L y hB) (by decide) (by decide) (fun v h' q => ?_) (fun q h' hq => gTX_out rfl (fx hF.rf hq (fun kp e => by rw [hR, c4]; unfold rWants; rw [rbd_l e])))
    obtain ⟨p, b1, e1, rfl, rfl⟩ := q
    obtain ⟨hb1, -, -, hp⟩ := rNum_inr e1 ha
    have K1 := K.at hb1
    refine gT_go 400 [177] kX14_clause ?_
    refine gT_callV (k := (2, 16)) rfl rfl rfl rfl rfl dX14_clause_177 (o_placeHere d i c none (fun v z => by cases z) T N b1 A h0 _ L y K1) (by decide) (by decide) (fun v h' q => ?_) (fun q h' hq => gTX_out rfl (fx (hFl_bM hF.rf) hq (fun kp e => by rw [hR, c4]; unfold rWants; rw [rNumX_0] at e; rw [rbd_r e1, rbd_l e])))
    obtain ⟨p2, b2, e2, rfl, rfl⟩ := q
    rw [rNumX_0] at e2
    obtain ⟨hb2, -, -, hp2⟩ := rNum_inr e2 hb1
    have K2 := K1.at hb2
    refine gT_go 400 [185] kX14_clause ?_
    refine gT_ref (hL) ?_
    refine gT_go 400 [196] kX14_clause ?_
    refine Exists.intro (p) (And.intro rfl (And.intro (show _ < 5 by omega) ?_))
    refine gT_callV (k := (2, 16)) rfl rfl rfl rfl rfl dX14_clause_196 (o8_num (d + 1) i 0 100 (by decide) (by decide) 99 rfl T N b2 _ L y K2.1) (by decide) (by decide) (fun v h' q => ?_) (fun q h' hq => gTX_out rfl (fx (hFl_bM (hFl_bM hF.rf)) hq (fun kp e => by rw [hR, c4]; unfold rWants; rw [rbd_r e1, rbd_r e2, rbd_l e])))
    obtain ⟨p3, b3, e3, rfl, rfl⟩ := q
    obtain ⟨hb3, -, -, hp3⟩ := rNum_inr e3 hb2
    have K3 := K2.at hb3
    refine gT_go 400 [269] kX14_clause ?_
    refine Exists.intro (p2) (And.intro rfl (And.intro (show _ < 12 by omega) ?_))
    exact fin _ b3 _ _ _ (by rw [hR, c4]; unfold rWants; rw [rbd_r e1, rbd_r e2, rbd_r e3]) (hFl_55 (by omega) (hFl_bM (hFl_bM (hFl_bM hF.rf)))) (K3.up (by decide) (cLd_55 K3.2.2 p p2 p3 (by omega) (by omega))) (by (repeat' apply And.intro) <;> first | rfl | trivial | exact congrArg Sum.inl (nI_1 _).symm | exact congrArg Sum.inl (nI_1 _).symm)
  · refine gT_sw (nI 5) rfl 202 203 dX14_clause_1 (by decide) (by decide) rfl rfl ?_
    refine gT_go 400 [207] kX14_clause ?_
    refine gT_ref (hL) ?_
    refine gT_go 400 [212] kX14_clause ?_
    refine gT_callV (k := (2, 16)) rfl rfl rfl rfl rfl dX14_clause_212 (o8_num (d + 1) i 1 25 (by decide) (by decide) 24 rfl T N a I L y hB) (by decide) (by decide) (fun v h' q => ?_) (fun q h' hq => gTX_out rfl (fx hF.rf hq (fun kp e => by rw [hR, c5]; unfold rOneA; rw [rbd_l e])))
    obtain ⟨p, b1, e1, rfl, rfl⟩ := q
    obtain ⟨hb1, -, -, hp⟩ := rNum_inr e1 ha
    refine gT_go 400 [269] kX14_clause ?_
    exact fin _ b1 _ _ _ (by rw [hR, c5]; unfold rOneA; rw [rbd_r e1]) (hFl_40 (hFl_bM hF.rf)) ((K.at hb1).up (by decide) (cLd_n (K.at hb1).2.2 3 p (by decide) (by decide))) (by (repeat' apply And.intro) <;> first | rfl | trivial | exact congrArg Sum.inl (nI_1 _).symm | exact congrArg Sum.inl (nI_1 _).symm)
  · refine gT_sw (nI 6) rfl 220 221 dX14_clause_1 (by decide) (by decide) rfl rfl ?_
    refine gT_go 400 [225] kX14_clause ?_
    refine gT_ref (hL) ?_
    refine gT_go 400 [230] kX14_clause ?_
    refine gT_callV (k := (2, 16)) rfl rfl rfl rfl rfl dX14_clause_230 (o8_num (d + 1) i 1 13 (by decide) (by decide) 12 rfl T N a I L y hB) (by decide) (by decide) (fun v h' q => ?_) (fun q h' hq => gTX_out rfl (fx hF.rf hq (fun kp e => by rw [hR, c6]; unfold rOneA; rw [rbd_l e])))
    obtain ⟨p, b1, e1, rfl, rfl⟩ := q
    obtain ⟨hb1, -, -, hp⟩ := rNum_inr e1 ha
    refine gT_go 400 [269] kX14_clause ?_
    exact fin _ b1 _ _ _ (by rw [hR, c6]; unfold rOneA; rw [rbd_r e1]) (hFl_40 (hFl_bM hF.rf)) ((K.at hb1).up (by decide) (cLd_n (K.at hb1).2.2 4 p (by decide) (by decide))) (by (repeat' apply And.intro) <;> first | rfl | trivial | exact congrArg Sum.inl (nI_1 _).symm | exact congrArg Sum.inl (nI_1 _).symm)
  · refine gT_sw (nI 7) rfl 238 239 dX14_clause_1 (by decide) (by decide) rfl rfl ?_
    refine gT_go 400 [243] kX14_clause ?_
    refine gT_ref (hL) ?_
    refine gT_go 400 [248] kX14_clause ?_
    refine gT_callV (k := (2, 16)) rfl rfl rfl rfl rfl dX14_clause_248 (o8_num (d + 1) i 0 100 (by decide) (by decide) 99 rfl T N a I L y hB) (by decide) (by decide) (fun v h' q => ?_) (fun q h' hq => gTX_out rfl (fx hF.rf hq (fun kp e => by rw [hR, c7]; unfold rOneA; rw [rbd_l e])))
    obtain ⟨p, b1, e1, rfl, rfl⟩ := q
    obtain ⟨hb1, -, -, hp⟩ := rNum_inr e1 ha
    refine gT_go 400 [269] kX14_clause ?_
    exact fin _ b1 _ _ _ (by rw [hR, c7]; unfold rOneA; rw [rbd_r e1]) (hFl_40 (hFl_bM hF.rf)) ((K.at hb1).up (by decide) (cLd_n (K.at hb1).2.2 5 p (by decide) (by decide))) (by (repeat' apply And.intro) <;> first | rfl | trivial | exact congrArg Sum.inl (nI_1 _).symm | exact congrArg Sum.inl (nI_1 _).symm)
  · refine gT_swd (Or.inr (by decide)) 257 dX14_clause_1 rfl ?_
    refine gT_go 400 [261] kX14_clause ?_
    refine gT_ref (hL) ?_
    refine gT_go 400 [263] kX14_clause ?_
    refine gT_callV (k := (2, 16)) rfl rfl rfl rfl rfl dX14_clause_263 (o_placeHere d i c none (fun v z => by cases z) T N a A h0 I L y K) (by decide) (by decide) (fun v h' q => ?_) (fun q h' hq => gTX_out rfl (fx hF.rf hq (fun kp e => by rw [hR, c8]; unfold rOneA; rw [rNumX_0] at e; rw [rbd_l e])))
    obtain ⟨p, b1, e1, rfl, rfl⟩ := q
    rw [rNumX_0] at e1
    obtain ⟨hb1, -, -, hp⟩ := rNum_inr e1 ha
    refine gT_go 400 [269] kX14_clause ?_
    exact fin _ b1 _ _ _ (by rw [hR, c8]; unfold rOneA; rw [rbd_r e1]) (hFl_40 (hFl_bM hF.rf)) ((K.at hb1).up (by decide) (cLd_n (K.at hb1).2.2 6 p (by decide) (by decide))) (by (repeat' apply And.intro) <;> first | rfl | trivial | exact congrArg Sum.inl (nI_1 _).symm | exact congrArg Sum.inl (nI_1 _).symm)
/-! ===== the reader of a land: its loop, its constructor ===== -/
/-- the words of the clauses -/
def lWd (i j : Nat) (y : Dy) : Prop := gRX y 8 i 3 = some (9, j) ∧ ∀ t, t < 9 → gRX y 9 j t = some (2, t)
/-- what the reader of a land answers -/
def lrQ (i c : Nat) (R : (Nat × Nat) ⊕ (Nat → Nat)) (I : Nat → Nat → Nat → Int32) (L : Nat → Nat → Nat → Int64) (y : Dy) : List AV → Hp → Prop := fun v h' => ∃ A', R = .inr A' ∧ v = [gR (some (40, c))] ∧ ∃ I', h' = gH I' L y ∧ hF Gw (Ml i c) I L y I' L y ∧ cLd c (A' 4) A' I'
def lrX (i c : Nat) (R : (Nat × Nat) ⊕ (Nat → Nat)) (I : Nat → Nat → Nat → Int32) (L : Nat → Nat → Nat → Int64) (y : Dy) : Rf → Hp → Prop := fun q h' => ∃ kp, R = .inl kp ∧ wX Gw (Ml i c) kp I L y q h'
theorem rSign_le {T : Nat → Nat} {N c a b : Nat} (h : rSign T N c a = .inr ((), b)) : b ≤ N ∧ a < b := by
  unfold rSign at h
  cases q : (Nat.blt (sk T N a) N && Nat.beq (T (sk T N a)) c) with
  | false => rw [q] at h; cases h
  | true =>
    rw [q] at h
    cases h
    rw [Bool.and_eq_true] at q
    have h1 := (rn_spec (fun i => Nat.beq (T i) 32) (N - a) a).1
    have h2 : sk T N a < N := Nat.le_of_ble_eq_true q.1
    refine ⟨h2, ?_⟩
    show a < sk T N a + 1
    unfold sk
    omega
theorem wIsC {w k : Nat} (hk : k < 9) (h : w = wd k) : rIsC w = true := by
  unfold rIsC
  rcases (show k = 0 ∨ k = 1 ∨ k = 2 ∨ k = 3 ∨ k = 4 ∨ k = 5 ∨ k = 6 ∨ k = 7 ∨ k = 8 by omega) with rfl | rfl | rfl | rfl | rfl | rfl | rfl | rfl | rfl <;> exact decide_eq_true (by omega)
theorem wIsN {w : Nat} (h : ∀ k, k < 9 → ¬ w = wd k) : rIsC w = false := by
  unfold rIsC
  have h0 := h 0 (by decide)
  have h1 := h 1 (by decide)
  have h2 := h 2 (by decide)
  have h3 := h 3 (by decide)
  have h4 := h 4 (by decide)
  have h5 := h 5 (by decide)
  have h6 := h 6 (by decide)
  have h7 := h 7 (by decide)
  have h8 := h 8 (by decide)
  exact decide_eq_false (by omega)
theorem wIsF {A : Nat → Nat} {k : Nat} (hk : k < 9) : rIsF A (wd k) = decide ((k = 0 ∧ A 0 = 12) ∨ (k = 1 ∧ A 1 = 24) ∨ (k = 3 ∧ A 2 = 5)) := by
  have n := fun j (h2 : j < 9) (h3 : k ≠ j) => wd_ne k hk j h2 h3
  unfold rIsF
  rw [decide_eq_decide]
  constructor
  · rintro (⟨a, b⟩ | ⟨a, b⟩ | ⟨a, b⟩)
    · by_cases e : k = 0
      · exact Or.inl ⟨e, b⟩
      · exact absurd a (n 0 (by decide) e)
    · by_cases e : k = 1
      · exact Or.inr (Or.inl ⟨e, b⟩)
      · exact absurd a (n 1 (by decide) e)
    · by_cases e : k = 3
      · exact Or.inr (Or.inr ⟨e, b⟩)
      · exact absurd a (n 3 (by decide) e)
  · rintro (⟨rfl, b⟩ | ⟨rfl, b⟩ | ⟨rfl, b⟩)
    · exact Or.inl ⟨rfl, b⟩
    · exact Or.inr (Or.inl ⟨rfl, b⟩)
    · exact Or.inr (Or.inr ⟨rfl, b⟩)
set_option maxRecDepth 100000 in
theorem t_land2 (d i c j : Nat) (T : Nat → Nat) (N : Nat) (I0 : Nat → Nat → Nat → Int32) (L : Nat → Nat → Nat → Int64) (y : Dy) (hW : lWd i j y) (R : (Nat × Nat) ⊕ (Nat → Nat)) (hRR : R = match rLandL T N 61 0 aNew 0 with
    | .inl kp => .inl kp
    | .inr A => if A 0 = 0 ∨ A 2 = 0 then .inl (4, N) else .inr A) :
    ∀ (f m : Nat) (A : Nat → Nat) (a : Nat) (I : Nat → Nat → Nat → Int32) (u : Nat × Nat) (lo0 : Lo), f + m = 61 → m ≤ 60 → gLi A → zS A → hF Gw (Ml i c) I0 L y I L y → kS i c T N a A I y → rLandL T N f m A a = rLandL T N 61 0 aNew 0 → u.1 ≤ 12 * m → u.2 ≤ 96 * m → glle [some (gR (some (8, i))), some (gI (nI m)), none] lo0 →
      gT mX14_land (d + 11) (734, 5872) (lrQ i c R I0 L y) (lrX i c R I0 L y) 2 lo0 [] (gH I L y) u := by
  intro f
  induction f with
  | zero => intro m A a I u lo0 h1 h2; exact absurd h1 (by omega)
  | succ f ih =>
    intro m A a I u lo0 hfm hm hi hz f0 K hres hu1 hu2 hlo
    obtain ⟨hB, hL, hl⟩ := id K
    have hN := hB.2.2.2.1
    have ha := hB.2.2.2.2.2.1
    have g := hi.1
    obtain ⟨k1, k2, k3, k4⟩ := sk_ok (T := T) ha
    obtain ⟨w1, w2, w3, w4⟩ := wE_ok (T := T) k2
    refine gT_lo _ hlo ?_
    refine gT_wide (12 * m, 96 * m) hu1 hu2 (by show 12 * m ≤ 734; omega) (by show 96 * m ≤ 5872; omega) ?_
    rw [rLandL] at hres
    obtain ⟨I1, hI1⟩ : ∃ I1, I1 = u3 I 8 i 2 (nI (sk T N a)) := ⟨_, rfl⟩
    have K1 : kS i c T N (sk T N a) A I1 y := by rw [hI1]; exact K.at k2
    have f1 : hF Gw (Ml i c) I0 L y I1 L y := by rw [hI1]; exact hFl_bM f0
    refine gT_go 400 [15, 127] kX14_land ?_
    refine gTM_use rfl (o8_now (d + 9) i T N a I L y hB) (fun v h' q => ?_)
    obtain ⟨rfl, rfl⟩ := q
    rw [← hI1]
    rcases Nat.lt_or_ge (sk T N a) N with hlt | hge
    rotate_left
    · rw [nblt_f hge] at hres
      have hres' : (.inr A : (Nat × Nat) ⊕ (Nat → Nat)) = rLandL T N 61 0 aNew 0 := hres
      rw [← hres'] at hRR
      have hRR' : R = if A 0 = 0 ∨ A 2 = 0 then .inl (4, N) else .inr A := hRR
      have esN : sk T N a = N := by omega
      refine And.intro (fun _ => ?_) (fun z => absurd (bAt_out (T := T) hge) z)
      have at147 : (A 0 = 0 ∨ A 2 = 0) → ∀ lo', glle [some (gR (some (8, i))), none, none] lo' → gT mX14_land (d + 11) (734, 5872) (lrQ i c R I0 L y) (lrX i c R I0 L y) 147 lo' [] (gH I1 L y) (12 * m, 96 * m) := by
        intro hz0 lo' hl'
        refine gT_lo _ hl' ?_
        refine gT_new 37 (by decide) rfl rfl (by decide) dX14_land_147 q999 q913 q159 (by show 12 * m + 1 ≤ 734; omega) (by show 96 * m + 8 ≤ 5872; omega) ?_
        rw [gNw_gHn 0 rfl (fun z q => by cases q)]
        refine gT_go 400 [] kX14_land ?_
        have eN : fNw I1 0 37 (y.2.2.2.2 37) 8 i 2 = nI N := by rw [fNw_ne (by decide), ← esN]; exact K1.1.2.2.2.2.1
        have B2 : bS 8 i T N N (fNw I1 0 37 (y.2.2.2.2 37)) (yNw y 37 0) := K1.1.fr ((hF.rf (G := Gw) (M := fun _ _ _ => False)).nw (L := L) rfl 0) (by unfold Gw; decide) (fun z => z) (fun _ z => z) eN (Nat.le_refl _)
        refine gP_use (o8_at (d + 9) i T N N _ _ _ B2) ?_
        refine gTM_use rfl (o_wrNew (d + 4) (y.2.2.2.2 37) (nI 4) (nI N) (fNw I1 0 37 (y.2.2.2.2 37)) (fNw L 0 37 (y.2.2.2.2 37)) (yNw y 37 0) (gRX_nwN rfl)) (fun v h' q => ?_)
        obtain ⟨rfl, rfl⟩ := q
        refine gTX_out rfl ?_
        exact ⟨(4, N), by rw [hRR', if_pos hz0], (wX_new (G := Gw) (M := Ml i c) 4 N rfl).of (fun _ z => z) (fun _ _ _ z => z) f1⟩
      have l0 := K1.2.2.1 0 (by decide)
      have l2 := K1.2.2.1 2 (by decide)
      refine gT_go 400 [131] kX14_land ?_
      refine gT_ref (hL) ?_
      refine gT_go 400 [141, 147] kX14_land ?_
      refine bEq (A 0) 0 l0 rfl (fun q => at147 (Or.inl q) _ (by (repeat' apply And.intro) <;> first | rfl | trivial | exact congrArg Sum.inl (nI_1 _).symm | exact congrArg Sum.inl (nI_1 _).symm)) (fun q => ?_) (by have := g.1; omega)
      refine gT_ref (hL) ?_
      refine gT_go 400 [147, 164] kX14_land ?_
      refine bNe (A 2) 0 l2 rfl (fun q2 => ?_) (fun q2 => at147 (Or.inr q2) _ (by (repeat' apply And.intro) <;> first | rfl | trivial | exact congrArg Sum.inl (nI_1 _).symm | exact congrArg Sum.inl (nI_1 _).symm)) (by have := g.2.2.1; omega)
      refine gT_ref (hL) ?_
      refine gT_go 400 [] kX14_land ?_
      exact ⟨A, by rw [hRR', if_neg (by omega)], rfl, I1, rfl, f1, K1.2.2⟩
    · rw [nblt_t hlt, cond_true] at hres
      refine And.intro (fun z => absurd ((bAt_in hlt).symm.trans z) (gOI_ne (by have := (hB.2.2.2.2.2.2 _ hlt).2; omega))) (fun _ => ?_)
      have hRl : ∀ kp, rLandL T N 61 0 aNew 0 = .inl kp → R = .inl kp := fun kp e => by rw [hRR, e]
      have eI : u3 I1 8 i 2 (nI (sk T N (sk T N a))) = I1 := by rw [sk_sk ha, hI1]; exact u3_u3
      have fail : ∀ {q : Rf} {h' : Hp} (kp : Nat × Nat), rLandL T N 61 0 aNew 0 = .inl kp → wX Gw (Mb 8 i) kp I1 L y q h' → lrX i c R I0 L y q h' := fun kp e hx => ⟨kp, hRl kp e, hx.of (fun _ z => z) (fun _ _ _ z => Or.inl z) f1⟩
      have at30 : ∀ (o : Option Nat) (g : Bool) (lo' : Lo), g = o.isSome → (∀ t, o = some t → t < 9 ∧ rWord T N a = wd t) → (o = none → ∀ t, t < 9 → ¬ rWord T N a = wd t) → glle [some (gR (some (8, i))), some (gI (nI m)), some (gI (oN o))] lo' → gT mX14_land (d + 11) (734, 5872) (lrQ i c R I0 L y) (lrX i c R I0 L y) 30 lo' [gI (gb g), gR (some (8, i))] (gH I1 L y) (12 * m, 96 * m) := by
        intro o g lo' hg o1 o2 hl'
        refine gT_lo _ hl' ?_
        refine gT_callV (k := (1, 8)) rfl rfl rfl rfl rfl dX14_land_30 (o8_right (d + 3) i g T N (sk T N a) I1 L y K1.1) (by show 12 * m + 1 ≤ 734; omega) (by show 96 * m + 8 ≤ 5872; omega) (fun v h' q => ?_) (fun q h' hq => gTX_out rfl ?_)
        rotate_left
        · have eo : o = none := by
            cases o with
            | none => rfl
            | some t => rw [hq.1] at hg; cases hg
          rw [wIsN (o2 eo)] at hres
          exact fail (1, sk T N a) hres.symm hq.2
        obtain ⟨g1, rfl, rfl⟩ := q
        obtain ⟨k, rfl⟩ : ∃ k, o = some k := by
          cases o with
          | none => rw [g1] at hg; cases hg
          | some t => exact ⟨t, rfl⟩
        obtain ⟨hk, hw⟩ := o1 k rfl
        have hk22 : k < 22 := by omega
        obtain ⟨c1, c2, c3⟩ := gch_all k hk22
        have hk' : k < gStr.length := by rw [gStr_22]; exact hk22
        rw [hw, wIsC hk rfl, cond_true] at hres
        have hF9 := wIsF (A := A) hk
        have l0 := K1.2.2.1 0 (by decide)
        have l1 := K1.2.2.1 1 (by decide)
        have l2 := K1.2.2.1 2 (by decide)
        have b0 := hi.1.1
        have b1 := hi.1.2.1
        have b2 := hi.1.2.2.1
        have ewE : wE T N (sk T N a) = sk T N a + gsl k := (isW_ok hk22 k2).2 hw
        have hlen : gP mJ7_length (d + 10) [gR (some (2, k))] (gH I1 L y) (gI (nI (gsl k))) := by rw [← c2]; exact p_length (d + 8) k hk' _
        have at94 : ∀ (g : Bool) (lo' : Lo), g = !(Nat.beq m 60 || rIsF A (wd k)) → glle [some (gR (some (8, i))), some (gI (nI m)), some (gI (nI k))] lo' → gT mX14_land (d + 11) (734, 5872) (lrQ i c R I0 L y) (lrX i c R I0 L y) 94 lo' [gI (gb g), gR (some (8, i))] (gH I1 L y) (12 * m + 1, 96 * m + 8) := by
          intro g lo' hg hl'
          refine gT_lo _ hl' ?_
          refine gT_callV (k := (1, 8)) rfl rfl rfl rfl rfl dX14_land_94 (o8_few (d + 3) i g T N (sk T N a) I1 L y K1.1) (by show 12 * m + 1 + 1 ≤ 734; omega) (by show 96 * m + 8 + 8 ≤ 5872; omega) (fun v h' q => ?_) (fun q h' hq => gTX_out rfl ?_)
          rotate_left
          · have e : (Nat.beq m 60 || rIsF A (wd k)) = true := by
              cases z : (Nat.beq m 60 || rIsF A (wd k)) with
              | true => rfl
              | false => rw [hq.1, z] at hg; cases hg
            rw [e] at hres
            exact fail (3, sk T N a) hres.symm hq.2
          obtain ⟨g2, rfl, rfl⟩ := q
          have e : (Nat.beq m 60 || rIsF A (wd k)) = false := by
            cases z : (Nat.beq m 60 || rIsF A (wd k)) with
            | false => rfl
            | true => rw [g2, z] at hg; cases hg
          have eF : rIsF A (wd k) = false := by
            cases z : rIsF A (wd k) with
            | false => rfl
            | true => rw [z, Bool.or_true] at e; cases e
          have em : m ≠ 60 := fun z => by rw [gbeqT z] at e; cases e
          rw [e, cond_false] at hres
          refine gT_go 400 [102] kX14_land ?_
          refine gT_ref (hW.1) ?_
          refine gT_go 400 [104] kX14_land ?_
          refine Exists.intro (k) (And.intro rfl (And.intro (show _ < 9 by omega) ?_))
          refine gT_ref (hW.2 k hk) ?_
          refine gT_go 400 [112] kX14_land ?_
          refine gP_use hlen ?_
          refine gTM_use rfl (o8_skip (d + 9) i (gsl k) T N (sk T N a) I1 L y K1.1) (fun v h' q => ?_)
          obtain ⟨rfl, rfl⟩ := q
          rw [← ewE]
          have K2 : kS i c T N (wE T N (sk T N a)) A (u3 I1 8 i 2 (nI (wE T N (sk T N a)))) y := K1.at w2
          have f2 : hF Gw (Ml i c) I0 L y (u3 I1 8 i 2 (nI (wE T N (sk T N a)))) L y := hFl_bM f1
          refine gT_callV (k := (9, 72)) rfl rfl rfl rfl rfl dX14_land_112 (o_clause d i c k hk T N (wE T N (sk T N a)) A b0 b1 b2 eF hz _ L y K2) (by show 12 * m + 1 + 1 + 9 ≤ 734; omega) (by show 96 * m + 8 + 8 + 72 ≤ 5872; omega) (fun v h' q => ?_) (fun q h' hq => gTX_out rfl ?_)
          rotate_left
          · obtain ⟨kp, e1, e2⟩ := hq
            rw [e1] at hres
            exact ⟨kp, hRl kp hres.symm, e2.of (fun _ z => z) (fun _ _ _ z => z) f2⟩
          obtain ⟨A', b, e1, rfl, J, rfl, fJ, KJ⟩ := q
          rw [e1] at hres
          have hres2 : (match rSign T N 59 b with
            | .inl kp => (.inl kp : (Nat × Nat) ⊕ (Nat → Nat))
            | .inr (_, c) => rLandL T N f (m + 1) A' c) = rLandL T N 61 0 aNew 0 := hres
          have f3 := f2.tr fJ
          refine gT_go 400 [118] kX14_land ?_
          refine gT_callV (k := (1, 8)) rfl rfl rfl rfl rfl dX14_land_118 (o8_sign (d + 2) i 59 (by decide) (by decide) T N b J L y KJ.1) (by show 12 * m + 1 + 1 + 9 + 1 ≤ 734; omega) (by show 96 * m + 8 + 8 + 72 + 8 ≤ 5872; omega) (fun v h' q => ?_) (fun q h' hq => gTX_out rfl ?_)
          rotate_left
          · obtain ⟨kp, e3, e4⟩ := hq
            rw [e3] at hres2
            exact ⟨kp, hRl kp hres2.symm, e4.of (fun _ z => z) (fun _ _ _ z => Or.inl z) f3⟩
          obtain ⟨b', e3, rfl, rfl⟩ := q
          rw [e3] at hres2
          have hb' : b' ≤ N := (rSign_le e3).1
          refine gT_go 400 [2] kX14_land ?_
          refine ih (m + 1) A' b' (u3 J 8 i 2 (nI b')) _ _ (by omega) (by omega) (rCl_ok hi eF e1) (rCl_zs hz b0 b1 b2 eF e1) (hFl_bM f3) (KJ.at hb') hres2 (by show 12 * m + 1 + 1 + 9 + 1 ≤ 12 * (m + 1); omega) (by show 96 * m + 8 + 8 + 72 + 8 ≤ 96 * (m + 1); omega) ?_
          rw [← nI_1 m]
          exact (by (repeat' apply And.intro) <;> first | rfl | trivial | exact congrArg Sum.inl (nI_1 _).symm | exact congrArg Sum.inl (nI_1 _).symm)
        have at93 : (Nat.beq m 60 || rIsF A (wd k)) = true → ∀ lo', glle [some (gR (some (8, i))), some (gI (nI m)), some (gI (nI k))] lo' → gT mX14_land (d + 11) (734, 5872) (lrQ i c R I0 L y) (lrX i c R I0 L y) 93 lo' [gR (some (8, i))] (gH I1 L y) (12 * m + 1, 96 * m + 8) := by
          intro e lo' hl'
          refine gT_lo _ hl' ?_
          refine gT_go 400 [94] kX14_land ?_
          exact at94 false _ (by rw [e] <;> rfl) (by (repeat' apply And.intro) <;> first | rfl | trivial | exact congrArg Sum.inl (nI_1 _).symm | exact congrArg Sum.inl (nI_1 _).symm)
        have at89 : (Nat.beq m 60 || rIsF A (wd k)) = false → ∀ lo', glle [some (gR (some (8, i))), some (gI (nI m)), some (gI (nI k))] lo' → gT mX14_land (d + 11) (734, 5872) (lrQ i c R I0 L y) (lrX i c R I0 L y) 89 lo' [gR (some (8, i))] (gH I1 L y) (12 * m + 1, 96 * m + 8) := by
          intro e lo' hl'
          refine gT_lo _ hl' ?_
          refine gT_go 400 [94] kX14_land ?_
          exact at94 true _ (by rw [e] <;> rfl) (by (repeat' apply And.intro) <;> first | rfl | trivial | exact congrArg Sum.inl (nI_1 _).symm | exact congrArg Sum.inl (nI_1 _).symm)
        have full : ((k = 0 ∧ A 0 = 12) ∨ (k = 1 ∧ A 1 = 24) ∨ (k = 3 ∧ A 2 = 5)) → (Nat.beq m 60 || rIsF A (wd k)) = true := fun z => by rw [hF9, decide_eq_true z, Bool.or_true]
        have unfull : m ≠ 60 → ¬ ((k = 0 ∧ A 0 = 12) ∨ (k = 1 ∧ A 1 = 24) ∨ (k = 3 ∧ A 2 = 5)) → (Nat.beq m 60 || rIsF A (wd k)) = false := fun z1 z => by rw [hF9, decide_eq_false z, gbeqF z1] <;> rfl
        have at73 : m ≠ 60 → ¬ (k = 0 ∧ A 0 = 12) → ¬ (k = 1 ∧ A 1 = 24) → ∀ lo', glle [some (gR (some (8, i))), some (gI (nI m)), some (gI (nI k))] lo' → gT mX14_land (d + 11) (734, 5872) (lrQ i c R I0 L y) (lrX i c R I0 L y) 73 lo' [gR (some (8, i))] (gH I1 L y) (12 * m + 1, 96 * m + 8) := by
          intro z1 z2 z3 lo' hl'
          refine gT_lo _ hl' ?_
          refine gT_go 400 [82, 89] kX14_land ?_
          refine bNe k 3 rfl rfl (fun q => at89 (unfull z1 (by omega)) _ (by (repeat' apply And.intro) <;> first | rfl | trivial | exact congrArg Sum.inl (nI_1 _).symm | exact congrArg Sum.inl (nI_1 _).symm)) (fun q => ?_)
          refine gT_ref (hL) ?_
          refine gT_go 400 [89, 93] kX14_land ?_
          refine bGe (A 2) 5 l2 rfl (fun q2 => at93 (full (Or.inr (Or.inr ⟨q, by omega⟩))) _ (by (repeat' apply And.intro) <;> first | rfl | trivial | exact congrArg Sum.inl (nI_1 _).symm | exact congrArg Sum.inl (nI_1 _).symm)) (fun q2 => at89 (unfull z1 (by omega)) _ (by (repeat' apply And.intro) <;> first | rfl | trivial | exact congrArg Sum.inl (nI_1 _).symm | exact congrArg Sum.inl (nI_1 _).symm))
        have at56 : m ≠ 60 → ¬ (k = 0 ∧ A 0 = 12) → ∀ lo', glle [some (gR (some (8, i))), some (gI (nI m)), some (gI (nI k))] lo' → gT mX14_land (d + 11) (734, 5872) (lrQ i c R I0 L y) (lrX i c R I0 L y) 56 lo' [gR (some (8, i))] (gH I1 L y) (12 * m + 1, 96 * m + 8) := by
          intro z1 z2 lo' hl'
          refine gT_lo _ hl' ?_
          refine gT_go 400 [65, 73] kX14_land ?_
          refine bNe k 1 rfl rfl (fun q => at73 z1 z2 (by omega) _ (by (repeat' apply And.intro) <;> first | rfl | trivial | exact congrArg Sum.inl (nI_1 _).symm | exact congrArg Sum.inl (nI_1 _).symm)) (fun q => ?_)
          refine gT_ref (hL) ?_
          refine gT_go 400 [73, 93] kX14_land ?_
          refine bGe (A 1) 24 l1 rfl (fun q2 => at93 (full (Or.inr (Or.inl ⟨q, by omega⟩))) _ (by (repeat' apply And.intro) <;> first | rfl | trivial | exact congrArg Sum.inl (nI_1 _).symm | exact congrArg Sum.inl (nI_1 _).symm)) (fun q2 => at73 z1 z2 (by omega) _ (by (repeat' apply And.intro) <;> first | rfl | trivial | exact congrArg Sum.inl (nI_1 _).symm | exact congrArg Sum.inl (nI_1 _).symm))
        refine gT_go 400 [48, 56, 93] kX14_land ?_
        refine bGe m 60 rfl rfl (fun q => at93 (by rw [gbeqT (show m = 60 by omega)] <;> rfl) _ (by (repeat' apply And.intro) <;> first | rfl | trivial | exact congrArg Sum.inl (nI_1 _).symm | exact congrArg Sum.inl (nI_1 _).symm)) (fun q => ?_)
        refine bGt k 0 rfl rfl (fun q2 => at56 (by omega) (by omega) _ (by (repeat' apply And.intro) <;> first | rfl | trivial | exact congrArg Sum.inl (nI_1 _).symm | exact congrArg Sum.inl (nI_1 _).symm)) (fun q2 => ?_)
        refine gT_ref (hL) ?_
        refine gT_go 400 [56, 93] kX14_land ?_
        refine bGe (A 0) 12 l0 rfl (fun q3 => at93 (full (Or.inl ⟨by omega, by omega⟩)) _ (by (repeat' apply And.intro) <;> first | rfl | trivial | exact congrArg Sum.inl (nI_1 _).symm | exact congrArg Sum.inl (nI_1 _).symm)) (fun q3 => at56 (by omega) (by omega) _ (by (repeat' apply And.intro) <;> first | rfl | trivial | exact congrArg Sum.inl (nI_1 _).symm | exact congrArg Sum.inl (nI_1 _).symm))
      refine gT_ref (hW.1) ?_
      refine gT_go 400 [30] kX14_land ?_
      refine gTM_use rfl (o8_which (d + 4) i j 9 (fun t => t) T N (sk T N a) I1 L y K1.1 rfl (fun t ht => ⟨by omega, hW.2 t ht⟩)) (fun v h' q => ?_)
      obtain ⟨⟨o, rfl, o1, o2⟩, rfl⟩ := q
      rw [eI]
      have o1' : ∀ t, o = some t → t < 9 ∧ rWord T N a = wd t := fun t e => by rw [← rWord_sk (T := T) ha]; exact o1 t e
      have o2' : o = none → ∀ t, t < 9 → ¬ rWord T N a = wd t := fun e t ht => by rw [← rWord_sk (T := T) ha]; exact o2 e t ht
      cases o with
      | none =>
        refine And.intro (fun _ => ?_) (fun z => absurd rfl z)
        exact at30 none false _ rfl o1' o2' (by (repeat' apply And.intro) <;> first | rfl | trivial | exact congrArg Sum.inl (nI_1 _).symm | exact congrArg Sum.inl (nI_1 _).symm)
      | some k =>
        refine And.intro (fun z => absurd z (gOI_ne (by have := (o1' k rfl).1; omega))) (fun _ => ?_)
        exact at30 (some k) true _ rfl o1' o2' (by (repeat' apply And.intro) <;> first | rfl | trivial | exact congrArg Sum.inl (nI_1 _).symm | exact congrArg Sum.inl (nI_1 _).symm)
set_option maxRecDepth 100000 in
theorem o_landR (d i c j : Nat) (T : Nat → Nat) (N : Nat) (I : Nat → Nat → Nat → Int32) (L : Nat → Nat → Nat → Int64) (y : Dy) (hW : lWd i j y) (K : kS i c T N 0 aNew I y) :
    gTM mX14_land (d + 11) (734, 5872) [gR (some (8, i))] (gH I L y) (lrQ i c (rLand T N) I L y) (lrX i c (rLand T N) I L y) := by
  have z0 : zS aNew := fun w h _ _ _ => by unfold aNew; rw [if_neg (by omega)]
  refine gTM_of kX14_land rfl rfl ?_
  refine gT_go 400 [2] kX14_land ?_
  exact t_land2 d i c j T N I L y hW (rLand T N) rfl 61 0 aNew 0 I (0, 0) _ rfl (by decide) gLi_new z0 hF.rf K rfl (Nat.zero_le _) (Nat.zero_le _) (by (repeat' apply And.intro) <;> first | rfl | trivial | exact congrArg Sum.inl (nI_1 _).symm | exact congrArg Sum.inl (nI_1 _).symm)
/-! ===== a new list ===== -/
section GKI
variable {p : Program} {l : Launch} {e : Env} {s : State} {mi : MethodId} {args : Array Value} {below : List Frame} {meth : Method} {c : Code} {H : Heap} {locs : List Loc} {cells slots : Nat} {Q : State → Prop} {pc : Nat} {ls : Array Slot} {As rest : List Value} {B : Nat × Nat} {d n idx L : Nat} {own : String} {y : MethodName} {b cc : ByteArray} {b0 : Addr} {Pc : Array Value → State → Prop}
/-- a constructor's call that leaves the heap -/
theorem gk_callI (hx : p.tables.exec = Jvm.exec) (hb : c.code = cc) (hown : s.vm.findClass own = some mi.cls) (hts : ∀ w ∈ lw_all, w.before args s = true) (hM : vx_Met l y (ws_ y b L none) (grm d (0, 0)) Pc (fun _ st oc t => oc = .returned none ∧ t.heap = st.heap) (fun _ _ _ _ => False) 0 0 (fun _ => False)) (hbl : FrameBlind Pc) (hPc : ∀ U : State, U.heap = H → s.WarmedH U.vm → Pc (Value.ref b0 :: As).toArray U)
    (hL : L ≤ 14) (hy : y.cls ≠ "java/lang/invoke/MethodHandle" ∧ y.cls ≠ "java/lang/invoke/VarHandle" ∧ (parseMethodDescriptor y.desc).map (fun d => d.parameters.length) = some n) (hin : y.name = "<init>") (h1 : Jvm.Cond.methodLink own idx y ∈ lw_all) (h2 : Jvm.Cond.instanceMethod y ∈ lw_all) (h4 : Jvm.Cond.initialized y.cls ∈ lw_all) (h5 : Jvm.Cond.code y b L none ∈ lw_all)
    (hn : As.length = n) (hls : ls.size = c.maxLocals) (hcat : (rest.map fun v => v.category).sum ≤ 16) (hc1 : cells ≤ B.1) (hc2 : slots ≤ B.2) (hd : decode cc pc = .ok (.invokespecial idx, 3))
    (kk : W p l e (grm (d + 1) B) s mi args below meth c H locs cells slots Q (F0 mi (pc + 3) ls rest)) : W p l e (grm (d + 1) B) s mi args below meth c H locs cells slots Q (F0 mi pc ls (As.reverse ++ .ref b0 :: rest)) := by
  intro T hT X
  have hrun := vx_runI (cc := cc) (nL := c.maxLocals) (own := own) (Ts := lw_all) (g := F0 mi pc ls (As.reverse ++ .ref b0 :: rest)) (rest := rest) (l := l) (e := e) (R := grm (d + 1) B) (below := below) (meth := meth) (H := H) (locs := locs) (cells := cells) (slots := slots) ⟨hx, hb, rfl, hown, hts⟩ hM (cwI n hts (lw_meth h5) rfl rfl rfl (hts _ h4) (hts _ h1) (hts _ h2) hin hy (grm_room (k := 0) hL)) ⟨hbl, hPc⟩ rfl hn hls rfl (lv_room16 hcat) hd ⟨hc1, hc2⟩
  rcases hrun T hT X with ⟨v, st₀, t, T', L', q1, q2, q3, q4, q5, ⟨q6, q7⟩, q8⟩ | ⟨q, st₀, t, T', L', E, ce, q1, q2, q3, q4, q5, q6, q7⟩
  · cases q6
    have hL' : L' = [] := by
      cases L' with
      | nil => rfl
      | cons a r => exact (q3 a List.mem_cons_self).elim
    subst hL'
    rw [List.append_nil] at q2
    obtain ⟨t2, a1, b1⟩ := kk T' (by rw [q4, q7, q1]) q2
    exact ⟨t2, q8 t2 a1, b1⟩
  · exact q6.elim
end GKI
theorem k_J0 (l : Launch) (d : Nat) (a : Addr) :
    vx_Met l yJ0_init (ws_ yJ0_init cJ0_init 1 none) (grm (d + 1) (0, 0)) (va_Pc [.ref a] (fun _ => True)) (fun _ st oc t => oc = .returned none ∧ t.heap = st.heap) (fun _ _ _ _ => False) 0 0 (fun _ => False) := by
  refine vx_ofW (cc := cJ0_init) (maxL := 1) (ret := none) (by decide +kernel) rfl ?_
  intro p e s m args below meth c s₁ Bd hml hxt hP
  obtain ⟨rfl, -⟩ := hP
  have hts := atoms_spec (ws := ws_ yJ0_init cJ0_init 1 none) Bd.pre
  have hts' : ∀ w ∈ lw_all, w.before _ s = true := fun w h => hts w (List.mem_cons_of_mem _ h)
  have hown : s.vm.findClass "java/util/AbstractCollection" = some m.cls := findClass_of_methodNamed Bd.named
  rw [lg_entry_eq]
  have hls := lv_entry [.ref a] (n := 1) (Nat.le_refl 1)
  have s0 := hls.2.2 (0, .ref a) List.mem_cons_self
  have hroom : (headSpec (ws_ yJ0_init cJ0_init 1 none) (grm (d + 1) (0, 0))).room = grm (d + 1) (0, 0) := rfl
  rw [hroom]
  refine lv_aload_n Bd.exec Bd.bytes dJ0_init_0 rfl s0 ?_
  refine W.objInit (rest := []) Bd.exec Bd.bytes hown (hts' _ q282) (hts' _ gobi_i) (hts' _ gobi_c) rfl (hls.1.trans hml.symm) rfl dJ0_init_1 (Nat.le_add_left 1 d) ?_ ?_
  · show 2 * 0 + 0 + 12 ≤ 48 * (d + 1) + 14000
    omega
  · exact vx_ret (W.vret Bd.exec Bd.bytes Bd.returns (fun t ht _ => ⟨rfl, ht⟩) (fun _ q => absurd q List.not_mem_nil) dJ0_init_4 Bd.notSynchronized)
def mJ1_init : GM := (yJ1_init, cJ1_init, 1, (none : Option FieldType), RJ1, 51, true, [], [], [])
theorem gce_J1_init : gCee mJ1_init 0 := ⟨by decide, by decide +kernel, by decide +kernel, by decide +kernel⟩
set_option maxRecDepth 100000 in
theorem o_J1 (d j : Nat) (h : Hp) : gTM mJ1_init (d + 2) (0, 0) [gR (some (10, j))] h (fun v h' => v = [] ∧ h' = sI h 10 j 0 0) (fun _ _ => False) := by
  intro l hl D base ad hv
  have hlv : j < hC h 10 := hv _ List.mem_cons_self
  refine vx_ofW (cc := cJ1_init) (maxL := 1) (ret := none) (by decide +kernel) rfl ?_
  intro p e s m args below meth c s₁ Bd hml hxt hP
  obtain ⟨rfl, rp, hK, hg⟩ := hP
  have hts := atoms_spec (ws := ws_ yJ1_init cJ1_init 1 none) Bd.pre
  have hts' : ∀ w ∈ lw_all, w.before _ s = true := fun w h => hts w (List.mem_cons_of_mem _ h)
  have hown : s.vm.findClass "java/util/AbstractList" = some m.cls := findClass_of_methodNamed Bd.named
  rw [lg_entry_eq]
  have hls := lv_entry [.ref (ad 10 j)] (n := 1) (Nat.le_refl 1)
  have s0 := hls.2.2 (0, .ref (ad 10 j)) List.mem_cons_self
  have hroom : (headSpec (ws_ yJ1_init cJ1_init 1 none) (grm (d + 2) (0, 0))).room = grm (d + 2) (0, 0) := rfl
  show W p l e (headSpec (ws_ yJ1_init cJ1_init 1 none) (grm (d + 2) (0, 0))).room s m _ below meth c s.heap [] 0 0 _ (F0 m 0 ((lg_sl [.ref (ad 10 j)] ++ List.replicate (1 - (lg_sl [.ref (ad 10 j)]).length) Slot.unset).toArray) [])
  rw [hroom]
  refine lv_aload_n Bd.exec Bd.bytes dJ1_init_0 rfl s0 ?_
  refine gk_callI (As := []) (rest := []) (n := 0) (b0 := ad 10 j) (B := (0, 0)) Bd.exec Bd.bytes hown hts' (k_J0 l d (ad 10 j)) (gPc_bl _) (fun U _ _ => ⟨rfl, trivial⟩) (by decide) ⟨by decide, by decide, by decide +kernel⟩ rfl q279 q280 q136 q281 rfl (hls.1.trans hml.symm) (by decide) (Nat.le_refl _) (Nat.le_refl _) dJ1_init_1 ?_
  refine lv_aload_n Bd.exec Bd.bytes dJ1_init_4 rfl s0 ?_
  refine lv_iconst Bd.exec Bd.bytes dJ1_init_5 (v := 0) rfl ?_
  have e1 : grk 10 = some (.inl 21) := rfl
  obtain ⟨rr, cell, g1, g2, g3, g4, g5, gm⟩ := ggatO rp (by decide) hlv e1
  have f1 : gcl[21]? = some (RJ2, TJ2, 3) := rfl
  cases g1.symm.trans f1
  obtain ⟨v0, v1, v2⟩ := g5 0 (by decide)
  obtain ⟨hS, hfc, kC, hkC, hkind⟩ := hK.1 21 _ f1
  obtain ⟨cf, kf, fi, fd, hi, hsl⟩ := hS 0 (by decide)
  have hst := (u_facts hfc hkC (u_lays hts' (gcl_ok 21 _ f1).1 (show 0 < 3 by decide)) hi).1
  have hty := (gcl_ok 21 _ f1).2.1 0 (by decide)
  have hlay := hts' _ ((gcl_ok 21 _ f1).1 _ (u_in_lay (show 0 < 3 by decide)))
  unfold u_lay at hlay
  rw [if_neg (show ¬ (TJ2 0).2.2.2 = true by decide)] at hlay
  have h7 := u_store hfc hkC hkind hlay hi hty (v := .int 0) rfl rfl
  have gap : ∀ x y, x < 3 → y < 3 → x ≠ y → D.2.1 21 x ≠ D.2.1 21 y := by
    obtain ⟨k1, k2, k3⟩ := gcl_ok 21 _ f1
    exact va_apart (D := (D.1, D.2.1)) (cl := gcl) (tys := []) (s := s) (args := [Value.ref (ad 10 j)].toArray) (own := "java/util/AbstractList") (Ts := lw_all) hts' k1 (gty 21) k2 (k3 rfl) (gK_va hK) f1
  refine W.putK Bd.exec Bd.bytes (f := fd) ⟨hown, hts' _ q287, ⟨_, _, _, hi⟩, hst⟩ (by rw [g3]; exact h7) g2 g4 (by rw [hsl]; exact k2_hasslot v1) rfl rfl dJ1_init_6 fun H1 e9 z1 o1 => ?_
  rw [hsl] at e9
  have hat : gat D ad (sI h 10 j 0 0) 10 j H1 := gput_atO e1 g1 e9 g3 g4 g5 gm gap (by decide) rfl (fun j2 hj2 => by
    have : hI (sI h 10 j 0 0) 10 j j2 = hI h 10 j j2 := u3_ne (fun z => hj2 z.2.2)
    unfold gval; split <;> first | rfl | rw [this]) (congrArg Value.int (u3_eq (f := hI h) (b := 10) (i := j) (k := 0) (v := 0)).symm)
  have vs := (va_S.rf (A := fun q => base ≤ q) (H0 := s.heap)).put (k := fd.slot) z1 o1 (rp.2.2.1 _ _ (by decide) hlv)
  exact vx_ret (W.vret Bd.exec Bd.bytes Bd.returns (fun t ht _ => ⟨[], sI h 10 j 0 0, ad, rfl, Nat.zero_le _, ⟨rfl, rfl⟩, by rw [ht]; exact grep_put rp (by decide) hlv (gsame_I h 10 j 0 0) rp.2.2.2.1 z1 o1 hat, fun _ _ q => ⟨q, rfl⟩, fun _ q => absurd q List.not_mem_nil, vs.F ht⟩) vs.2.2 dJ1_init_9 Bd.notSynchronized)
theorem gCall_J1 {C : String} : gCall 52 (.invokespecial 1) 3 (some C) mJ1_init 0 := gcall_I (o := 52) (idx := 1) rfl rfl gce_J1_init rfl q276 q277 q137 q278
set_option maxRecDepth 100000 in
theorem o_listNew (d q : Nat) (I : Nat → Nat → Nat → Int32) (L : Nat → Nat → Nat → Int64) (y : Dy) :
    gTM mJ2_init (d + 3) (0, 0) [gR (some (10, q))] (gH I L y) (fun v h' => v = [] ∧ h' = gH (u3 I 10 q 0 0) L (yR y 10 q 1 (some (3, 0)))) (fun _ _ => False) := by
  refine gTM_of kJ2_init rfl rfl ?_
  refine gT_go 400 [1] kJ2_init ?_
  refine gcall_go (C := some RJ2) (k := (0, 0)) (full := [gR (some (10, q))]) (av := []) (r := []) ⟨(10, q), rfl, rfl, Or.inl ⟨21, _, rfl, (show (10 : Nat) ≠ 2 by decide), rfl, rfl⟩⟩ rfl gCall_J1 (o_J1 d q (gH I L y)) dJ2_init_1 rfl (Nat.zero_le _) (Nat.le_refl _) (Nat.le_refl _) (fun v h' w => ?_) (fun _ _ w => w.elim)
  obtain ⟨rfl, rfl⟩ := w
  refine gT_go 400 [5] kJ2_init ?_
  refine gT_gsE dJ2_init_5 q283 ?_
  refine gT_go 400 [] kJ2_init ?_
  exact ⟨rfl, sR_gH rfl⟩
/-! ===== the constructor of a reader of a land (printed by gen_lrnew.py) ===== -/
def Gr : Nat → Prop := fun b => b = 8 ∨ b = 9 ∨ b = 37 ∨ Gld b
abbrev Mno : Nat → Nat → Nat → Prop := fun _ _ _ => False
/-- changes of new cells don't count -/
theorem hF.drop {G : Nat → Prop} {M : Nat → Nat → Nat → Prop} {I I' : Nat → Nat → Nat → Int32} {L L' : Nat → Nat → Nat → Int64} {y y' : Dy} (H : hF G M I L y I' L' y') (h : ∀ b i k, M b i k → G b ∧ y.2.2.2.2 b ≤ i) : hF G Mno I L y I' L' y' :=
  ⟨H.1, fun b i k g _ => H.2.1 b i k g (fun m => by obtain ⟨a, b⟩ := h _ _ _ m; exact absurd (g a) (by omega)), H.2.2⟩
theorem hF.mon {G G' : Nat → Prop} {I I' : Nat → Nat → Nat → Int32} {L L' : Nat → Nat → Nat → Int64} {y y' : Dy} {M : Nat → Nat → Nat → Prop} (H : hF G Mno I L y I' L' y') (hG : ∀ b, G b → G' b) : hF G' M I L y I' L' y' := H.mono hG (fun _ _ _ z => z.elim)
section GWR
variable {m : GM} {d : Nat} {B : Nat × Nat} {Qr : List AV → Hp → Prop} {Qx : Rf → Hp → Prop} {u : Nat × Nat} {pc : Nat} {lo : Lo} {r : List AV} {x : Int32} {n j k : Nat} {I : Nat → Nat → Nat → Int32} {L : Nat → Nat → Nat → Int64} {y : Dy}
theorem gT_astT9 (hx : x = nI n) (hn : n < 9) (hk : k < 22) (hd : decode (gmC m) pc = .ok (.aastore, 1)) (K : gT m d B Qr Qx (pc + 1) lo r (gH I L (yR y 9 j n (some (2, k)))) u) : gT m d B Qr Qx pc lo (gR (some (2, k)) :: gI x :: gR (some (9, j)) :: r) (gH I L y) u := by
  rw [← sR_gH rfl] at K
  exact gT_astT (by decide) rfl hx hn (by rw [gStr_22]; exact hk) hd K
theorem gT_astT29 (hx : x = nI n) (hn : n < 8) (hk : k < 22) (hd : decode (gmC m) pc = .ok (.aastore, 1)) (K : gT m d B Qr Qx (pc + 1) lo r (gH I L (yR y 29 j n (some (2, k)))) u) : gT m d B Qr Qx pc lo (gR (some (2, k)) :: gI x :: gR (some (29, j)) :: r) (gH I L y) u := by
  rw [← sR_gH rfl] at K
  exact gT_astT (by decide) rfl hx hn (by rw [gStr_22]; exact hk) hd K
end GWR
/-- the first n words of an array of texts -/
def wrs (b : Nat) (f : Nat → Nat) (n j : Nat) (z : Dy) : Prop := ∀ t, t < n → gRX z b j t = some (2, f t)
theorem wrs_0 {b j : Nat} {f : Nat → Nat} {z : Dy} : wrs b f 0 j z := fun t ht => absurd ht (Nat.not_lt_zero _)
theorem wrs_s {b n j k : Nat} {f : Nat → Nat} {z : Dy} (hb : glk (gRt z) b = none) (hk : f n = k) (H : wrs b f n j z) : wrs b f (n + 1) j (yR z b j n (some (2, k))) := by
  intro t ht
  rw [gRX_yR hb]
  by_cases e : t = n
  · subst e; rw [hk]; exact u3_eq
  · rw [u3_ne3 e]; exact H t (by omega)
set_option maxRecDepth 100000 in
theorem o8_init (d i n : Nat) (I : Nat → Nat → Nat → Int32) (L : Nat → Nat → Nat → Int64) (y : Dy) : gTM mX13_init (d + 2) (0, 0) [gR (some (8, i)), gR (some (66, 0)), gI (nI n)] (gH I L y) (fun v h' => v = [] ∧ h' = gH (u3 I 8 i 1 (nI n)) L (yR y 8 i 0 (some (66, 0)))) (fun _ _ => False) := by
  refine gEnter 400 [] kX13_init rfl rfl ?_
  refine ⟨rfl, ?_⟩
  show sI (sR (gH I L y) 8 i 0 (some (66, 0))) 8 i 1 (nI n) = _
  rw [sR_gH rfl]
set_option maxRecDepth 100000 in
theorem o28_init (d i n : Nat) (I : Nat → Nat → Nat → Int32) (L : Nat → Nat → Nat → Int64) (y : Dy) : gTM mX13_init (d + 2) (0, 0) [gR (some (28, i)), gR (some (66, 0)), gI (nI n)] (gH I L y) (fun v h' => v = [] ∧ h' = gH (u3 I 28 i 1 (nI n)) L (yR y 28 i 0 (some (66, 0)))) (fun _ _ => False) := by
  refine gEnter 400 [] kX13_init rfl rfl ?_
  refine ⟨rfl, ?_⟩
  show sI (sR (gH I L y) 28 i 0 (some (66, 0))) 28 i 1 (nI n) = _
  rw [sR_gH rfl]
set_option maxRecDepth 100000 in
theorem o_lrNew (d n i c : Nat) (I : Nat → Nat → Nat → Int32) (L : Nat → Nat → Nat → Int64) (y : Dy) (hi : y.2.2.2.2 8 = i) (hc : y.2.2.2.2 40 = c) (hcc : ∀ b, 47 ≤ b → b ≤ 53 → y.2.2.2.2 b = c) (h54 : y.2.2.2.2 54 = 24 * c) (h55 : y.2.2.2.2 55 = 5 * c) :
    gTM mX14_init (d + 3) (38, 766) [gR (some (8, i)), gR (some (66, 0)), gI (nI n)] (gNw (gH I L y) 8 0) (fun v h' => v = [] ∧ ∃ I' L' y' j, h' = gH I' L' y' ∧ hF Gr Mno I L y I' L' y' ∧ ldC c y' ∧ i < y'.2.2.2.2 8 ∧ lWd i j y' ∧ gRX y' 8 i 0 = some (66, 0) ∧ gRX y' 8 i 4 = some (40, c) ∧ I' 8 i 1 = nI n ∧ I' 8 i 2 = 0 ∧ cLd c 12 aNew I') (fun _ _ => False) := by
  have g8 : Gr 8 := Or.inl rfl
  have g9 : Gr 9 := Or.inr (Or.inl rfl)
  subst hi
  rw [gNw_gHn 0 rfl (fun z q => by cases q)]
  obtain ⟨i, hi⟩ : ∃ i, i = y.2.2.2.2 8 := ⟨_, rfl⟩
  rw [← hi]
  obtain ⟨I0, hI0⟩ : ∃ I0, I0 = fNw I 0 8 i := ⟨_, rfl⟩
  obtain ⟨L0, hL0⟩ : ∃ L0, L0 = fNw L 0 8 i := ⟨_, rfl⟩
  obtain ⟨z0, hz0⟩ : ∃ z0, z0 = yNw y 8 0 := ⟨_, rfl⟩
  rw [← hI0, ← hL0, ← hz0]
  have f0 : hF Gr Mno I L y I0 L0 z0 := by rw [hI0, hL0, hz0, hi]; exact hF.rf.nw g8 0
  have c0 : ∀ b, b ≠ 8 → z0.2.2.2.2 b = y.2.2.2.2 b := fun b hb => by rw [hz0]; exact gUp_ne hb
  have c08 : z0.2.2.2.2 8 = i + 1 := by rw [hz0, hi]; show gUp y.2.2.2.2 8 8 = _; exact gUp_eq
  refine gEnter 400 [9] kX14_init rfl rfl ?_
  refine gTM_use rfl (o8_init d i n I0 L0 z0) (fun v h' q => ?_)
  obtain ⟨rfl, rfl⟩ := q
  obtain ⟨I1, hI1⟩ : ∃ I1, I1 = u3 I0 8 i 1 (nI n) := ⟨_, rfl⟩
  obtain ⟨z1, hz1⟩ : ∃ z1, z1 = yR z0 8 i 0 (some (66, 0)) := ⟨_, rfl⟩
  rw [← hI1, ← hz1]
  have f1 : hF Gr Mno I L y I1 L0 z1 := by rw [hI1, hz1]; exact (f0.putN g8 (by omega) _).refN g8 (by omega) rfl _
  have c1 : ∀ b, z1.2.2.2.2 b = z0.2.2.2.2 b := fun b => by rw [hz1] <;> rfl
  have r1 : gRX z1 8 i 0 = some (66, 0) := by rw [hz1, gRX_yR rfl]; exact u3_eq
  refine gT_newO 9 9 (by decide) rfl rfl (by decide) q804 (by decide) dX14_init_9 (by decide) (by decide) ?_
  rw [gNw_gHn 9 rfl (fun z q => by cases q; rfl)]
  obtain ⟨j, hj⟩ : ∃ j, j = z1.2.2.2.2 9 := ⟨_, rfl⟩
  change gT _ _ _ _ _ _ _ [gR (some (9, z1.2.2.2.2 9)), gR (some (8, i))] _ _
  rw [← hj]
  have hj9 : y.2.2.2.2 9 ≤ j := by rw [hj, c1, c0 9 (by decide)]; exact Nat.le_refl _
  obtain ⟨I2, hI2⟩ : ∃ I2, I2 = fNw I1 0 9 j := ⟨_, rfl⟩
  obtain ⟨L2, hL2⟩ : ∃ L2, L2 = fNw L0 0 9 j := ⟨_, rfl⟩
  obtain ⟨w0, hw0⟩ : ∃ w0, w0 = yNw z1 9 9 := ⟨_, rfl⟩
  rw [← hI2, ← hL2, ← hw0]
  have k0 : hF Gr Mno I L y I2 L2 w0 := by rw [hI2, hL2, hw0, hj]; exact f1.nw g9 9
  have e0 : ∀ b, b ≠ 9 → w0.2.2.2.2 b = z1.2.2.2.2 b := fun b hb => by rw [hw0]; exact gUp_ne hb
  have s0 : wrs 9 (fun t => t) 0 j w0 := wrs_0
  have q0 : ∀ k, gRX w0 8 i k = gRX z1 8 i k := fun k => by rw [hw0]; exact gRX_nwO (fun z => by cases z.1)
  refine gT_go 400 [16] kX14_init ?_
  refine gT_astT9 (n := 0) rfl (by decide) (by decide) dX14_init_16 ?_
  obtain ⟨w1, hw1⟩ : ∃ w, w = yR w0 9 j 0 (some (2, 0)) := ⟨_, rfl⟩
  rw [← hw1]
  have k1 : hF Gr Mno I L y I2 L2 w1 := by rw [hw1]; exact k0.refN g9 hj9 rfl _
  have s1 : wrs 9 (fun t => t) 1 j w1 := by rw [hw1]; exact wrs_s rfl rfl s0
  have e1 : ∀ b, b ≠ 9 → w1.2.2.2.2 b = z1.2.2.2.2 b := fun b hb => by rw [hw1]; exact e0 b hb
  have q1 : ∀ k, gRX w1 8 i k = gRX z1 8 i k := fun k => by rw [hw1, gRX_yR rfl, u3_ne1 (by decide)]; exact q0 k
  refine gT_go 400 [21] kX14_init ?_
  refine gT_astT9 (n := 1) rfl (by decide) (by decide) dX14_init_21 ?_
  obtain ⟨w2, hw2⟩ : ∃ w, w = yR w1 9 j 1 (some (2, 1)) := ⟨_, rfl⟩
  rw [← hw2]
  have k2 : hF Gr Mno I L y I2 L2 w2 := by rw [hw2]; exact k1.refN g9 hj9 rfl _
  have s2 : wrs 9 (fun t => t) 2 j w2 := by rw [hw2]; exact wrs_s rfl rfl s1
  have e2 : ∀ b, b ≠ 9 → w2.2.2.2.2 b = z1.2.2.2.2 b := fun b hb => by rw [hw2]; exact e1 b hb
  have q2 : ∀ k, gRX w2 8 i k = gRX z1 8 i k := fun k => by rw [hw2, gRX_yR rfl, u3_ne1 (by decide)]; exact q1 k
  refine gT_go 400 [26] kX14_init ?_
  refine gT_astT9 (n := 2) rfl (by decide) (by decide) dX14_init_26 ?_
  obtain ⟨w3, hw3⟩ : ∃ w, w = yR w2 9 j 2 (some (2, 2)) := ⟨_, rfl⟩
  rw [← hw3]
  have k3 : hF Gr Mno I L y I2 L2 w3 := by rw [hw3]; exact k2.refN g9 hj9 rfl _
  have s3 : wrs 9 (fun t => t) 3 j w3 := by rw [hw3]; exact wrs_s rfl rfl s2
  have e3 : ∀ b, b ≠ 9 → w3.2.2.2.2 b = z1.2.2.2.2 b := fun b hb => by rw [hw3]; exact e2 b hb
  have q3 : ∀ k, gRX w3 8 i k = gRX z1 8 i k := fun k => by rw [hw3, gRX_yR rfl, u3_ne1 (by decide)]; exact q2 k
  refine gT_go 400 [31] kX14_init ?_
  refine gT_astT9 (n := 3) rfl (by decide) (by decide) dX14_init_31 ?_
  obtain ⟨w4, hw4⟩ : ∃ w, w = yR w3 9 j 3 (some (2, 3)) := ⟨_, rfl⟩
  rw [← hw4]
  have k4 : hF Gr Mno I L y I2 L2 w4 := by rw [hw4]; exact k3.refN g9 hj9 rfl _
  have s4 : wrs 9 (fun t => t) 4 j w4 := by rw [hw4]; exact wrs_s rfl rfl s3
  have e4 : ∀ b, b ≠ 9 → w4.2.2.2.2 b = z1.2.2.2.2 b := fun b hb => by rw [hw4]; exact e3 b hb
  have q4 : ∀ k, gRX w4 8 i k = gRX z1 8 i k := fun k => by rw [hw4, gRX_yR rfl, u3_ne1 (by decide)]; exact q3 k
  refine gT_go 400 [36] kX14_init ?_
  refine gT_astT9 (n := 4) rfl (by decide) (by decide) dX14_init_36 ?_
  obtain ⟨w5, hw5⟩ : ∃ w, w = yR w4 9 j 4 (some (2, 4)) := ⟨_, rfl⟩
  rw [← hw5]
  have k5 : hF Gr Mno I L y I2 L2 w5 := by rw [hw5]; exact k4.refN g9 hj9 rfl _
  have s5 : wrs 9 (fun t => t) 5 j w5 := by rw [hw5]; exact wrs_s rfl rfl s4
  have e5 : ∀ b, b ≠ 9 → w5.2.2.2.2 b = z1.2.2.2.2 b := fun b hb => by rw [hw5]; exact e4 b hb
  have q5 : ∀ k, gRX w5 8 i k = gRX z1 8 i k := fun k => by rw [hw5, gRX_yR rfl, u3_ne1 (by decide)]; exact q4 k
  refine gT_go 400 [41] kX14_init ?_
  refine gT_astT9 (n := 5) rfl (by decide) (by decide) dX14_init_41 ?_
  obtain ⟨w6, hw6⟩ : ∃ w, w = yR w5 9 j 5 (some (2, 5)) := ⟨_, rfl⟩
  rw [← hw6]
  have k6 : hF Gr Mno I L y I2 L2 w6 := by rw [hw6]; exact k5.refN g9 hj9 rfl _
  have s6 : wrs 9 (fun t => t) 6 j w6 := by rw [hw6]; exact wrs_s rfl rfl s5
  have e6 : ∀ b, b ≠ 9 → w6.2.2.2.2 b = z1.2.2.2.2 b := fun b hb => by rw [hw6]; exact e5 b hb
  have q6 : ∀ k, gRX w6 8 i k = gRX z1 8 i k := fun k => by rw [hw6, gRX_yR rfl, u3_ne1 (by decide)]; exact q5 k
  refine gT_go 400 [47] kX14_init ?_
  refine gT_astT9 (n := 6) rfl (by decide) (by decide) dX14_init_47 ?_
  obtain ⟨w7, hw7⟩ : ∃ w, w = yR w6 9 j 6 (some (2, 6)) := ⟨_, rfl⟩
  rw [← hw7]
  have k7 : hF Gr Mno I L y I2 L2 w7 := by rw [hw7]; exact k6.refN g9 hj9 rfl _
  have s7 : wrs 9 (fun t => t) 7 j w7 := by rw [hw7]; exact wrs_s rfl rfl s6
  have e7 : ∀ b, b ≠ 9 → w7.2.2.2.2 b = z1.2.2.2.2 b := fun b hb => by rw [hw7]; exact e6 b hb
  have q7 : ∀ k, gRX w7 8 i k = gRX z1 8 i k := fun k => by rw [hw7, gRX_yR rfl, u3_ne1 (by decide)]; exact q6 k
  refine gT_go 400 [53] kX14_init ?_
  refine gT_astT9 (n := 7) rfl (by decide) (by decide) dX14_init_53 ?_
  obtain ⟨w8, hw8⟩ : ∃ w, w = yR w7 9 j 7 (some (2, 7)) := ⟨_, rfl⟩
  rw [← hw8]
  have k8 : hF Gr Mno I L y I2 L2 w8 := by rw [hw8]; exact k7.refN g9 hj9 rfl _
  have s8 : wrs 9 (fun t => t) 8 j w8 := by rw [hw8]; exact wrs_s rfl rfl s7
  have e8 : ∀ b, b ≠ 9 → w8.2.2.2.2 b = z1.2.2.2.2 b := fun b hb => by rw [hw8]; exact e7 b hb
  have q8 : ∀ k, gRX w8 8 i k = gRX z1 8 i k := fun k => by rw [hw8, gRX_yR rfl, u3_ne1 (by decide)]; exact q7 k
  refine gT_go 400 [59] kX14_init ?_
  refine gT_astT9 (n := 8) rfl (by decide) (by decide) dX14_init_59 ?_
  obtain ⟨w9, hw9⟩ : ∃ w, w = yR w8 9 j 8 (some (2, 8)) := ⟨_, rfl⟩
  rw [← hw9]
  have k9 : hF Gr Mno I L y I2 L2 w9 := by rw [hw9]; exact k8.refN g9 hj9 rfl _
  have s9 : wrs 9 (fun t => t) 9 j w9 := by rw [hw9]; exact wrs_s rfl rfl s8
  have e9 : ∀ b, b ≠ 9 → w9.2.2.2.2 b = z1.2.2.2.2 b := fun b hb => by rw [hw9]; exact e8 b hb
  have q9 : ∀ k, gRX w9 8 i k = gRX z1 8 i k := fun k => by rw [hw9, gRX_yR rfl, u3_ne1 (by decide)]; exact q8 k
  refine gT_go 400 [64] kX14_init ?_
  change gT _ _ _ _ _ _ _ _ (sR (gH I2 L2 w9) 8 i 3 (some (9, j))) _
  rw [sR_gH rfl]
  obtain ⟨x0, hx0⟩ : ∃ x, x = yR w9 8 i 3 (some (9, j)) := ⟨_, rfl⟩
  rw [← hx0]
  have p0 : hF Gr Mno I L y I2 L2 x0 := by rw [hx0]; exact k9.refN g8 (by omega) rfl _
  have d0 : ∀ b, b ≠ 8 → b ≠ 9 → x0.2.2.2.2 b = y.2.2.2.2 b := fun b h1 h2 => by rw [hx0]; exact (e9 b h2).trans ((c1 b).trans (c0 b h1))
  have d8 : x0.2.2.2.2 8 = i + 1 := by rw [hx0]; exact (e9 8 (by decide)).trans ((c1 8).trans c08)
  have t3 : gRX x0 8 i 3 = some (9, j) := by rw [hx0, gRX_yR rfl]; exact u3_eq
  have t0 : gRX x0 8 i 0 = some (66, 0) := by rw [hx0, gRX_yR rfl, u3_ne3 (by decide)]; exact (q9 0).trans r1
  have t9 : wrs 9 (fun t => t) 9 j x0 := fun t ht => by rw [hx0, gRX_yR rfl, u3_ne1 (by decide)]; exact s9 t ht
  refine gT_new 40 (by decide) rfl rfl (by decide) dX14_init_64 q815 q191 q135 (by decide) (by decide) ?_
  refine gT_go 400 [68] kX14_init ?_
  have hc' : x0.2.2.2.2 40 = c := (d0 40 (by decide) (by decide)).trans hc
  change gT _ _ _ _ _ _ _ [gR (some (40, x0.2.2.2.2 40)), gR (some (40, x0.2.2.2.2 40)), gR (some (8, i))] _ _
  rw [hc']
  refine gT_callP (k := (36, 742)) rfl rfl (by decide) rfl rfl rfl dX14_init_68 (o_ldNew d c I2 L2 x0 hc' (fun b b1 b2 => (d0 b (by omega) (by omega)).trans (hcc b b1 b2)) ((d0 54 (by decide) (by decide)).trans h54) ((d0 55 (by decide) (by decide)).trans h55)) (by decide) (by decide) (fun v h' q => ?_) (fun _ _ q => q.elim)
  obtain ⟨rfl, I', L', y', rfl, a1, a2, a3⟩ := q
  refine gT_go 400 [] kX14_init ?_
  have n8 : ¬ Gld 8 := by unfold Gld; omega
  have n9 : ¬ Gld 9 := by unfold Gld; omega
  have ai : ∀ k, I' 8 i k = I2 8 i k := fun k => a1.2.1 8 i k (fun g => absurd g n8) (fun z => z)
  have i12 : ∀ k, I2 8 i k = I1 8 i k := fun k => by rw [hI2]; exact fNw_o (fun z => by cases z.1)
  refine ⟨rfl, I', L', yR y' 8 i 4 (some (40, c)), j, ?_, ?_, a2, ?_, ⟨?_, fun t ht => ?_⟩, ?_, ?_, ?_, ?_, a3⟩
  · show sR (gH I' L' y') 8 i 4 (some (40, c)) = _
    exact sR_gH rfl
  · exact (p0.tr (a1.mon (fun b g => Or.inr (Or.inr (Or.inr g))))).refN g8 (by omega) rfl _
  · show i < y'.2.2.2.2 8
    rw [a1.2.2.2.2 8 n8, d8]; omega
  · rw [gRX_yR rfl, u3_ne3 (by decide), (a1.2.2.1 8 i 3 (fun g => absurd g n8)).2.1]; exact t3
  · rw [gRX_yR rfl, u3_ne1 (by decide), (a1.2.2.1 9 j t (fun g => absurd g n9)).2.1]; exact t9 t ht
  · rw [gRX_yR rfl, u3_ne3 (by decide), (a1.2.2.1 8 i 0 (fun g => absurd g n8)).2.1]; exact t0
  · rw [gRX_yR rfl]; exact u3_eq
  · rw [ai, i12, hI1]; exact u3_eq
  · rw [ai, i12, hI1, u3_ne3 (by decide), hI0]; exact fNw_n
/-! ===== public methods of the component: a land is read ===== -/
theorem cLi_eq {q n : Nat} {f : Nat → Option Rf} {I I' : Nat → Nat → Nat → Int32} {y y' : Dy} (e10 : I' 10 = I 10) (r10 : gRX y' 10 = gRX y 10) (r11 : gRX y' 11 = gRX y 11) (n11 : gNX y' 11 = gNX y 11) (H : cLi q n f I y) : cLi q n f I' y' := by
  obtain ⟨h1, h2, h3⟩ := H
  refine ⟨by rw [e10]; exact h1, h2, ?_⟩
  rcases h3 with ⟨a, b⟩ | ⟨z, a, b, c, d⟩
  · exact Or.inl ⟨a, by rw [r10]; exact b⟩
  · exact Or.inr ⟨z, by rw [r10]; exact a, by rw [n11]; exact b, fun k hk => by rw [r11]; exact c k hk, by rw [n11]; exact d⟩
/-- outside of G all stays -/
theorem hF.eI {G : Nat → Prop} {I I' : Nat → Nat → Nat → Int32} {L L' : Nat → Nat → Nat → Int64} {y y' : Dy} (f : hF G Mno I L y I' L' y') {b : Nat} (g : ¬ G b) : I' b = I b := funext fun i => funext fun k => f.2.1 b i k (fun z => absurd z g) (fun z => z)
theorem hF.eL {G : Nat → Prop} {M : Nat → Nat → Nat → Prop} {I I' : Nat → Nat → Nat → Int32} {L L' : Nat → Nat → Nat → Int64} {y y' : Dy} (f : hF G M I L y I' L' y') {b : Nat} (g : ¬ G b) : L' b = L b := funext fun i => funext fun k => (f.2.2.1 b i k (fun z => absurd z g)).1
theorem hF.eR {G : Nat → Prop} {M : Nat → Nat → Nat → Prop} {I I' : Nat → Nat → Nat → Int32} {L L' : Nat → Nat → Nat → Int64} {y y' : Dy} (f : hF G M I L y I' L' y') {b : Nat} (g : ¬ G b) : gRX y' b = gRX y b := funext fun i => funext fun k => (f.2.2.1 b i k (fun z => absurd z g)).2.1
theorem hF.eN {G : Nat → Prop} {M : Nat → Nat → Nat → Prop} {I I' : Nat → Nat → Nat → Int32} {L L' : Nat → Nat → Nat → Int64} {y y' : Dy} (f : hF G M I L y I' L' y') {b : Nat} (g : ¬ G b) : gNX y' b = gNX y b := funext fun i => (f.2.2.1 b i 0 (fun z => absurd z g)).2.2
theorem nGr {b : Nat} (h : b < 8 ∨ (9 < b ∧ b < 37) ∨ (37 < b ∧ b < 40) ∨ (40 < b ∧ b < 47) ∨ 55 < b) : ¬ Gr b := by unfold Gr Gld; omega
/-- the land that was there stays -/
theorem cLd_keep {S : Nat} {A : Nat → Nat} {I I' : Nat → Nat → Nat → Int32} {L L' : Nat → Nat → Nat → Int64} {y y' : Dy} (f : hF Gr Mno I L y I' L' y') (hc : y.1 < y.2.2.2.2 40) (ct : cCt y.2.2.2.2) (H : cLd y.1 S A I) : cLd y'.1 S A I' := by
  obtain ⟨c1, c2, c3, c4⟩ := ct
  have e40 : ∀ k, I' 40 y.1 k = I 40 y.1 k := fun k => f.2.1 40 y.1 k (fun _ => hc) (fun z => z)
  have e47 : ∀ b, 47 ≤ b → b ≤ 51 → ∀ k, I' b y.1 k = I b y.1 k := fun b b1 b2 k => f.2.1 b y.1 k (fun _ => by rw [c2 b b1 (by omega)]; exact hc) (fun z => z)
  obtain ⟨l1, l2, l3, l4, l5, l6, l7, l8, l9, sb, b1, b2, b3⟩ := H
  rw [f.1.1]
  refine ⟨fun k hk => (e40 k).trans (l1 k hk), (e40 4).trans l2, (e40 5).trans l3, (e40 6).trans l4, fun p hp => ⟨(e47 47 (by decide) (by decide) p).trans (l5 p hp).1, (e47 48 (by decide) (by decide) p).trans (l5 p hp).2⟩, fun w hw => ⟨(e47 49 (by decide) (by decide) w).trans (l6 w hw).1, (e47 50 (by decide) (by decide) w).trans (l6 w hw).2⟩, fun k hk => (e47 51 (by decide) (by decide) k).trans (l7 k hk), fun k p hk hp => ?_, fun w h hw hh => ?_, sb, (e40 14).trans b1, b2, b3⟩
  · exact (f.2.1 55 (5 * y.1 + k) p (fun _ => by rw [c4]; omega) (fun z => z)).trans (l8 k p hk hp)
  · exact (f.2.1 54 (24 * y.1 + w) h (fun _ => by rw [c3]; omega) (fun z => z)).trans (l9 w h hw hh)
theorem cRl_keep {R : RL} {ht : Nat} {I I' : Nat → Nat → Nat → Int32} {L L' : Nat → Nat → Nat → Int64} {y y' : Dy} (f : hF Gr Mno I L y I' L' y') (H : cRl R ht I y) : cRl R ht I' y' := by
  obtain ⟨h1, g, h2, h5⟩ := H
  have e : ∀ b, 9 < b → b < 37 → I' b = I b := fun b b1 b2 => f.eI (nGr (by omega))
  have er : ∀ b, 9 < b → b < 37 → gRX y' b = gRX y b := fun b b1 b2 => f.eR (nGr (by omega))
  refine ⟨h1, g, by rw [f.1.2]; exact cLi_eq (e 10 (by decide) (by decide)) (er 10 (by decide) (by decide)) (er 11 (by decide) (by decide)) (f.eN (nGr (by decide))) h2, fun k hk => ?_⟩
  obtain ⟨j, ra, g1, g2, g3, g4⟩ := h5 k hk
  exact ⟨j, ra, g1, by rw [e 12 (by decide) (by decide)]; exact g2, by rw [er 12 (by decide) (by decide)]; exact g3, cAs_cg3 (fun b b1 b2 => e b (by omega) (by omega)) (fun b b1 b2 => er b (by omega) (by omega)) g4⟩
/-- the counts behind a reading of a land -/
theorem cCt_ld {c : Nat} {I I' : Nat → Nat → Nat → Int32} {L L' : Nat → Nat → Nat → Int64} {y y' : Dy} (f : hF Gr Mno I L y I' L' y') (k : ldC c y') (ct : cCt y.2.2.2.2) : cCt y'.2.2.2.2 :=
  ⟨fun b b1 b2 => by rw [f.2.2.2.2 b (nGr (by omega)), f.2.2.2.2 20 (nGr (by decide))]; exact ct.1 b b1 b2, fun b b1 b2 => by rw [k.2.1 b b1 b2, k.1], by rw [k.2.2.1, k.1], by rw [k.2.2.2, k.1]⟩
theorem cR_keep {V : VS} {I I' : Nat → Nat → Nat → Int32} {L L' : Nat → Nat → Nat → Int64} {y y' : Dy} (f : hF Gr Mno I L y I' L' y') (hc : y.1 < y.2.2.2.2 40) (ct' : cCt y'.2.2.2.2) (H : cR V I L y) : cR V I' L' y' := by
  obtain ⟨⟨h1, ⟨ht, ht6, h2⟩, h3, ⟨g, ⟨h4, sp1, sp2, sp3⟩, h4b⟩, h5, h6, h7, h8, h9, h10, h11, h12, h13⟩, hk⟩ := H
  have e : ∀ b, b = 10 ∨ (20 ≤ b ∧ b < 37) ∨ 55 < b → I' b = I b := fun b hb => f.eI (nGr (by omega))
  have e60 : ∀ j, I' 60 0 j = I 60 0 j := fun j => by rw [e 60 (by decide)]
  refine ⟨⟨cLd_keep f hc sp3 h1, ⟨ht, ht6, cRl_keep f h2⟩, cSt_cg (fun b b1 b2 => e b (by omega)) h3, ⟨g, ⟨cLi_eq (e 10 (by decide)) (f.eR (nGr (by decide))) (f.eR (nGr (by decide))) (f.eN (nGr (by decide))) h4, by rw [f.1.2]; exact sp1, fun x a => ?_, ct'⟩, fun k hk => ⟨(h4b k hk).1, cSt_cg (fun b b1 b2 => e b (by omega)) (h4b k hk).2⟩⟩, (e60 2).trans h5, fun k hk => by rw [e 65 (by decide)]; exact h6 k hk, (e60 7).trans h7, fun j hj => by rw [e 66 (by decide)]; exact h8 j hj, (e60 8).trans h9, (e60 10).trans h10, (e60 11).trans h11, (e60 32).trans h12, fun j hj => by rw [e 72 (by decide)]; exact h13 j hj⟩, cKw_cg (e 160 (by decide)) (e 86 (by decide)) (fun b hb => f.eL (nGr (by omega))) (fun j _ => e60 j) hk⟩
  rw [f.1.2, f.eR (nGr (by decide))] at a
  rw [f.eR (nGr (by decide))]
  exact sp2 x a
theorem cOut_keep {I I' : Nat → Nat → Nat → Int32} {L L' : Nat → Nat → Nat → Int64} {y y' : Dy} (f : hF Gr Mno I L y I' L' y') : cOut I L I' L' := fun b b1 b2 => ⟨f.eI (nGr (by omega)), f.eL (nGr (by omega))⟩
set_option maxRecDepth 100000 in
theorem o_reads (d : Nat) (V : VS) (x : Int32) (I : Nat → Nat → Nat → Int32) (L : Nat → Nat → Nat → Int64) (y : Dy) (H : cR V I L y) : gTM mX1_reads (d + 7) (1, 6) [gG0, gI x] (gH I L y) (fun v h' => gWi x 0 (nI (vT V).1) = true ∧ v = [] ∧ h' = gH (u3 (u3 I 60 0 7 0) 60 0 8 (-1)) L y) (cGx V 2 38 (gWi x 0 (nI (vT V).1)) I L) := by
  have H7 := H.1.2.2.2.2.2.2.1
  have at18 : ∀ (z : Int32) (lo' : Lo), z = gb (!gWi x 0 (nI (vT V).1)) → glle [some gG0, none] lo' → gT mX1_reads (d + 7) (1, 6) (fun v h' => gWi x 0 (nI (vT V).1) = true ∧ v = [] ∧ h' = gH (u3 (u3 I 60 0 7 0) 60 0 8 (-1)) L y) (cGx V 2 38 (gWi x 0 (nI (vT V).1)) I L) 18 lo' [gI z, gG0] (gH I L y) (0, 0) := by
    intro z lo' hz hl'
    rw [hz]
    refine gT_lo _ hl' ?_
    refine gT_gate 173 (1, 6) rfl rfl rfl rfl rfl dX1_reads_18 (o_wrong d V (gWi x 0 (nI (vT V).1)) I L y H) rfl (by decide) (by decide) (fun q h' hx => hx) (fun g1 => ?_)
    refine gT_go 400 [] kX1_reads ?_
    exact ⟨g1, rfl, rfl⟩
  refine gEnter 400 [18] kX1_reads rfl rfl ?_
  refine gP_use (gP_eq (by rw [← H7] <;> rfl) (o_in (d + 5) x 0 (nI (vT V).1) (gH I L y))) ?_
  refine bB1 (gWi x 0 (nI (vT V).1)) rfl (fun c => ?_) (fun c => ?_)
  · exact at18 0 _ (by rw [c] <;> rfl) (by (repeat' apply And.intro) <;> first | rfl | trivial | exact congrArg Sum.inl (nI_1 _).symm | exact congrArg Sum.inl (nI_1 _).symm)
  · exact at18 1 _ (by rw [c] <;> rfl) (by (repeat' apply And.intro) <;> first | rfl | trivial | exact congrArg Sum.inl (nI_1 _).symm | exact congrArg Sum.inl (nI_1 _).symm)
set_option maxRecDepth 100000 in
theorem o_wrongAt (d w : Nat) (I : Nat → Nat → Nat → Int32) (L : Nat → Nat → Nat → Int64) (y : Dy) : gTM mX1_wrongAt (d + 1) (0, 0) [gG0, gR (some (37, w))] (gH I L y) (fun v h' => v = [gI (I 37 w 6 - 10)] ∧ h' = gH (u3 I 60 0 8 (I 37 w 7)) L y) (fun _ _ => False) := by
  refine gEnter 400 [] kX1_wrongAt rfl rfl ?_
  exact ⟨rfl, rfl⟩
/-- the text is taken -/
theorem cR_tx {V : VS} {I : Nat → Nat → Nat → Int32} {L : Nat → Nat → Nat → Int64} {y : Dy} (H : cR V I L y) : cR (xTx V (-1)) (u3 (u3 I 60 0 7 0) 60 0 8 (-1)) L y := by
  obtain ⟨⟨h1, ⟨ht, ht6, h2⟩, h3, ⟨g, ⟨h4, sp⟩, h4b⟩, h5, h6, h7, h8, h9, h10, h11, h12, h13⟩, hk⟩ := H
  have e : ∀ b, b ≠ 60 → u3 (u3 I 60 0 7 0) 60 0 8 (-1) b = I b := fun b hb => (u3_ne1 hb).trans (u3_ne1 hb)
  have e60 : ∀ j, j ≠ 7 → j ≠ 8 → u3 (u3 I 60 0 7 0) 60 0 8 (-1) 60 0 j = I 60 0 j := fun j a b => (u3_ne3 b).trans (u3_ne3 a)
  exact ⟨⟨cLd_cg2 (fun b b1 b2 => e b (by omega)) h1, ⟨ht, ht6, cRl_cg (fun b hb => e b (by omega)) h2⟩, cSt_cg (fun b b1 b2 => e b (by omega)) h3, ⟨g, ⟨cLi_eq (e 10 (by decide)) rfl rfl rfl h4, sp⟩, fun k hk => ⟨(h4b k hk).1, cSt_cg (fun b b1 b2 => e b (by omega)) (h4b k hk).2⟩⟩, (e60 2 (by decide) (by decide)).trans h5, fun k hk => by rw [e 65 (by decide)]; exact h6 k hk, (u3_ne3 (by decide)).trans u3_eq, fun j hj => absurd hj (Nat.not_lt_zero _), u3_eq, (e60 10 (by decide) (by decide)).trans h10, (e60 11 (by decide) (by decide)).trans h11, (e60 32 (by decide) (by decide)).trans h12, fun j hj => by rw [e 72 (by decide)]; exact h13 j hj⟩, cKw_cg (e 160 (by decide)) (e 86 (by decide)) (fun _ _ => rfl) (fun j hj => e60 j (by omega) (by omega)) hk⟩
/-- where the fault is -/
theorem cR_flt {V : VS} {I : Nat → Nat → Nat → Int32} {L : Nat → Nat → Nat → Int64} {y : Dy} {v : Int32} (H : cR (xTx V (-1)) I L y) : cR (xTx V v) (u3 I 60 0 8 v) L y := by
  obtain ⟨⟨h1, ⟨ht, ht6, h2⟩, h3, ⟨g, ⟨h4, sp⟩, h4b⟩, h5, h6, h7, h8, h9, h10, h11, h12, h13⟩, hk⟩ := H
  have e : ∀ b, b ≠ 60 → u3 I 60 0 8 v b = I b := fun b hb => u3_ne1 hb
  have e60 : ∀ j, j ≠ 8 → u3 I 60 0 8 v 60 0 j = I 60 0 j := fun j b => u3_ne3 b
  exact ⟨⟨cLd_cg2 (fun b b1 b2 => e b (by omega)) h1, ⟨ht, ht6, cRl_cg (fun b hb => e b (by omega)) h2⟩, cSt_cg (fun b b1 b2 => e b (by omega)) h3, ⟨g, ⟨cLi_eq (e 10 (by decide)) rfl rfl rfl h4, sp⟩, fun k hk => ⟨(h4b k hk).1, cSt_cg (fun b b1 b2 => e b (by omega)) (h4b k hk).2⟩⟩, (e60 2 (by decide)).trans h5, fun k hk => by rw [e 65 (by decide)]; exact h6 k hk, (e60 7 (by decide)).trans h7, fun j hj => absurd hj (Nat.not_lt_zero _), u3_eq, (e60 10 (by decide)).trans h10, (e60 11 (by decide)).trans h11, (e60 32 (by decide)).trans h12, fun j hj => by rw [e 72 (by decide)]; exact h13 j hj⟩, cKw_cg (e 160 (by decide)) (e 86 (by decide)) (fun _ _ => rfl) (fun j hj => e60 j (by omega)) hk⟩
/-! the land and the rules of the component are set -/
theorem gRt_ne {y : Dy} {a b : Nat} {k : Nat} (h : ¬ k = 60) : glk (gRt (a, b, y.2.2)) k = glk (gRt y) k := by
  have e : Nat.beq 60 k = false := gbeqF (fun z => h z.symm)
  show (bif Nat.beq 100 k then _ else bif Nat.beq 60 k then _ else _) = (bif Nat.beq 100 k then _ else bif Nat.beq 60 k then _ else _)
  rw [e]
  rfl
theorem gRX_ab {y : Dy} {a b k : Nat} (h : ¬ k = 60) : gRX (a, b, y.2.2) k = gRX y k := by
  funext i j
  show (match glk (gRt (a, b, y.2.2)) k with | some f => f i j | none => y.2.2.1 k i j) = (match glk (gRt y) k with | some f => f i j | none => y.2.2.1 k i j)
  rw [gRt_ne h]
theorem gRX_60 {y : Dy} {i k : Nat} : gRX y 60 i k = (bif Nat.beq i 0 then (bif Nat.beq k 0 then some (40, y.1) else bif Nat.beq k 1 then some (10, y.2.1) else glk gGref k) else none) := rfl
theorem sR_60a {I : Nat → Nat → Nat → Int32} {L : Nat → Nat → Nat → Int64} {y : Dy} {c : Nat} : sR (gH I L y) 60 0 0 (some (40, c)) = gH I L (c, y.2.1, y.2.2) := by
  have e : u3 (gRX y) 60 0 0 (some (40, c)) = gRX (c, y.2.1, y.2.2) := by
    funext b i k
    by_cases h : b = 60
    · subst h
      rw [gRX_60]
      by_cases h2 : i = 0
      · subst h2
        by_cases h3 : k = 0
        · subst h3; exact u3_eq
        · rw [u3_ne3 h3, gRX_60, gbeqF h3] <;> rfl
      · rw [u3_ne (fun z => h2 z.2.1), gRX_60, gbeqF h2] <;> rfl
    · exact (congrFun (congrFun (u3_ne1 h) i) k).trans (congrFun (congrFun (gRX_ab (y := y) (a := c) (b := y.2.1) h) i) k).symm
  show ((I, L, (u3 (gRX y) 60 0 0 (some (40, c)), gNX y, y.2.2.2.2)) : Hp) = (I, L, (gRX (c, y.2.1, y.2.2), gNX y, y.2.2.2.2))
  rw [e]
theorem sR_60b {I : Nat → Nat → Nat → Int32} {L : Nat → Nat → Nat → Int64} {y : Dy} {c : Nat} : sR (gH I L y) 60 0 1 (some (10, c)) = gH I L (y.1, c, y.2.2) := by
  have e : u3 (gRX y) 60 0 1 (some (10, c)) = gRX (y.1, c, y.2.2) := by
    funext b i k
    by_cases h : b = 60
    · subst h
      rw [gRX_60]
      by_cases h2 : i = 0
      · subst h2
        by_cases h3 : k = 1
        · subst h3; exact u3_eq
        · rw [u3_ne3 h3, gRX_60, gbeqF h3] <;> rfl
      · rw [u3_ne (fun z => h2 z.2.1), gRX_60, gbeqF h2] <;> rfl
    · exact (congrFun (congrFun (u3_ne1 h) i) k).trans (congrFun (congrFun (gRX_ab (y := y) (a := y.1) (b := c) h) i) k).symm
  show ((I, L, (u3 (gRX y) 60 0 1 (some (10, c)), gNX y, y.2.2.2.2)) : Hp) = (I, L, (gRX (y.1, c, y.2.2), gNX y, y.2.2.2.2))
  rw [e]
theorem cCt_cg2 {C C' : Nat → Nat} (e : ∀ b, b ≠ 10 → C' b = C b) (H : cCt C) : cCt C' :=
  ⟨fun b b1 b2 => by rw [e b (by omega), e 20 (by decide)]; exact H.1 b b1 b2, fun b b1 b2 => by rw [e b (by omega), e 40 (by decide)]; exact H.2.1 b b1 b2, by rw [e 54 (by decide), e 40 (by decide)]; exact H.2.2.1, by rw [e 55 (by decide), e 40 (by decide)]; exact H.2.2.2⟩
theorem cover_l : ∀ z ∈ gmH mX1_land, gcov z 2 = false ∨ (z.2.2.2 ≠ 0 ∧ ∃ nm : String, Jvm.Cond.classLink (gmO mX1_land) z.2.2.2 nm ∈ lw_all ∧ ("java/lang/IllegalArgumentException", nm) ∈ gncs) := by
  intro z hz
  cases List.mem_singleton.mp hz
  exact Or.inl (by decide)
set_option maxHeartbeats 2000000 in
set_option maxRecDepth 100000 in
theorem c2_land (V : VS) (hw : gWf V) (x : Int32) : cC mX1_land 12 (775, 6652) [38] [gI x] V (xLand V x) := by
  intro d I L y H
  have w6 := hw.2.2.2.2.2.2.1
  have w7 := hw.2.2.2.2.2.2.2.1
  obtain ⟨o, ho⟩ : ∃ o, o = xLand V x := ⟨_, rfl⟩
  rw [← ho]
  refine gTM_ofH kX1_land rfl rfl ?_
  refine gT_go 400 [2] kX1_land ?_
  refine gT_callV (k := (1, 6)) rfl rfl rfl rfl rfl dX1_land_2 (o_reads (d + 4) V x I L y H) (by decide) (by decide) (fun v h' q => ?_) (fun q h' hq => ?_)
  rotate_left
  · obtain ⟨g1, g2, g3⟩ := hq
    obtain ⟨b, i⟩ := q
    have g2' : b = 38 := g2
    subst g2'
    refine gTX_pass (ci := 22) (rr := ("java/lang/IllegalArgumentException", gT0, 0)) rfl rfl cover_l ?_
    exact ⟨⟨0, rfl, by rw [ho]; unfold xLand; rw [g1]; rfl⟩, by rw [ho]; unfold xLand; rw [g1]; exact g3⟩
  obtain ⟨g1, rfl, rfl⟩ := q
  obtain ⟨N, rfl, hN⟩ := gWi_m (N := (vT V).1) rfl (by omega) g1
  have hgo : gTo (nI N) = N := gTo_n (by omega)
  have ho' : o = xLd V N := by rw [ho]; unfold xLand; rw [g1, hgo] <;> rfl
  have H1 := cR_tx H
  obtain ⟨I1, hI1⟩ : ∃ I1, I1 = u3 (u3 I 60 0 7 0) 60 0 8 (-1) := ⟨_, rfl⟩
  rw [← hI1] at H1 ⊢
  have e1 : ∀ b, b ≠ 60 → I1 b = I b := fun b hb => by rw [hI1, u3_ne1 hb, u3_ne1 hb]
  have H8 := H.1.2.2.2.2.2.2.2.1
  have oI : cOut I L I1 L := fun b b1 b2 => ⟨e1 b (by omega), rfl⟩
  refine gT_go 400 [6] kX1_land ?_
  refine gT_valS (fun hv hlo _ => ?_)
  have v60 : 0 < y.2.2.2.2 60 := hlo 0 gG0 rfl
  have vland : y.1 < y.2.2.2.2 40 := hv 60 0 0 (40, y.1) v60 (gvk_o rfl) rfl
  have v10 : 1 < y.2.2.2.2 10 := hv 60 0 4 (10, 1) v60 (gvk_o rfl) rfl
  obtain ⟨gg, ⟨himg, sp1, sp2, ct⟩, himg2⟩ := id H1.1.2.2.2.1
  obtain ⟨i, hi⟩ : ∃ i, i = y.2.2.2.2 8 := ⟨_, rfl⟩
  obtain ⟨c, hc⟩ : ∃ c, c = y.2.2.2.2 40 := ⟨_, rfl⟩
  refine gT_new 8 (by decide) rfl rfl (by decide) dX1_land_6 q795 q796 q154 (by decide) (by decide) ?_
  refine gT_go 400 [15] kX1_land ?_
  change gT _ _ _ _ _ _ _ [gI (nI N), gR (some (66, 0)), gR (some (8, y.2.2.2.2 8)), gR (some (8, y.2.2.2.2 8)), gG0] (gNw (gH I1 L y) 8 0) _
  rw [← hi]
  refine gT_callP (k := (38, 766)) rfl rfl (by decide) rfl rfl rfl dX1_land_15 (o_lrNew (d + 8) N i c I1 L y hi.symm hc.symm (fun b b1 b2 => (ct.2.1 b b1 b2).trans hc.symm) (by rw [ct.2.2.1, ← hc]) (by rw [ct.2.2.2, ← hc])) (by decide) (by decide) (fun v h' q => ?_) (fun _ _ q => q.elim)
  obtain ⟨rfl, I2, L2, y2, j, rfl, f2, dC, i8, hW, r0, r4, n1, n2, hld⟩ := q
  have K : kS i c (vT V).2 N 0 aNew I2 y2 := by
    refine ⟨⟨i8, r0, n1, by omega, n2, Nat.zero_le _, fun z hz => ⟨?_, w7 z (by omega)⟩⟩, r4, hld⟩
    rw [f2.eI (nGr (by decide)), e1 66 (by decide)]
    exact H8 z (by omega)
  refine gT_callV (k := (734, 5872)) rfl rfl rfl rfl rfl dX1_land_18 (o_landR d i c j (vT V).2 N I2 L2 y2 hW K) (by decide) (by decide) (fun v h' q => ?_) (fun q h' hq => ?_)
  rotate_left
  · obtain ⟨kp, e3, I3, L3, y3, q1, rfl, f3, x6, x7⟩ := hq
    obtain ⟨b, w⟩ := q
    have q1' : b = 37 := q1
    subst q1'
    have fA : hF Gr Mno I1 L y I3 L3 y3 := (f2.mono (fun _ z => z) (fun _ _ _ z => z.elim : ∀ b i' k, Mno b i' k → Ml i c b i' k)).tr (f3.mono (fun b (z : b = 37) => Or.inr (Or.inr (Or.inl z))) (fun _ _ _ z => z)) |>.drop (fun b i' k z => by
      rcases z with ⟨rfl, rfl, -⟩ | ⟨rfl, rfl⟩ | ⟨z1, z2, rfl⟩ | ⟨rfl, z1, z2⟩ | ⟨rfl, z1, z2⟩
      · exact ⟨Or.inl rfl, by omega⟩
      · exact ⟨Or.inr (Or.inr (Or.inr (Or.inl rfl))), by omega⟩
      · exact ⟨Or.inr (Or.inr (Or.inr (Or.inr ⟨z1, by omega⟩))), by rw [ct.2.1 b z1 (by omega)]; omega⟩
      · exact ⟨Or.inr (Or.inr (Or.inr (Or.inr (by decide)))), by rw [ct.2.2.1]; omega⟩
      · exact ⟨Or.inr (Or.inr (Or.inr (Or.inr (by decide)))), by rw [ct.2.2.2]; omega⟩)
    have dC3 : ldC c y3 := by
      have q : ∀ b, b ≠ 37 → y3.2.2.2.2 b = y2.2.2.2.2 b := fun b hb => f3.2.2.2.2 b hb
      exact ⟨(q 40 (by decide)).trans dC.1, fun b b1 b2 => (q b (by omega)).trans (dC.2.1 b b1 b2), (q 54 (by decide)).trans dC.2.2.1, (q 55 (by decide)).trans dC.2.2.2⟩
    refine gTX_catch (name := "GlassLeaders$Wrong") (ci := 12) (rr := (RX15, TX15, 8)) [] (5, 24, 27, 178) [] rfl rfl rfl (fun z hz => absurd hz List.not_mem_nil) rfl (by decide) q719 q914 ?_
    refine gT_go 400 [] kX1_land ?_
    refine gTM_use rfl (o_wrongAt (d + 10) w I3 L3 y3) (fun v h' z => ?_)
    obtain ⟨rfl, rfl⟩ := z
    have HR : cR (xTx V (nI kp.2)) (u3 I3 60 0 8 (I3 37 w 7)) L3 y3 := by
      have x7' : I3 37 w 7 = nI kp.2 := x7
      rw [x7']
      exact cR_flt (cR_keep fA vland (cCt_ld fA dC3 ct) H1)
    have oo : o = (0, gI (nI kp.1 - 10), xTx V (nI kp.2)) := by rw [ho']; unfold xLd; rw [e3]
    have x6' : I3 37 w 6 = nI kp.1 := x6
    refine cDone (V' := xTx V (nI kp.2)) (by rw [oo, x6']; exact ⟨rfl, rfl, rfl⟩) ?_ HR
    exact (oI.tr (cOut_keep fA)).tr (fun b b1 b2 => ⟨u3_ne1 (by omega), rfl⟩)
  · obtain ⟨A', e3, rfl, I3, rfl, f3, hld3⟩ := q
    have oo : o = (0, gI (nI (A' 0)), (A', true, [], sNew, (0, (vI V).2), vQ V, (0, (vT V).2), -1)) := by rw [ho']; unfold xLd; rw [e3]
    have fA : hF Gr Mno I1 L y I3 L2 y2 := (f2.mono (fun _ z => z) (fun _ _ _ z => z.elim : ∀ b i' k, Mno b i' k → Ml i c b i' k)).tr (f3.mono (fun b (z : b = 37) => Or.inr (Or.inr (Or.inl z))) (fun _ _ _ z => z)) |>.drop (fun b i' k z => by
      rcases z with ⟨rfl, rfl, -⟩ | ⟨rfl, rfl⟩ | ⟨z1, z2, rfl⟩ | ⟨rfl, z1, z2⟩ | ⟨rfl, z1, z2⟩
      · exact ⟨Or.inl rfl, by omega⟩
      · exact ⟨Or.inr (Or.inr (Or.inr (Or.inl rfl))), by omega⟩
      · exact ⟨Or.inr (Or.inr (Or.inr (Or.inr ⟨z1, by omega⟩))), by rw [ct.2.1 b z1 (by omega)]; omega⟩
      · exact ⟨Or.inr (Or.inr (Or.inr (Or.inr (by decide)))), by rw [ct.2.2.1]; omega⟩
      · exact ⟨Or.inr (Or.inr (Or.inr (Or.inr (by decide)))), by rw [ct.2.2.2]; omega⟩)
    refine gT_go 400 [24] kX1_land ?_
    change gT _ _ _ _ _ _ _ _ (sR (gH I3 L2 y2) 60 0 0 (some (40, c))) _
    rw [sR_60a]
    obtain ⟨y3, hy3⟩ : ∃ y3 : Dy, y3 = (c, y2.2.1, y2.2.2) := ⟨_, rfl⟩
    rw [← hy3]
    have r3 : ∀ k, ¬ k = 60 → gRX y3 k = gRX y2 k := fun k hk => by rw [hy3]; exact gRX_ab hk
    refine gT_go 400 [40] kX1_land ?_
    refine And.intro (Or.inr rfl) ?_
    obtain ⟨I4, hI4⟩ : ∃ I4, I4 = u3 I3 60 0 2 1 := ⟨_, rfl⟩
    change gT _ _ _ _ _ _ _ _ (gH (u3 I3 60 0 2 1) L2 y3) _
    rw [← hI4]
    refine gT_new 10 (by decide) rfl rfl (by decide) dX1_land_40 q271 q272 q138 (by decide) (by decide) ?_
    rw [gNw_gHn 0 rfl (fun z q => by cases q)]
    obtain ⟨qn, hqn⟩ : ∃ qn, qn = y3.2.2.2.2 10 := ⟨_, rfl⟩
    have hqn2 : qn = y.2.2.2.2 10 := by rw [hqn, hy3]; exact fA.2.2.2.2 10 (nGr (by decide))
    change gT _ _ _ _ _ _ _ [gR (some (10, y3.2.2.2.2 10)), gG0] _ _
    rw [← hqn]
    refine gT_go 400 [50] kX1_land ?_
    refine gTM_use rfl (o_listNew (d + 8) qn (fNw I4 0 10 qn) (fNw L2 0 10 qn) (yNw y3 10 0)) (fun v h' z => ?_)
    obtain ⟨rfl, rfl⟩ := z
    obtain ⟨I5, hI5⟩ : ∃ I5, I5 = u3 (fNw I4 0 10 qn) 10 qn 0 0 := ⟨_, rfl⟩
    obtain ⟨L5, hL5⟩ : ∃ L5, L5 = fNw L2 0 10 qn := ⟨_, rfl⟩
    obtain ⟨y4, hy4⟩ : ∃ y4, y4 = yR (yNw y3 10 0) 10 qn 1 (some (3, 0)) := ⟨_, rfl⟩
    change gT _ _ _ _ _ _ _ _ (sR (gH (u3 (fNw I4 0 10 qn) 10 qn 0 0) (fNw L2 0 10 qn) (yR (yNw y3 10 0) 10 qn 1 (some (3, 0)))) 60 0 1 (some (10, qn))) _
    rw [← hI5, ← hL5, ← hy4, sR_60b]
    obtain ⟨y5, hy5⟩ : ∃ y5 : Dy, y5 = (y4.1, qn, y4.2.2) := ⟨_, rfl⟩
    rw [← hy5]
    have i5 : ∀ b, b ≠ 10 → I5 b = I4 b := fun b hb => by rw [hI5, u3_ne1 hb, fNw_ne hb]
    have i5o : ∀ i k, i ≠ qn → I5 10 i k = I4 10 i k := fun i k hk => by rw [hI5, u3_ne (fun z => hk z.2.1)]; exact fNw_o (fun z => hk z.2)
    have i5n : ∀ k, I5 10 qn k = 0 := fun k => by
      rw [hI5]
      by_cases hk : k = 0
      · subst hk; exact u3_eq
      · rw [u3_ne3 hk]; exact fNw_n
    have r5 : ∀ b, ¬ b = 60 → ¬ b = 10 → gRX y5 b = gRX y2 b := fun b h1 h2 => by
      rw [hy5, gRX_ab h1, hy4, gRX_yR rfl, u3_ne1 h2, ← r3 b h1]
      funext i k
      exact gRX_nwO (fun z => h2 z.1)
    have r5o : ∀ i k, i ≠ qn → gRX y5 10 i k = gRX y2 10 i k := fun i k hk => by
      rw [hy5, gRX_ab (by decide), hy4, gRX_yR rfl, u3_ne (fun z => hk z.2.1), ← r3 10 (by decide)]
      exact gRX_nwO (fun z => hk (z.2.trans hqn.symm))
    have r5n : gRX y5 10 qn 1 = some (3, 0) := by rw [hy5, gRX_ab (by decide), hy4, gRX_yR rfl]; exact u3_eq
    have n5 : ∀ b, ¬ b = 10 → gNX y5 b = gNX y2 b := fun b hb => by
      rw [hy5, hy4]
      show gNX (yNw y3 10 0) b = gNX y2 b
      have : gNX (yNw y3 10 0) b = gNX y3 b := funext fun i => gNX_nwO (fun z => hb z.1)
      rw [this, hy3]
      rfl
    have c5 : ∀ b, b ≠ 10 → y5.2.2.2.2 b = y2.2.2.2.2 b := fun b hb => by rw [hy5, hy4]; show gUp y3.2.2.2.2 10 b = _; rw [gUp_ne hb, hy3]
    have y51 : y5.1 = c := by rw [hy5, hy4, hy3] <;> rfl
    have y52 : y5.2.1 = qn := by rw [hy5]
    have hq1 : qn ≠ 1 := by omega
    have img5 : cLi 1 (vI V).1 (fun k => some (20, gg k)) I5 y5 := by
      obtain ⟨m1, m2, m3⟩ := himg
      have nn : 1 ≠ qn := fun z => hq1 z.symm
      have i10 : I5 10 1 2 = I1 10 1 2 := (i5o 1 2 nn).trans (by rw [hI4, u3_ne1 (by decide), fA.eI (nGr (by decide))])
      have r10 : gRX y5 10 1 1 = gRX y 10 1 1 := (r5o 1 1 nn).trans (by rw [fA.eR (nGr (by decide))])
      have r11 : gRX y5 11 = gRX y 11 := (r5 11 (by decide) (by decide)).trans (fA.eR (nGr (by decide)))
      have n11 : gNX y5 11 = gNX y 11 := (n5 11 (by decide)).trans (fA.eN (nGr (by decide)))
      refine ⟨i10.trans m1, m2, ?_⟩
      rcases m3 with ⟨a, b⟩ | ⟨e, a, b, c', d'⟩
      · exact Or.inl ⟨a, r10.trans b⟩
      · exact Or.inr ⟨e, r10.trans a, by rw [n11]; exact b, fun k hk => by rw [r11]; exact c' k hk, by rw [n11]; exact d'⟩
    refine gT_go 400 [] kX1_land ?_
    refine gTM_use rfl (o_stClear (d + 10) 0 I5 L5 y5) (fun v h' z => ?_)
    obtain ⟨rfl, I6, rfl, s1, s2, s3⟩ := z
    have img6 : cLi 1 (vI V).1 (fun k => some (20, gg k)) I6 y5 := cLi_eq (s1 10 (by decide)) rfl rfl rfl img5
    refine gTM_use rfl (o_clear (d + 9) 1 (vI V).1 _ I6 L5 y5 img6) (fun v h' z => ?_)
    obtain ⟨rfl, I7, zz, rfl, t1, t2, t3, t4⟩ := z
    refine gTM_use rfl (o_changes (d + 9) I7 L5 (yZ y5 zz)) (fun v h' z => ?_)
    obtain ⟨rfl, rfl⟩ := z
    obtain ⟨I8, hI8⟩ : ∃ I8, I8 = u3 (u3 (u3 (u3 I7 60 0 28 0) 60 0 29 0) 60 0 30 0) 60 0 31 0 := ⟨_, rfl⟩
    have e8 : ∀ b, b ≠ 60 → I8 b = I7 b := fun b hb => by rw [hI8, u3_ne1 hb, u3_ne1 hb, u3_ne1 hb, u3_ne1 hb]
    have e860 : ∀ j, j ≠ 28 → j ≠ 29 → j ≠ 30 → j ≠ 31 → I8 60 0 j = I7 60 0 j := fun j j1 j2 j3 j4 => by rw [hI8, u3_ne3 j4, u3_ne3 j3, u3_ne3 j2, u3_ne3 j1]
    have f28 : I8 60 0 28 = 0 := by rw [hI8]; exact (u3_ne3 (by decide)).trans ((u3_ne3 (by decide)).trans ((u3_ne3 (by decide)).trans u3_eq))
    have f29 : I8 60 0 29 = 0 := by rw [hI8]; exact (u3_ne3 (by decide)).trans ((u3_ne3 (by decide)).trans u3_eq)
    have f31 : I8 60 0 31 = 0 := by rw [hI8]; exact u3_eq
    have eI : ∀ b, b ≠ 10 → ¬ (20 ≤ b ∧ b ≤ 27) → b ≠ 60 → I8 b = I3 b := fun b b1 b2 b3 => (e8 b b3).trans ((t1 b b1).trans ((s1 b (by omega)).trans ((i5 b b1).trans (by rw [hI4, u3_ne1 b3]))))
    have e20 : ∀ b, 20 ≤ b → b < 28 → I8 b = I6 b := fun b b1 b2 => (e8 b (by omega)).trans (t1 b (by omega))
    have e10 : ∀ i k, I8 10 i k = I7 10 i k := fun i k => by rw [e8 10 (by decide)]
    have e6 : ∀ j, j ≠ 2 → j ≠ 28 → j ≠ 29 → j ≠ 30 → j ≠ 31 → I8 60 0 j = I1 60 0 j := fun j j0 j1 j2 j3 j4 => by
      rw [e860 j j1 j2 j3 j4, t1 60 (by decide), s1 60 (by decide), i5 60 (by decide), hI4, u3_ne3 j0, fA.eI (nGr (by decide))]
    have e62 : I8 60 0 2 = 1 := by
      rw [e860 2 (by decide) (by decide) (by decide) (by decide), t1 60 (by decide), s1 60 (by decide), i5 60 (by decide), hI4]
      exact u3_eq
    have rZ : ∀ i k, gRX (yZ y5 zz) 10 i k = gRX y5 10 i k := fun i k => by
      show zz 10 i k = y5.2.2.1 10 i k
      rcases t4 10 i k with ⟨a, -⟩ | a
      · cases a
      · exact a
    have HR : cR (A', true, [], sNew, (0, (vI V).2), vQ V, (0, (vT V).2), -1) I8 L5 (yZ y5 zz) := by
      obtain ⟨-, -, -, -, -, g6, -, -, -, g10, g11, g12, g13⟩ := H1.1
      refine ⟨⟨?_, ⟨0, Nat.zero_le _, Nat.zero_le _, fun _ => none, ⟨?_, Nat.two_pow_pos 31, Or.inl ⟨rfl, ?_⟩⟩, fun k hk => absurd hk (Nat.not_lt_zero _)⟩, cSt_cg (fun b b1 b2 => e20 b b1 b2) s3, ⟨gg, ⟨⟨?_, Nat.two_pow_pos 31, ?_⟩, ?_, ?_, ?_⟩, fun k hk => absurd hk (Nat.not_lt_zero _)⟩, e62, ?_, ?_, fun j hj => absurd hj (Nat.not_lt_zero _), ?_, ?_, ?_, ?_, ?_⟩, false, false, false, f28, f29, f31, (fun e => by cases e), (fun e => by cases e), fun e => by cases e⟩
      · show cLd y5.1 (A' 4) A' I8
        rw [y51]
        exact cLd_cg2 (fun b b1 b2 => eI b (by omega) (by omega) (by omega)) hld3
      · show I8 10 y5.2.1 2 = nI 0
        rw [y52, e10, t2 qn 2 hq1, s1 10 (by decide), i5n] <;> rfl
      · show gRX (yZ y5 zz) 10 y5.2.1 1 = some (3, 0)
        rw [y52, rZ]; exact r5n
      · rw [e10]; exact t3
      · rcases img6.2.2 with ⟨a, b⟩ | ⟨e, a, b, c', d'⟩
        · exact Or.inl ⟨rfl, by rw [rZ]; exact b⟩
        · exact Or.inr ⟨e, by rw [rZ]; exact a, Nat.zero_le _, fun k hk => absurd hk (Nat.not_lt_zero _), d'⟩
      · show y5.2.1 ≠ 1
        rw [y52]; exact hq1
      · intro e a
        have a' : gRX (yZ y5 zz) 10 y5.2.1 1 = some (11, e) := a
        rw [y52, rZ, r5n] at a'
        cases a'
      · have ct2 := cCt_ld fA dC ct
        exact cCt_cg2 (fun b hb => c5 b hb) ct2
      · intro k hk
        rw [eI 65 (by decide) (by decide) (by decide), fA.eI (nGr (by decide))]; exact g6 k hk
      · exact (e6 7 (by decide) (by decide) (by decide) (by decide) (by decide)).trans (by rw [hI1]; exact (u3_ne3 (by decide)).trans u3_eq)
      · exact (e6 8 (by decide) (by decide) (by decide) (by decide) (by decide)).trans (by rw [hI1]; exact u3_eq)
      · exact (e6 10 (by decide) (by decide) (by decide) (by decide) (by decide)).trans g10
      · exact (e6 11 (by decide) (by decide) (by decide) (by decide) (by decide)).trans g11
      · exact (e6 32 (by decide) (by decide) (by decide) (by decide) (by decide)).trans g12
      · intro k hk
        rw [eI 72 (by decide) (by decide) (by decide), fA.eI (nGr (by decide))]; exact g13 k hk
    have o8 : cOut I L I8 L5 := oI.tr (fun b b1 b2 => ⟨(eI b (by omega) (by omega) (by omega)).trans (fA.eI (nGr (by omega))), by rw [hL5, fNw_ne (by omega)]; exact fA.eL (nGr (by omega))⟩)
    have l0 : I8 40 y5.1 0 = nI (A' 0) := by rw [y51, eI 40 (by decide) (by decide) (by decide)]; exact hld3.1 0 (by decide)
    rw [hI8] at HR o8 l0
    refine cDone (r := gI _) (by rw [oo]; exact ⟨rfl, congrArg gI l0.symm, rfl⟩) o8 HR
