/-! ===== a new State ===== -/
/-- a heap whose static part is as the shape says -/
theorem gRaw {I : Nat → Nat → Nat → Int32} {L : Nat → Nat → Nat → Int64} {R : Nat → Nat → Nat → Option Rf} {N : Nat → Nat → Nat} {C : Nat → Nat} {a1 a2 : Nat} (hR : ∀ b f, glk (gRt (a1, a2, R, N, C)) b = some f → ∀ i k, R b i k = f i k) (hN : ∀ b n, glk gNt b = some n → ∀ i, N b i = n) : ((I, L, (R, N, C)) : Hp) = gH I L (a1, a2, R, N, C) := by
  refine Prod.ext rfl (Prod.ext rfl (Prod.ext ?_ (Prod.ext ?_ rfl)))
  · funext b i k
    show R b i k = match glk (gRt (a1, a2, R, N, C)) b with | some f => f i k | none => R b i k
    cases q : glk (gRt (a1, a2, R, N, C)) b with
    | none => rfl
    | some f => exact hR b f q i k
  · funext b i
    show N b i = match glk gNt b with | some n => n | none => N b i
    cases q : glk gNt b with
    | none => rfl
    | some n => exact hN b n q i
/-- how long the arrays of a State are -/
def stL : Nat → Nat := fun m => if m = 0 then 5 else if m < 4 then 24 else 25
/-- a State is being made, m of its arrays are there -/
def stP (I : Nat → Nat → Nat → Int32) (L : Nat → Nat → Nat → Int64) (y : Dy) (c m : Nat) (h : Hp) : Prop :=
  (∀ b i k, ¬ (20 ≤ b ∧ b ≤ 27 ∧ i = c) → hI h b i k = I b i k ∧ hL h b i k = L b i k ∧ hR h b i k = gRX y b i k ∧ hN h b i = gNX y b i) ∧ (∀ k, hR h 20 c k = if k < m then some (21 + k, c) else none) ∧ (∀ q, q < m → hN h (21 + q) c = stL q) ∧ hC h 20 = c + 1 ∧ (∀ q, q < 7 → hC h (21 + q) = if q < m then c + 1 else c) ∧ ∀ b, ¬ (20 ≤ b ∧ b ≤ 27) → hC h b = y.2.2.2.2 b
theorem stP_0 {I : Nat → Nat → Nat → Int32} {L : Nat → Nat → Nat → Int64} {y : Dy} {c : Nat} (hc : y.2.2.2.2 20 = c) (hcc : ∀ b, 21 ≤ b → b ≤ 27 → y.2.2.2.2 b = c) : stP I L y c 0 (gNw (gH I L y) 20 0) := by
  subst hc
  refine ⟨fun b i k q => ?_, fun k => ?_, fun q hq => absurd hq (Nat.not_lt_zero _), gNw_C0, fun q hq => ?_, fun b hb => gNw_C (fun e => hb (by omega))⟩
  · have e : ¬ (b = 20 ∧ i = hC (gH I L y) 20) := fun z => q ⟨by omega, by omega, z.2⟩
    exact ⟨gNw_I e, gNw_L e, gNw_R e, gNw_N e⟩
  · rw [if_neg (Nat.not_lt_zero _)]; exact gNw_R0
  · rw [if_neg (Nat.not_lt_zero _)]; exact (gNw_C (by omega)).trans (hcc (21 + q) (by omega) (by omega))
theorem stP_s {I : Nat → Nat → Nat → Int32} {L : Nat → Nat → Nat → Int64} {y : Dy} {c m : Nat} {h : Hp} (hm : m < 7) (H : stP I L y c m h) : stP I L y c (m + 1) (sR (gNw h (21 + m) (stL m)) 20 c m (some (21 + m, c))) := by
  obtain ⟨h1, h2, h3, h4, h5, h6⟩ := H
  have hc : hC h (21 + m) = c := by rw [h5 m hm, if_neg (Nat.lt_irrefl _)]
  refine ⟨fun b i k q => ?_, fun k => ?_, fun q hq => ?_, (gNw_C (by omega)).trans h4, fun q hq => ?_, fun b hb => (gNw_C (by omega)).trans (h6 b hb)⟩
  · have e : ¬ (b = 21 + m ∧ i = hC h (21 + m)) := fun z => q ⟨by omega, by omega, z.2.trans hc⟩
    obtain ⟨g1, g2, g3, g4⟩ := h1 b i k q
    exact ⟨(gNw_I (n := stL m) e).trans g1, (gNw_L (n := stL m) e).trans g2, (u3_ne (fun z => q ⟨by omega, by omega, z.2.1⟩)).trans ((gNw_R e).trans g3), (gNw_N e).trans g4⟩
  · show u3 (hR (gNw h (21 + m) (stL m))) 20 c m (some (21 + m, c)) 20 c k = _
    by_cases e : k = m
    · subst e; rw [if_pos (by omega)]; exact u3_eq
    · rw [u3_ne3 e, gNw_R (fun z => by omega), h2 k]
      by_cases w : k < m
      · rw [if_pos w, if_pos (by omega)]
      · rw [if_neg w, if_neg (by omega)]
  · show hN (gNw h (21 + m) (stL m)) (21 + q) c = stL q
    by_cases e : q = m
    · subst e; rw [← hc]; exact gNw_N0
    · rw [gNw_N (fun z => by omega)]; exact h3 q (by omega)
  · show hC (gNw h (21 + m) (stL m)) (21 + q) = _
    by_cases e : q = m
    · subst e; rw [if_pos (by omega), gNw_C0, hc]
    · rw [gNw_C (by omega), h5 q hq]
      by_cases w : q < m
      · rw [if_pos w, if_pos (by omega)]
      · rw [if_neg w, if_neg (by omega)]
/-- the new shape -/
def stY (y : Dy) (h : Hp) : Dy := (y.1, y.2.1, hR h, hN h, hC h)
theorem stP_gH {I : Nat → Nat → Nat → Int32} {L : Nat → Nat → Nat → Int64} {y : Dy} {c : Nat} {h : Hp} (H : stP I L y c 7 h) (J : Nat → Nat → Nat → Int32) : ((J, h.2) : Hp) = gH J (hL h) (stY y h) := by
  obtain ⟨h1, h2, h3, h4, h5, h6⟩ := H
  refine gRaw (R := hR h) (N := hN h) (C := hC h) (fun b f q i k => ?_) (fun b n q i => ?_)
  · have q' : glk (gRt y) b = some f := q
    by_cases e : 20 ≤ b ∧ b ≤ 27 ∧ i = c
    · by_cases e2 : b = 20
      · subst e2
        have ef : f = fun i k => bif Nat.ble k 6 then some (21 + k, i) else none := by cases q'; rfl
        rw [e.2.2, h2 k, ef]
        show _ = bif Nat.ble k 6 then some (21 + k, c) else none
        by_cases w : k < 7
        · rw [if_pos w, show Nat.ble k 6 = true from Nat.ble_eq_true_of_le (show k ≤ 6 by omega)] <;> rfl
        · rw [if_neg w]
          cases z : Nat.ble k 6 with
          | true => have := Nat.le_of_ble_eq_true z; omega
          | false => rfl
      · exfalso
        rcases (show b = 21 ∨ b = 22 ∨ b = 23 ∨ b = 24 ∨ b = 25 ∨ b = 26 ∨ b = 27 by omega) with rfl | rfl | rfl | rfl | rfl | rfl | rfl <;> cases q'
    · rw [(h1 b i k e).2.2.1]
      unfold gRX
      rw [q']
  · by_cases e : 20 ≤ b ∧ b ≤ 27 ∧ i = c
    · by_cases e2 : b = 20
      · subst e2; cases q
      · rw [e.2.2]
        have z := h3 (b - 21) (by omega)
        rw [show 21 + (b - 21) = b by omega] at z
        rw [z]
        rcases (show b = 21 ∨ b = 22 ∨ b = 23 ∨ b = 24 ∨ b = 25 ∨ b = 26 ∨ b = 27 by omega) with rfl | rfl | rfl | rfl | rfl | rfl | rfl <;> (cases q; rfl)
    · rw [(h1 b i 0 e).2.2.2]
      unfold gNX
      rw [q]
/-- what a new State leaves -/
def stF (I : Nat → Nat → Nat → Int32) (L : Nat → Nat → Nat → Int64) (y : Dy) (c : Nat) (I' : Nat → Nat → Nat → Int32) (L' : Nat → Nat → Nat → Int64) (y' : Dy) : Prop :=
  (∀ b, ¬ (20 ≤ b ∧ b ≤ 27) → I' b = I b ∧ L' b = L b) ∧ (∀ b q k, q ≠ c → I' b q k = I b q k) ∧ y'.1 = y.1 ∧ y'.2.1 = y.2.1 ∧ (∀ b, ¬ (20 ≤ b ∧ b ≤ 27) → gRX y' b = gRX y b ∧ gNX y' b = gNX y b ∧ y'.2.2.2.2 b = y.2.2.2.2 b) ∧ ∀ b, 20 ≤ b → b ≤ 27 → y'.2.2.2.2 b = c + 1
set_option maxRecDepth 100000 in
theorem o_stNew (d c : Nat) (I : Nat → Nat → Nat → Int32) (L : Nat → Nat → Nat → Int64) (y : Dy) (hc : y.2.2.2.2 20 = c) (hcc : ∀ b, 21 ≤ b → b ≤ 27 → y.2.2.2.2 b = c) :
    gTM mX3_init (d + 2) (7, 152) [gR (some (20, c))] (gNw (gH I L y) 20 0) (fun v h' => v = [] ∧ ∃ I' L' y', h' = gH I' L' y' ∧ stF I L y c I' L' y' ∧ cSt c sNew I') (fun _ _ => False) := by
  obtain ⟨h0, e0⟩ : ∃ h0, h0 = gNw (gH I L y) 20 0 := ⟨_, rfl⟩
  have p0 : stP I L y c 0 h0 := e0 ▸ stP_0 hc hcc
  rw [← e0]
  refine gEnter 400 [6] kX3_init rfl rfl ?_
  refine gT_newA 21 5 (by decide) rfl rfl rfl rfl rfl (by decide) q270 dX3_init_6 (by decide) (by decide) ?_
  rw [show hC h0 21 = c from p0.2.2.2.2.1 0 (by decide)]
  obtain ⟨h1, e1⟩ : ∃ h1, h1 = sR (gNw h0 21 5) 20 c 0 (some (21, c)) := ⟨_, rfl⟩
  have p1 : stP I L y c 1 h1 := e1 ▸ stP_s (m := 0) (by decide) p0
  refine gT_go 400 [14] kX3_init ?_
  change gT _ _ _ _ _ _ _ _ (sR (gNw h0 21 5) 20 c 0 (some (21, c))) _
  rw [← e1]
  refine gT_newA 22 24 (by decide) rfl rfl rfl rfl rfl (by decide) q270 dX3_init_14 (by decide) (by decide) ?_
  rw [show hC h1 22 = c from p1.2.2.2.2.1 1 (by decide)]
  obtain ⟨h2, e2⟩ : ∃ h2, h2 = sR (gNw h1 22 24) 20 c 1 (some (22, c)) := ⟨_, rfl⟩
  have p2 : stP I L y c 2 h2 := e2 ▸ stP_s (m := 1) (by decide) p1
  refine gT_go 400 [22] kX3_init ?_
  change gT _ _ _ _ _ _ _ _ (sR (gNw h1 22 24) 20 c 1 (some (22, c))) _
  rw [← e2]
  refine gT_newA 23 24 (by decide) rfl rfl rfl rfl rfl (by decide) q270 dX3_init_22 (by decide) (by decide) ?_
  rw [show hC h2 23 = c from p2.2.2.2.2.1 2 (by decide)]
  obtain ⟨h3, e3⟩ : ∃ h3, h3 = sR (gNw h2 23 24) 20 c 2 (some (23, c)) := ⟨_, rfl⟩
  have p3 : stP I L y c 3 h3 := e3 ▸ stP_s (m := 2) (by decide) p2
  refine gT_go 400 [30] kX3_init ?_
  change gT _ _ _ _ _ _ _ _ (sR (gNw h2 23 24) 20 c 2 (some (23, c))) _
  rw [← e3]
  refine gT_newA 24 24 (by decide) rfl rfl rfl rfl rfl (by decide) q270 dX3_init_30 (by decide) (by decide) ?_
  rw [show hC h3 24 = c from p3.2.2.2.2.1 3 (by decide)]
  obtain ⟨h4, e4⟩ : ∃ h4, h4 = sR (gNw h3 24 24) 20 c 3 (some (24, c)) := ⟨_, rfl⟩
  have p4 : stP I L y c 4 h4 := e4 ▸ stP_s (m := 3) (by decide) p3
  refine gT_go 400 [38] kX3_init ?_
  change gT _ _ _ _ _ _ _ _ (sR (gNw h3 24 24) 20 c 3 (some (24, c))) _
  rw [← e4]
  refine gT_newA 25 25 (by decide) rfl rfl rfl rfl rfl (by decide) q270 dX3_init_38 (by decide) (by decide) ?_
  rw [show hC h4 25 = c from p4.2.2.2.2.1 4 (by decide)]
  obtain ⟨h5, e5⟩ : ∃ h5, h5 = sR (gNw h4 25 25) 20 c 4 (some (25, c)) := ⟨_, rfl⟩
  have p5 : stP I L y c 5 h5 := e5 ▸ stP_s (m := 4) (by decide) p4
  refine gT_go 400 [46] kX3_init ?_
  change gT _ _ _ _ _ _ _ _ (sR (gNw h4 25 25) 20 c 4 (some (25, c))) _
  rw [← e5]
  refine gT_newA 26 25 (by decide) rfl rfl rfl rfl rfl (by decide) q270 dX3_init_46 (by decide) (by decide) ?_
  rw [show hC h5 26 = c from p5.2.2.2.2.1 5 (by decide)]
  obtain ⟨h6, e6⟩ : ∃ h6, h6 = sR (gNw h5 26 25) 20 c 5 (some (26, c)) := ⟨_, rfl⟩
  have p6 : stP I L y c 6 h6 := e6 ▸ stP_s (m := 5) (by decide) p5
  refine gT_go 400 [54] kX3_init ?_
  change gT _ _ _ _ _ _ _ _ (sR (gNw h5 26 25) 20 c 5 (some (26, c))) _
  rw [← e6]
  refine gT_newA 27 25 (by decide) rfl rfl rfl rfl rfl (by decide) q270 dX3_init_54 (by decide) (by decide) ?_
  rw [show hC h6 27 = c from p6.2.2.2.2.1 6 (by decide)]
  obtain ⟨h7, e7⟩ : ∃ h7, h7 = sR (gNw h6 27 25) 20 c 6 (some (27, c)) := ⟨_, rfl⟩
  have p7 : stP I L y c 7 h7 := e7 ▸ stP_s (m := 6) (by decide) p6
  refine gT_go 400 [59] kX3_init ?_
  change gT _ _ _ _ _ _ _ _ (sR (gNw h6 27 25) 20 c 6 (some (27, c))) _
  rw [← e7]
  obtain ⟨J, hJ⟩ : ∃ J, J = u3 (u3 (u3 (hI h7) 20 c 7 1) 20 c 9 (-1)) 20 c 10 (-1) := ⟨_, rfl⟩
  have eh : sI (sI (sI h7 20 c 7 1) 20 c 9 (-1)) 20 c 10 (-1) = gH J (hL h7) (stY y h7) := by rw [hJ]; exact stP_gH p7 _
  have hM := o_stClear d c J (hL h7) (stY y h7)
  rw [← eh] at hM
  refine gT_go 400 [] kX3_init ?_
  refine gTM_use rfl hM (fun v h' q => ?_)
  obtain ⟨rfl, I', rfl, f1, f2, f3⟩ := q
  obtain ⟨g1, g2, g3, g4, g5, g6⟩ := p7
  have j20 : ∀ b, b ≠ 20 → J b = hI h7 b := fun b hb => by rw [hJ, u3_ne1 hb, u3_ne1 hb, u3_ne1 hb]
  have jc : ∀ b q k, q ≠ c → J b q k = hI h7 b q k := fun b q k hq => by
    have n3 : ∀ {F : Nat → Nat → Nat → Int32} {p : Nat} {v : Int32}, u3 F 20 c p v b q k = F b q k := u3_ne (fun z => hq z.2.1)
    rw [hJ, n3, n3, n3]
  refine ⟨rfl, I', hL h7, stY y h7, rfl, ⟨fun b hb => ⟨?_, ?_⟩, fun b q k hq => ?_, rfl, rfl, fun b hb => ⟨?_, ?_, g6 b hb⟩, fun b b1 b2 => ?_⟩, f3⟩
  · rw [f1 b (by omega), j20 b (by omega)]
    funext i k
    exact (g1 b i k (fun z => hb ⟨z.1, z.2.1⟩)).1
  · funext i k
    exact (g1 b i k (fun z => hb ⟨z.1, z.2.1⟩)).2.1
  · exact (f2 b q k hq).trans ((jc b q k hq).trans (g1 b q k (fun z => hq z.2.2)).1)
  · funext i k
    show (match glk (gRt y) b with | some f => f i k | none => hR h7 b i k) = gRX y b i k
    rw [(g1 b i k (fun z => hb ⟨z.1, z.2.1⟩)).2.2.1]
    unfold gRX
    cases glk (gRt y) b <;> rfl
  · funext i
    show (match glk gNt b with | some n => n | none => hN h7 b i) = gNX y b i
    rw [(g1 b i 0 (fun z => hb ⟨z.1, z.2.1⟩)).2.2.2]
    unfold gNX
    cases glk gNt b <;> rfl
  · show hC h7 b = c + 1
    by_cases e : b = 20
    · rw [e]; exact g4
    · have z := g5 (b - 21) (by omega)
      rw [show 21 + (b - 21) = b by omega, if_pos (by omega)] at z
      exact z
