/-! ===== public methods of the component: told ===== -/
/-- how many of the first bits -/
def bsm (x : Nat) : Nat → Nat
  | 0 => 0
  | n + 1 => bsm x n + (bif x.testBit n then 1 else 0)
theorem bsm_sh (n : Nat) : ∀ N, bsm n (N + 1) = n % 2 + bsm (n / 2) N := by
  intro N
  induction N with
  | zero =>
    show 0 + (bif n.testBit 0 then 1 else 0) = n % 2 + 0
    rw [Nat.testBit_zero]
    rcases Nat.mod_two_eq_zero_or_one n with b | b
    · rw [b] <;> rfl
    · rw [b] <;> rfl
  | succ N ih =>
    rw [bsm, ih, bsm, Nat.testBit_succ]
    omega
theorem pcn_bsm : ∀ N n, pcn N n = bsm n N := by
  intro N
  induction N with
  | zero => intro n; rfl
  | succ N ih => intro n; rw [pcn, bsm_sh, ih]
theorem bsm_mod {x h : Nat} : ∀ N, N ≤ h → bsm (x % 2 ^ h) N = bsm x N := by
  intro N
  induction N with
  | zero => intro _; rfl
  | succ N ih =>
    intro hN
    rw [bsm, bsm, ih (by omega), Nat.testBit_mod_two_pow, decide_eq_true (show N < h by omega), Bool.true_and]
theorem bsm_mod2 {x h : Nat} : ∀ N, bsm (x % 2 ^ h) (h + N) = bsm x h := by
  intro N
  induction N with
  | zero => exact bsm_mod h (Nat.le_refl _)
  | succ N ih =>
    rw [show h + (N + 1) = (h + N) + 1 by omega, bsm, ih, Nat.testBit_mod_two_pow, decide_eq_false (show ¬ h + N < h by omega), Bool.false_and]
    rfl
theorem gSnC_bsm {A : Nat → Nat} {sb : Nat} (h : ∀ i, i < 24 → sb.testBit i = gSnw A i) : ∀ n, n ≤ 24 → bsm sb n = gSnC A n := by
  intro n
  induction n with
  | zero => intro _; rfl
  | succ n ih =>
    intro hn
    rw [bsm, gSnC, ih (by omega), h n (by omega)]
set_option maxRecDepth 100000 in
theorem c2_told (V : VS) (hw : gWf V) (a : Int32) : cC mX1_told 8 (1, 6) [38] [gI a] V (xTold V a) := by
  intro d I L y H
  obtain ⟨o, ho⟩ : ∃ o, o = xTold V a := ⟨_, rfl⟩
  rw [← ho]
  have a3 := hw.1.2.2.2.1
  obtain ⟨l1, l2, l5, l6, -, -, -, -, -, sb, b1, b2, b3⟩ := id H.1.1
  obtain ⟨ht, h6, hR⟩ := H.1.2.1
  obtain ⟨hR1, f, hRl, -⟩ := id hR
  have at16 : ∀ (z : Int32) (lo' : Lo), z = gb (!gWi a 0 8) → glle [some gG0, some (gI a)] lo' → gT mX1_told (d + 8) (1, 6) (cQr o I L) (cQx [38] o I L) 16 lo' [gI z, gG0] (gH I L y) (0, 0) := by
    intro z lo' hz hl'
    rw [hz]
    refine gT_gate 173 (1, 6) rfl rfl rfl rfl rfl dX1_told_16 (o_wrong (d + 1) V (gWi a 0 8) I L y H) rfl (by decide) (by decide) (fun q h' hx => cX_of (c := 0) (fun e => by rw [ho]; unfold xTold; rw [e]; exact ⟨rfl, rfl⟩) rfl hx) (fun g1 => ?_)
    obtain ⟨j, rfl, hj⟩ := gWi_m (N := 8) rfl (by decide) g1
    have ej : gTo (nI j) = j := gTo_n (by omega)
    have fin : ∀ (r : Int32), j ≠ 8 → vL V = true → r = (if nI j = 7 then nI (gSnC (vA V) (vA V 3)) else nI (vA V j)) → o.1 = 0 ∧ [gI r] = [o.2.1] ∧ cEnd o.2.2 I L (gH I L y) := by
      intro r h8 hL hr
      have n8 : ¬ (nI j : Int32) = 8 := fun q => h8 ((nI_eq (b := 8) (by omega) (by decide)).mp q)
      exact cDone (by rw [ho]; unfold xTold; rw [g1, if_neg n8, hL, ej, hr]; exact ⟨rfl, rfl, rfl⟩) (cOut.rf I L) H
    refine gT_lo _ hl' ?_
    refine gT_go 400 [43] kX1_told ?_
    refine bNe j 8 rfl rfl (fun c => ?_) (fun c => ?_)
    · refine bB1 (vL V) H.1.2.2.2.2.1 (fun c2 => ?_) (fun c2 => ?_)
      · have lt : j = 0 ∨ j = 1 ∨ j = 2 ∨ j = 3 ∨ j = 4 ∨ j = 5 ∨ j = 6 ∨ j = 7 := by omega
        rcases lt with e | e | e | e | e | e | e | e
        · refine gT_sw (nI 0) (by rw [e]) 41 84 dX1_told_43 (by decide) (by decide) rfl rfl ?_
          refine gT_go 400 [] kX1_told ?_
          exact fin _ c c2 (by subst e; exact l1 0 (by decide))
        · refine gT_sw (nI 1) (by rw [e]) 49 92 dX1_told_43 (by decide) (by decide) rfl rfl ?_
          refine gT_go 400 [] kX1_told ?_
          exact fin _ c c2 (by subst e; exact l1 1 (by decide))
        · refine gT_sw (nI 2) (by rw [e]) 57 100 dX1_told_43 (by decide) (by decide) rfl rfl ?_
          refine gT_go 400 [] kX1_told ?_
          exact fin _ c c2 (by subst e; exact l1 2 (by decide))
        · refine gT_sw (nI 3) (by rw [e]) 65 108 dX1_told_43 (by decide) (by decide) rfl rfl ?_
          refine gT_go 400 [] kX1_told ?_
          exact fin _ c c2 (by subst e; exact l1 3 (by decide))
        · refine gT_sw (nI 4) (by rw [e]) 73 116 dX1_told_43 (by decide) (by decide) rfl rfl ?_
          refine gT_go 400 [] kX1_told ?_
          exact fin _ c c2 (by subst e; exact l2)
        · refine gT_sw (nI 5) (by rw [e]) 81 124 dX1_told_43 (by decide) (by decide) rfl rfl ?_
          refine gT_go 400 [] kX1_told ?_
          exact fin _ c c2 (by subst e; exact l5)
        · refine gT_sw (nI 6) (by rw [e]) 89 132 dX1_told_43 (by decide) (by decide) rfl rfl ?_
          refine gT_go 400 [] kX1_told ?_
          exact fin _ c c2 (by subst e; exact l6)
        · refine gT_swd (x := nI j) (by rw [e]; exact Or.inr (by decide)) 140 dX1_told_43 rfl ?_
          refine gT_go 400 [] kX1_told ?_
          have hp2 : 0 < 2 ^ vA V 3 := Nat.two_pow_pos _
          have hp3 : 2 ^ vA V 3 ≤ 2 ^ 24 := Nat.pow_le_pow_right (by decide) a3
          have ev : I 40 y.1 14 &&& (((1 : Int32) <<< (I 40 y.1 3 &&& 31)) - 1) = nI (sb % 2 ^ vA V 3) := by
            have e1 : (1 : Int32) <<< (I 40 y.1 3 &&& 31) = nI (2 ^ vA V 3) := by
              rw [l1 3 (by decide)]
              have q := pk_shlN (n := 1) (nI (vA V 3) &&& 31) (vA V 3) (gs_l _ (by omega)) (by omega)
              rw [Nat.one_mul] at q
              exact q
            rw [e1, show nI (2 ^ vA V 3) - 1 = nI (2 ^ vA V 3 - 1) from pk_sub (b := 1) (by omega), b1, gIand, Nat.and_two_pow_sub_one_eq_mod]
          have ml : sb % 2 ^ vA V 3 < 2 ^ 31 := by have := Nat.mod_lt sb hp2; omega
          refine gP_use (gP_eq (by rw [← ev] <;> rfl) (p_bitCount (d + 6) (sb % 2 ^ vA V 3) ml (gH I L y))) ?_
          refine fin _ c c2 ?_
          rw [if_pos (show nI j = 7 by rw [e] <;> rfl), pcn_bsm, show (32 : Nat) = vA V 3 + (32 - vA V 3) by omega, bsm_mod2, gSnC_bsm b3 _ a3]
      · have n8 : ¬ (nI j : Int32) = 8 := fun q => c ((nI_eq (b := 8) (by omega) (by decide)).mp q)
        exact cDone (by rw [ho]; unfold xTold; rw [g1, if_neg n8, c2]; exact ⟨rfl, rfl, rfl⟩) (cOut.rf I L) H
    · refine gP_use (o_size (d + 6) y.2.1 _ _ I L y hRl) ?_
      exact cDone (by rw [ho]; unfold xTold; rw [g1, if_pos (show nI j = 8 by rw [c] <;> rfl)]; exact ⟨rfl, rfl, rfl⟩) (cOut.rf I L) H
  refine gEnter 400 [16] kX1_told rfl rfl ?_
  refine gP_use (o_in (d + 6) a 0 8 _) ?_
  refine bB1 (gWi a 0 8) rfl (fun c => ?_) (fun c => ?_)
  · exact at16 _ _ (by rw [c] <;> rfl) (by (repeat' apply And.intro) <;> first | rfl | trivial | exact congrArg Sum.inl (nI_1 _).symm | exact congrArg Sum.inl (nI_1 _).symm)
  · exact at16 _ _ (by rw [c] <;> rfl) (by (repeat' apply And.intro) <;> first | rfl | trivial | exact congrArg Sum.inl (nI_1 _).symm | exact congrArg Sum.inl (nI_1 _).symm)
