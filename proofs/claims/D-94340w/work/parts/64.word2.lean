/-! ===== reading: a word, five bits a letter ===== -/
def wF (T : Nat → Nat) (s : Nat) : Nat → Nat
  | 0 => 0
  | i + 1 => 2 ^ 5 * wF T s i + (T (s + i) - 96)
def wVal (T : Nat → Nat) (s n : Nat) : Nat := if n ≤ 6 then wF T s n else 0
def rWord (T : Nat → Nat) (N a : Nat) : Nat := wVal T (sk T N a) (wE T N (sk T N a) - sk T N a)
theorem wF_lt {T : Nat → Nat} {s : Nat} : ∀ i, (∀ j, j < i → tSm (T (s + j)) = true) → wF T s i < 32 ^ i := by
  intro i
  induction i with
  | zero => intro _; exact (by decide : 0 < 32 ^ 0)
  | succ i ih =>
    intro h
    have h1 := ih (fun j hj => h j (by omega))
    have h2 := (Bool.and_eq_true _ _).mp (h i (by omega))
    have h3 : T (s + i) ≤ 122 := Nat.le_of_ble_eq_true h2.2
    rw [wF, Nat.pow_succ]
    omega
set_option maxRecDepth 100000 in
theorem p_word (d : Nat) (T : Nat → Nat) (N a : Nat) (I : Nat → Nat → Nat → Int32) (L : Nat → Nat → Nat → Int64) (y : Dy) (H : rD T N a I) :
    gTM mX12_word (d + 2) (0, 0) [gM0] (gH I L y) (fun v h' => v = [gI (nI (rWord T N a))] ∧ ∃ I', h' = gH I' L y ∧ rFr I I' ∧ rD T N (sk T N a) I') (fun _ _ => False) := by
  have hN := H.2.1
  refine gEnter 400 [14] kX12_word rfl rfl ?_
  refine gTM_use rfl (p_here d T N a I L y H) (fun v h' q => ?_)
  obtain ⟨rfl, I1, rfl, f1, D1⟩ := q
  have hs := D1.2.2.2.1
  obtain ⟨k1, k2, k3, k4⟩ := wE_ok (T := T) hs
  have wl := fun i (hi : i ≤ wE T N (sk T N a) - sk T N a) => wF_lt (T := T) (s := sk T N a) i (fun j hj => k3 (sk T N a + j) (by omega) (by omega))
  refine gT_for (σ := Unit) (pc := 14) (lo := fun i _ => [some gM0, some (gI (nI (wVal T (sk T N a) (i - sk T N a)))), some (gI (nI (i - sk T N a))), some (gI (nI i))]) (hp := fun _ _ => gH I1 L y) (Inv := fun i _ => sk T N a ≤ i) (wE T N (sk T N a)) ?_ ?_ (sk T N a) () k1 (Nat.le_refl _) (by rw [Nat.sub_self, ← D1.2.2.1]; exact (by (repeat' apply And.intro) <;> first | rfl | trivial | exact congrArg Sum.inl (nI_1 _).symm | exact congrArg Sum.inl (nI_1 _).symm))
  · intro _ hi
    have at67 : ∀ (lo' : Lo), glle [some gM0, some (gI (nI (wVal T (sk T N a) (wE T N (sk T N a) - sk T N a)))), some (gI (nI (wE T N (sk T N a) - sk T N a))), none] lo' →
        gT mX12_word (d + 2) (0, 0) (fun v h' => v = [gI (nI (rWord T N a))] ∧ ∃ I', h' = gH I' L y ∧ rFr I I' ∧ rD T N (sk T N a) I') (fun _ _ => False) 67 lo' [] (gH I1 L y) (0, 0) := by
      intro lo' hl'
      refine gT_lo _ hl' ?_
      refine gT_go 400 [] kX12_word ?_
      refine bLe (wE T N (sk T N a) - sk T N a) 6 rfl rfl (fun w => ?_) (fun w => ?_)
      · exact ⟨rfl, I1, rfl, f1, D1⟩
      · exact ⟨by unfold rWord wVal; rw [if_neg (by omega)]; rfl, I1, rfl, f1, D1⟩
    refine gT_go 400 [14, 67] kX12_word ?_
    refine bGe (wE T N (sk T N a)) N rfl D1.1 (fun q => ?_) (fun q => ?_)
    · exact at67 _ (by (repeat' apply And.intro) <;> first | rfl | trivial | exact congrArg Sum.inl (nI_1 _).symm | exact congrArg Sum.inl (nI_1 _).symm)
    · refine Exists.intro (wE T N (sk T N a)) (And.intro rfl (And.intro (show _ < 600 by omega) ?_))
      obtain ⟨t1, t2⟩ := D1.2.2.2.2 _ q
      refine gP_use (gP_eq (by rw [← t1] <;> rfl) (p_isSmall d (T (wE T N (sk T N a))) t2 (gH I1 L y))) ?_
      refine bB0 _ rfl (fun _ => ?_) (fun w => absurd ((k4 q).symm.trans w) (by decide))
      exact at67 _ (by (repeat' apply And.intro) <;> first | rfl | trivial | exact congrArg Sum.inl (nI_1 _).symm | exact congrArg Sum.inl (nI_1 _).symm)
  · intro i _ hi0 hai hnext
    have hiN : i < N := by omega
    have ei : sk T N a + (i - sk T N a) = i := by omega
    have e1 : i + 1 - sk T N a = (i - sk T N a) + 1 := by omega
    have hd := (Bool.and_eq_true _ _).mp (k3 i hai hi0)
    have hd1 : 97 ≤ T i := Nat.le_of_ble_eq_true hd.1
    have hd2 : T i ≤ 122 := Nat.le_of_ble_eq_true hd.2
    refine gT_go 400 [14, 67] kX12_word ?_
    refine bGe i N rfl D1.1 (fun q => absurd q (by omega)) (fun _ => ?_)
    refine Exists.intro (i) (And.intro rfl (And.intro (show _ < 600 by omega) ?_))
    obtain ⟨t1, t2⟩ := D1.2.2.2.2 _ hiN
    refine gP_use (gP_eq (by rw [← t1] <;> rfl) (p_isSmall d (T i) t2 (gH I1 L y))) ?_
    refine bB0 _ rfl (fun w => absurd ((k3 i hai hi0).symm.trans w) (by decide)) (fun _ => ?_)
    refine bGe (i - sk T N a) 6 rfl rfl (fun w => ?_) (fun w => ?_)
    · refine hnext () _ (by omega) ?_
      rw [show wVal T (sk T N a) (i + 1 - sk T N a) = 0 by unfold wVal; rw [if_neg (by omega)], e1, ← nI_1 (i - sk T N a)]
      exact (by (repeat' apply And.intro) <;> first | rfl | trivial | exact congrArg Sum.inl (nI_1 _).symm | exact congrArg Sum.inl (nI_1 _).symm)
    · refine Exists.intro (i) (And.intro rfl (And.intro (show _ < 600 by omega) ?_))
      have hw := wl (i - sk T N a) (by omega)
      have h6 : 32 ^ (i - sk T N a) ≤ 32 ^ 5 := Nat.pow_le_pow_right (by decide) (by omega)
      have ew : wVal T (sk T N a) (i - sk T N a) = wF T (sk T N a) (i - sk T N a) := by unfold wVal; rw [if_pos (by omega)]
      have en : wVal T (sk T N a) (i + 1 - sk T N a) = 2 ^ 5 * wF T (sk T N a) (i - sk T N a) + (T i - 96) := by
        unfold wVal
        rw [e1, if_pos (by omega), wF, ei]
      have ev : (nI (wVal T (sk T N a) (i - sk T N a)) <<< (nI 5 &&& 31)) ||| (I1 109 0 i - 96) = nI (wVal T (sk T N a) (i + 1 - sk T N a)) := by
        rw [ew, en, t1, pk_shlN _ 5 (gs_l 5 (by decide)) (by omega), Nat.two_pow_add_eq_or_of_lt (by omega : T i - 96 < 2 ^ 5), ← gIor, Nat.mul_comm]
        exact congrArg (fun z => nI (2 ^ 5 * wF T (sk T N a) (i - sk T N a)) ||| z) (pk_sub (b := 96) (by omega))
      refine hnext () _ (by omega) ?_
      rw [← ev, e1, ← nI_1 (i - sk T N a)]
      exact (by (repeat' apply And.intro) <;> first | rfl | trivial | exact congrArg Sum.inl (nI_1 _).symm | exact congrArg Sum.inl (nI_1 _).symm)
