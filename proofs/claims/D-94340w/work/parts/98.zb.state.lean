/-! ===== a State: cleared, made ===== -/
set_option maxRecDepth 100000 in
theorem o_stClear (d j : Nat) (I : Nat → Nat → Nat → Int32) (L : Nat → Nat → Nat → Int64) (y : Dy) :
    gTM mX3_clear (d + 1) (0, 0) [gR (some (20, j))] (gH I L y) (fun v h' => v = [] ∧ ∃ I', h' = gH I' L y ∧ (∀ b, (b < 20 ∨ 28 ≤ b) → I' b = I b) ∧ (∀ b q k, q ≠ j → I' b q k = I b q k) ∧ cSt j sNew I') (fun _ _ => False) := by
  refine gEnter 400 [2] kX3_clear rfl rfl ?_
  refine gT_for (σ := Nat → Nat → Nat → Int32) (pc := 2) (lo := fun i _ => [some (gR (some (20, j))), some (gI (nI i))]) (hp := fun _ x => gH x L y) (Inv := fun i x => (∀ b, b ≠ 21 → x b = I b) ∧ (∀ b q k, q ≠ j → x b q k = I b q k) ∧ ∀ k, k < i → x 21 j k = 0) 5 ?_ ?_ 0 I (Nat.zero_le _) ⟨fun _ _ => rfl, fun _ _ _ _ => rfl, fun k hk => absurd hk (Nat.not_lt_zero _)⟩ (by (repeat' apply And.intro) <;> first | rfl | trivial | exact congrArg Sum.inl (nI_1 _).symm | exact congrArg Sum.inl (nI_1 _).symm)
  · intro x ⟨x1, x2, x3⟩
    refine gT_go 400 [22] kX3_clear ?_
    refine bGe 5 5 rfl rfl (fun _ => ?_) (fun q => absurd q (by omega))
    refine gT_for (σ := Nat → Nat → Nat → Int32) (pc := 22) (lo := fun i _ => [some (gR (some (20, j))), some (gI (nI i))]) (hp := fun _ x => gH x L y) (Inv := fun i x => (∀ b, b ≠ 21 → b ≠ 22 → b ≠ 23 → x b = I b) ∧ (∀ b q k, q ≠ j → x b q k = I b q k) ∧ (∀ k, k < 5 → x 21 j k = 0) ∧ ∀ k, k < i → x 22 j k = 0 ∧ x 23 j k = -1) 24 ?_ ?_ 0 x (Nat.zero_le _) ⟨fun b b1 _ _ => x1 b b1, x2, x3, fun k hk => absurd hk (Nat.not_lt_zero _)⟩ (by (repeat' apply And.intro) <;> first | rfl | trivial | exact congrArg Sum.inl (nI_1 _).symm | exact congrArg Sum.inl (nI_1 _).symm)
    · intro z ⟨z1, z2, z3, z4⟩
      refine gT_go 400 [] kX3_clear ?_
      refine bGe 24 24 rfl rfl (fun _ => ?_) (fun q => absurd q (by omega))
      refine ⟨rfl, u3 (u3 (u3 (u3 z 20 j 7 1) 20 j 8 0) 20 j 9 (-1)) 20 j 10 (-1), rfl, fun b hb => ?_, fun b q k hq => ?_, ?_⟩
      · rw [u3_ne1 (by omega), u3_ne1 (by omega), u3_ne1 (by omega), u3_ne1 (by omega)]
        exact z1 b (by omega) (by omega) (by omega)
      · have n3 : ∀ {F : Nat → Nat → Nat → Int32} {p : Nat} {v : Int32}, u3 F 20 j p v b q k = F b q k := u3_ne (fun c => hq c.2.1)
        rw [n3, n3, n3, n3]
        exact z2 b q k hq
      · obtain ⟨J, hJ⟩ : ∃ J, J = u3 (u3 (u3 (u3 z 20 j 7 1) 20 j 8 0) 20 j 9 (-1)) 20 j 10 (-1) := ⟨_, rfl⟩
        rw [← hJ]
        have jb : ∀ b, b ≠ 20 → J b = z b := fun b hb => by rw [hJ, u3_ne1 hb, u3_ne1 hb, u3_ne1 hb, u3_ne1 hb]
        have j7 : J 20 j 7 = 1 := by rw [hJ]; exact (u3_ne3 (by decide)).trans ((u3_ne3 (by decide)).trans ((u3_ne3 (by decide)).trans u3_eq))
        have j8 : J 20 j 8 = 0 := by rw [hJ]; exact (u3_ne3 (by decide)).trans ((u3_ne3 (by decide)).trans u3_eq)
        have j9 : J 20 j 9 = -1 := by rw [hJ]; exact (u3_ne3 (by decide)).trans u3_eq
        have j10 : J 20 j 10 = -1 := by rw [hJ]; exact u3_eq
        refine ⟨fun k hk => ?_, fun h hh => ?_, fun h hh => ?_, j7.trans rfl, j8.trans rfl, fun n k e hn hk => ?_, fun _ => ⟨j9, j10⟩, fun e => absurd rfl e⟩
        · rw [jb 21 (by decide), z3 k hk]
          rcases (show k = 0 ∨ k = 1 ∨ k = 2 ∨ k = 3 ∨ k = 4 by omega) with rfl | rfl | rfl | rfl | rfl <;> rfl
        · rw [jb 22 (by decide), (z4 h hh).1]
          show (0 : Int32) = sNew (5 + h)
          unfold sNew; rw [if_neg (by omega), if_neg (by omega)]
        · rw [jb 23 (by decide), (z4 h hh).2]
          show (-1 : Int32) = sNew (29 + h)
          unfold sNew; rw [if_neg (by omega), if_pos (by omega)]
        · have e' : nI 0 = nI n := e
          have := (nI_eq (by decide) (by omega)).mp e'
          omega
    · intro i z hi ⟨z1, z2, z3, z4⟩ hnext
      refine gT_go 400 [22] kX3_clear ?_
      refine bGe i 24 rfl rfl (fun q => absurd q (by omega)) (fun _ => ?_)
      refine Exists.intro (i) (And.intro rfl (And.intro (show _ < 24 by omega) ?_))
      refine Exists.intro (i) (And.intro rfl (And.intro (show _ < 24 by omega) ?_))
      refine hnext (u3 (u3 z 22 j i 0) 23 j i (-1)) _ ⟨fun b b1 b2 b3 => (u3_ne1 b3).trans ((u3_ne1 b2).trans (z1 b b1 b2 b3)), fun b q k hq => (u3_ne (fun c => hq c.2.1)).trans ((u3_ne (fun c => hq c.2.1)).trans (z2 b q k hq)), fun k hk => ?_, fun k hk => ?_⟩ (by (repeat' apply And.intro) <;> first | rfl | trivial | exact congrArg Sum.inl (nI_1 _).symm | exact congrArg Sum.inl (nI_1 _).symm)
      · rw [u3_ne1 (by decide), u3_ne1 (by decide)]; exact z3 k hk
      · by_cases e : k = i
        · subst e
          exact ⟨(congrFun (congrFun (u3_ne1 (by decide)) j) k).trans u3_eq, u3_eq⟩
        · have q := z4 k (by omega)
          exact ⟨(congrFun (congrFun (u3_ne1 (by decide)) j) k).trans ((u3_ne3 e).trans q.1), (u3_ne3 e).trans ((congrFun (congrFun (u3_ne1 (by decide)) j) k).trans q.2)⟩
  · intro i x hi ⟨x1, x2, x3⟩ hnext
    refine gT_go 400 [2] kX3_clear ?_
    refine bGe i 5 rfl rfl (fun q => absurd q (by omega)) (fun _ => ?_)
    refine Exists.intro (i) (And.intro rfl (And.intro (show _ < 5 by omega) ?_))
    refine hnext (u3 x 21 j i 0) _ ⟨fun b hb => (u3_ne1 hb).trans (x1 b hb), fun b q k hq => (u3_ne (fun c => hq c.2.1)).trans (x2 b q k hq), fun k hk => ?_⟩ (by (repeat' apply And.intro) <;> first | rfl | trivial | exact congrArg Sum.inl (nI_1 _).symm | exact congrArg Sum.inl (nI_1 _).symm)
    by_cases e : k = i
    · subst e; exact u3_eq
    · exact (u3_ne3 e).trans (x3 k (by omega))
