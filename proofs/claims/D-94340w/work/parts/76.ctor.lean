/-! ===== the model's constructor (printed by gen_ctor.py) ===== -/
def gUp (C : Nat → Nat) (b : Nat) : Nat → Nat := fun b' => bif Nat.beq b' b then C b + 1 else C b'
theorem gUp_ne {C : Nat → Nat} {b b' : Nat} (h : ¬ b' = b) : gUp C b b' = C b' := by
  show (bif Nat.beq b' b then C b + 1 else C b') = C b'
  rw [gbeqF h] <;> rfl
theorem gNw_eq {I : Nat → Nat → Nat → Int32} {L : Nat → Nat → Nat → Int64} {R : Nat → Nat → Nat → Option Rf} {N : Nat → Nat → Nat} {C : Nat → Nat} {b n : Nat} (hI : ∀ k, I b (C b) k = 0) (hL : ∀ k, L b (C b) k = 0) (hR : ∀ k, R b (C b) k = none) (hN : N b (C b) = n) :
    gNw (I, L, (R, N, C)) b n = (I, L, (R, N, gUp C b)) := by
  have q : ∀ b' i, (Nat.beq b' b && Nat.beq i (C b)) = true → b' = b ∧ i = C b := fun b' i h => by
    rw [Bool.and_eq_true] at h
    exact ⟨Nat.eq_of_beq_eq_true h.1, Nat.eq_of_beq_eq_true h.2⟩
  unfold gNw
  refine Prod.ext (funext fun b' => funext fun i => funext fun k => ?_) (Prod.ext (funext fun b' => funext fun i => funext fun k => ?_) (Prod.ext (funext fun b' => funext fun i => funext fun k => ?_) (Prod.ext (funext fun b' => funext fun i => ?_) rfl)))
  · show (bif (Nat.beq b' b && Nat.beq i (C b)) then (0 : Int32) else I b' i k) = I b' i k
    cases h : (Nat.beq b' b && Nat.beq i (C b)) with
    | false => rfl
    | true => obtain ⟨rfl, rfl⟩ := q b' i h; exact (hI k).symm
  · show (bif (Nat.beq b' b && Nat.beq i (C b)) then (0 : Int64) else L b' i k) = L b' i k
    cases h : (Nat.beq b' b && Nat.beq i (C b)) with
    | false => rfl
    | true => obtain ⟨rfl, rfl⟩ := q b' i h; exact (hL k).symm
  · show (bif (Nat.beq b' b && Nat.beq i (C b)) then none else R b' i k) = R b' i k
    cases h : (Nat.beq b' b && Nat.beq i (C b)) with
    | false => rfl
    | true => obtain ⟨rfl, rfl⟩ := q b' i h; exact (hR k).symm
  · show (bif (Nat.beq b' b && Nat.beq i (C b)) then n else N b' i) = N b' i
    cases h : (Nat.beq b' b && Nat.beq i (C b)) with
    | false => rfl
    | true => obtain ⟨rfl, rfl⟩ := q b' i h; exact hN.symm
section GAR
variable {m : GM} {d : Nat} {B : Nat × Nat} {Qr : List AV → Hp → Prop} {Qx : Rf → Hp → Prop} {u : Nat × Nat} {pc : Nat} {lo : Lo} {r : List AV}
variable {I : Nat → Nat → Nat → Int32} {L : Nat → Nat → Nat → Int64} {R : Nat → Nat → Nat → Option Rf} {N : Nat → Nat → Nat} {C : Nat → Nat}
/-- newarray in a heap whose counts alone grow -/
theorem gT_arr (b n c : Nat) (u' : Nat × Nat) {ty : FieldType} {atype : ArrayType} {x : Int32} (hb : 7 < b) (hk : grk b = some (.inr ty)) (hty : newarray.typeOf atype = ty) (hp : gplain ty = true) (hr : gnref ty = true) (hx : x = nI n) (hn : n ≤ 65536) (hw : Jvm.Cond.arrayClass ty ∈ lw_all) (hd : decode (gmC m) pc = .ok (.newarray atype, 2))
    (hu1 : u.1 + 1 ≤ B.1) (hu2 : u.2 + n ≤ B.2) (hc : C b = c) (hI : ∀ k, I b c k = 0) (hL : ∀ k, L b c k = 0) (hR : ∀ k, R b c k = none) (hN : N b c = n) (hu : (u.1 + 1, u.2 + n) = u')
    (K : gT m d B Qr Qx (pc + 2) lo (gR (some (b, c)) :: r) (I, L, (R, N, gUp C b)) u') : gT m d B Qr Qx pc lo (gI x :: r) (I, L, (R, N, C)) u := by
  subst hc
  subst hu
  refine gT_newA b n hb hk hty hp hr hx hn hw hd hu1 hu2 ?_
  rw [gNw_eq (n := n) hI hL hR hN]
  exact K
end GAR
/-- references of a new model -/
def gTow : List (Nat × Nat) → Nat → Option Rf
  | [], _ => none
  | p :: M, k => if k = p.1 then some (p.2, 0) else gTow M k
def gRu (R : Nat → Nat → Nat → Option Rf) (k b : Nat) : Nat → Nat → Nat → Option Rf := u3 R 100 0 k (some (b, 0))
theorem gRu_t {R : Nat → Nat → Nat → Option Rf} {M : List (Nat × Nat)} {k b : Nat} (h : R 100 0 = gTow M) : gRu R k b 100 0 = gTow ((k, b) :: M) := by
  funext j
  show u3 R 100 0 k (some (b, 0)) 100 0 j = if j = k then some (b, 0) else gTow M j
  by_cases e : j = k
  · rw [e, if_pos rfl]; exact u3_eq
  · rw [if_neg e, ← h]; exact u3_ne3 e
theorem gTow_no {M : List (Nat × Nat)} {n k : Nat} (h : ∀ p ∈ M, p.1 < n) (hk : n ≤ k) : gTow M k = none := by
  induction M with
  | nil => rfl
  | cons p M ih => rw [gTow, if_neg (by have := h p List.mem_cons_self; omega)]; exact ih (fun q hq => h q (List.mem_cons_of_mem _ hq))
theorem glk_no {α : Type} {l : List (Nat × α)} {b : Nat} (h : ∀ q ∈ l.map (·.1), ¬ q = b) : glk l b = none := by
  induction l with
  | nil => rfl
  | cons p l ih =>
    obtain ⟨a, x⟩ := p
    show (bif Nat.beq a b then some x else glk l b) = none
    rw [gbeqF (h a List.mem_cons_self)]
    exact ih (fun q hq => h q (List.mem_cons_of_mem _ hq))
def gMt : List (Nat × Nat) := [(52, 152), (51, 151), (48, 148), (47, 147), (43, 143), (42, 142), (41, 141), (40, 140), (39, 139), (38, 138), (37, 137), (36, 136), (30, 130), (29, 129), (26, 126), (25, 125), (24, 124), (23, 123), (22, 122), (21, 121), (20, 120), (19, 119), (18, 118), (17, 117), (16, 116), (15, 115), (11, 111), (10, 110), (9, 109), (1, 101)]
theorem gMt_ok (k : Nat) : gTow gMt k = glk gMref k := by
  rcases Nat.lt_or_ge k 60 with h | h
  · exact (by decide +kernel : ∀ k, k < 60 → gTow gMt k = glk gMref k) k h
  · rw [gTow_no (n := 60) (by decide +kernel) h, glk_no (fun q hq => by have := (by decide +kernel : ∀ q ∈ gMref.map (·.1), q < 60) q hq; omega)]
theorem gRt_no {y : Dy} {b : Nat} (h : 100 < b) : glk (gRt y) b = none := by
  refine glk_no (fun q hq => ?_)
  have := (by decide +kernel : ∀ q ∈ [100, 60, 40, 20, 52, 53, 80, 81, 82, 83, 79, 30, 31, 32, 33, 34, 35, 36], q ≤ 100) q hq
  omega
/-- the beginning -/
def V0 : VS := (fun _ => 0, false, [], sNew, (0, fun _ _ => 0), fun _ => 0, (0, fun _ => 0), -1)
set_option maxRecDepth 100000 in
theorem c_initM (d : Nat) (I : Nat → Nat → Nat → Int32) (L : Nat → Nat → Nat → Int64) (y : Dy) (R : Nat → Nat → Nat → Option Rf) (C : Nat → Nat) (c100 : C 100 = 1) (cz : ∀ b, 100 < b → b < 160 → C b = 0) (iz : ∀ b k, 99 < b → b < 160 → I b 0 k = 0) (lz : ∀ b k, 99 < b → b < 160 → L b 0 k = 0) (rz : ∀ b k, 99 < b → b < 160 → R b 0 k = none) (ro : ∀ b, b < 100 → R b = gRX y b) (nz : ∀ b i, gNX y b i < 2 ^ 31) :
    gTM mX12_init (d + 2) (30, 95608) [gM0] (I, L, (R, gNX y, C)) (fun v h' => v = [] ∧ ∃ I' y', h' = gH I' L y' ∧ (∀ b, b < 100 → I' b = I b) ∧ mR V0 I' L ∧ y'.1 = y.1 ∧ y'.2.1 = y.2.1 ∧ (∀ b, b ≤ 100 ∨ 159 < b → y'.2.2.1 b = R b ∧ y'.2.2.2.2 b = C b) ∧ y'.2.2.2.1 = y.2.2.2.1) (fun _ _ => False) := by
  refine gEnter 400 [6] kX12_init rfl rfl ?_
  refine gT_arr (C := C) (I := I) (R := R) (N := gNX y) (L := L) 101 4 0 (1, 4) (by decide) rfl rfl rfl rfl rfl (by decide) q270 dX12_init_6 (by decide) (by decide) (cz 101 (by decide) (by decide)) (fun k => iz 101 k (by decide) (by decide)) (fun k => lz 101 k (by decide) (by decide)) (fun k => rz 101 k (by decide) (by decide)) rfl rfl ?_
  refine gT_go 400 [20] kX12_init ?_
  refine gT_arr (C := gUp C 101) (I := u3 I 100 0 8 (-1)) (R := gRu R 1 101) (N := gNX y) (L := L) 109 600 0 (2, 604) (by decide) rfl rfl rfl rfl rfl (by decide) q270 dX12_init_20 (by decide) (by decide) (cz 109 (by decide) (by decide)) (fun k => iz 109 k (by decide) (by decide)) (fun k => lz 109 k (by decide) (by decide)) (fun k => rz 109 k (by decide) (by decide)) rfl rfl ?_
  refine gT_go 400 [29] kX12_init ?_
  refine gT_arr (C := gUp (gUp C 101) 109) (I := u3 I 100 0 8 (-1)) (R := gRu (gRu R 1 101) 9 109) (N := gNX y) (L := L) 110 708 0 (3, 1312) (by decide) rfl rfl rfl rfl rfl (by decide) q270 dX12_init_29 (by decide) (by decide) (cz 110 (by decide) (by decide)) (fun k => iz 110 k (by decide) (by decide)) (fun k => lz 110 k (by decide) (by decide)) (fun k => rz 110 k (by decide) (by decide)) rfl rfl ?_
  refine gT_go 400 [38] kX12_init ?_
  refine gT_arr (C := gUp (gUp (gUp C 101) 109) 110) (I := u3 I 100 0 8 (-1)) (R := gRu (gRu (gRu R 1 101) 9 109) 10 110) (N := gNX y) (L := L) 111 708 0 (4, 2020) (by decide) rfl rfl rfl rfl rfl (by decide) q270 dX12_init_38 (by decide) (by decide) (cz 111 (by decide) (by decide)) (fun k => iz 111 k (by decide) (by decide)) (fun k => lz 111 k (by decide) (by decide)) (fun k => rz 111 k (by decide) (by decide)) rfl rfl ?_
  refine gT_go 400 [47] kX12_init ?_
  refine gT_arr (C := gUp (gUp (gUp (gUp C 101) 109) 110) 111) (I := u3 I 100 0 8 (-1)) (R := gRu (gRu (gRu (gRu R 1 101) 9 109) 10 110) 11 111) (N := gNX y) (L := L) 115 620 0 (5, 2640) (by decide) rfl rfl rfl rfl rfl (by decide) q270 dX12_init_47 (by decide) (by decide) (cz 115 (by decide) (by decide)) (fun k => iz 115 k (by decide) (by decide)) (fun k => lz 115 k (by decide) (by decide)) (fun k => rz 115 k (by decide) (by decide)) rfl rfl ?_
  refine gT_go 400 [56] kX12_init ?_
  refine gT_arr (C := gUp (gUp (gUp (gUp (gUp C 101) 109) 110) 111) 115) (I := u3 I 100 0 8 (-1)) (R := gRu (gRu (gRu (gRu (gRu R 1 101) 9 109) 10 110) 11 111) 15 115) (N := gNX y) (L := L) 116 620 0 (6, 3260) (by decide) rfl rfl rfl rfl rfl (by decide) q270 dX12_init_56 (by decide) (by decide) (cz 116 (by decide) (by decide)) (fun k => iz 116 k (by decide) (by decide)) (fun k => lz 116 k (by decide) (by decide)) (fun k => rz 116 k (by decide) (by decide)) rfl rfl ?_
  refine gT_go 400 [65] kX12_init ?_
  refine gT_arr (C := gUp (gUp (gUp (gUp (gUp (gUp C 101) 109) 110) 111) 115) 116) (I := u3 I 100 0 8 (-1)) (R := gRu (gRu (gRu (gRu (gRu (gRu R 1 101) 9 109) 10 110) 11 111) 15 115) 16 116) (N := gNX y) (L := L) 117 620 0 (7, 3880) (by decide) rfl rfl rfl rfl rfl (by decide) q270 dX12_init_65 (by decide) (by decide) (cz 117 (by decide) (by decide)) (fun k => iz 117 k (by decide) (by decide)) (fun k => lz 117 k (by decide) (by decide)) (fun k => rz 117 k (by decide) (by decide)) rfl rfl ?_
  refine gT_go 400 [74] kX12_init ?_
  refine gT_arr (C := gUp (gUp (gUp (gUp (gUp (gUp (gUp C 101) 109) 110) 111) 115) 116) 117) (I := u3 I 100 0 8 (-1)) (R := gRu (gRu (gRu (gRu (gRu (gRu (gRu R 1 101) 9 109) 10 110) 11 111) 15 115) 16 116) 17 117) (N := gNX y) (L := L) 118 620 0 (8, 4500) (by decide) rfl rfl rfl rfl rfl (by decide) q270 dX12_init_74 (by decide) (by decide) (cz 118 (by decide) (by decide)) (fun k => iz 118 k (by decide) (by decide)) (fun k => lz 118 k (by decide) (by decide)) (fun k => rz 118 k (by decide) (by decide)) rfl rfl ?_
  refine gT_go 400 [82] kX12_init ?_
  refine gT_arr (C := gUp (gUp (gUp (gUp (gUp (gUp (gUp (gUp C 101) 109) 110) 111) 115) 116) 117) 118) (I := u3 I 100 0 8 (-1)) (R := gRu (gRu (gRu (gRu (gRu (gRu (gRu (gRu R 1 101) 9 109) 10 110) 11 111) 15 115) 16 116) 17 117) 18 118) (N := gNX y) (L := L) 119 10 0 (9, 4510) (by decide) rfl rfl rfl rfl rfl (by decide) q270 dX12_init_82 (by decide) (by decide) (cz 119 (by decide) (by decide)) (fun k => iz 119 k (by decide) (by decide)) (fun k => lz 119 k (by decide) (by decide)) (fun k => rz 119 k (by decide) (by decide)) rfl rfl ?_
  refine gT_go 400 [90] kX12_init ?_
  refine gT_arr (C := gUp (gUp (gUp (gUp (gUp (gUp (gUp (gUp (gUp C 101) 109) 110) 111) 115) 116) 117) 118) 119) (I := u3 I 100 0 8 (-1)) (R := gRu (gRu (gRu (gRu (gRu (gRu (gRu (gRu (gRu R 1 101) 9 109) 10 110) 11 111) 15 115) 16 116) 17 117) 18 118) 19 119) (N := gNX y) (L := L) 120 11 0 (10, 4521) (by decide) rfl rfl rfl rfl rfl (by decide) q270 dX12_init_90 (by decide) (by decide) (cz 120 (by decide) (by decide)) (fun k => iz 120 k (by decide) (by decide)) (fun k => lz 120 k (by decide) (by decide)) (fun k => rz 120 k (by decide) (by decide)) rfl rfl ?_
  refine gT_go 400 [98] kX12_init ?_
  refine gT_arr (C := gUp (gUp (gUp (gUp (gUp (gUp (gUp (gUp (gUp (gUp C 101) 109) 110) 111) 115) 116) 117) 118) 119) 120) (I := u3 I 100 0 8 (-1)) (R := gRu (gRu (gRu (gRu (gRu (gRu (gRu (gRu (gRu (gRu R 1 101) 9 109) 10 110) 11 111) 15 115) 16 116) 17 117) 18 118) 19 119) 20 120) (N := gNX y) (L := L) 121 10 0 (11, 4531) (by decide) rfl rfl rfl rfl rfl (by decide) q270 dX12_init_98 (by decide) (by decide) (cz 121 (by decide) (by decide)) (fun k => iz 121 k (by decide) (by decide)) (fun k => lz 121 k (by decide) (by decide)) (fun k => rz 121 k (by decide) (by decide)) rfl rfl ?_
  refine gT_go 400 [106] kX12_init ?_
  refine gT_arr (C := gUp (gUp (gUp (gUp (gUp (gUp (gUp (gUp (gUp (gUp (gUp C 101) 109) 110) 111) 115) 116) 117) 118) 119) 120) 121) (I := u3 I 100 0 8 (-1)) (R := gRu (gRu (gRu (gRu (gRu (gRu (gRu (gRu (gRu (gRu (gRu R 1 101) 9 109) 10 110) 11 111) 15 115) 16 116) 17 117) 18 118) 19 119) 20 120) 21 121) (N := gNX y) (L := L) 122 11 0 (12, 4542) (by decide) rfl rfl rfl rfl rfl (by decide) q270 dX12_init_106 (by decide) (by decide) (cz 122 (by decide) (by decide)) (fun k => iz 122 k (by decide) (by decide)) (fun k => lz 122 k (by decide) (by decide)) (fun k => rz 122 k (by decide) (by decide)) rfl rfl ?_
  refine gT_go 400 [115] kX12_init ?_
  refine gT_arr (C := gUp (gUp (gUp (gUp (gUp (gUp (gUp (gUp (gUp (gUp (gUp (gUp C 101) 109) 110) 111) 115) 116) 117) 118) 119) 120) 121) 122) (I := u3 I 100 0 8 (-1)) (R := gRu (gRu (gRu (gRu (gRu (gRu (gRu (gRu (gRu (gRu (gRu (gRu R 1 101) 9 109) 10 110) 11 111) 15 115) 16 116) 17 117) 18 118) 19 119) 20 120) 21 121) 22 122) (N := gNX y) (L := L) 123 620 0 (13, 5162) (by decide) rfl rfl rfl rfl rfl (by decide) q270 dX12_init_115 (by decide) (by decide) (cz 123 (by decide) (by decide)) (fun k => iz 123 k (by decide) (by decide)) (fun k => lz 123 k (by decide) (by decide)) (fun k => rz 123 k (by decide) (by decide)) rfl rfl ?_
  refine gT_go 400 [123] kX12_init ?_
  refine gT_arr (C := gUp (gUp (gUp (gUp (gUp (gUp (gUp (gUp (gUp (gUp (gUp (gUp (gUp C 101) 109) 110) 111) 115) 116) 117) 118) 119) 120) 121) 122) 123) (I := u3 I 100 0 8 (-1)) (R := gRu (gRu (gRu (gRu (gRu (gRu (gRu (gRu (gRu (gRu (gRu (gRu (gRu R 1 101) 9 109) 10 110) 11 111) 15 115) 16 116) 17 117) 18 118) 19 119) 20 120) 21 121) 22 122) 23 123) (N := gNX y) (L := L) 124 8 0 (14, 5170) (by decide) rfl rfl rfl rfl rfl (by decide) q270 dX12_init_123 (by decide) (by decide) (cz 124 (by decide) (by decide)) (fun k => iz 124 k (by decide) (by decide)) (fun k => lz 124 k (by decide) (by decide)) (fun k => rz 124 k (by decide) (by decide)) rfl rfl ?_
  refine gT_go 400 [132] kX12_init ?_
  refine gT_arr (C := gUp (gUp (gUp (gUp (gUp (gUp (gUp (gUp (gUp (gUp (gUp (gUp (gUp (gUp C 101) 109) 110) 111) 115) 116) 117) 118) 119) 120) 121) 122) 123) 124) (I := u3 I 100 0 8 (-1)) (R := gRu (gRu (gRu (gRu (gRu (gRu (gRu (gRu (gRu (gRu (gRu (gRu (gRu (gRu R 1 101) 9 109) 10 110) 11 111) 15 115) 16 116) 17 117) 18 118) 19 119) 20 120) 21 121) 22 122) 23 123) 24 124) (N := gNX y) (L := L) 125 156 0 (15, 5326) (by decide) rfl rfl rfl rfl rfl (by decide) q270 dX12_init_132 (by decide) (by decide) (cz 125 (by decide) (by decide)) (fun k => iz 125 k (by decide) (by decide)) (fun k => lz 125 k (by decide) (by decide)) (fun k => rz 125 k (by decide) (by decide)) rfl rfl ?_
  refine gT_go 400 [141] kX12_init ?_
  refine gT_arr (C := gUp (gUp (gUp (gUp (gUp (gUp (gUp (gUp (gUp (gUp (gUp (gUp (gUp (gUp (gUp C 101) 109) 110) 111) 115) 116) 117) 118) 119) 120) 121) 122) 123) 124) 125) (I := u3 I 100 0 8 (-1)) (R := gRu (gRu (gRu (gRu (gRu (gRu (gRu (gRu (gRu (gRu (gRu (gRu (gRu (gRu (gRu R 1 101) 9 109) 10 110) 11 111) 15 115) 16 116) 17 117) 18 118) 19 119) 20 120) 21 121) 22 122) 23 123) 24 124) 25 125) (N := gNX y) (L := L) 126 468 0 (16, 5794) (by decide) rfl rfl rfl rfl rfl (by decide) q270 dX12_init_141 (by decide) (by decide) (cz 126 (by decide) (by decide)) (fun k => iz 126 k (by decide) (by decide)) (fun k => lz 126 k (by decide) (by decide)) (fun k => rz 126 k (by decide) (by decide)) rfl rfl ?_
  refine gT_go 400 [149] kX12_init ?_
  refine gT_arr (C := gUp (gUp (gUp (gUp (gUp (gUp (gUp (gUp (gUp (gUp (gUp (gUp (gUp (gUp (gUp (gUp C 101) 109) 110) 111) 115) 116) 117) 118) 119) 120) 121) 122) 123) 124) 125) 126) (I := u3 I 100 0 8 (-1)) (R := gRu (gRu (gRu (gRu (gRu (gRu (gRu (gRu (gRu (gRu (gRu (gRu (gRu (gRu (gRu (gRu R 1 101) 9 109) 10 110) 11 111) 15 115) 16 116) 17 117) 18 118) 19 119) 20 120) 21 121) 22 122) 23 123) 24 124) 25 125) 26 126) (N := gNX y) (L := L) 129 24 0 (17, 5818) (by decide) rfl rfl rfl rfl rfl (by decide) q270 dX12_init_149 (by decide) (by decide) (cz 129 (by decide) (by decide)) (fun k => iz 129 k (by decide) (by decide)) (fun k => lz 129 k (by decide) (by decide)) (fun k => rz 129 k (by decide) (by decide)) rfl rfl ?_
  refine gT_go 400 [156] kX12_init ?_
  refine gT_arr (C := gUp (gUp (gUp (gUp (gUp (gUp (gUp (gUp (gUp (gUp (gUp (gUp (gUp (gUp (gUp (gUp (gUp C 101) 109) 110) 111) 115) 116) 117) 118) 119) 120) 121) 122) 123) 124) 125) 126) 129) (I := u3 I 100 0 8 (-1)) (R := gRu (gRu (gRu (gRu (gRu (gRu (gRu (gRu (gRu (gRu (gRu (gRu (gRu (gRu (gRu (gRu (gRu R 1 101) 9 109) 10 110) 11 111) 15 115) 16 116) 17 117) 18 118) 19 119) 20 120) 21 121) 22 122) 23 123) 24 124) 25 125) 26 126) 29 129) (N := gNX y) (L := L) 130 5 0 (18, 5823) (by decide) rfl rfl rfl rfl rfl (by decide) q270 dX12_init_156 (by decide) (by decide) (cz 130 (by decide) (by decide)) (fun k => iz 130 k (by decide) (by decide)) (fun k => lz 130 k (by decide) (by decide)) (fun k => rz 130 k (by decide) (by decide)) rfl rfl ?_
  refine gT_go 400 [180] kX12_init ?_
  refine gT_arr (C := gUp (gUp (gUp (gUp (gUp (gUp (gUp (gUp (gUp (gUp (gUp (gUp (gUp (gUp (gUp (gUp (gUp (gUp C 101) 109) 110) 111) 115) 116) 117) 118) 119) 120) 121) 122) 123) 124) 125) 126) 129) 130) (I := u3 (u3 (u3 (u3 I 100 0 8 (-1)) 100 0 32 (-1)) 100 0 33 (-1)) 100 0 34 (-1)) (R := gRu (gRu (gRu (gRu (gRu (gRu (gRu (gRu (gRu (gRu (gRu (gRu (gRu (gRu (gRu (gRu (gRu (gRu R 1 101) 9 109) 10 110) 11 111) 15 115) 16 116) 17 117) 18 118) 19 119) 20 120) 21 121) 22 122) 23 123) 24 124) 25 125) 26 126) 29 129) 30 130) (N := gNX y) (L := L) 136 19500 0 (19, 25323) (by decide) rfl rfl rfl rfl rfl (by decide) q270 dX12_init_180 (by decide) (by decide) (cz 136 (by decide) (by decide)) (fun k => iz 136 k (by decide) (by decide)) (fun k => lz 136 k (by decide) (by decide)) (fun k => rz 136 k (by decide) (by decide)) rfl rfl ?_
  refine gT_go 400 [189] kX12_init ?_
  refine gT_arr (C := gUp (gUp (gUp (gUp (gUp (gUp (gUp (gUp (gUp (gUp (gUp (gUp (gUp (gUp (gUp (gUp (gUp (gUp (gUp C 101) 109) 110) 111) 115) 116) 117) 118) 119) 120) 121) 122) 123) 124) 125) 126) 129) 130) 136) (I := u3 (u3 (u3 (u3 I 100 0 8 (-1)) 100 0 32 (-1)) 100 0 33 (-1)) 100 0 34 (-1)) (R := gRu (gRu (gRu (gRu (gRu (gRu (gRu (gRu (gRu (gRu (gRu (gRu (gRu (gRu (gRu (gRu (gRu (gRu (gRu R 1 101) 9 109) 10 110) 11 111) 15 115) 16 116) 17 117) 18 118) 19 119) 20 120) 21 121) 22 122) 23 123) 24 124) 25 125) 26 126) 29 129) 30 130) 36 136) (N := gNX y) (L := L) 137 3900 0 (20, 29223) (by decide) rfl rfl rfl rfl rfl (by decide) q270 dX12_init_189 (by decide) (by decide) (cz 137 (by decide) (by decide)) (fun k => iz 137 k (by decide) (by decide)) (fun k => lz 137 k (by decide) (by decide)) (fun k => rz 137 k (by decide) (by decide)) rfl rfl ?_
  refine gT_go 400 [197] kX12_init ?_
  refine gT_arr (C := gUp (gUp (gUp (gUp (gUp (gUp (gUp (gUp (gUp (gUp (gUp (gUp (gUp (gUp (gUp (gUp (gUp (gUp (gUp (gUp C 101) 109) 110) 111) 115) 116) 117) 118) 119) 120) 121) 122) 123) 124) 125) 126) 129) 130) 136) 137) (I := u3 (u3 (u3 (u3 I 100 0 8 (-1)) 100 0 32 (-1)) 100 0 33 (-1)) 100 0 34 (-1)) (R := gRu (gRu (gRu (gRu (gRu (gRu (gRu (gRu (gRu (gRu (gRu (gRu (gRu (gRu (gRu (gRu (gRu (gRu (gRu (gRu R 1 101) 9 109) 10 110) 11 111) 15 115) 16 116) 17 117) 18 118) 19 119) 20 120) 21 121) 22 122) 23 123) 24 124) 25 125) 26 126) 29 129) 30 130) 36 136) 37 137) (N := gNX y) (L := L) 138 25 0 (21, 29248) (by decide) rfl rfl rfl rfl rfl (by decide) q370 dX12_init_197 (by decide) (by decide) (cz 138 (by decide) (by decide)) (fun k => iz 138 k (by decide) (by decide)) (fun k => lz 138 k (by decide) (by decide)) (fun k => rz 138 k (by decide) (by decide)) rfl rfl ?_
  refine gT_go 400 [206] kX12_init ?_
  refine gT_arr (C := gUp (gUp (gUp (gUp (gUp (gUp (gUp (gUp (gUp (gUp (gUp (gUp (gUp (gUp (gUp (gUp (gUp (gUp (gUp (gUp (gUp C 101) 109) 110) 111) 115) 116) 117) 118) 119) 120) 121) 122) 123) 124) 125) 126) 129) 130) 136) 137) 138) (I := u3 (u3 (u3 (u3 I 100 0 8 (-1)) 100 0 32 (-1)) 100 0 33 (-1)) 100 0 34 (-1)) (R := gRu (gRu (gRu (gRu (gRu (gRu (gRu (gRu (gRu (gRu (gRu (gRu (gRu (gRu (gRu (gRu (gRu (gRu (gRu (gRu (gRu R 1 101) 9 109) 10 110) 11 111) 15 115) 16 116) 17 117) 18 118) 19 119) 20 120) 21 121) 22 122) 23 123) 24 124) 25 125) 26 126) 29 129) 30 130) 36 136) 37 137) 38 138) (N := gNX y) (L := L) 139 19500 0 (22, 48748) (by decide) rfl rfl rfl rfl rfl (by decide) q370 dX12_init_206 (by decide) (by decide) (cz 139 (by decide) (by decide)) (fun k => iz 139 k (by decide) (by decide)) (fun k => lz 139 k (by decide) (by decide)) (fun k => rz 139 k (by decide) (by decide)) rfl rfl ?_
  refine gT_go 400 [215] kX12_init ?_
  refine gT_arr (C := gUp (gUp (gUp (gUp (gUp (gUp (gUp (gUp (gUp (gUp (gUp (gUp (gUp (gUp (gUp (gUp (gUp (gUp (gUp (gUp (gUp (gUp C 101) 109) 110) 111) 115) 116) 117) 118) 119) 120) 121) 122) 123) 124) 125) 126) 129) 130) 136) 137) 138) 139) (I := u3 (u3 (u3 (u3 I 100 0 8 (-1)) 100 0 32 (-1)) 100 0 33 (-1)) 100 0 34 (-1)) (R := gRu (gRu (gRu (gRu (gRu (gRu (gRu (gRu (gRu (gRu (gRu (gRu (gRu (gRu (gRu (gRu (gRu (gRu (gRu (gRu (gRu (gRu R 1 101) 9 109) 10 110) 11 111) 15 115) 16 116) 17 117) 18 118) 19 119) 20 120) 21 121) 22 122) 23 123) 24 124) 25 125) 26 126) 29 129) 30 130) 36 136) 37 137) 38 138) 39 139) (N := gNX y) (L := L) 140 19500 0 (23, 68248) (by decide) rfl rfl rfl rfl rfl (by decide) q370 dX12_init_215 (by decide) (by decide) (cz 140 (by decide) (by decide)) (fun k => iz 140 k (by decide) (by decide)) (fun k => lz 140 k (by decide) (by decide)) (fun k => rz 140 k (by decide) (by decide)) rfl rfl ?_
  refine gT_go 400 [224] kX12_init ?_
  refine gT_arr (C := gUp (gUp (gUp (gUp (gUp (gUp (gUp (gUp (gUp (gUp (gUp (gUp (gUp (gUp (gUp (gUp (gUp (gUp (gUp (gUp (gUp (gUp (gUp C 101) 109) 110) 111) 115) 116) 117) 118) 119) 120) 121) 122) 123) 124) 125) 126) 129) 130) 136) 137) 138) 139) 140) (I := u3 (u3 (u3 (u3 I 100 0 8 (-1)) 100 0 32 (-1)) 100 0 33 (-1)) 100 0 34 (-1)) (R := gRu (gRu (gRu (gRu (gRu (gRu (gRu (gRu (gRu (gRu (gRu (gRu (gRu (gRu (gRu (gRu (gRu (gRu (gRu (gRu (gRu (gRu (gRu R 1 101) 9 109) 10 110) 11 111) 15 115) 16 116) 17 117) 18 118) 19 119) 20 120) 21 121) 22 122) 23 123) 24 124) 25 125) 26 126) 29 129) 30 130) 36 136) 37 137) 38 138) 39 139) 40 140) (N := gNX y) (L := L) 141 19500 0 (24, 87748) (by decide) rfl rfl rfl rfl rfl (by decide) q370 dX12_init_224 (by decide) (by decide) (cz 141 (by decide) (by decide)) (fun k => iz 141 k (by decide) (by decide)) (fun k => lz 141 k (by decide) (by decide)) (fun k => rz 141 k (by decide) (by decide)) rfl rfl ?_
  refine gT_go 400 [232] kX12_init ?_
  refine gT_arr (C := gUp (gUp (gUp (gUp (gUp (gUp (gUp (gUp (gUp (gUp (gUp (gUp (gUp (gUp (gUp (gUp (gUp (gUp (gUp (gUp (gUp (gUp (gUp (gUp C 101) 109) 110) 111) 115) 116) 117) 118) 119) 120) 121) 122) 123) 124) 125) 126) 129) 130) 136) 137) 138) 139) 140) 141) (I := u3 (u3 (u3 (u3 I 100 0 8 (-1)) 100 0 32 (-1)) 100 0 33 (-1)) 100 0 34 (-1)) (R := gRu (gRu (gRu (gRu (gRu (gRu (gRu (gRu (gRu (gRu (gRu (gRu (gRu (gRu (gRu (gRu (gRu (gRu (gRu (gRu (gRu (gRu (gRu (gRu R 1 101) 9 109) 10 110) 11 111) 15 115) 16 116) 17 117) 18 118) 19 119) 20 120) 21 121) 22 122) 23 123) 24 124) 25 125) 26 126) 29 129) 30 130) 36 136) 37 137) 38 138) 39 139) 40 140) 41 141) (N := gNX y) (L := L) 142 25 0 (25, 87773) (by decide) rfl rfl rfl rfl rfl (by decide) q269 dX12_init_232 (by decide) (by decide) (cz 142 (by decide) (by decide)) (fun k => iz 142 k (by decide) (by decide)) (fun k => lz 142 k (by decide) (by decide)) (fun k => rz 142 k (by decide) (by decide)) rfl rfl ?_
  refine gT_go 400 [240] kX12_init ?_
  refine gT_arr (C := gUp (gUp (gUp (gUp (gUp (gUp (gUp (gUp (gUp (gUp (gUp (gUp (gUp (gUp (gUp (gUp (gUp (gUp (gUp (gUp (gUp (gUp (gUp (gUp (gUp C 101) 109) 110) 111) 115) 116) 117) 118) 119) 120) 121) 122) 123) 124) 125) 126) 129) 130) 136) 137) 138) 139) 140) 141) 142) (I := u3 (u3 (u3 (u3 I 100 0 8 (-1)) 100 0 32 (-1)) 100 0 33 (-1)) 100 0 34 (-1)) (R := gRu (gRu (gRu (gRu (gRu (gRu (gRu (gRu (gRu (gRu (gRu (gRu (gRu (gRu (gRu (gRu (gRu (gRu (gRu (gRu (gRu (gRu (gRu (gRu (gRu R 1 101) 9 109) 10 110) 11 111) 15 115) 16 116) 17 117) 18 118) 19 119) 20 120) 21 121) 22 122) 23 123) 24 124) 25 125) 26 126) 29 129) 30 130) 36 136) 37 137) 38 138) 39 139) 40 140) 41 141) 42 142) (N := gNX y) (L := L) 143 25 0 (26, 87798) (by decide) rfl rfl rfl rfl rfl (by decide) q270 dX12_init_240 (by decide) (by decide) (cz 143 (by decide) (by decide)) (fun k => iz 143 k (by decide) (by decide)) (fun k => lz 143 k (by decide) (by decide)) (fun k => rz 143 k (by decide) (by decide)) rfl rfl ?_
  refine gT_go 400 [247] kX12_init ?_
  refine gT_arr (C := gUp (gUp (gUp (gUp (gUp (gUp (gUp (gUp (gUp (gUp (gUp (gUp (gUp (gUp (gUp (gUp (gUp (gUp (gUp (gUp (gUp (gUp (gUp (gUp (gUp (gUp C 101) 109) 110) 111) 115) 116) 117) 118) 119) 120) 121) 122) 123) 124) 125) 126) 129) 130) 136) 137) 138) 139) 140) 141) 142) 143) (I := u3 (u3 (u3 (u3 I 100 0 8 (-1)) 100 0 32 (-1)) 100 0 33 (-1)) 100 0 34 (-1)) (R := gRu (gRu (gRu (gRu (gRu (gRu (gRu (gRu (gRu (gRu (gRu (gRu (gRu (gRu (gRu (gRu (gRu (gRu (gRu (gRu (gRu (gRu (gRu (gRu (gRu (gRu R 1 101) 9 109) 10 110) 11 111) 15 115) 16 116) 17 117) 18 118) 19 119) 20 120) 21 121) 22 122) 23 123) 24 124) 25 125) 26 126) 29 129) 30 130) 36 136) 37 137) 38 138) 39 139) 40 140) 41 141) 42 142) 43 143) (N := gNX y) (L := L) 147 5 0 (27, 87803) (by decide) rfl rfl rfl rfl rfl (by decide) q370 dX12_init_247 (by decide) (by decide) (cz 147 (by decide) (by decide)) (fun k => iz 147 k (by decide) (by decide)) (fun k => lz 147 k (by decide) (by decide)) (fun k => rz 147 k (by decide) (by decide)) rfl rfl ?_
  refine gT_go 400 [254] kX12_init ?_
  refine gT_arr (C := gUp (gUp (gUp (gUp (gUp (gUp (gUp (gUp (gUp (gUp (gUp (gUp (gUp (gUp (gUp (gUp (gUp (gUp (gUp (gUp (gUp (gUp (gUp (gUp (gUp (gUp (gUp C 101) 109) 110) 111) 115) 116) 117) 118) 119) 120) 121) 122) 123) 124) 125) 126) 129) 130) 136) 137) 138) 139) 140) 141) 142) 143) 147) (I := u3 (u3 (u3 (u3 I 100 0 8 (-1)) 100 0 32 (-1)) 100 0 33 (-1)) 100 0 34 (-1)) (R := gRu (gRu (gRu (gRu (gRu (gRu (gRu (gRu (gRu (gRu (gRu (gRu (gRu (gRu (gRu (gRu (gRu (gRu (gRu (gRu (gRu (gRu (gRu (gRu (gRu (gRu (gRu R 1 101) 9 109) 10 110) 11 111) 15 115) 16 116) 17 117) 18 118) 19 119) 20 120) 21 121) 22 122) 23 123) 24 124) 25 125) 26 126) 29 129) 30 130) 36 136) 37 137) 38 138) 39 139) 40 140) 41 141) 42 142) 43 143) 47 147) (N := gNX y) (L := L) 148 5 0 (28, 87808) (by decide) rfl rfl rfl rfl rfl (by decide) q270 dX12_init_254 (by decide) (by decide) (cz 148 (by decide) (by decide)) (fun k => iz 148 k (by decide) (by decide)) (fun k => lz 148 k (by decide) (by decide)) (fun k => rz 148 k (by decide) (by decide)) rfl rfl ?_
  refine gT_go 400 [263] kX12_init ?_
  refine gT_arr (C := gUp (gUp (gUp (gUp (gUp (gUp (gUp (gUp (gUp (gUp (gUp (gUp (gUp (gUp (gUp (gUp (gUp (gUp (gUp (gUp (gUp (gUp (gUp (gUp (gUp (gUp (gUp (gUp C 101) 109) 110) 111) 115) 116) 117) 118) 119) 120) 121) 122) 123) 124) 125) 126) 129) 130) 136) 137) 138) 139) 140) 141) 142) 143) 147) 148) (I := u3 (u3 (u3 (u3 I 100 0 8 (-1)) 100 0 32 (-1)) 100 0 33 (-1)) 100 0 34 (-1)) (R := gRu (gRu (gRu (gRu (gRu (gRu (gRu (gRu (gRu (gRu (gRu (gRu (gRu (gRu (gRu (gRu (gRu (gRu (gRu (gRu (gRu (gRu (gRu (gRu (gRu (gRu (gRu (gRu R 1 101) 9 109) 10 110) 11 111) 15 115) 16 116) 17 117) 18 118) 19 119) 20 120) 21 121) 22 122) 23 123) 24 124) 25 125) 26 126) 29 129) 30 130) 36 136) 37 137) 38 138) 39 139) 40 140) 41 141) 42 142) 43 143) 47 147) 48 148) (N := gNX y) (L := L) 151 3900 0 (29, 91708) (by decide) rfl rfl rfl rfl rfl (by decide) q269 dX12_init_263 (by decide) (by decide) (cz 151 (by decide) (by decide)) (fun k => iz 151 k (by decide) (by decide)) (fun k => lz 151 k (by decide) (by decide)) (fun k => rz 151 k (by decide) (by decide)) rfl rfl ?_
  refine gT_go 400 [272] kX12_init ?_
  refine gT_arr (C := gUp (gUp (gUp (gUp (gUp (gUp (gUp (gUp (gUp (gUp (gUp (gUp (gUp (gUp (gUp (gUp (gUp (gUp (gUp (gUp (gUp (gUp (gUp (gUp (gUp (gUp (gUp (gUp (gUp C 101) 109) 110) 111) 115) 116) 117) 118) 119) 120) 121) 122) 123) 124) 125) 126) 129) 130) 136) 137) 138) 139) 140) 141) 142) 143) 147) 148) 151) (I := u3 (u3 (u3 (u3 I 100 0 8 (-1)) 100 0 32 (-1)) 100 0 33 (-1)) 100 0 34 (-1)) (R := gRu (gRu (gRu (gRu (gRu (gRu (gRu (gRu (gRu (gRu (gRu (gRu (gRu (gRu (gRu (gRu (gRu (gRu (gRu (gRu (gRu (gRu (gRu (gRu (gRu (gRu (gRu (gRu (gRu R 1 101) 9 109) 10 110) 11 111) 15 115) 16 116) 17 117) 18 118) 19 119) 20 120) 21 121) 22 122) 23 123) 24 124) 25 125) 26 126) 29 129) 30 130) 36 136) 37 137) 38 138) 39 139) 40 140) 41 141) 42 142) 43 143) 47 147) 48 148) 51 151) (N := gNX y) (L := L) 152 3900 0 (30, 95608) (by decide) rfl rfl rfl rfl rfl (by decide) q370 dX12_init_272 (by decide) (by decide) (cz 152 (by decide) (by decide)) (fun k => iz 152 k (by decide) (by decide)) (fun k => lz 152 k (by decide) (by decide)) (fun k => rz 152 k (by decide) (by decide)) rfl rfl ?_
  refine gT_go 400 [277] kX12_init ?_
  have iR : (∀ b, b ≠ 100 → (gRu (gRu (gRu (gRu (gRu (gRu (gRu (gRu (gRu (gRu (gRu (gRu (gRu (gRu (gRu (gRu (gRu (gRu (gRu (gRu (gRu (gRu (gRu (gRu (gRu (gRu (gRu (gRu (gRu (gRu R 1 101) 9 109) 10 110) 11 111) 15 115) 16 116) 17 117) 18 118) 19 119) 20 120) 21 121) 22 122) 23 123) 24 124) 25 125) 26 126) 29 129) 30 130) 36 136) 37 137) 38 138) 39 139) 40 140) 41 141) 42 142) 43 143) 47 147) 48 148) 51 151) 52 152) b = R b) ∧ (gRu (gRu (gRu (gRu (gRu (gRu (gRu (gRu (gRu (gRu (gRu (gRu (gRu (gRu (gRu (gRu (gRu (gRu (gRu (gRu (gRu (gRu (gRu (gRu (gRu (gRu (gRu (gRu (gRu (gRu R 1 101) 9 109) 10 110) 11 111) 15 115) 16 116) 17 117) 18 118) 19 119) 20 120) 21 121) 22 122) 23 123) 24 124) 25 125) 26 126) 29 129) 30 130) 36 136) 37 137) 38 138) 39 139) 40 140) 41 141) 42 142) 43 143) 47 147) 48 148) 51 151) 52 152) 100 0 = gTow gMt := by
    have h0 : R 100 0 = gTow [] := funext fun k => rz 100 k (by decide) (by decide)
    constructor
    · intro b hb
      unfold gRu
      simp only [u3_ne1 hb]
    · exact gRu_t (gRu_t (gRu_t (gRu_t (gRu_t (gRu_t (gRu_t (gRu_t (gRu_t (gRu_t (gRu_t (gRu_t (gRu_t (gRu_t (gRu_t (gRu_t (gRu_t (gRu_t (gRu_t (gRu_t (gRu_t (gRu_t (gRu_t (gRu_t (gRu_t (gRu_t (gRu_t (gRu_t (gRu_t (gRu_t (h0))))))))))))))))))))))))))))))
  obtain ⟨R1, hR1⟩ : ∃ R1, R1 = gRu (gRu (gRu (gRu (gRu (gRu (gRu (gRu (gRu (gRu (gRu (gRu (gRu (gRu (gRu (gRu (gRu (gRu (gRu (gRu (gRu (gRu (gRu (gRu (gRu (gRu (gRu (gRu (gRu (gRu R 1 101) 9 109) 10 110) 11 111) 15 115) 16 116) 17 117) 18 118) 19 119) 20 120) 21 121) 22 122) 23 123) 24 124) 25 125) 26 126) 29 129) 30 130) 36 136) 37 137) 38 138) 39 139) 40 140) 41 141) 42 142) 43 143) 47 147) 48 148) 51 151) 52 152 := ⟨_, rfl⟩
  obtain ⟨C1, hC1⟩ : ∃ C1, C1 = gUp (gUp (gUp (gUp (gUp (gUp (gUp (gUp (gUp (gUp (gUp (gUp (gUp (gUp (gUp (gUp (gUp (gUp (gUp (gUp (gUp (gUp (gUp (gUp (gUp (gUp (gUp (gUp (gUp (gUp C 101) 109) 110) 111) 115) 116) 117) 118) 119) 120) 121) 122) 123) 124) 125) 126) 129) 130) 136) 137) 138) 139) 140) 141) 142) 143) 147) 148) 151) 152 := ⟨_, rfl⟩
  have iC : C1 100 = 1 ∧ ∀ b, b < 100 ∨ 159 < b → C1 b = C b := by
    rw [hC1]
    refine ⟨?_, fun b hb => ?_⟩
    rotate_left
    · rw [gUp_ne (show ¬ b = 152 by omega)]
      rw [gUp_ne (show ¬ b = 151 by omega)]
      rw [gUp_ne (show ¬ b = 148 by omega)]
      rw [gUp_ne (show ¬ b = 147 by omega)]
      rw [gUp_ne (show ¬ b = 143 by omega)]
      rw [gUp_ne (show ¬ b = 142 by omega)]
      rw [gUp_ne (show ¬ b = 141 by omega)]
      rw [gUp_ne (show ¬ b = 140 by omega)]
      rw [gUp_ne (show ¬ b = 139 by omega)]
      rw [gUp_ne (show ¬ b = 138 by omega)]
      rw [gUp_ne (show ¬ b = 137 by omega)]
      rw [gUp_ne (show ¬ b = 136 by omega)]
      rw [gUp_ne (show ¬ b = 130 by omega)]
      rw [gUp_ne (show ¬ b = 129 by omega)]
      rw [gUp_ne (show ¬ b = 126 by omega)]
      rw [gUp_ne (show ¬ b = 125 by omega)]
      rw [gUp_ne (show ¬ b = 124 by omega)]
      rw [gUp_ne (show ¬ b = 123 by omega)]
      rw [gUp_ne (show ¬ b = 122 by omega)]
      rw [gUp_ne (show ¬ b = 121 by omega)]
      rw [gUp_ne (show ¬ b = 120 by omega)]
      rw [gUp_ne (show ¬ b = 119 by omega)]
      rw [gUp_ne (show ¬ b = 118 by omega)]
      rw [gUp_ne (show ¬ b = 117 by omega)]
      rw [gUp_ne (show ¬ b = 116 by omega)]
      rw [gUp_ne (show ¬ b = 115 by omega)]
      rw [gUp_ne (show ¬ b = 111 by omega)]
      rw [gUp_ne (show ¬ b = 110 by omega)]
      rw [gUp_ne (show ¬ b = 109 by omega)]
      rw [gUp_ne (show ¬ b = 101 by omega)]
    · rw [gUp_ne (show ¬ 100 = 152 by decide)]
      rw [gUp_ne (show ¬ 100 = 151 by decide)]
      rw [gUp_ne (show ¬ 100 = 148 by decide)]
      rw [gUp_ne (show ¬ 100 = 147 by decide)]
      rw [gUp_ne (show ¬ 100 = 143 by decide)]
      rw [gUp_ne (show ¬ 100 = 142 by decide)]
      rw [gUp_ne (show ¬ 100 = 141 by decide)]
      rw [gUp_ne (show ¬ 100 = 140 by decide)]
      rw [gUp_ne (show ¬ 100 = 139 by decide)]
      rw [gUp_ne (show ¬ 100 = 138 by decide)]
      rw [gUp_ne (show ¬ 100 = 137 by decide)]
      rw [gUp_ne (show ¬ 100 = 136 by decide)]
      rw [gUp_ne (show ¬ 100 = 130 by decide)]
      rw [gUp_ne (show ¬ 100 = 129 by decide)]
      rw [gUp_ne (show ¬ 100 = 126 by decide)]
      rw [gUp_ne (show ¬ 100 = 125 by decide)]
      rw [gUp_ne (show ¬ 100 = 124 by decide)]
      rw [gUp_ne (show ¬ 100 = 123 by decide)]
      rw [gUp_ne (show ¬ 100 = 122 by decide)]
      rw [gUp_ne (show ¬ 100 = 121 by decide)]
      rw [gUp_ne (show ¬ 100 = 120 by decide)]
      rw [gUp_ne (show ¬ 100 = 119 by decide)]
      rw [gUp_ne (show ¬ 100 = 118 by decide)]
      rw [gUp_ne (show ¬ 100 = 117 by decide)]
      rw [gUp_ne (show ¬ 100 = 116 by decide)]
      rw [gUp_ne (show ¬ 100 = 115 by decide)]
      rw [gUp_ne (show ¬ 100 = 111 by decide)]
      rw [gUp_ne (show ¬ 100 = 110 by decide)]
      rw [gUp_ne (show ¬ 100 = 109 by decide)]
      rw [gUp_ne (show ¬ 100 = 101 by decide)]
      exact c100
  obtain ⟨I1, hI1⟩ : ∃ I1, I1 = u3 (u3 (u3 (u3 I 100 0 8 (-1)) 100 0 32 (-1)) 100 0 33 (-1)) 100 0 34 (-1) := ⟨_, rfl⟩
  have iI : (∀ b, b ≠ 100 → I1 b = I b) ∧ I1 100 0 8 = -1 ∧ I1 100 0 32 = -1 ∧ I1 100 0 33 = -1 ∧ I1 100 0 34 = -1 ∧ ∀ k, k ≠ 8 → k ≠ 32 → k ≠ 33 → k ≠ 34 → I1 100 0 k = 0 := by
    rw [hI1]
    exact ⟨fun b hb => (u3_ne1 hb).trans ((u3_ne1 hb).trans ((u3_ne1 hb).trans (u3_ne1 hb))), rfl, rfl, rfl, rfl, fun k h1 h2 h3 h4 => (u3_ne3 h4).trans ((u3_ne3 h3).trans ((u3_ne3 h2).trans ((u3_ne3 h1).trans (iz 100 k (by decide) (by decide)))))⟩
  have fin : ∀ lo', glle [some gM0] lo' → gT mX12_init (d + 2) (30, 95608) (fun v h' => v = [] ∧ ∃ I' y', h' = gH I' L y' ∧ (∀ b, b < 100 → I' b = I b) ∧ mR V0 I' L ∧ y'.1 = y.1 ∧ y'.2.1 = y.2.1 ∧ (∀ b, b ≤ 100 ∨ 159 < b → y'.2.2.1 b = R b ∧ y'.2.2.2.2 b = C b) ∧ y'.2.2.2.1 = y.2.2.2.1) (fun _ _ => False) 277 lo' [] (I1, L, (R1, gNX y, C1)) (30, 95608) := by
    intro lo' hl'
    rw [← hR1] at iR
    refine gT_eqv (gH I1 L (y.1, y.2.1, fun b => bif Nat.beq b 100 then R b else R1 b, y.2.2.2.1, C1)) ⟨fun b i k hi hk => ⟨rfl, rfl, ?_⟩, fun _ _ _ => rfl, rfl, nz⟩ ?_
    · show gRX (y.1, y.2.1, fun b => bif Nat.beq b 100 then R b else R1 b, y.2.2.2.1, C1) b i k = R1 b i k
      have hi' : i < C1 b := hi
      by_cases e : b = 100
      · subst e
        have e0 : i = 0 := by have := iC.1; omega
        subst e0
        rw [iR.2, gMt_ok]
        rfl
      · have e2 : (bif Nat.beq b 100 then R b else R1 b) = R1 b := by rw [gbeqF e] <;> rfl
        unfold gRX
        show (match glk (gRt y) b with
          | some f => f i k
          | none => (bif Nat.beq b 100 then R b else R1 b) i k) = R1 b i k
        rw [e2]
        rcases Nat.lt_or_ge 100 b with q | q
        · rw [gRt_no q]
        · have q2 : b < 100 := by omega
          rw [iR.1 b e, ro b q2]
          unfold gRX
          cases hg : glk (gRt y) b with
          | some f => rfl
          | none => rfl
    · refine gT_lo _ hl' ?_
      refine gT_go 400 [] kX12_init ?_
      refine gTM_use rfl (p_anew d I1 L (y.1, y.2.1, fun b => bif Nat.beq b 100 then R b else R1 b, y.2.2.2.1, C1)) (fun v h' q => ?_)
      obtain ⟨rfl, J, rfl, j1, j2, j3, j4⟩ := q
      have jz : ∀ b k, 100 < b → b < 160 → b ≠ 125 → J b 0 k = 0 := fun b k h1 h2 h3 => by rw [j1 b (by omega) h3, iI.1 b (by omega)]; exact iz b k (by omega) h2
      have jf : ∀ k, k ≠ 8 → k ≠ 32 → k ≠ 33 → k ≠ 34 → J 100 0 k = 0 := fun k h1 h2 h3 h4 => by
        by_cases e : k = 28
        · rw [e]; exact j3
        · exact (j2 k e).trans (iI.2.2.2.2.2 k h1 h2 h3 h4)
      refine ⟨rfl, J, _, rfl, fun b hb => (j1 b (by omega) (by omega)).trans (iI.1 b (by omega)), ?_, rfl, rfl, fun b hb => ⟨?_, ?_⟩, rfl⟩
      · exact ⟨fun j _ => jz 110 j (by decide) (by decide) (by decide), jf 12 (by decide) (by decide) (by decide) (by decide), ⟨jf 13 (by decide) (by decide) (by decide) (by decide), Nat.zero_le _, Nat.zero_le _, fun k hk => absurd hk (Nat.not_lt_zero _)⟩, j4, jf 27 (by decide) (by decide) (by decide) (by decide), fun k j hk => absurd hk (Nat.not_lt_zero _), fun k _ => jz 101 k (by decide) (by decide) (by decide), jf 2 (by decide) (by decide) (by decide) (by decide), fun j hj => absurd hj (Nat.not_lt_zero _), (j2 8 (by decide)).trans iI.2.1, (j2 32 (by decide)).trans iI.2.2.1, (j2 33 (by decide)).trans iI.2.2.2.1, (j2 34 (by decide)).trans iI.2.2.2.2.1, jf 35 (by decide) (by decide) (by decide) (by decide), false, j3, fun q => by cases q⟩
      · show (bif Nat.beq b 100 then R b else R1 b) = R b
        by_cases e : b = 100
        · rw [gbeqT e] <;> rfl
        · rw [gbeqF e]; exact iR.1 b e
      · show C1 b = C b
        by_cases e : b = 100
        · rw [e, iC.1, c100]
        · exact iC.2 b (by omega)
  subst hI1
  subst hR1
  subst hC1
  exact fin _ (by (repeat' apply And.intro) <;> first | rfl | trivial | exact congrArg Sum.inl (nI_1 _).symm | exact congrArg Sum.inl (nI_1 _).symm)
