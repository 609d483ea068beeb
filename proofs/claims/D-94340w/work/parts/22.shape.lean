/-! ===== the shape of the two systems' heap ===== -/
def gMref : List (Nat × Rf) := [(1, (101, 0)), (9, (109, 0)), (10, (110, 0)), (11, (111, 0)), (15, (115, 0)), (16, (116, 0)), (17, (117, 0)), (18, (118, 0)), (19, (119, 0)), (20, (120, 0)), (21, (121, 0)), (22, (122, 0)), (23, (123, 0)), (24, (124, 0)), (25, (125, 0)), (26, (126, 0)), (29, (129, 0)), (30, (130, 0)), (36, (136, 0)), (37, (137, 0)), (38, (138, 0)), (39, (139, 0)), (40, (140, 0)), (41, (141, 0)), (42, (142, 0)), (43, (143, 0)), (47, (147, 0)), (48, (148, 0)), (51, (151, 0)), (52, (152, 0))]
def gGref : List (Nat × Rf) := [(3, (20, 0)), (4, (10, 1)), (5, (65, 0)), (6, (66, 0)), (12, (72, 0)), (13, (73, 0)), (14, (74, 0)), (15, (30, 0)), (16, (31, 0)), (17, (32, 0)), (18, (33, 0)), (19, (79, 0)), (20, (80, 0)), (21, (81, 0)), (22, (82, 0)), (23, (83, 0)), (24, (84, 0)), (25, (85, 0)), (26, (86, 0)), (27, (87, 0)), (33, (93, 0)), (34, (94, 0)), (35, (95, 0))]
def gLref : List (Nat × Rf) := [(0, (30, 0)), (1, (31, 0)), (2, (34, 0)), (3, (35, 0)), (4, (32, 0)), (5, (36, 0))]
/-- what changes of the shape: the land's number, the list of rules, references, lengths, counts of the moving regions -/
abbrev Dy : Type := Nat × Nat × (Nat → Nat → Nat → Option Rf) × (Nat → Nat → Nat) × (Nat → Nat)
def gRt (y : Dy) : List (Nat × (Nat → Nat → Option Rf)) :=
  [(100, fun _ k => glk gMref k), (60, fun i k => bif Nat.beq i 0 then (bif Nat.beq k 0 then some (40, y.1) else bif Nat.beq k 1 then some (10, y.2.1) else glk gGref k) else none),
   (40, fun i k => bif Nat.beq k 12 then some (52, i) else bif Nat.beq k 13 then some (53, i) else bif Nat.ble 7 k && Nat.ble k 11 then some (40 + k, i) else none),
   (20, fun i k => bif Nat.ble k 6 then some (21 + k, i) else none), (52, fun i k => some (54, 24 * i + k)), (53, fun i k => some (55, 5 * i + k)),
   (80, fun _ k => some (160, k)), (81, fun _ k => some (161, k)), (82, fun _ k => some (162, k)), (83, fun _ k => some (163, k)), (79, fun _ k => glk gLref k),
   (30, fun _ _ => some (60, 0)), (31, fun _ _ => some (60, 0)), (32, fun _ _ => some (60, 0)), (33, fun _ _ => some (60, 0)), (34, fun _ _ => some (60, 0)), (35, fun _ _ => some (60, 0)), (36, fun _ _ => some (60, 0))]
def gNt : List (Nat × Nat) :=
  [(101, 4), (109, 600), (110, 708), (111, 708), (115, 620), (116, 620), (117, 620), (118, 620), (119, 10), (120, 11), (121, 10), (122, 11), (123, 620), (124, 8), (125, 156), (126, 468), (129, 24), (130, 5), (136, 19500), (137, 3900), (138, 25), (139, 19500), (140, 19500), (141, 19500), (142, 25), (143, 25), (147, 5), (148, 5), (151, 3900), (152, 3900),
   (65, 4), (66, 600), (72, 5), (73, 8), (74, 26), (79, 6), (80, 5), (81, 5), (82, 5), (83, 5), (160, 3900), (161, 3900), (162, 3900), (163, 3900), (84, 3900), (85, 3900), (86, 3900), (87, 3900), (93, 5), (94, 3900), (95, 25),
   (47, 12), (48, 12), (49, 24), (50, 24), (51, 5), (52, 24), (53, 5), (54, 24), (55, 12), (21, 5), (22, 24), (23, 24), (24, 24), (25, 25), (26, 25), (27, 25), (58, 1), (59, 5), (9, 9), (29, 8), (3, 0)]
def gRX (y : Dy) (b i k : Nat) : Option Rf := match glk (gRt y) b with
  | some f => f i k
  | none => y.2.2.1 b i k
def gNX (y : Dy) (b i : Nat) : Nat := match glk gNt b with
  | some n => n
  | none => y.2.2.2.1 b i
abbrev gSh (y : Dy) : Sh := (gRX y, gNX y, y.2.2.2.2)
/-- the heap with ints I, longs L -/
abbrev gH (I : Nat → Nat → Nat → Int32) (L : Nat → Nat → Nat → Int64) (y : Dy) : Hp := (I, L, gSh y)
theorem litI (n : Nat) : (OfNat.ofNat n : Int32) = nI n := rfl
theorem t_state (d : Nat) (a b c : Int32) (h : Hp) : gTM mX12_state (d + 1) (0, 0) [gI a, gI b, gI c] h (fun v h' => v = [gI ((a * 12 + b) * 13 + c)] ∧ h' = h) (fun _ _ => False) := by
  refine gTM_of kX12_state rfl rfl ?_
  refine gT_go 100 [] kX12_state ?_
  exact ⟨rfl, rfl⟩
set_option maxRecDepth 100000 in
theorem t_behind (d : Nat) (a b c : Int32) (t : Nat) (ht : t < 12) (I : Nat → Nat → Nat → Int32) (L : Nat → Nat → Nat → Int64) (y : Dy) : gTM mX12_behind (d + 2) (0, 0) [gR (some (100, 0)), gI a, gI b, gI c, gI (nI t)] (gH I L y)
    (fun v h' => v = [gI (((a + 1) * 12 + nI t) * 13 + (if I 110 0 (7 + t) = 1 then I 100 0 31 else c - 1))] ∧ h' = gH I L y) (fun _ _ => False) := by
  refine gTM_of kX12_behind rfl rfl ?_
  refine gT_go 100 [] kX12_behind ?_
  refine Exists.intro (7 + t) (And.intro (nI_add 7 t) (And.intro (show 7 + t < 708 by omega) ?_))
  refine And.intro (fun c1 => ?_) (fun c1 => ?_)
  · refine gTM_mono (t_state d _ _ _ _) (fun v h' q => ?_) (fun _ _ q => q.elim)
    obtain ⟨rfl, rfl⟩ := q
    refine ⟨?_, rfl⟩
    rw [if_neg (show ¬ I 110 0 (7 + t) = 1 from c1)]
    rfl
  · refine gTM_mono (t_state d _ _ _ _) (fun v h' q => ?_) (fun _ _ q => q.elim)
    obtain ⟨rfl, rfl⟩ := q
    refine ⟨?_, rfl⟩
    rw [if_pos (show I 110 0 (7 + t) = 1 from c1)]
    rfl
