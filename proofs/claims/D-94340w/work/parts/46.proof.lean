/-! ===== a proof: the first row that is not the best alone ===== -/
def jPm (bits : Nat → Nat → Nat → Nat) (row : Nat → Nat) (N h p n : Nat) : Nat := bif Nat.blt h N && (bits h p n).testBit (row h) then row h else 0
def jPr (A : Nat → Nat) (S : Nat) (bits : Nat → Nat → Nat → Nat) (r : Nat → Int64) (row : Nat → Nat) (N : Nat) : Nat → Nat → Nat → Nat → Int32
  | 0, _, _, _ => -1
  | f + 1, h, p, n => if aEnd A h p n = 0 then
      (if gBr A S (gSn A h) r h p n (jPm bits row N h p n) < gBr A S (gSn A h) r h p n (gXb (bits h p n) (gBr A S (gSn A h) r h p n) (A 1)) then nI h
       else jPr A S bits r row N f (h + 1) (gGo A (jPm bits row N h p n) p) (aNx A S n (gGo A (jPm bits row N h p n) p)))
    else -1
theorem jPm_le {bits : Nat → Nat → Nat → Nat} {row : Nat → Nat} {N h p n m : Nat} (hr : h < N → row h ≤ m) : jPm bits row N h p n ≤ m := by
  unfold jPm
  cases e : Nat.blt h N && (bits h p n).testBit (row h) with
  | true => exact hr (Nat.le_of_ble_eq_true ((Bool.and_eq_true _ _).mp e).1)
  | false => exact Nat.zero_le _
def xMy (V : VS) (k h p n : Nat) : Nat := gMv (gMw (vA V) (vR V) none k h p n)
set_option maxRecDepth 100000 in
theorem t_proof {Qr : List AV → Hp → Prop} {Qx : Rf → Hp → Prop} (d : Nat) (V : VS) (hA : gLg (vA V)) (c k : Nat) (hk : k < vA V 2) (N : Nat) (hN : N ≤ 24) (I1 : Nat → Nat → Nat → Int32) (L : Nat → Nat → Nat → Int64) (y : Dy) (h54 : I1 125 0 54 = nI N) (hrow : ∀ k, k < N → I1 125 0 (55 + k) = nI (sRow (vS V) k) ∧ sRow (vS V) k ≤ vA V 1)
    (hm : mR V I1 L) (hU : mU V (vA V 4) none (gP0 V) I1 L) (R : Int32) (hQ : ∀ z, gAtF I1 z → Qr [gI R] (gH z L y)) :
    ∀ (f h p n : Nat) (z : Nat → Nat → Nat → Int32) (lo0 : Lo), vA V 3 ≤ h + f → h ≤ vA V 3 → p < vA V 0 → n ≤ vA V 4 → gAtF I1 z → gAtP z h p n → jPr (vA V) (vA V 4) (xMy V k) (wAt (vA V) (vA V 4) (gMw (vA V) (vR V) none) k) (sRow (vS V)) N f h p n = R →
      glle [some gM0, some (gI (nI k)), some (gI (nI (k * 3900))), none, none, none, none, none] lo0 → gT mX12_proof (d + 8) (0, 0) Qr Qx 38 lo0 [] (gH z L y) (0, 0) := by
  have a0 := hA.1.1
  have a1 := hA.1.2.1
  have a2 := hA.1.2.2.1
  have a3 := hA.1.2.2.2.1
  have a4 := hA.1.2.2.2.2.1
  have fin : ∀ (h p n : Nat) (z : Nat → Nat → Nat → Int32) (lo0 : Lo), h ≤ vA V 3 → p < vA V 0 → n ≤ vA V 4 → gAtF I1 z → gAtP z h p n → ¬ aEnd (vA V) h p n = 0 → -1 = R →
      glle [some gM0, some (gI (nI k)), some (gI (nI (k * 3900))), none, none, none, none, none] lo0 → gT mX12_proof (d + 8) (0, 0) Qr Qx 38 lo0 [] (gH z L y) (0, 0) := by
    intro h p n z lo0 q2 q3 q4 z1 z2 e hR hlo
    have zm := z1.mR hm
    obtain ⟨t1, t2, t3⟩ := id z2
    refine gT_lo _ hlo ?_
    refine gT_go 400 [38] kX12_proof ?_
    refine gP_use (gP_eq (by rw [← t1, ← t2, ← t3] <;> rfl) (p_ended (d + 6) h p n (by omega) (by omega) (by omega) (vA V) z zm.1 hA.1.lt L y)) ?_
    refine bNe (aEnd (vA V) h p n) 0 rfl rfl (fun _ => ?_) (fun q => absurd q e) (by have := aEnd_lt (vA V) h p n; omega) (by decide)
    rw [← hR] at hQ
    exact hQ z z1
  intro f
  induction f with
  | zero =>
    intro h p n z lo0 q1 q2 q3 q4 z1 z2 hR hlo
    exact fin h p n z lo0 q2 q3 q4 z1 z2 (fun e => (aEnd_0 e).2 (by omega)) hR hlo
  | succ f ih =>
    intro h p n z lo0 q1 q2 q3 q4 z1 z2 hR hlo
    by_cases e : aEnd (vA V) h p n = 0
    · have hh3 : h < vA V 3 := by have := (aEnd_0 e).2; omega
      have hn0 := (aEnd_0 e).1
      have zm := z1.mR hm
      have zU := z1.mU hU
      obtain ⟨t1, t2, t3⟩ := id z2
      have hs := sN_lt (h := h) (p := p) (n := n) (by omega) (by omega) (by omega)
      obtain ⟨m1, m2, m0, m3, m4⟩ := zU.2.1.1 k h p n hk hh3 q3 q4 e
      have hx := hR
      rw [jPr, if_pos e] at hx
      have hmle : jPm (xMy V k) (sRow (vS V)) N h p n ≤ vA V 1 := jPm_le (fun q => (hrow h q).2)
      have z54 : z 125 0 54 = nI N := by rw [z1.1 125 (by decide)]; exact h54
      have eB : ∀ m, m ≤ vA V 1 → gBr (vA V) (vA V 4) (gSn (vA V) h) (fun j => L 140 0 (k * 3900 + j)) h p n m = gBr (vA V) (vA V 4) (gSn (vA V) h) (wAt (vA V) (vA V 4) (gMw (vA V) (vR V) none) k) h p n m := fun m hm =>
        gBr_cgR hA q4 q3 hm (fun t j ht hj => gAl_w (r := fun i => L 140 0 (k * 3900 + i)) hA (zU.2.1.2.2.2 k hk) (by omega) ht hj)
      have eX : gBs (xMy V k h p n) (gBr (vA V) (vA V 4) (gSn (vA V) h) (fun j => L 140 0 (k * 3900 + j)) h p n) false (vA V 1 + 1) = some (gXb (xMy V k h p n) (gBr (vA V) (vA V 4) (gSn (vA V) h) (wAt (vA V) (vA V 4) (gMw (vA V) (vR V) none) k) h p n) (vA V 1)) := by
        rw [gBs_cg (vA V 1 + 1) (fun m hm => eB m (by omega))]
        exact (gXb_bit m4 m3).1
      have hxle := gXb_le (xMy V k h p n) (gBr (vA V) (vA V 4) (gSn (vA V) h) (wAt (vA V) (vA V 4) (gMw (vA V) (vR V) none) k) h p n) (vA V 1)
      have hbe := p_best (d + 3) 140 (k * 3900) (xMy V k h p n) h p n false (Or.inr (Or.inl rfl)) (by omega) (gMv_lt m2) (by omega) (by omega) hn0 (by omega) (vA V) z zm.1 hA.1 (vA V 4) zU.1 (by omega) (gSn (vA V) h) (zU.2.1.2.1 h (by omega)) L y
      rw [eX] at hbe
      have hbr := fun (m : Nat) (hm : m ≤ vA V 1) => p_brings (d + 4) 140 (k * 3900) h p n m (Or.inr (Or.inl rfl)) (by omega) (by omega) (by omega) hn0 (by omega) (by omega) (vA V) z zm.1 hA.1 (vA V 4) zU.1 (by omega) (gSn (vA V) h) (zU.2.1.2.1 h (by omega)) L y
      have tail : ∀ (m : Nat) (lo' : Lo), m = jPm (xMy V k) (sRow (vS V)) N h p n → glle [some gM0, some (gI (nI k)), some (gI (nI (k * 3900))), some (gI (nI (xMy V k h p n))), some (gI (nI m)), none, none, none] lo' → gT mX12_proof (d + 8) (0, 0) Qr Qx 122 lo' [] (gH z L y) (0, 0) := by
        intro m lo' hm' hl'
        rw [← hm'] at hx hmle
        refine gT_lo _ hl' ?_
        have go2 : ¬ gBr (vA V) (vA V 4) (gSn (vA V) h) (wAt (vA V) (vA V 4) (gMw (vA V) (vR V) none) k) h p n m < gBr (vA V) (vA V 4) (gSn (vA V) h) (wAt (vA V) (vA V 4) (gMw (vA V) (vR V) none) k) h p n (gXb (xMy V k h p n) (gBr (vA V) (vA V 4) (gSn (vA V) h) (wAt (vA V) (vA V 4) (gMw (vA V) (vR V) none) k) h p n) (vA V 1)) →
            ∀ lo'', glle [some gM0, some (gI (nI k)), some (gI (nI (k * 3900))), none, some (gI (nI m)), none, none, none] lo'' → gT mX12_proof (d + 8) (0, 0) Qr Qx 213 lo'' [] (gH z L y) (0, 0) := by
          intro c lo'' hl''
          rw [if_neg c] at hx
          refine gT_lo _ hl'' ?_
          refine gT_go 400 [38] kX12_proof ?_
          refine gTM_use rfl (p_goes (d + 5) (vA V) hA (vA V 4) h p n m q3 hn0 hmle z zm.1 zU.1 z2 L y) (fun v h' q => ?_)
          obtain ⟨rfl, z', rfl, f1, f2⟩ := q
          exact ih (h + 1) _ _ z' _ (by omega) (by omega) (gGo_lt hA q3 hmle) (aNx_le q4) (z1.tr f1) f2 hx (by (repeat' apply And.intro) <;> first | rfl | trivial | exact congrArg Sum.inl (nI_1 _).symm | exact congrArg Sum.inl (nI_1 _).symm)
        refine gT_go 400 [38, 213] kX12_proof ?_
        refine gP_use (gP_eq (by rw [← t1, ← t2, ← t3] <;> rfl) (hbr m hmle)) ?_
        refine gP_use (gP_eq (by rw [← t1, ← t2, ← t3] <;> rfl) (hbe)) ?_
        refine bEq (gXb (xMy V k h p n) (gBr (vA V) (vA V 4) (gSn (vA V) h) (wAt (vA V) (vA V 4) (gMw (vA V) (vR V) none) k) h p n) (vA V 1)) m rfl rfl (fun c => ?_) (fun c => ?_)
        · exact go2 (by rw [c]; exact gnlt2) _ (by (repeat' apply And.intro) <;> first | rfl | trivial | exact congrArg Sum.inl (nI_1 _).symm | exact congrArg Sum.inl (nI_1 _).symm)
        · refine gP_use (gP_eq (by rw [← t1, ← t2, ← t3] <;> rfl) (hbr _ hxle)) ?_
          rw [eB m hmle, eB _ hxle]
          refine bcLe (fun c2 => ?_) (fun c2 => ?_)
          · exact go2 c2 _ (by (repeat' apply And.intro) <;> first | rfl | trivial | exact congrArg Sum.inl (nI_1 _).symm | exact congrArg Sum.inl (nI_1 _).symm)
          · rw [if_pos c2] at hx
            have hq := hQ z z1
            rw [← hx, ← t2] at hq
            exact hq
      refine gT_lo _ hlo ?_
      refine gT_go 400 [38, 122] kX12_proof ?_
      refine gP_use (gP_eq (by rw [← t1, ← t2, ← t3] <;> rfl) (p_ended (d + 6) h p n (by omega) (by omega) (by omega) (vA V) z zm.1 hA.1.lt L y)) ?_
      refine bNe (aEnd (vA V) h p n) 0 rfl rfl (fun q => absurd e q) (fun _ => ?_) (by have := aEnd_lt (vA V) h p n; omega) (by decide)
      refine gP_use (gP_eq (by rw [← t1, ← t2, ← t3] <;> rfl) (p_state (d + 6) h p n _)) ?_
      refine gP_use (p_moves (d + 6) k (sN h p n) _ (by omega) (by omega) z L y m1) ?_
      refine Exists.intro (54) (And.intro rfl (And.intro (show _ < 156 by omega) ?_))
      refine bGe h N t2 z54 (fun c => ?_) (fun c => ?_)
      · have eb : Nat.blt h N = false := by
          cases q : Nat.blt h N with
          | false => rfl
          | true => exact absurd (Nat.le_of_ble_eq_true q) (by omega)
        have ej : 0 = jPm (xMy V k) (sRow (vS V)) N h p n := by unfold jPm; rw [eb] <;> rfl
        refine bB1 _ (gbit (B := xMy V k h p n) (m := 0) (gMv_lt m2) (by decide)) (fun _ => ?_) (fun _ => ?_)
        · exact tail 0 _ ej (by (repeat' apply And.intro) <;> first | rfl | trivial | exact congrArg Sum.inl (nI_1 _).symm | exact congrArg Sum.inl (nI_1 _).symm)
        · exact tail 0 _ ej (by (repeat' apply And.intro) <;> first | rfl | trivial | exact congrArg Sum.inl (nI_1 _).symm | exact congrArg Sum.inl (nI_1 _).symm)
      · have eb : Nat.blt h N = true := Nat.ble_eq_true_of_le c
        obtain ⟨r1, r2⟩ := hrow h c
        have zr : z 125 0 (55 + h) = nI (sRow (vS V) h) := by rw [z1.1 125 (by decide)]; exact r1
        refine Exists.intro (55 + h) (And.intro (by rw [← nI_add, ← t2] <;> rfl) (And.intro (show 55 + h < 156 by omega) ?_))
        refine bB1 ((xMy V k h p n).testBit (sRow (vS V) h)) (by rw [← gbit (B := xMy V k h p n) (m := sRow (vS V) h) (gMv_lt m2) (by omega), ← zr] <;> rfl) (fun b => ?_) (fun b => ?_)
        · exact tail (sRow (vS V) h) _ (by unfold jPm; rw [eb, b] <;> rfl) (by rw [← zr]; exact (by (repeat' apply And.intro) <;> first | rfl | trivial | exact congrArg Sum.inl (nI_1 _).symm | exact congrArg Sum.inl (nI_1 _).symm))
        · exact tail 0 _ (by unfold jPm; rw [eb, b] <;> rfl) (by (repeat' apply And.intro) <;> first | rfl | trivial | exact congrArg Sum.inl (nI_1 _).symm | exact congrArg Sum.inl (nI_1 _).symm)
    · exact fin h p n z lo0 q2 q3 q4 z1 z2 e (by rw [← hR, jPr, if_neg e]) hlo
noncomputable def xProof (V : VS) (a : Int32) : Int32 × AV × VS :=
  bif vL V then (bif gWi a 0 (nI (vA V 2) - 1) then (0, gI (jPr (vA V) (vA V 4) (xMy V (gTo a)) (wAt (vA V) (vA V 4) (gMw (vA V) (vR V) none) (gTo a)) (sRow (vS V)) (gTo (vS V 54)) (vA V 3) 0 (vA V 6) (vA V 4)), V) else (1, gI 0, xRef V 0)) else (2, gI 0, xRef V 3)
set_option maxRecDepth 100000 in
theorem c_proof (V : VS) (hw : gWf V) (a : Int32) : mC mX12_proof 8 [gI a] V (xProof V a) := by
  intro d I L y hm
  have hm0 := mR_thr hm 0
  have a1 := hw.1.2.1
  have a2 := hw.1.2.2.1
  have a4 := hw.1.2.2.2.2.1
  obtain ⟨N, w1, w2, w3⟩ := hw.2.2.2.1.2.2.2.2.2.2
  refine gEnter 400 [38] kX12_proof rfl rfl ?_
  refine gTM_use rfl (p_isHere (d + 5) V 2 (by decide) _ L y hm0 u3_eq) (fun v h' q => ?_)
  rcases q with ⟨g1, rfl, rfl⟩ | ⟨g1, rfl, I', rfl, q1, q2, q3⟩
  rotate_left
  · refine And.intro (fun _ => ?_) (fun q => absurd rfl q)
    exact mGt_no (by unfold xProof; simp only [g1, cond_true, cond_false] <;> rfl) q1 q2 q3
  refine And.intro (fun q => absurd q (by decide)) (fun _ => ?_)
  refine gTM_use rfl (p_isPerson (d + 5) V a 1 (by decide) _ L y hm0 u3_eq) (fun v h' q => ?_)
  rcases q with ⟨g2, rfl, rfl⟩ | ⟨g2, rfl, I', rfl, q1, q2, q3⟩
  rotate_left
  · refine And.intro (fun q => absurd rfl q) (fun _ => ?_)
    exact mGt_no (by unfold xProof; simp only [g1,g2, cond_true, cond_false] <;> rfl) q1 q2 q3
  refine And.intro (fun _ => ?_) (fun q => absurd q (by decide))
  have hA := hw.2.1 g1
  obtain ⟨k, rfl, hk⟩ := gWi_n rfl (by omega) g2
  have ek : gTo (nI k) = k := gTo_n (by omega)
  refine gTM_use rfl (p_setUp d V hw g1 _ L y hm0) (fun v h' q => ?_)
  obtain ⟨rfl, I1, L1, rfl, o1, m1, u1, t1, k1⟩ := q
  refine gTM_use rfl (p_begin (d + 6) (vA V) (vA V 4) I1 m1.1 u1.1 L1 y) (fun v h' q => ?_)
  obtain ⟨rfl, I2, rfl, f1, f2⟩ := q
  refine t_proof d V hA 0 k hk N w2 I2 L1 y ((f1.mR m1).2.2.2.1 54 (by omega) |>.trans w1) (fun j hj => ?_) (f1.mR m1) (f1.mU u1) _ (fun z z1 => ?_) (vA V 3) 0 (vA V 6) (vA V 4) I2 _ (by omega) (Nat.zero_le _) hA.2.2.2.2.2.1 (Nat.le_refl _) (gAtF.rf _) f2 rfl (by rw [← pk_mul]; exact (by (repeat' apply And.intro) <;> first | rfl | trivial | exact congrArg Sum.inl (nI_1 _).symm | exact congrArg Sum.inl (nI_1 _).symm))
  · obtain ⟨m, e1, e2⟩ := w3 j hj
    have em : sRow (vS V) j = m := by unfold sRow; rw [e1]; exact gTo_n (by omega)
    rw [em]
    exact ⟨((f1.mR m1).2.2.2.1 (55 + j) (by omega)).trans e1, e2⟩
  · refine mDone (o2 := (0, gI (jPr (vA V) (vA V 4) (xMy V k) (wAt (vA V) (vA V 4) (gMw (vA V) (vR V) none) k) (sRow (vS V)) (gTo (vS V 54)) (vA V 3) 0 (vA V 6) (vA V 4)), V)) (by unfold xProof; rw [g1, g2, ek] <;> rfl) ?_ (o1.tr ((f1.tr z1).out L1)) ((f1.tr z1).mR m1) (((f1.tr z1).2 0 (by decide)).trans (t1.trans u3_eq))
    rw [w1, gTo_n (show N < 2 ^ 31 by omega)]
