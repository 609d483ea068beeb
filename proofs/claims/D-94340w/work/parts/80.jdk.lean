/-! ===== Integer.bitCount, Integer.numberOfTrailingZeros ===== -/
theorem and_dg {k x y X Y : Nat} (hx : x < 2 ^ k) (hy : y < 2 ^ k) : (x + 2 ^ k * X) &&& (y + 2 ^ k * Y) = (x &&& y) + 2 ^ k * (X &&& Y) := by
  have hp : 0 < 2 ^ k := Nat.two_pow_pos k
  have m1 : ((x + 2 ^ k * X) &&& (y + 2 ^ k * Y)) % 2 ^ k = x &&& y := by
    rw [Nat.and_mod_two_pow, Nat.add_mul_mod_self_left, Nat.add_mul_mod_self_left, Nat.mod_eq_of_lt hx, Nat.mod_eq_of_lt hy]
  have m2 : ((x + 2 ^ k * X) &&& (y + 2 ^ k * Y)) / 2 ^ k = X &&& Y := by
    rw [Nat.and_div_two_pow, Nat.add_mul_div_left _ _ hp, Nat.add_mul_div_left _ _ hp, Nat.div_eq_of_lt hx, Nat.div_eq_of_lt hy, Nat.zero_add, Nat.zero_add]
  have h := Nat.mod_add_div ((x + 2 ^ k * X) &&& (y + 2 ^ k * Y)) (2 ^ k)
  rw [m1, m2] at h
  exact h.symm
/-- how many of the first N bits are set -/
def pcn : Nat → Nat → Nat
  | 0, _ => 0
  | N + 1, n => n % 2 + pcn N (n / 2)
theorem pcn_le : ∀ N n, pcn N n ≤ N := by
  intro N
  induction N with
  | zero => intro _; exact Nat.le_refl _
  | succ N ih => intro n; show n % 2 + pcn N (n / 2) ≤ N + 1; have := ih (n / 2); omega
/-- every second digit of k bits -/
def jF (k : Nat) : Nat → Nat → Nat
  | 0, _ => 0
  | N + 1, n => n % 2 ^ k + 2 ^ (2 * k) * jF k N (n / 2 ^ (2 * k))
def jM (k : Nat) : Nat → Nat
  | 0 => 0
  | N + 1 => (2 ^ k - 1) + 2 ^ (2 * k) * jM k N
theorem and_jM (k : Nat) : ∀ N n, n &&& jM k N = jF k N n := by
  intro N
  induction N with
  | zero => intro n; exact Nat.and_zero n
  | succ N ih =>
    intro n
    have hp : 0 < 2 ^ (2 * k) := Nat.two_pow_pos _
    have hk : 2 ^ k ≤ 2 ^ (2 * k) := Nat.pow_le_pow_right (by decide) (by omega)
    have hk0 : 0 < 2 ^ k := Nat.two_pow_pos _
    have e : n % 2 ^ (2 * k) + 2 ^ (2 * k) * (n / 2 ^ (2 * k)) = n := Nat.mod_add_div n _
    have h := and_dg (k := 2 * k) (X := n / 2 ^ (2 * k)) (Y := jM k N) (Nat.mod_lt n hp) (show 2 ^ k - 1 < 2 ^ (2 * k) by omega)
    rw [e, ih, Nat.and_two_pow_sub_one_eq_mod, Nat.mod_mod_of_dvd n (Nat.pow_dvd_pow 2 (show k ≤ 2 * k by omega))] at h
    exact h
def jS1 : Nat → Nat → Nat
  | 0, _ => 0
  | N + 1, n => pcn 2 n + 4 * jS1 N (n / 2 / 2)
def jS2 : Nat → Nat → Nat
  | 0, _ => 0
  | N + 1, n => pcn 4 n + 16 * jS2 N (n / 2 / 2 / 2 / 2)
def jS3 : Nat → Nat → Nat
  | 0, _ => 0
  | N + 1, n => pcn 8 n + 256 * jS3 N (n / 2 / 2 / 2 / 2 / 2 / 2 / 2 / 2)
theorem jS1_ok : ∀ N n, n < 4 ^ N → jF 1 N (n / 2) + jS1 N n = n := by
  intro N
  induction N with
  | zero => intro n h; show 0 + 0 = n; have : n < 1 := h; omega
  | succ N ih =>
    intro n h
    have h2 : n / 2 / 2 < 4 ^ N := by rw [Nat.pow_succ] at h; omega
    have hi := ih _ h2
    show ((n / 2) % 2 ^ 1 + 2 ^ (2 * 1) * jF 1 N (n / 2 / 2 ^ (2 * 1))) + ((n % 2 + (n / 2 % 2 + 0)) + 4 * jS1 N (n / 2 / 2)) = n
    rw [show n / 2 / 2 ^ (2 * 1) = n / 2 / 2 / 2 by omega]
    omega
theorem jS2_ok : ∀ N n, jF 2 N (jS1 (2 * N) n) + jF 2 N (jS1 (2 * N) n / 4) = jS2 N n := by
  intro N
  induction N with
  | zero => intro n; rfl
  | succ N ih =>
    intro n
    have hi := ih (n / 2 / 2 / 2 / 2)
    obtain ⟨y, hy⟩ : ∃ y, y = jS1 (2 * N) (n / 2 / 2 / 2 / 2) := ⟨_, rfl⟩
    rw [← hy] at hi
    have hx : jS1 (2 * (N + 1)) n = pcn 2 n + 4 * (pcn 2 (n / 2 / 2) + 4 * y) := by rw [hy] <;> rfl
    have a0 := pcn_le 2 n
    have a1 := pcn_le 2 (n / 2 / 2)
    have e4 : pcn 4 n = pcn 2 n + pcn 2 (n / 2 / 2) := by
      show n % 2 + (n / 2 % 2 + pcn 2 (n / 2 / 2)) = (n % 2 + (n / 2 % 2 + 0)) + pcn 2 (n / 2 / 2)
      omega
    rw [hx]
    show ((pcn 2 n + 4 * (pcn 2 (n / 2 / 2) + 4 * y)) % 2 ^ 2 + 2 ^ (2 * 2) * jF 2 N ((pcn 2 n + 4 * (pcn 2 (n / 2 / 2) + 4 * y)) / 2 ^ (2 * 2))) + ((pcn 2 n + 4 * (pcn 2 (n / 2 / 2) + 4 * y)) / 4 % 2 ^ 2 + 2 ^ (2 * 2) * jF 2 N ((pcn 2 n + 4 * (pcn 2 (n / 2 / 2) + 4 * y)) / 4 / 2 ^ (2 * 2))) = pcn 4 n + 16 * jS2 N (n / 2 / 2 / 2 / 2)
    rw [show (pcn 2 n + 4 * (pcn 2 (n / 2 / 2) + 4 * y)) / 2 ^ (2 * 2) = y by omega, show (pcn 2 n + 4 * (pcn 2 (n / 2 / 2) + 4 * y)) / 4 / 2 ^ (2 * 2) = y / 4 by omega, e4]
    omega
theorem jS3_ok : ∀ N n, jF 4 N (jS2 (2 * N) n + jS2 (2 * N) n / 16) = jS3 N n ∧ jS2 (2 * N) n % 16 ≤ 4 := by
  intro N
  induction N with
  | zero => intro n; exact ⟨rfl, Nat.zero_le _⟩
  | succ N ih =>
    intro n
    obtain ⟨hi, hj⟩ := ih (n / 2 / 2 / 2 / 2 / 2 / 2 / 2 / 2)
    obtain ⟨y, hy⟩ : ∃ y, y = jS2 (2 * N) (n / 2 / 2 / 2 / 2 / 2 / 2 / 2 / 2) := ⟨_, rfl⟩
    rw [← hy] at hi hj
    obtain ⟨u, hu⟩ : ∃ u, u = pcn 4 (n / 2 / 2 / 2 / 2) := ⟨_, rfl⟩
    obtain ⟨v, hv⟩ : ∃ v, v = pcn 4 n := ⟨_, rfl⟩
    have hx : jS2 (2 * (N + 1)) n = v + 16 * (u + 16 * y) := by rw [hy, hu, hv] <;> rfl
    have a0 : v ≤ 4 := by rw [hv]; exact pcn_le 4 n
    have a1 : u ≤ 4 := by rw [hu]; exact pcn_le 4 _
    have e8 : pcn 8 n = v + u := by
      rw [hu, hv]
      show n % 2 + (n / 2 % 2 + (n / 2 / 2 % 2 + (n / 2 / 2 / 2 % 2 + pcn 4 (n / 2 / 2 / 2 / 2)))) = (n % 2 + (n / 2 % 2 + (n / 2 / 2 % 2 + (n / 2 / 2 / 2 % 2 + 0)))) + pcn 4 (n / 2 / 2 / 2 / 2)
      omega
    rw [hx]
    refine ⟨?_, by omega⟩
    show (v + 16 * (u + 16 * y) + (v + 16 * (u + 16 * y)) / 16) % 2 ^ 4 + 2 ^ (2 * 4) * jF 4 N ((v + 16 * (u + 16 * y) + (v + 16 * (u + 16 * y)) / 16) / 2 ^ (2 * 4)) = pcn 8 n + 256 * jS3 N (n / 2 / 2 / 2 / 2 / 2 / 2 / 2 / 2)
    rw [show (v + 16 * (u + 16 * y) + (v + 16 * (u + 16 * y)) / 16) / 2 ^ (2 * 4) = y + y / 16 by omega, hi, e8]
    omega
def bc1 (n : Nat) : Nat := n - (n / 2 ^ 1 &&& 1431655765)
def bc2 (n : Nat) : Nat := (n &&& 858993459) + (n / 2 ^ 2 &&& 858993459)
def bc3 (n : Nat) : Nat := (n + n / 2 ^ 4) &&& 252645135
theorem bc_end {a b c d : Nat} (ha : a ≤ 8) (hb : b ≤ 8) (hc : c ≤ 8) (hd : d ≤ 8) : ((a + 256 * (b + 256 * (c + 256 * (d + 256 * 0)))) + (a + 256 * (b + 256 * (c + 256 * (d + 256 * 0)))) / 2 ^ 8 + ((a + 256 * (b + 256 * (c + 256 * (d + 256 * 0)))) + (a + 256 * (b + 256 * (c + 256 * (d + 256 * 0)))) / 2 ^ 8) / 2 ^ 16) % 2 ^ 6 = a + (b + (c + d)) := by
  have e1 : (a + 256 * (b + 256 * (c + 256 * (d + 256 * 0)))) / 2 ^ 8 = b + 256 * (c + 256 * d) := by omega
  rw [e1]
  have e2 : ((a + 256 * (b + 256 * (c + 256 * (d + 256 * 0)))) + (b + 256 * (c + 256 * d))) / 2 ^ 16 = c + d + 256 * d := by omega
  rw [e2]
  omega
theorem bc_ok {n : Nat} (hn : n < 2 ^ 32) : bc1 n ≤ n ∧ bc2 (bc1 n) < 2 ^ 31 ∧ bc3 (bc2 (bc1 n)) < 2 ^ 28 ∧ (bc3 (bc2 (bc1 n)) + bc3 (bc2 (bc1 n)) / 2 ^ 8 + (bc3 (bc2 (bc1 n)) + bc3 (bc2 (bc1 n)) / 2 ^ 8) / 2 ^ 16) % 2 ^ 6 = pcn 32 n ∧ (n / 2 ^ 1 &&& 1431655765) ≤ n := by
  have m1 : (1431655765 : Nat) = jM 1 16 := by decide
  have m2 : (858993459 : Nat) = jM 2 8 := by decide
  have m3 : (252645135 : Nat) = jM 4 4 := by decide
  have h1 := jS1_ok 16 n (by omega)
  have e1 : bc1 n = jS1 16 n := by unfold bc1; rw [m1, and_jM, show n / 2 ^ 1 = n / 2 from rfl]; omega
  have e2 : bc2 (bc1 n) = jS2 8 n := by unfold bc2; rw [m2, and_jM, and_jM, e1]; exact jS2_ok 8 n
  have e3 : bc3 (bc2 (bc1 n)) = jS3 4 n := by unfold bc3; rw [m3, and_jM, e2]; exact (jS3_ok 4 n).1
  have hS2 : ∀ N k, 15 * jS2 N k + 4 ≤ 4 * 16 ^ N := by
    intro N
    induction N with
    | zero => intro k; exact Nat.le_refl _
    | succ N ih =>
      intro k
      have a := pcn_le 4 k
      have b := ih (k / 2 / 2 / 2 / 2)
      show 15 * (pcn 4 k + 16 * jS2 N (k / 2 / 2 / 2 / 2)) + 4 ≤ 4 * 16 ^ (N + 1)
      rw [Nat.pow_succ]
      omega
  have hS3 : ∀ N k, 255 * jS3 N k + 8 ≤ 8 * 256 ^ N := by
    intro N
    induction N with
    | zero => intro k; exact Nat.le_refl _
    | succ N ih =>
      intro k
      have a := pcn_le 8 k
      have b := ih (k / 2 / 2 / 2 / 2 / 2 / 2 / 2 / 2)
      show 255 * (pcn 8 k + 256 * jS3 N (k / 2 / 2 / 2 / 2 / 2 / 2 / 2 / 2)) + 8 ≤ 8 * 256 ^ (N + 1)
      rw [Nat.pow_succ]
      omega
  have b2 := hS2 8 n
  have b3 := hS3 4 n
  have p2 : (16 : Nat) ^ 8 = 4294967296 := by decide
  have p3 : (256 : Nat) ^ 4 = 4294967296 := by decide
  rw [p2] at b2
  rw [p3] at b3
  have q1 : bc1 n ≤ n := Nat.sub_le _ _
  have q5 : (n / 2 ^ 1 &&& 1431655765) ≤ n := Nat.le_trans Nat.and_le_left (Nat.div_le_self _ _)
  refine ⟨q1, by rw [e2]; omega, by rw [e3]; omega, ?_, q5⟩
  rw [e3]
  obtain ⟨n1, h1⟩ : ∃ n1, n1 = n / 2 / 2 / 2 / 2 / 2 / 2 / 2 / 2 := ⟨_, rfl⟩
  obtain ⟨n2, h2⟩ : ∃ n2, n2 = n1 / 2 / 2 / 2 / 2 / 2 / 2 / 2 / 2 := ⟨_, rfl⟩
  obtain ⟨n3, h3⟩ : ∃ n3, n3 = n2 / 2 / 2 / 2 / 2 / 2 / 2 / 2 / 2 := ⟨_, rfl⟩
  have es : jS3 4 n = pcn 8 n + 256 * (pcn 8 n1 + 256 * (pcn 8 n2 + 256 * (pcn 8 n3 + 256 * 0))) := by rw [h3, h2, h1] <;> rfl
  have ep : pcn 32 n = pcn 8 n + (pcn 8 n1 + (pcn 8 n2 + pcn 8 n3)) := by
    have pa : ∀ a c m, pcn (a + c) m = pcn a m + pcn c (m / 2 ^ a) := by
      intro a
      induction a with
      | zero => intro c m; show pcn (0 + c) m = 0 + pcn c (m / 1); rw [Nat.zero_add, Nat.zero_add, Nat.div_one]
      | succ a ih =>
        intro c m
        rw [show a + 1 + c = (a + c) + 1 by omega]
        show m % 2 + pcn (a + c) (m / 2) = m % 2 + pcn a (m / 2) + pcn c (m / 2 ^ (a + 1))
        rw [ih, Nat.pow_succ, Nat.mul_comm, ← Nat.div_div_eq_div_mul]
        omega
    have d8 : ∀ m, m / 2 / 2 / 2 / 2 / 2 / 2 / 2 / 2 = m / 2 ^ 8 := fun m => by omega
    rw [h3, h2, h1, d8, d8, d8, show (32 : Nat) = 8 + (8 + (8 + 8)) from rfl, pa, pa, pa]
  have f0 := pcn_le 8 n
  have f1 := pcn_le 8 n1
  have f2 := pcn_le 8 n2
  have f3 := pcn_le 8 n3
  rw [es, ep]
  exact bc_end f0 f1 f2 f3
theorem gIand (a b : Nat) : nI a &&& nI b = nI (a &&& b) := Int32.toBitVec_inj.mp (by show BitVec.ofNat 32 a &&& BitVec.ofNat 32 b = BitVec.ofNat 32 (a &&& b); exact BitVec.ofNat_and.symm)
set_option maxRecDepth 100000 in
theorem p_bitCount (d n : Nat) (hn : n < 2 ^ 31) (H : Hp) : gP mJ12_bitCount (d + 1) [gI (nI n)] H (gI (nI (pcn 32 n))) := by
  obtain ⟨h1, h2, h3, h4, h5⟩ := bc_ok (n := n) (by omega)
  refine gEnter 400 [] kJ12_bitCount rfl rfl ?_
  refine ⟨?_, rfl⟩
  have u : ∀ (m k : Nat) (s : Int32), m < 2 ^ 32 → ((s.toUInt32 &&& Int32.toUInt32 31).toBitVec % 32).toNat = k → ((nI m).toUInt32 >>> (s.toUInt32 &&& Int32.toUInt32 31)).toInt32 = nI (m / 2 ^ k) := fun m k s hm hs => pk_ushrN hm s k hs
  have e1 : nI n - (((nI n).toUInt32 >>> ((1 : Int32).toUInt32 &&& Int32.toUInt32 31)).toInt32 &&& 1431655765) = nI (bc1 n) := by
    rw [u n 1 1 (by omega) (by decide)]
    show nI n - (nI (n / 2 ^ 1) &&& nI 1431655765) = nI (bc1 n)
    rw [gIand, pk_sub h5]
    rfl
  have e2 : (nI (bc1 n) &&& 858993459) + (((nI (bc1 n)).toUInt32 >>> ((2 : Int32).toUInt32 &&& Int32.toUInt32 31)).toInt32 &&& 858993459) = nI (bc2 (bc1 n)) := by
    rw [u (bc1 n) 2 2 (by omega) (by decide)]
    show (nI (bc1 n) &&& nI 858993459) + (nI (bc1 n / 2 ^ 2) &&& nI 858993459) = nI (bc2 (bc1 n))
    rw [gIand, gIand, nI_add]
    rfl
  have e3 : (nI (bc2 (bc1 n)) + ((nI (bc2 (bc1 n))).toUInt32 >>> ((4 : Int32).toUInt32 &&& Int32.toUInt32 31)).toInt32) &&& 252645135 = nI (bc3 (bc2 (bc1 n))) := by
    rw [u _ 4 4 (by omega) (by decide), nI_add]
    show nI _ &&& nI 252645135 = _
    rw [gIand]
    rfl
  obtain ⟨c, hc⟩ : ∃ c, c = bc3 (bc2 (bc1 n)) := ⟨_, rfl⟩
  rw [← hc] at h3 h4 e3
  have e4 : nI c + ((nI c).toUInt32 >>> ((8 : Int32).toUInt32 &&& Int32.toUInt32 31)).toInt32 = nI (c + c / 2 ^ 8) := by rw [u c 8 8 (by omega) (by decide), nI_add]
  have e5 : nI (c + c / 2 ^ 8) + ((nI (c + c / 2 ^ 8)).toUInt32 >>> ((16 : Int32).toUInt32 &&& Int32.toUInt32 31)).toInt32 = nI (c + c / 2 ^ 8 + (c + c / 2 ^ 8) / 2 ^ 16) := by rw [u (c + c / 2 ^ 8) 16 16 (by omega) (by decide), nI_add]
  have e6 : nI (c + c / 2 ^ 8 + (c + c / 2 ^ 8) / 2 ^ 16) &&& 63 = nI (pcn 32 n) := by
    rw [pk_andN (by omega) 6 rfl, h4]
  refine congrArg (fun z => [gI z]) ?_
  refine Eq.trans ?_ e6
  rw [← e5, ← e4, ← e3, ← e2, ← e1]
  rfl
/-- k is the lowest bit that is set -/
def lowB (n k : Nat) : Prop := ∃ m, n = 2 ^ k * (2 * m + 1)
theorem and_cmp {m j : Nat} (h : m < 2 ^ j) : m &&& (2 ^ j - 1 - m) = 0 := by
  refine Nat.eq_of_testBit_eq fun i => ?_
  rw [Nat.testBit_and, Nat.zero_testBit, show 2 ^ j - 1 - m = 2 ^ j - (m + 1) by omega, Nat.testBit_two_pow_sub_succ h]
  cases m.testBit i <;> simp
theorem low_and {n k : Nat} (hn : n < 2 ^ 31) (h : lowB n k) : k < 31 ∧ (nI n ^^^ (-1)) &&& (nI n - 1) = nI (2 ^ k - 1) := by
  obtain ⟨m, hm⟩ := h
  have hp : 0 < 2 ^ k := Nat.two_pow_pos k
  have hk : k < 31 := by
    rcases Nat.lt_or_ge k 31 with q | q
    · exact q
    · exfalso
      have h1 : 2 ^ 31 ≤ 2 ^ k := Nat.pow_le_pow_right (by decide) q
      have h2 : 2 ^ k * 1 ≤ 2 ^ k * (2 * m + 1) := Nat.mul_le_mul_left _ (by omega)
      omega
  refine ⟨hk, ?_⟩
  have hn0 : 0 < n := by rw [hm]; exact Nat.mul_pos hp (by omega)
  have ep : 2 ^ 32 = 2 ^ k * 2 ^ (32 - k) := by rw [← Nat.pow_add]; congr 1; omega
  have ep2 : 2 ^ (32 - k) = 2 * 2 ^ (31 - k) := by rw [show 32 - k = (31 - k) + 1 by omega, Nat.pow_succ]; omega
  have hmj : m < 2 ^ (31 - k) := by
    rcases Nat.lt_or_ge m (2 ^ (31 - k)) with q | q
    · exact q
    · exfalso
      have h2 : 2 ^ k * 2 ^ (31 - k) ≤ 2 ^ k * (2 * m + 1) := Nat.mul_le_mul_left _ (by omega)
      rw [← Nat.pow_add, show k + (31 - k) = 31 by omega] at h2
      omega
  have x1 : nI n ^^^ (-1) = nI (2 ^ 32 - 1 - n) := by
    refine Int32.toBitVec_inj.mp (BitVec.eq_of_toNat_eq ?_)
    show (BitVec.ofNat 32 n ^^^ (-1 : Int32).toBitVec).toNat = (BitVec.ofNat 32 (2 ^ 32 - 1 - n)).toNat
    rw [show (-1 : Int32).toBitVec = BitVec.allOnes 32 by decide, BitVec.xor_allOnes, BitVec.toNat_not, BitVec.toNat_ofNat, BitVec.toNat_ofNat, Nat.mod_eq_of_lt (show n < 2 ^ 32 by omega), Nat.mod_eq_of_lt (show 2 ^ 32 - 1 - n < 2 ^ 32 by omega)]
  rw [x1, show (1 : Int32) = nI 1 from rfl, pk_sub hn0, gIand]
  refine congrArg nI ?_
  obtain ⟨K, hK⟩ : ∃ K, K = 2 ^ k := ⟨_, rfl⟩
  obtain ⟨J, hJ⟩ : ∃ J, J = 2 ^ (31 - k) := ⟨_, rfl⟩
  have e1 : 2 ^ 32 - 1 - n = (2 ^ k - 1) + 2 ^ k * (2 * (2 ^ (31 - k) - 1 - m)) := by
    rw [hm, ep, ep2]
    have h3 : 2 ^ k * (2 * 2 ^ (31 - k)) = 2 ^ k * (2 * (2 ^ (31 - k) - 1 - m)) + 2 ^ k * (2 * m + 1) + 2 ^ k := by
      rw [← Nat.mul_add, ← Nat.mul_succ]
      congr 1
      omega
    omega
  have e2 : n - 1 = (2 ^ k - 1) + 2 ^ k * (2 * m) := by
    rw [hm, Nat.mul_add]
    omega
  rw [e1, e2, and_dg (by omega) (by omega), Nat.and_self]
  have e3 : (2 * (2 ^ (31 - k) - 1 - m)) &&& (2 * m) = 0 := by
    have h := and_dg (k := 1) (x := 0) (y := 0) (X := 2 ^ (31 - k) - 1 - m) (Y := m) (by decide) (by decide)
    rw [Nat.zero_add, Nat.zero_add, Nat.and_comm (2 ^ (31 - k) - 1 - m) m, and_cmp hmj] at h
    exact h
  rw [e3]
  omega
theorem two_div {k j : Nat} (h : j ≤ k) : (2 ^ k - 1) / 2 ^ j = 2 ^ (k - j) - 1 := by
  have hp : 0 < 2 ^ j := Nat.two_pow_pos j
  have hq : 0 < 2 ^ (k - j) := Nat.two_pow_pos _
  have e : 2 ^ k = 2 ^ j * 2 ^ (k - j) := by rw [← Nat.pow_add]; congr 1; omega
  have e2 : 2 ^ k - 1 = (2 ^ j - 1) + 2 ^ j * (2 ^ (k - j) - 1) := by
    have : 2 ^ j * 2 ^ (k - j) = 2 ^ j * (2 ^ (k - j) - 1) + 2 ^ j := by rw [← Nat.mul_succ]; congr 1; omega
    omega
  rw [e2, Nat.add_mul_div_left _ _ hp, Nat.div_eq_of_lt (by omega), Nat.zero_add]
theorem two_gt {k j : Nat} (hj : 0 < j) : 2 ^ j < 2 ^ k - 1 ↔ j < k := by
  constructor
  · intro h
    rcases Nat.lt_or_ge j k with q | q
    · exact q
    · have h1 := Nat.pow_le_pow_right (show 0 < 2 by decide) q; have h2 := Nat.two_pow_pos j; omega
  · intro h
    have h1 : 2 ^ (j + 1) ≤ 2 ^ k := Nat.pow_le_pow_right (by decide) h
    have h2 : 2 ^ 1 ≤ 2 ^ j := Nat.pow_le_pow_right (by decide) hj
    rw [Nat.pow_succ] at h1
    omega
set_option maxRecDepth 100000 in
theorem p_ntz (d n k : Nat) (hn : n < 2 ^ 31) (hl : lowB n k) (H : Hp) : gP mJ12_numberOfTrailingZeros (d + 1) [gI (nI n)] H (gI (nI k)) := by
  obtain ⟨hk, e1⟩ := low_and hn hl
  have hlt : ∀ q, q < 31 → 2 ^ q - 1 < 2 ^ 31 := fun q hq => by have := Nat.pow_le_pow_right (show 0 < 2 by decide) (show q ≤ 31 by omega); omega
  have u : ∀ (m k : Nat) (s : Int32), m < 2 ^ 32 → ((s.toUInt32 &&& Int32.toUInt32 31).toBitVec % 32).toNat = k → ((nI m).toUInt32 >>> (s.toUInt32 &&& Int32.toUInt32 31)).toInt32 = nI (m / 2 ^ k) := fun m k s hm hs => pk_ushrN hm s k hs
  have at74 : ∀ (q a : Nat) (lo' : Lo), 0 < q → q ≤ 2 → a + q = k + 1 → glle [some (gI (nI (2 ^ q - 1))), some (gI (nI a))] lo' → gT mJ12_numberOfTrailingZeros (d + 1) (0, 0) (fun v h' => v = [gI (nI k)] ∧ h' = H) (fun _ _ => False) 74 lo' [] H (0, 0) := by
    intro q a lo' h1 h2 h3 hl'
    refine gT_lo _ hl' ?_
    refine gT_go 400 [] kJ12_numberOfTrailingZeros ?_
    refine ⟨congrArg (fun z => [gI z]) ?_, rfl⟩
    show nI a + ((nI (2 ^ q - 1)).toUInt32 >>> ((1 : Int32).toUInt32 &&& Int32.toUInt32 31)).toInt32 = nI k
    rw [u (2 ^ q - 1) 1 1 (by have := hlt q (by omega); omega) (by decide), nI_add]
    rcases (show q = 1 ∨ q = 2 by omega) with rfl | rfl
    · exact congrArg nI (by omega)
    · exact congrArg nI (by omega)
  have at62 : ∀ (q a : Nat) (lo' : Lo), 0 < q → q ≤ 4 → a + q = k + 1 → glle [some (gI (nI (2 ^ q - 1))), some (gI (nI a))] lo' → gT mJ12_numberOfTrailingZeros (d + 1) (0, 0) (fun v h' => v = [gI (nI k)] ∧ h' = H) (fun _ _ => False) 62 lo' [] H (0, 0) := by
    intro q a lo' h1 h2 h3 hl'
    refine gT_lo _ hl' ?_
    refine gT_go 400 [74] kJ12_numberOfTrailingZeros ?_
    have hq := hlt q (by omega)
    refine bLe (2 ^ q - 1) 4 rfl rfl (fun c => ?_) (fun c => ?_)
    · have : ¬ 2 < q := fun z => by have := (two_gt (k := q) (j := 2) (by decide)).mpr z; omega
      exact at74 q a _ h1 (by omega) h3 (by (repeat' apply And.intro) <;> first | rfl | trivial | exact congrArg Sum.inl (nI_1 _).symm | exact congrArg Sum.inl (nI_1 _).symm)
    · have hz := (two_gt (k := q) (j := 2) (by decide)).mp c
      refine at74 (q - 2) (a + 2) _ (by omega) (by omega) (by omega) ⟨?_, ?_, trivial⟩
      · refine congrArg (fun z => gI z) ?_
        rw [← two_div (show 2 ≤ q by omega)]
        exact (u (2 ^ q - 1) 2 2 (by omega) (by decide)).symm
      · exact congrArg (fun z => gI z) (nI_add a 2).symm
  have at49 : ∀ (q a : Nat) (lo' : Lo), 0 < q → q ≤ 8 → a + q = k + 1 → glle [some (gI (nI (2 ^ q - 1))), some (gI (nI a))] lo' → gT mJ12_numberOfTrailingZeros (d + 1) (0, 0) (fun v h' => v = [gI (nI k)] ∧ h' = H) (fun _ _ => False) 49 lo' [] H (0, 0) := by
    intro q a lo' h1 h2 h3 hl'
    refine gT_lo _ hl' ?_
    refine gT_go 400 [62] kJ12_numberOfTrailingZeros ?_
    have hq := hlt q (by omega)
    refine bLe (2 ^ q - 1) 16 rfl rfl (fun c => ?_) (fun c => ?_)
    · have : ¬ 4 < q := fun z => by have := (two_gt (k := q) (j := 4) (by decide)).mpr z; omega
      exact at62 q a _ h1 (by omega) h3 (by (repeat' apply And.intro) <;> first | rfl | trivial | exact congrArg Sum.inl (nI_1 _).symm | exact congrArg Sum.inl (nI_1 _).symm)
    · have hz := (two_gt (k := q) (j := 4) (by decide)).mp c
      refine at62 (q - 4) (a + 4) _ (by omega) (by omega) (by omega) ⟨?_, ?_, trivial⟩
      · refine congrArg (fun z => gI z) ?_
        rw [← two_div (show 4 ≤ q by omega)]
        exact (u (2 ^ q - 1) 4 4 (by omega) (by decide)).symm
      · exact congrArg (fun z => gI z) (nI_add a 4).symm
  have at34 : ∀ (q a : Nat) (lo' : Lo), 0 < q → q ≤ 16 → a + q = k + 1 → glle [some (gI (nI (2 ^ q - 1))), some (gI (nI a))] lo' → gT mJ12_numberOfTrailingZeros (d + 1) (0, 0) (fun v h' => v = [gI (nI k)] ∧ h' = H) (fun _ _ => False) 34 lo' [] H (0, 0) := by
    intro q a lo' h1 h2 h3 hl'
    refine gT_lo _ hl' ?_
    refine gT_go 400 [49] kJ12_numberOfTrailingZeros ?_
    have hq := hlt q (by omega)
    refine bLe (2 ^ q - 1) 256 rfl rfl (fun c => ?_) (fun c => ?_)
    · have : ¬ 8 < q := fun z => by have := (two_gt (k := q) (j := 8) (by decide)).mpr z; omega
      exact at49 q a _ h1 (by omega) h3 (by (repeat' apply And.intro) <;> first | rfl | trivial | exact congrArg Sum.inl (nI_1 _).symm | exact congrArg Sum.inl (nI_1 _).symm)
    · have hz := (two_gt (k := q) (j := 8) (by decide)).mp c
      refine at49 (q - 8) (a + 8) _ (by omega) (by omega) (by omega) ⟨?_, ?_, trivial⟩
      · refine congrArg (fun z => gI z) ?_
        rw [← two_div (show 8 ≤ q by omega)]
        exact (u (2 ^ q - 1) 8 8 (by omega) (by decide)).symm
      · exact congrArg (fun z => gI z) (nI_add a 8).symm
  have at8 : ∀ (x : Int32) (lo' : Lo), x = nI (2 ^ k - 1) → glle [some (gI x), none] lo' → gT mJ12_numberOfTrailingZeros (d + 1) (0, 0) (fun v h' => v = [gI (nI k)] ∧ h' = H) (fun _ _ => False) 8 lo' [] H (0, 0) := by
    intro x lo' hx hl'
    subst hx
    refine gT_lo _ hl' ?_
    refine gT_go 400 [34] kJ12_numberOfTrailingZeros ?_
    have hq := hlt k hk
    refine bGt (2 ^ k - 1) 0 rfl rfl (fun c => ?_) (fun c => ?_)
    · have hk0 : 0 < k := by
        rcases Nat.eq_zero_or_pos k with z | z
        · subst z; exact absurd c (by decide)
        · exact z
      refine bLe (2 ^ k - 1) 65536 rfl rfl (fun c => ?_) (fun c => ?_)
      · have : ¬ 16 < k := fun z => by have := (two_gt (k := k) (j := 16) (by decide)).mpr z; omega
        exact at34 k 1 _ hk0 (by omega) (by omega) (by (repeat' apply And.intro) <;> first | rfl | trivial | exact congrArg Sum.inl (nI_1 _).symm | exact congrArg Sum.inl (nI_1 _).symm)
      · have hz := (two_gt (k := k) (j := 16) (by decide)).mp c
        refine at34 (k - 16) 17 _ (by omega) (by omega) (by omega) ⟨?_, rfl, trivial⟩
        refine congrArg (fun z => gI z) ?_
        rw [← two_div (show 16 ≤ k by omega)]
        exact (u (2 ^ k - 1) 16 16 (by omega) (by decide)).symm
    · have hk0 : k = 0 := by
        rcases Nat.eq_zero_or_pos k with z | z
        · exact z
        · have := Nat.pow_le_pow_right (show 0 < 2 by decide) z; omega
      subst hk0
      exact ⟨rfl, rfl⟩
  refine gEnter 400 [8] kJ12_numberOfTrailingZeros rfl rfl ?_
  exact at8 _ _ e1 (by (repeat' apply And.intro) <;> first | rfl | trivial | exact congrArg Sum.inl (nI_1 _).symm | exact congrArg Sum.inl (nI_1 _).symm)
