set_option maxRecDepth 100000
/-! 23: nights; sets below a set, as numbers -/
variable {X : Nat → Option Ob} {ad ad' : Nat → Nat} {B B' : Sw} {A A' : Av} {σ σ' : Cs} {τ : Tw} {F : Nat}
theorem and_d2 (a b : Nat) : (a &&& b) / 2 = (a / 2) &&& (b / 2) := by
  have h := Nat.shiftRight_and_distrib (a := a) (b := b) (i := 1)
  simp only [Nat.shiftRight_eq_div_pow] at h
  exact h
theorem and_m2 (a b : Nat) : (a &&& b) % 2 = (a % 2) &&& (b % 2) := by
  have h := Nat.and_mod_two_pow (a := a) (b := b) (n := 1)
  exact h
theorem b2 : ∀ p, p < 2 → ∀ q, q < 2 → p &&& q = p → p ≤ q := by decide
theorem b3 : ∀ q, q < 2 → 1 &&& q = q := by decide
/-- the next set below, among those within r -/
theorem sub_mask : ∀ (m r x y : Nat), x ≤ m → x &&& r = x → y &&& r = y → y < x → y ≤ (x - 1) &&& r := by
  intro m
  induction m with
  | zero => intro r x y hx _ _ hy; omega
  | succ m ih =>
    intro r x y hm hx hy hlt
    have x2 : (x / 2) &&& (r / 2) = x / 2 := by rw [← and_d2, hx]
    have y2 : (y / 2) &&& (r / 2) = y / 2 := by rw [← and_d2, hy]
    have y1 : (y % 2) &&& (r % 2) = y % 2 := by rw [← and_m2, hy]
    have z2 := and_d2 (x - 1) r
    have z1 := and_m2 (x - 1) r
    have dz := Nat.div_add_mod ((x - 1) &&& r) 2
    by_cases hp : x % 2 = 1
    · have e : (x - 1) / 2 = x / 2 := by omega
      rw [e, x2] at z2
      omega
    · have e : (x - 1) / 2 = x / 2 - 1 := by omega
      have e1 : (x - 1) % 2 = 1 := by omega
      rw [e] at z2
      rw [e1, b3 _ (Nat.mod_lt _ (by omega))] at z1
      have q := ih (r / 2) (x / 2) (y / 2) (by omega) x2 y2 (by omega)
      have q1 := b2 _ (Nat.mod_lt _ (by omega)) _ (Nat.mod_lt _ (by omega)) y1
      omega
/-- what is left of n -/
def rst (n s : Nat) : Nat := 2 ^ n - (s + 1)
theorem rst_tb {n s i : Nat} (hs : s < 2 ^ n) : (rst n s).testBit i = (decide (i < n) && !s.testBit i) := Nat.testBit_two_pow_sub_succ hs i
theorem dis_tb {a b i : Nat} (h : a &&& b = 0) (ha : a.testBit i = true) : b.testBit i = false := by
  have e : (a &&& b).testBit i = false := by rw [h]; exact Nat.zero_testBit i
  rw [Nat.testBit_and, ha] at e
  simpa using e
theorem lt_tb {n y i : Nat} (hy : y < 2 ^ n) (h : y.testBit i = true) : i < n := by
  apply Classical.byContradiction
  intro q
  have : y < 2 ^ i := Nat.lt_of_lt_of_le hy (Nat.pow_le_pow_right (by omega) (by omega))
  rw [Nat.testBit_lt_two_pow this] at h
  cases h
theorem in_rst {n s y : Nat} (hs : s < 2 ^ n) : (y < 2 ^ n ∧ y &&& s = 0) ↔ y &&& rst n s = y := by
  constructor
  · rintro ⟨h1, h2⟩
    apply Nat.eq_of_testBit_eq
    intro i
    rw [Nat.testBit_and, rst_tb hs]
    by_cases h : y.testBit i = true
    · rw [h, dis_tb h2 h]
      simp [lt_tb h1 h]
    · simp [h]
  · intro h
    refine ⟨?_, ?_⟩
    · have : y ≤ rst n s := by rw [← h]; exact Nat.and_le_right
      unfold rst at this
      have := Nat.one_le_two_pow (n := n)
      omega
    · apply Nat.eq_of_testBit_eq
      intro i
      rw [Nat.testBit_and, Nat.zero_testBit, ← h, Nat.testBit_and, rst_tb hs]
      by_cases q : s.testBit i = true
      · simp [q]
      · simp [q]
theorem or_lt' {n s y : Nat} (hs : s < 2 ^ n) (hy : y < 2 ^ n) : s ||| y < 2 ^ n := Nat.or_lt_two_pow hs hy
theorem or_gt {s y : Nat} (h : y &&& s = 0) (hy : 1 ≤ y) : s < s ||| y := by
  have h1 : s ≤ s ||| y := Nat.left_le_or
  have h2 : s ≠ s ||| y := fun e => by
    have : y = 0 := by
      apply Nat.eq_of_testBit_eq
      intro i
      rw [Nat.zero_testBit]
      by_cases q : y.testBit i = true
      · have e2 := dis_tb h q
        rw [e, Nat.testBit_or, q] at e2
        simp at e2
      · simpa using q
    omega
  omega
theorem pcN_or {s y : Nat} (h : y &&& s = 0) : ∀ k, pcN (s ||| y) k = pcN s k + pcN y k := by
  intro k
  induction k with
  | zero => rfl
  | succ k ih =>
    show pcN (s ||| y) k + (if (s ||| y).testBit k then 1 else 0) = (pcN s k + (if s.testBit k then 1 else 0)) + (pcN y k + (if y.testBit k then 1 else 0))
    rw [ih, Nat.testBit_or]
    by_cases q : y.testBit k = true
    · rw [q, dis_tb h q]
      simp
      omega
    · simp [q]
      omega
theorem pcN_po : ∀ y, y < 256 → 1 ≤ y → 1 ≤ pcN y 16 := by decide +kernel
theorem pcN_full : ∀ n, n ≤ 8 → pcN (2 ^ n - 1) 16 = n := by decide +kernel
theorem pcN_max : ∀ y, y < 256 → pcN y 16 ≤ 8 := by decide +kernel
/-! as ints -/
theorem n_or (a b : Nat) : Int32.ofNat a ||| Int32.ofNat b = Int32.ofNat (a ||| b) := by
  apply Int32.toBitVec_inj.1
  rw [Int32.toBitVec_or]
  show BitVec.ofNat 32 a ||| BitVec.ofNat 32 b = BitVec.ofNat 32 (a ||| b)
  rw [BitVec.ofNat_or]
theorem n_rst {n s : Nat} (hn : n ≤ 8) (hs : s < 2 ^ n) : Int32.ofNat (2 ^ n - 1) &&& (Int32.ofNat s ^^^ (-1)) = Int32.ofNat (rst n s) := by
  apply tb_ext
  intro i hi
  rw [tb_and, tb_not _ hi, tb_n hi, tb_n hi, tb_n hi, rst_tb hs, Nat.testBit_two_pow_sub_one]
theorem pc_n {y : Nat} (hy : y < 65536) : pc (Int32.ofNat y) = Int32.ofNat (pcN y 16) := by
  unfold pc
  have : (Int32.ofNat y).toBitVec.toNat = y := by
    show (BitVec.ofNat 32 y).toNat = y
    rw [BitVec.toNat_ofNat]
    omega
  rw [this]
theorem b16_n {y : Nat} (hy : y < 65536) : b16 (Int32.ofNat y) := fun i h1 h2 => by
  rw [tb_n h2]
  apply Nat.testBit_lt_two_pow
  have : 2 ^ 16 ≤ 2 ^ i := Nat.pow_le_pow_right (by omega) h1
  omega
theorem nar2 {k : Nat} (hk : k ≤ 99) : nar 2 (Int32.ofNat k) = Int32.ofNat k ∧ (Int32.ofNat k).toInt8.toInt32 = Int32.ofNat k := by
  have : ∀ k, k < 100 → nar 2 (Int32.ofNat k) = Int32.ofNat k ∧ (Int32.ofNat k).toInt8.toInt32 = Int32.ofNat k := by decide +kernel
  exact this k (by omega)
