set_option maxRecDepth 100000
/-! sets as ints: their bits -/
variable {X : Nat → Option Ob} {ad : Nat → Nat} {B : Sw} {A A' : Av} {σ σ' : Cs} {τ : Tw} {F : Nat}
def tb (x : Int32) (i : Nat) : Bool := x.toBitVec.getLsbD i
theorem tb_ext {x y : Int32} (h : ∀ i, i < 32 → tb x i = tb y i) : x = y := Int32.toBitVec_inj.1 (BitVec.eq_of_getLsbD_eq fun i hi => h i hi)
theorem tb_or (x y : Int32) (i : Nat) : tb (x ||| y) i = (tb x i || tb y i) := by
  unfold tb
  rw [Int32.toBitVec_or, BitVec.getLsbD_or]
theorem tb_and (x y : Int32) (i : Nat) : tb (x &&& y) i = (tb x i && tb y i) := by
  unfold tb
  rw [Int32.toBitVec_and, BitVec.getLsbD_and]
theorem tb_not (x : Int32) {i : Nat} (hi : i < 32) : tb (x ^^^ (-1)) i = !tb x i := by
  unfold tb
  rw [Int32.toBitVec_xor, BitVec.getLsbD_xor]
  have h : ∀ j, j < 32 → (-1 : Int32).toBitVec.getLsbD j = true := by decide
  rw [h i hi]
  simp
theorem tb_0 (i : Nat) : tb 0 i = false := by
  unfold tb
  rw [Int32.toBitVec_zero]
  simp
theorem tb_m1 {i : Nat} (hi : i < 32) : tb (-1) i = true := by
  have h : ∀ j, j < 32 → tb (-1) j = true := by decide
  exact h i hi
theorem sh_n : ∀ k, k < 32 → ((Int32.ofNat k &&& 31).toBitVec.smod 32).toNat = k := by decide +kernel
theorem tb_shl (x : Int32) {k i : Nat} (hk : k < 32) (hi : i < 32) : tb (x <<< (Int32.ofNat k &&& 31)) i = (decide (k ≤ i) && tb x (i - k)) := by
  unfold tb
  rw [Int32.toBitVec_shiftLeft, BitVec.shiftLeft_eq', BitVec.getLsbD_shiftLeft]
  show (decide (i < 32) && !decide (i < ((Int32.ofNat k &&& 31).toBitVec.smod 32).toNat) && x.toBitVec.getLsbD (i - ((Int32.ofNat k &&& 31).toBitVec.smod 32).toNat)) = _
  rw [sh_n k hk]
  by_cases h : k ≤ i
  · have h2 : ¬ i < k := by omega
    simp [hi, h, h2]
  · have h2 : i < k := by omega
    simp [h, h2]
theorem tb_bit {k i : Nat} (hk : k < 32) (hi : i < 32) : tb (bit k) i = decide (i = k) := by
  unfold bit
  rw [tb_shl _ hk hi]
  have h1 : ∀ j, j < 32 → tb 1 j = decide (j = 0) := by decide
  rw [h1 _ (by omega)]
  by_cases h : i = k
  · subst h; simp
  · by_cases h2 : k ≤ i
    · have h3 : ¬ i - k = 0 := by omega
      simp [h, h2, h3]
    · simp [h, h2]
theorem tb_shr (x : Int32) {k : Nat} (hk : k < 32) : tb (x >>> (Int32.ofNat k &&& 31)) 0 = tb x k := by
  unfold tb
  rw [Int32.toBitVec_shiftRight]
  show (x.toBitVec.sshiftRight ((Int32.ofNat k &&& 31).toBitVec.smod 32).toNat).getLsbD 0 = _
  rw [sh_n k hk, BitVec.getLsbD_sshiftRight]
  have h : k + 0 < 32 := by omega
  simp [hk]
theorem and_1 (x : Int32) : x &&& 1 = if tb x 0 = true then 1 else 0 := by
  apply tb_ext
  intro i hi
  have h1 : ∀ j, j < 32 → tb 1 j = decide (j = 0) := by decide
  rw [tb_and, h1 i hi]
  by_cases h : i = 0
  · subst h
    by_cases h2 : tb x 0 = true
    · rw [if_pos h2, h2]
      rfl
    · rw [if_neg h2]
      have h3 : tb x 0 = false := by simpa using h2
      rw [h3]
      rfl
  · by_cases h2 : tb x 0 = true
    · rw [if_pos h2, h1 i hi]
      simp [h]
    · rw [if_neg h2, tb_0]
      simp [h]
/-- one bit read off a set -/
theorem bit_of (x : Int32) {k : Nat} (hk : k < 32) : (x >>> (Int32.ofNat k &&& 31)) &&& 1 = if tb x k = true then 1 else 0 := by
  rw [and_1, tb_shr x hk]
/-- a bit put elsewhere -/
theorem tb_mv (x : Int32) {k j i : Nat} (hk : k < 32) (hj : j < 32) (hi : i < 32) : tb (((x >>> (Int32.ofNat k &&& 31)) &&& 1) <<< (Int32.ofNat j &&& 31)) i = (decide (i = j) && tb x k) := by
  rw [bit_of x hk]
  by_cases h : tb x k = true
  · rw [if_pos h, h]
    have := tb_bit (k := j) (i := i) hj hi
    unfold bit at this
    rw [this]
    simp
  · have h3 : tb x k = false := by simpa using h
    rw [if_neg h, h3, tb_shl _ hj hi, tb_0]
    simp
theorem and_bit0 (x : Int32) {k : Nat} (hk : k < 32) : (x &&& bit k = 0) ↔ tb x k = false := by
  constructor
  · intro h
    have h2 := congrArg (fun z => tb z k) h
    simp only [tb_and, tb_0, tb_bit hk hk] at h2
    simpa using h2
  · intro h
    apply tb_ext
    intro i hi
    rw [tb_and, tb_bit hk hi, tb_0]
    by_cases e : i = k
    · subst e; rw [h]; rfl
    · simp [e]
theorem bit_ofNat {k : Nat} : (1 : Int32) <<< (Int32.ofNat k &&& 31) = bit k := rfl
/-! the distance of two heights -/
theorem ab_d {p q : Nat} (hp : p < 1000000) (hq : q < 1000000) : ab (Int32.ofNat p - Int32.ofNat q) = if Int32.ofNat p ≤ Int32.ofNat q then Int32.ofNat q - Int32.ofNat p else Int32.ofNat p - Int32.ofNat q := by
  have e : (Int32.ofNat p - Int32.ofNat q).toInt = (p : Int) - q := by
    rw [Int32.toInt_sub, i_tn (by omega), i_tn (by omega)]
    exact Int.bmod_eq_of_le (by omega) (by omega)
  unfold ab
  by_cases h : Int32.ofNat p ≤ Int32.ofNat q
  · have h' := (c_le _ _ (by omega) (by omega)).mp h
    rw [if_pos h]
    by_cases h2 : (0 : Int32) ≤ Int32.ofNat p - Int32.ofNat q
    · have h3 := Int32.le_iff_toInt_le.mp h2
      rw [e] at h3
      have h4 : (0 : Int32).toInt = 0 := rfl
      have h5 : p = q := by omega
      subst h5
      rw [if_pos h2]
    · rw [if_neg h2, Int32.zero_sub, Int32.neg_sub]
  · have h' : ¬ p ≤ q := fun z => h ((c_le _ _ (by omega) (by omega)).mpr z)
    have h2 : (0 : Int32) ≤ Int32.ofNat p - Int32.ofNat q := by
      rw [Int32.le_iff_toInt_le, e]
      have h4 : (0 : Int32).toInt = 0 := rfl
      omega
    rw [if_neg h, if_pos h2]
