set_option maxRecDepth 100000
/-! how many are in a set -/
variable {X : Nat → Option Ob} {ad : Nat → Nat} {B : Sw} {A A' : Av} {σ σ' : Cs} {τ : Tw} {F : Nat}
def pcN (n : Nat) : Nat → Nat
  | 0 => 0
  | k + 1 => pcN n k + (if n.testBit k then 1 else 0)
theorem and_split {a b M : Nat} (hb : b < 256) : (256 * a + b) &&& M = 256 * (a &&& (M / 256)) + (b &&& (M % 256)) := by
  have h1 : ((256 * a + b) &&& M) / 256 = a &&& (M / 256) := by
    have h := Nat.shiftRight_and_distrib (a := 256 * a + b) (b := M) (i := 8)
    simp only [Nat.shiftRight_eq_div_pow] at h
    have e : (256 * a + b) / 2 ^ 8 = a := by omega
    rw [e] at h
    exact h
  have h2 : ((256 * a + b) &&& M) % 256 = b &&& (M % 256) := by
    have h := Nat.and_mod_two_pow (a := 256 * a + b) (b := M) (n := 8)
    have e : (256 * a + b) % 2 ^ 8 = b := by omega
    rw [e] at h
    exact h
  have h3 := Nat.div_add_mod ((256 * a + b) &&& M) 256
  rw [h1, h2] at h3
  exact h3.symm
def u1 (l : Nat) : Nat := l - ((l / 2) &&& 85)
def u2 (b : Nat) : Nat := (b &&& 51) + ((b / 4) &&& 51)
def u3 (b : Nat) : Nat := (b + b / 16) &&& 15
theorem y1 : ∀ l, l < 256 → ∀ c, c < 2 → (l / 2 + 128 * c) &&& 85 = (l / 2) &&& 85 := by decide +kernel
theorem y2 : ∀ l, l < 256 → (l / 2) &&& 5592405 = (l / 2) &&& 85 ∧ (l / 2) &&& 85 ≤ l := by decide +kernel
theorem y3 : ∀ l, l < 256 → ∀ c, c < 4 → (l / 4 + 64 * c) &&& 51 = (l / 4) &&& 51 := by decide +kernel
theorem y4 : ∀ l, l < 256 → l &&& 3355443 = l &&& 51 ∧ (l / 4) &&& 3355443 = (l / 4) &&& 51 := by decide +kernel
theorem y5 : ∀ l, l < 256 → u1 l < 256 ∧ u2 (u1 l) < 69 ∧ u2 (u1 l) % 16 < 5 ∧ u3 (u2 (u1 l)) = pcN l 8 ∧ pcN l 8 ≤ 8 := by decide +kernel
theorem y6 : ∀ l, l < 69 → ∀ c, c < 5 → (l + l / 16 + 16 * c) &&& 15 = (l + l / 16) &&& 15 := by decide +kernel
theorem y7 : ∀ l, l < 69 → (l + l / 16) &&& 986895 = (l + l / 16) &&& 15 := by decide +kernel
theorem y8 : ∀ p, p < 9 → ∀ q, q < 9 → (256 * p + q + p) &&& 63 = q + p := by decide +kernel
def sw1 (n : Nat) : Nat := n - ((n >>> 1) &&& 1431655765)
def sw2 (m : Nat) : Nat := (m &&& 858993459) + ((m >>> 2) &&& 858993459)
def sw3 (m : Nat) : Nat := (m + (m >>> 4)) &&& 252645135
def sw4 (m : Nat) : Nat := m + (m >>> 8)
def sw5 (m : Nat) : Nat := m + (m >>> 16)
theorem sw1_b {h l : Nat} (hh : h < 256) (hl : l < 256) : (256 * h + l) >>> 1 &&& 1431655765 ≤ 256 * h + l ∧ sw1 (256 * h + l) = 256 * u1 h + u1 l := by
  have e : (256 * h + l) >>> 1 = 256 * (h / 2) + (l / 2 + 128 * (h % 2)) := by rw [Nat.shiftRight_eq_div_pow]; omega
  have e2 : (256 * h + l) >>> 1 &&& 1431655765 = 256 * ((h / 2) &&& 85) + ((l / 2) &&& 85) := by
    rw [e, and_split (by omega)]
    show 256 * ((h / 2) &&& 5592405) + ((l / 2 + 128 * (h % 2)) &&& 85) = _
    rw [(y2 h hh).1, y1 l hl _ (by omega)]
  have a1 := (y2 h hh).2
  have a2 := (y2 l hl).2
  unfold sw1 u1
  rw [e2]
  omega
theorem sw2_b {a b : Nat} (ha : a < 256) (hb : b < 256) : sw2 (256 * a + b) = 256 * u2 a + u2 b := by
  have e : (256 * a + b) >>> 2 = 256 * (a / 4) + (b / 4 + 64 * (a % 4)) := by rw [Nat.shiftRight_eq_div_pow]; omega
  unfold sw2 u2
  rw [e, and_split hb, and_split (by omega)]
  show 256 * (a &&& 3355443) + (b &&& 51) + (256 * ((a / 4) &&& 3355443) + ((b / 4 + 64 * (a % 4)) &&& 51)) = _
  rw [(y4 a ha).1, (y4 a ha).2, y3 b hb _ (by omega)]
  omega
theorem sw3_b {a b : Nat} (ha : a < 69) (hb : b < 69) (ha4 : a % 16 < 5) : sw3 (256 * a + b) = 256 * u3 a + u3 b := by
  have e : 256 * a + b + (256 * a + b) >>> 4 = 256 * (a + a / 16) + (b + b / 16 + 16 * (a % 16)) := by rw [Nat.shiftRight_eq_div_pow]; omega
  unfold sw3 u3
  rw [e, and_split (by omega)]
  show 256 * ((a + a / 16) &&& 986895) + ((b + b / 16 + 16 * (a % 16)) &&& 15) = _
  rw [y7 a ha, y6 b hb _ ha4]
theorem pc_split {h l : Nat} (hl : l < 256) : pcN (256 * h + l) 16 = pcN l 8 + pcN h 8 := by
  have t1 : ∀ k, k < 8 → (256 * h + l).testBit k = l.testBit k := fun k hk => by
    have := Nat.testBit_two_pow_mul_add h (b := l) (i := 8) hl k
    rw [if_pos hk] at this
    exact this
  have t2 : ∀ k, (256 * h + l).testBit (8 + k) = h.testBit k := fun k => by
    have := Nat.testBit_two_pow_mul_add h (b := l) (i := 8) hl (8 + k)
    rw [if_neg (by omega), Nat.add_sub_cancel_left] at this
    exact this
  have c1 : ∀ k, k ≤ 8 → pcN (256 * h + l) k = pcN l k := by
    intro k
    induction k with
    | zero => intro _; rfl
    | succ k ih =>
      intro hk
      show pcN (256 * h + l) k + _ = pcN l k + _
      rw [ih (by omega), t1 k (by omega)]
  have c2 : ∀ k, pcN (256 * h + l) (8 + k) = pcN l 8 + pcN h k := by
    intro k
    induction k with
    | zero => exact c1 8 (Nat.le_refl _)
    | succ k ih =>
      show pcN (256 * h + l) (8 + k) + (if (256 * h + l).testBit (8 + k) then 1 else 0) = pcN l 8 + (pcN h k + _)
      rw [ih, t2 k]
      omega
  exact c2 8
theorem sw_ok {n : Nat} (hn : n < 65536) : (n >>> 1) &&& 1431655765 ≤ n ∧ sw1 n < 65536 ∧ sw2 (sw1 n) < 65536 ∧ sw3 (sw2 (sw1 n)) < 65536 ∧ sw5 (sw4 (sw3 (sw2 (sw1 n)))) &&& 63 = pcN n 16 ∧ pcN n 16 ≤ 16 := by
  obtain ⟨h, l, hh, hl, rfl⟩ : ∃ h l, h < 256 ∧ l < 256 ∧ n = 256 * h + l := ⟨n / 256, n % 256, by omega, by omega, by omega⟩
  obtain ⟨a1, a2, a3, a4, a5⟩ := y5 h hh
  obtain ⟨b1, b2, b3, b4, b5⟩ := y5 l hl
  obtain ⟨e0, e1⟩ := sw1_b hh hl
  have e2 : sw2 (sw1 (256 * h + l)) = 256 * u2 (u1 h) + u2 (u1 l) := by rw [e1, sw2_b a1 b1]
  have e3 : sw3 (sw2 (sw1 (256 * h + l))) = 256 * pcN h 8 + pcN l 8 := by rw [e2, sw3_b a2 b2 a3, a4, b4]
  rw [e3, e2, e1, pc_split hl]
  refine ⟨e0, by omega, by omega, by omega, ?_, by omega⟩
  have e4 : sw4 (256 * pcN h 8 + pcN l 8) = 256 * pcN h 8 + pcN l 8 + pcN h 8 := by
    unfold sw4
    rw [Nat.shiftRight_eq_div_pow]
    omega
  have e5 : sw5 (256 * pcN h 8 + pcN l 8 + pcN h 8) = 256 * pcN h 8 + pcN l 8 + pcN h 8 := by
    unfold sw5
    rw [Nat.shiftRight_eq_div_pow]
    omega
  rw [e4, e5, y8 _ (by omega) _ (by omega)]
/-! the same, on ints -/
def pc (v : Int32) : Int32 := Int32.ofNat (pcN v.toBitVec.toNat 16)
theorem of_n (v : Int32) : v = Int32.ofNat v.toBitVec.toNat := by
  apply Int32.toBitVec_inj.1
  show v.toBitVec = BitVec.ofNat 32 v.toBitVec.toNat
  rw [BitVec.ofNat_toNat]
  simp
theorem n_and (a b : Nat) : Int32.ofNat a &&& Int32.ofNat b = Int32.ofNat (a &&& b) := by
  apply Int32.toBitVec_inj.1
  rw [Int32.toBitVec_and]
  show BitVec.ofNat 32 a &&& BitVec.ofNat 32 b = BitVec.ofNat 32 (a &&& b)
  rw [BitVec.ofNat_and]
theorem shr_bv {a s : Nat} (ha : a < 4294967296) : BitVec.ofNat 32 a >>> s = BitVec.ofNat 32 (a >>> s) := by
  apply BitVec.eq_of_toNat_eq
  have h1 : a >>> s ≤ a := by rw [Nat.shiftRight_eq_div_pow]; exact Nat.div_le_self _ _
  rw [BitVec.toNat_ushiftRight, BitVec.toNat_ofNat, BitVec.toNat_ofNat, Nat.mod_eq_of_lt (show a < 2 ^ 32 from ha), Nat.mod_eq_of_lt (show a >>> s < 2 ^ 32 by omega)]
theorem sr_1 {a : Nat} (ha : a < 4294967296) : ((Int32.ofNat a).toUInt32 >>> ((1 : Int32).toUInt32 &&& Int32.toUInt32 31)).toInt32 = Int32.ofNat (a >>> 1) := Int32.toBitVec_inj.1 (shr_bv ha)
theorem sr_2 {a : Nat} (ha : a < 4294967296) : ((Int32.ofNat a).toUInt32 >>> ((2 : Int32).toUInt32 &&& Int32.toUInt32 31)).toInt32 = Int32.ofNat (a >>> 2) := Int32.toBitVec_inj.1 (shr_bv ha)
theorem sr_4 {a : Nat} (ha : a < 4294967296) : ((Int32.ofNat a).toUInt32 >>> ((4 : Int32).toUInt32 &&& Int32.toUInt32 31)).toInt32 = Int32.ofNat (a >>> 4) := Int32.toBitVec_inj.1 (shr_bv ha)
theorem sr_8 {a : Nat} (ha : a < 4294967296) : ((Int32.ofNat a).toUInt32 >>> ((8 : Int32).toUInt32 &&& Int32.toUInt32 31)).toInt32 = Int32.ofNat (a >>> 8) := Int32.toBitVec_inj.1 (shr_bv ha)
theorem sr_16 {a : Nat} (ha : a < 4294967296) : ((Int32.ofNat a).toUInt32 >>> ((16 : Int32).toUInt32 &&& Int32.toUInt32 31)).toInt32 = Int32.ofNat (a >>> 16) := Int32.toBitVec_inj.1 (shr_bv ha)
theorem count_C {v : Int32} (hv : b16 v) : p_J15_bitCount F v = some (pc v) := by
  have hn := hv.lt
  obtain ⟨w0, w1, w2, w3, w4, w5⟩ := sw_ok hn
  have e := of_n v
  unfold pc
  generalize v.toBitVec.toNat = n at hn w0 w1 w2 w3 w4 w5 e ⊢
  subst e
  have b4 : sw4 (sw3 (sw2 (sw1 n))) < 140000 := by
    unfold sw4
    have : sw3 (sw2 (sw1 n)) >>> 8 ≤ sw3 (sw2 (sw1 n)) := by rw [Nat.shiftRight_eq_div_pow]; exact Nat.div_le_self _ _
    omega
  unfold p_J15_bitCount
  have k1 : (1431655765 : Int32) = Int32.ofNat 1431655765 := rfl
  have k2 : (858993459 : Int32) = Int32.ofNat 858993459 := rfl
  have k3 : (252645135 : Int32) = Int32.ofNat 252645135 := rfl
  have k4 : (63 : Int32) = Int32.ofNat 63 := rfl
  have s1 : Int32.ofNat n - Int32.ofNat (n >>> 1 &&& 1431655765) = Int32.ofNat (sw1 n) := i_sub (by unfold sw1; omega)
  have s2 : Int32.ofNat (sw1 n &&& 858993459) + Int32.ofNat (sw1 n >>> 2 &&& 858993459) = Int32.ofNat (sw2 (sw1 n)) := (Int32.ofNat_add _ _).symm
  have s3 : Int32.ofNat (sw2 (sw1 n)) + Int32.ofNat (sw2 (sw1 n) >>> 4) = Int32.ofNat (sw2 (sw1 n) + sw2 (sw1 n) >>> 4) := (Int32.ofNat_add _ _).symm
  have s4 : Int32.ofNat (sw3 (sw2 (sw1 n))) + Int32.ofNat (sw3 (sw2 (sw1 n)) >>> 8) = Int32.ofNat (sw4 (sw3 (sw2 (sw1 n)))) := (Int32.ofNat_add _ _).symm
  have s5 : Int32.ofNat (sw4 (sw3 (sw2 (sw1 n)))) + Int32.ofNat (sw4 (sw3 (sw2 (sw1 n))) >>> 16) = Int32.ofNat (sw5 (sw4 (sw3 (sw2 (sw1 n))))) := (Int32.ofNat_add _ _).symm
  have s3b : sw2 (sw1 n) + sw2 (sw1 n) >>> 4 &&& 252645135 = sw3 (sw2 (sw1 n)) := rfl
  rw [sr_1 (by omega), k1, n_and, nmE, s1, nmE, sr_2 (by omega), k2, n_and, n_and, s2, nmE, sr_4 (by omega), s3, k3, n_and, s3b, nmE, sr_8 (by omega), s4, nmE, sr_16 (by omega), s5, k4, n_and, w4]
theorem count_T (hF : 100 ≤ F) (v : Int32) : p_X9_bitsOf F v = some (pc v) := by
  unfold p_X9_bitsOf
  refine for_up (L := fun n i s => p_X9_bitsOf_L4 F v n s i) (N := 16) (Inv := fun k s => s = Int32.ofNat (pcN v.toBitVec.toNat k)) (Post := fun r => r = some (pc v)) ?_ ?_ 16 0 F 0 (Nat.zero_add _) (by omega) rfl
  · intro n k s hk e
    subst e
    refine Or.inl ⟨_, rfl, ?_⟩
    show p_X9_bitsOf_L4_b F v (p_X9_bitsOf_L4 F v n) _ (Int32.ofNat k) = p_X9_bitsOf_L4 F v n (Int32.ofNat (pcN v.toBitVec.toNat k + (if v.toBitVec.toNat.testBit k then 1 else 0))) _
    unfold p_X9_bitsOf_L4_b
    have h16 : ¬ (16 : Int32) ≤ Int32.ofNat k := by rw [show (16 : Int32) = Int32.ofNat 16 from rfl, c_le _ _ (by omega) (by omega)]; omega
    rw [if_neg h16, bit_of v (by omega), nmE, nmE]
    have e2 : tb v k = v.toBitVec.toNat.testBit k := rfl
    rw [e2]
    by_cases h : v.toBitVec.toNat.testBit k = true
    · rw [if_pos h, if_pos h, n_lp, n_lp]
    · rw [if_neg h, if_neg h, n_lp, n_lp]
  · intro n s e
    subst e
    show p_X9_bitsOf_L4_b F v (p_X9_bitsOf_L4 F v n) _ (Int32.ofNat 16) = _
    unfold p_X9_bitsOf_L4_b
    rw [if_pos (show (16 : Int32) ≤ Int32.ofNat 16 from Int32.le_refl _)]
    rfl
theorem pc_le {v : Int32} (hv : b16 v) : ∃ k, k ≤ 16 ∧ pc v = Int32.ofNat k := ⟨_, (sw_ok hv.lt).2.2.2.2.2, rfl⟩
