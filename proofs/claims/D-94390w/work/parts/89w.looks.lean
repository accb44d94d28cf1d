set_option maxRecDepth 100000
/-! 24: looks -/
variable {X : Nat → Option Ob} {ad ad' : Nat → Nat} {B B' : Sw} {A A' : Av} {σ σ' : Cs} {τ : Tw} {F : Nat}
theorem sub_int {a b : Nat} (ha : a < 1000) (hb : b < 1000) : (Int32.ofNat a - Int32.ofNat b).toInt = (a : Int) - (b : Int) := by
  by_cases h : b ≤ a
  · rw [n_ss _ _ h, i_tn (by omega)]
    omega
  · have e : Int32.ofNat a - Int32.ofNat b = -(Int32.ofNat (b - a)) := by
      rw [← n_ss a b (by omega), Int32.neg_sub]
    rw [e, Int32.toInt_neg, i_tn (by omega)]
    have : (-((b - a : Nat) : Int)).bmod (2 ^ 32) = -((b - a : Nat) : Int) := by
      apply Int.bmod_eq_of_le <;> omega
    rw [this]
    omega
theorem mul_int {x y : Int32} (hx : -1000 < x.toInt ∧ x.toInt < 1000) (hy : -1000 < y.toInt ∧ y.toInt < 1000) : (x * y).toInt = x.toInt * y.toInt := by
  rw [Int32.toInt_mul]
  have h1 : (x.toInt * y.toInt).natAbs ≤ 999 * 999 := by
    rw [Int.natAbs_mul]
    exact Nat.mul_le_mul (by omega) (by omega)
  generalize x.toInt * y.toInt = w at h1 ⊢
  apply Int.bmod_eq_of_le <;> omega
/-- the line of sight, from either end -/
theorem sight {hk ha hb xk xa xb : Int} : ((hk - ha) * (xa - xb) < (hb - ha) * (xa - xk)) ↔ ((hk - hb) * (xa - xb) < (ha - hb) * (xk - xb)) := by
  have e : (hk - hb) * (xa - xb) - (ha - hb) * (xk - xb) = (hk - ha) * (xa - xb) - (hb - ha) * (xa - xk) := by
    simp only [Int.sub_mul, Int.mul_sub]
    omega
  omega
theorem lt_int {x y : Int32} : x < y ↔ x.toInt < y.toInt := Int32.lt_iff_toInt_lt
theorem le_int {x y : Int32} : x ≤ y ↔ x.toInt ≤ y.toInt := Int32.le_iff_toInt_le
theorem between_n {k a b : Nat} (hk : k < 1000) (ha : a < 1000) (hb : b < 1000) : t_X9_isBetween F (Int32.ofNat k) (Int32.ofNat a) (Int32.ofNat b) τ = some (if (a < k ∧ k < b) ∨ (b < k ∧ k < a) then 1 else 0) := by
  unfold t_X9_isBetween
  simp (disch := omega) only [Option.bind_some, Option.bind_none, nmE, n_pp, n_pl, n_lp, n_mm, n_ml, n_lm, taI_n, taI_l, tsA_n, tsA_l, nar0, twA_1, twA_s, twA_n, twA_2, twA_twA, tsI_s, tsI_n, tsI_2, c_le, c_le_l, c_le_r, c_lt, c_lt_l, c_lt_r, c_eq, c_eq_l, c_eq_r, if_true, if_false, if_pos, if_neg]
  by_cases h1 : k ≤ a
  · rw [if_pos h1]
    by_cases h2 : k ≤ b
    · rw [if_pos h2, if_neg (by omega)]
    · rw [if_neg h2]
      by_cases h3 : a ≤ k
      · rw [if_pos h3, if_neg (by omega)]
      · rw [if_neg h3, if_pos (by omega)]
  · rw [if_neg h1]
    by_cases h2 : k < b
    · rw [if_pos h2, if_pos (by omega)]
    · rw [if_neg h2]
      by_cases h3 : k ≤ b
      · rw [if_pos h3, if_neg (by omega)]
      · rw [if_neg h3]
        rw [if_neg (by omega)]
/-- below the line: the reference -/
theorem below_T (hW : WF A) (hT : TR A τ) {k a b : Nat} (hk : k < zN A 6 0) (ha : a < zN A 6 0) (hb : b < zN A 6 0) : ∃ P : Prop, ∃ _ : Decidable P, t_X9_isBelow F (Int32.ofNat k) (Int32.ofNat a) (Int32.ofNat b) τ = some (if P then 1 else 0) ∧ (zN A 6 (20 + 3 * a) < zN A 6 (20 + 3 * b) → (P ↔ ((zN A 7 (10 + k) : Int) - zN A 7 (10 + a)) * ((zN A 6 (20 + 3 * b) : Int) - zN A 6 (20 + 3 * a)) < ((zN A 7 (10 + b) : Int) - zN A 7 (10 + a)) * ((zN A 6 (20 + 3 * k) : Int) - zN A 6 (20 + 3 * a)))) ∧ (zN A 6 (20 + 3 * b) < zN A 6 (20 + 3 * a) → (P ↔ ((zN A 7 (10 + k) : Int) - zN A 7 (10 + b)) * ((zN A 6 (20 + 3 * a) : Int) - zN A 6 (20 + 3 * b)) < ((zN A 7 (10 + a) : Int) - zN A 7 (10 + b)) * ((zN A 6 (20 + 3 * k) : Int) - zN A 6 (20 + 3 * b)))) := by
  obtain ⟨eH, lH⟩ := hW.H
  have j31 : ∀ l r, l < zN A 6 0 → r < zN A 6 0 → t_X9_isBelow_j31 F (Int32.ofNat k) (Int32.ofNat l) (Int32.ofNat r) τ = some (if ((zN A 7 (10 + k) : Int) - zN A 7 (10 + l)) * ((zN A 6 (20 + 3 * r) : Int) - zN A 6 (20 + 3 * l)) < ((zN A 7 (10 + r) : Int) - zN A 7 (10 + l)) * ((zN A 6 (20 + 3 * k) : Int) - zN A 6 (20 + 3 * l)) then 1 else 0) := by
    intro l r hl hr
    obtain ⟨exk, lxk⟩ := hW.x hk
    obtain ⟨exl, lxl⟩ := hW.x hl
    obtain ⟨exr, lxr⟩ := hW.x hr
    obtain ⟨ehk, lhk⟩ := hW.ht (show k < 16 by omega)
    obtain ⟨ehl, lhl⟩ := hW.ht (show l < 16 by omega)
    obtain ⟨ehr, lhr⟩ := hW.ht (show r < 16 by omega)
    unfold t_X9_isBelow_j31
    rw [heightOf_T (h := k) (by omega) hT, Option.bind_some, heightOf_T (h := l) (by omega) hT, Option.bind_some, xOf_T (h := r) (by omega) hT, Option.bind_some, xOf_T (h := l) (by omega) hT, Option.bind_some, heightOf_T (h := r) (by omega) hT, Option.bind_some, Option.bind_some, xOf_T (h := k) (by omega) hT, Option.bind_some, Option.bind_some, exk, exl, exr, ehk, ehl, ehr]
    have s1 := sub_int (a := zN A 7 (10 + r)) (b := zN A 7 (10 + l)) (by omega) (by omega)
    have s2 := sub_int (a := zN A 6 (20 + 3 * k)) (b := zN A 6 (20 + 3 * l)) (by omega) (by omega)
    have s3 := sub_int (a := zN A 7 (10 + k)) (b := zN A 7 (10 + l)) (by omega) (by omega)
    have s4 := sub_int (a := zN A 6 (20 + 3 * r)) (b := zN A 6 (20 + 3 * l)) (by omega) (by omega)
    have m1 := mul_int (x := Int32.ofNat (zN A 7 (10 + r)) - Int32.ofNat (zN A 7 (10 + l))) (y := Int32.ofNat (zN A 6 (20 + 3 * k)) - Int32.ofNat (zN A 6 (20 + 3 * l))) (by rw [s1]; omega) (by rw [s2]; omega)
    have m2 := mul_int (x := Int32.ofNat (zN A 7 (10 + k)) - Int32.ofNat (zN A 7 (10 + l))) (y := Int32.ofNat (zN A 6 (20 + 3 * r)) - Int32.ofNat (zN A 6 (20 + 3 * l))) (by rw [s3]; omega) (by rw [s4]; omega)
    rw [s1, s2] at m1
    rw [s3, s4] at m2
    have key := le_int (x := (Int32.ofNat (zN A 7 (10 + r)) - Int32.ofNat (zN A 7 (10 + l))) * (Int32.ofNat (zN A 6 (20 + 3 * k)) - Int32.ofNat (zN A 6 (20 + 3 * l)))) (y := (Int32.ofNat (zN A 7 (10 + k)) - Int32.ofNat (zN A 7 (10 + l))) * (Int32.ofNat (zN A 6 (20 + 3 * r)) - Int32.ofNat (zN A 6 (20 + 3 * l))))
    rw [m1, m2] at key
    by_cases h : ((zN A 7 (10 + k) : Int) - zN A 7 (10 + l)) * ((zN A 6 (20 + 3 * r) : Int) - zN A 6 (20 + 3 * l)) < ((zN A 7 (10 + r) : Int) - zN A 7 (10 + l)) * ((zN A 6 (20 + 3 * k) : Int) - zN A 6 (20 + 3 * l))
    · rw [if_pos h, if_neg (fun q => by have := key.1 q; omega)]
    · rw [if_neg h, if_pos (key.2 (by omega))]
  obtain ⟨exa, lxa⟩ := hW.x ha
  obtain ⟨exb, lxb⟩ := hW.x hb
  have st : t_X9_isBelow F (Int32.ofNat k) (Int32.ofNat a) (Int32.ofNat b) τ = if zN A 6 (20 + 3 * b) ≤ zN A 6 (20 + 3 * a) then t_X9_isBelow_j18 F (Int32.ofNat k) (Int32.ofNat a) (Int32.ofNat b) (Int32.ofNat b) τ else t_X9_isBelow_j18 F (Int32.ofNat k) (Int32.ofNat a) (Int32.ofNat b) (Int32.ofNat a) τ := by
    unfold t_X9_isBelow
    rw [xOf_T (h := a) (by omega) hT, Option.bind_some, xOf_T (h := b) (by omega) hT, Option.bind_some, exa, exb]
    simp (disch := omega) only [Option.bind_some, Option.bind_none, nmE, n_pp, n_pl, n_lp, n_mm, n_ml, n_lm, taI_n, taI_l, tsA_n, tsA_l, nar0, twA_1, twA_s, twA_n, twA_2, twA_twA, tsI_s, tsI_n, tsI_2, c_le, c_le_l, c_le_r, c_lt, c_lt_l, c_lt_r, c_eq, c_eq_l, c_eq_r, if_true, if_false, if_pos, if_neg]
  by_cases h : zN A 6 (20 + 3 * b) ≤ zN A 6 (20 + 3 * a)
  · rw [if_pos h] at st
    unfold t_X9_isBelow_j18 at st
    by_cases e : b = a
    · subst e
      rw [if_pos rfl, j31 b b hb hb] at st
      exact ⟨_, _, st, fun q => by omega, fun q => by omega⟩
    · rw [if_neg (fun q => e ((c_eq b a (by omega) (by omega)).1 q)), j31 b a hb ha] at st
      exact ⟨_, _, st, fun q => by omega, fun q => Iff.rfl⟩
  · rw [if_neg h] at st
    unfold t_X9_isBelow_j18 at st
    rw [if_pos rfl, j31 a b ha hb] at st
    exact ⟨_, _, st, fun q => Iff.rfl, fun q => by omega⟩
