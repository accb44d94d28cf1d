set_option maxRecDepth 100000
/-! small steps, third row -/
variable {X : Nat → Option Ob} {ad : Nat → Nat} {B : Sw} {A A' : Av} {σ σ' : Cs} {τ : Tw} {F : Nat}
/-- 4: house -/
theorem st_4 (hF : 1000000 ≤ F) (h : INV ad B A σ τ) (x : Nat → Int32) : ST F 4 x X ad B σ τ := by
  have hI := h
  obtain ⟨hE, hK, hC, hT⟩ := h
  have hA := hE.1
  have hB := hE.2.1
  have h1 : stC F 4 (ad 0) x (cM X ad σ B) = f_X0_house F (ad 0) (x 1) (x 2) (cM X ad σ B) := rfl
  have h2 : stT F 4 x τ = t_X9_house F (x 1) (x 2) τ := rfl
  unfold f_X0_house at h1
  unfold t_X9_house at h2
  rw [oc0 hE.1, Option.bind_some, isHouse_C hE, Option.bind_some, gd] at h1
  rw [isHouse_T hE.2.2 hT, Option.bind_some, gd] at h2
  by_cases hh : inN (x 1) (zN A 6 0)
  · obtain ⟨k, hk, e⟩ := hh.ex
    have lH := hE.2.2.H.2
    rw [if_pos hh, e] at h1 h2
    by_cases c0 : x 2 = 0
    · rw [if_pos c0] at h1 h2
      simp (disch := omega) only [Option.bind_some, Option.bind_none, nmE, n_pp, n_pl, n_lp, n_mm, n_ml, n_lm, csI_s, csI_n, csI_2, csA_1, csA_s, csA_n, csA_2, csL_1, csL_2, csL_s, csL_n, csL_3, csQ_1, csQ_2, csQ_3, csQ_s, csQ_n, nar0, c_le, c_le_l, c_le_r, c_lt, c_lt_l, c_lt_r, c_eq, c_eq_l, c_eq_r, if_true, if_false, if_pos, if_neg, o0_3 hA, hB.tw, hB.hn F, hB.hs F hk] at h1
      rw [xOf_T (by omega) hT] at h2
      exact ST.ro hI h1 h2 hC hT
    rw [if_neg c0] at h1 h2
    by_cases c1 : x 2 = 1
    · rw [if_pos c1] at h1 h2
      simp (disch := omega) only [Option.bind_some, Option.bind_none, nmE, n_pp, n_pl, n_lp, n_mm, n_ml, n_lm, csI_s, csI_n, csI_2, csA_1, csA_s, csA_n, csA_2, csL_1, csL_2, csL_s, csL_n, csL_3, csQ_1, csQ_2, csQ_3, csQ_s, csQ_n, nar0, c_le, c_le_l, c_le_r, c_lt, c_lt_l, c_lt_r, c_eq, c_eq_l, c_eq_r, if_true, if_false, if_pos, if_neg, o0_4 hA, o46_0 hA, a47 hA, hC.2.2.2.1] at h1
      rw [heightOf_T (by omega) hT] at h2
      exact ST.ro hI h1 h2 hC hT
    rw [if_neg c1] at h1 h2
    by_cases c2 : x 2 = 2
    · rw [if_pos c2] at h1 h2
      simp (disch := omega) only [Option.bind_some, Option.bind_none, nmE, n_pp, n_pl, n_lp, n_mm, n_ml, n_lm, csI_s, csI_n, csI_2, csA_1, csA_s, csA_n, csA_2, csL_1, csL_2, csL_s, csL_n, csL_3, csQ_1, csQ_2, csQ_3, csQ_s, csQ_n, nar0, c_le, c_le_l, c_le_r, c_lt, c_lt_l, c_lt_r, c_eq, c_eq_l, c_eq_r, if_true, if_false, if_pos, if_neg, o0_3 hA, hB.tw, hB.hn F, hB.hs F hk] at h1
      simp (disch := omega) only [Option.bind_some, Option.bind_none, nmE, n_pp, n_pl, n_lp, n_mm, n_ml, n_lm, taI_n, taI_l, tsA_n, tsA_l, nar0, twA_1, twA_s, twA_n, twA_2, twA_twA, tsI_s, tsI_n, tsI_2, c_le, c_le_l, c_le_r, c_lt, c_lt_l, c_lt_r, c_eq, c_eq_l, c_eq_r, if_true, if_false, if_pos, if_neg, hT.2 6 rfl] at h2
      exact ST.ro hI h1 h2 hC hT
    rw [if_neg c2] at h1 h2
    by_cases c3 : x 2 = 3
    · rw [if_pos c3] at h1 h2
      simp (disch := omega) only [Option.bind_some, Option.bind_none, nmE, n_pp, n_pl, n_lp, n_mm, n_ml, n_lm, csI_s, csI_n, csI_2, csA_1, csA_s, csA_n, csA_2, csL_1, csL_2, csL_s, csL_n, csL_3, csQ_1, csQ_2, csQ_3, csQ_s, csQ_n, nar0, c_le, c_le_l, c_le_r, c_lt, c_lt_l, c_lt_r, c_eq, c_eq_l, c_eq_r, if_true, if_false, if_pos, if_neg, o0_4 hA, o46_1 hA, a48 hA, hC.2.2.2.2.1] at h1
      simp (disch := omega) only [Option.bind_some, Option.bind_none, nmE, n_pp, n_pl, n_lp, n_mm, n_ml, n_lm, taI_n, taI_l, tsA_n, tsA_l, nar0, twA_1, twA_s, twA_n, twA_2, twA_twA, tsI_s, tsI_n, tsI_2, c_le, c_le_l, c_le_r, c_lt, c_lt_l, c_lt_r, c_eq, c_eq_l, c_eq_r, if_true, if_false, if_pos, if_neg, hT.2 7 rfl] at h2
      refine ST.ro hI (r := A 7 (30 + k)) ?_ h2 hC hT
      rw [h1]
      rcases hE.2.2.held (h := k) (by omega) with e | ⟨e, q1, q2, -⟩
      · rw [if_pos e, if_pos rfl, e]
      · have n2 : ¬ A 7 (30 + k) = -2 := by rw [e]; exact ofNat_ne_m2 (by omega)
        have n1 : ¬ A 7 (30 + k) = -1 := by rw [e]; exact ofNat_ne_m1 (by omega)
        rw [if_neg n2, if_neg n1]
    rw [if_neg c3] at h1 h2
    by_cases c4 : x 2 = 4
    · rw [if_pos c4] at h1 h2
      rw [Option.bind_some, rankOf_C hE σ hC (by omega)] at h1
      rw [rankOf_T hE.2.2 (by omega) hT] at h2
      exact ST.ro hI h1 h2 hC hT
    rw [if_neg c4] at h1 h2
    by_cases c5 : x 2 = 5
    · rw [if_pos c5] at h1 h2
      obtain ⟨σ', e1, g, b, e3⟩ := dueOf_C (X := X) (F := F) (by omega) hE hC hk
      obtain ⟨τ', e2, hT'⟩ := dueOf_T (F := F) (h := k) (by omega) hE.2.2 hB.2.2.2.2.2.2.2.2.2.1.c (by omega) hT
      rw [Option.bind_some, e1] at h1
      rw [e2] at h2
      exact ST.ro hI h1 h2 (by rw [e3]; exact (hC.a rfl).i rfl) hT'
    rw [if_neg c5] at h1 h2
    exact ST.ro hI h1 h2 hC hT
  · rw [if_neg hh] at h1 h2
    exact ST.ro hI h1 h2 hC hT
theorem rmO_n {a b : Nat} (ha : a < 2147483648) (hb : b < 2147483648) (h0 : 0 < b) : rmO (Int32.ofNat a) (Int32.ofNat b) = some (Int32.ofNat (a % b)) := by
  unfold rmO
  have hne : ¬ Int32.ofNat b = 0 := fun h => by
    have := (c_eq b 0 hb (by omega)).mp h
    omega
  rw [if_neg hne, ← Int32.ofNat_div (show a < 2 ^ 31 from ha) (show b < 2 ^ 31 from hb), ← Int32.ofNat_mul, ← Int32.ofNat_sub _ _ (Nat.div_mul_le_self a b)]
  refine congrArg (fun z => some (Int32.ofNat z)) ?_
  have := Nat.div_add_mod a b
  rw [Nat.mul_comm] at this
  omega
/-- 7: months -/
theorem st_7 (h : INV ad B A σ τ) (x : Nat → Int32) : ST F 7 x X ad B σ τ := by
  have hI := h
  obtain ⟨hE, hK, hC, hT⟩ := h
  have hA := hE.1
  have h1 : stC F 7 (ad 0) x (cM X ad σ B) = f_X0_months F (ad 0) (x 1) (cM X ad σ B) := rfl
  have h2 : stT F 7 x τ = t_X9_months F (x 1) τ := rfl
  have hv : (((0 : Int32).toInt ≤ (x 1).toInt ∧ (x 1).toInt ≤ (240 : Int32).toInt) ↔ inN (x 1) 241) := by
    show ((0 : Int) ≤ (x 1).toInt ∧ (x 1).toInt ≤ 240) ↔ (0 : Int) ≤ (x 1).toInt ∧ (x 1).toInt < 241
    omega
  unfold f_X0_months at h1
  unfold t_X9_months at h2
  rw [within_v (inN (x 1) 241) hv, Option.bind_some, gd] at h1
  rw [isIn_v (inN (x 1) 241) hv, Option.bind_some, gd] at h2
  by_cases hh : inN (x 1) 241
  · obtain ⟨k, hk, e⟩ := hh.ex
    have e0 : A 7 0 = Int32.ofNat (zN A 7 0) := hE.2.2.2.2.1.1.1.1
    have l0 : zN A 7 0 ≤ 11 := hE.2.2.2.2.1.1.1.2
    have er : rmO (Int32.ofNat (zN A 7 0 + k)) 12 = some (Int32.ofNat ((zN A 7 0 + k) % 12)) := rmO_n (b := 12) (by omega) (by omega) (by omega)
    have lm := Nat.mod_lt (zN A 7 0 + k) (show 0 < 12 by omega)
    rw [if_pos hh, e] at h1 h2
    simp (disch := omega) only [Option.bind_some, Option.bind_none, nmE, n_pp, n_pl, n_lp, n_mm, n_ml, n_lm, csI_s, csI_n, csI_2, csA_1, csA_s, csA_n, csA_2, csL_1, csL_2, csL_s, csL_n, csL_3, csQ_1, csQ_2, csQ_3, csQ_s, csQ_n, nar0, c_le, c_le_l, c_le_r, c_lt, c_lt_l, c_lt_r, c_eq, c_eq_l, c_eq_r, if_true, if_false, if_pos, if_neg, o0_4 hA, o46_3 hA, hC.1.2.2.2.2, e0, er, p46_3 hA] at h1
    simp (disch := omega) only [Option.bind_some, Option.bind_none, nmE, n_pp, n_pl, n_lp, n_mm, n_ml, n_lm, taI_n, taI_l, tsA_n, tsA_l, nar0, twA_1, twA_s, twA_n, twA_2, twA_twA, tsI_s, tsI_n, tsI_2, c_le, c_le_l, c_le_r, c_lt, c_lt_l, c_lt_r, c_eq, c_eq_l, c_eq_r, if_true, if_false, if_pos, if_neg, hT.2 7 rfl, e0, er, up_s] at h2
    have uL : ∀ j : Nat, 1 ≤ j → upd (A 7) 0 (Int32.ofNat ((zN A 7 0 + k) % 12)) j = A 7 j := fun j hj => up_n _ _ _ _ (by omega)
    have hL : ∀ j : Nat, ¬ liv j → upd (A 7) 0 (Int32.ofNat ((zN A 7 0 + k) % 12)) j = A 7 j := fun j hj => uL j (by unfold liv at hj; omega)
    obtain ⟨-, w2, w3, w4, w5, -⟩ := hE.2.2.2.2.1
    refine ST.rw hI h1 h2 (A' := aw A 7 (upd (A 7) 0 (Int32.ofNat ((zN A 7 0 + k) % 12)))) (hE.2.1.aw rfl) ?_ ?_ (by rw [← hT.2 7 rfl]; exact hT.W (by decide))
    · refine hE.2.2.hw hL ?_ ?_ ?_ ?_ ?_
      · rw [up_s]; exact isN.of (by omega) (by decide)
      · intro i hi; rw [uL _ (by omega)]; exact w2 i hi
      · intro i hi; rw [uL _ (by omega)]; exact w3 i hi
      · intro i j hi hj; rw [uL _ (by omega), uL _ (by omega)]; exact w4 i j hi hj
      · intro i hi; rw [uL _ (by omega)]; exact w5 i hi
    · refine hC.hw hL (sC.i (Or.inr rfl)) ?_ ?_ ?_ ?_
      · rw [csI_s, up_s]
      · intro i hi; rw [uL _ (by omega)]; exact hC.2.2.2.1 i hi
      · intro i hi; rw [uL _ (by omega)]; exact hC.2.2.2.2.1 i hi
      · intro i hi; rw [uL _ (by omega)]; exact hC.2.2.2.2.2.1 i hi
  · rw [if_neg hh] at h1 h2
    exact ST.ro hI h1 h2 hC hT
