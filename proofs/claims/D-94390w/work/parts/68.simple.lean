set_option maxRecDepth 100000
/-! the small steps -/
variable {X : Nat → Option Ob} {ad : Nat → Nat} {B : Sw} {A : Av} {σ : Cs} {τ : Tw} {F : Nat}
theorem i_m1 {k : Nat} (hk : k < 2147483648) : (Int32.ofNat k - 1).toInt = (k : Int) - 1 := by
  rw [Int32.toInt_sub, i_tn hk]
  show ((k : Int) - 1).bmod (2 ^ 32) = _
  exact Int.bmod_eq_of_le (by omega) (by omega)
theorem guard3 {x : Int32} {N : Nat} (hN : N < 2147483648) : (if x < 0 then (some 0 : Option Int32) else if Int32.ofNat N ≤ x then some 0 else some 1) = some (if inN x N then 1 else 0) := by
  by_cases h1 : x < 0
  · have h2 := Int32.lt_iff_toInt_lt.mp h1
    have h3 : (0 : Int32).toInt = 0 := rfl
    rw [if_pos h1, if_neg (fun z => by have := z.1; omega)]
  · have h2 := Int32.le_iff_toInt_le.mp (Int32.not_lt.mp h1)
    have h3 : (0 : Int32).toInt = 0 := rfl
    rw [if_neg h1]
    by_cases h4 : Int32.ofNat N ≤ x
    · have h5 := Int32.le_iff_toInt_le.mp h4
      rw [i_tn hN] at h5
      rw [if_pos h4, if_neg (fun z => by have := z.2; omega)]
    · have h5 := Int32.lt_iff_toInt_lt.mp (Int32.not_le.mp h4)
      rw [i_tn hN] at h5
      rw [if_neg h4, if_pos ⟨by omega, h5⟩]
theorem within_N {x : Int32} {N : Nat} (hN : N < 2147483648) : p_X0_within F x 0 (Int32.ofNat N - 1) = some (if inN x N then 1 else 0) := within_v _ (by
  rw [i_m1 hN]
  show ((0 : Int) ≤ x.toInt ∧ _) ↔ (0 : Int) ≤ x.toInt ∧ _
  omega)
theorem isIn_v {x lo hi : Int32} (P : Prop) [Decidable P] (h : (lo.toInt ≤ x.toInt ∧ x.toInt ≤ hi.toInt) ↔ P) : p_X9_isIn F x lo hi = some (if P then 1 else 0) := within_v (F := F) P h
theorem EV.H {hE : EV ad B A} : A 6 0 = Int32.ofNat (zN A 6 0) ∧ zN A 6 0 ≤ 16 := hE.2.2.1.1.1
theorem houses_C (hE : EV ad B A) (σ : Cs) : f_X0_houses F (ad 0) (cM X ad σ B) = some (Int32.ofNat (zN A 6 0)) := by
  obtain ⟨hA, hB, hW⟩ := hE
  unfold f_X0_houses
  simp (disch := omega) only [Option.bind_some, Option.bind_none, nmE, n_pp, n_pl, n_lp, n_mm, n_ml, n_lm, csI_s, csI_n, csI_2, csA_1, csA_s, csA_n, csA_2, csL_1, csL_2, csL_s, csL_n, csL_3, csQ_1, csQ_2, csQ_3, csQ_s, csQ_n, nar0, c_le, c_le_l, c_le_r, c_lt, c_lt_l, c_lt_r, c_eq, c_eq_l, c_eq_r, if_true, if_false, if_pos, if_neg, o0_3 hA, hB.tw, hB.hn F]
theorem isHouse_C (hE : EV ad B A) (σ : Cs) (x : Int32) : f_X0_isHouse F (ad 0) x (cM X ad σ B) = some (if inN x (zN A 6 0) then 1 else 0) := by
  have h16 := hE.2.2.1.1.1.2
  have h16 : zN A 6 0 ≤ 16 := h16
  unfold f_X0_isHouse
  rw [oc0 hE.1, Option.bind_some, houses_C hE, Option.bind_some, within_N (by omega), Option.bind_some]
  by_cases h : inN x (zN A 6 0)
  · rw [if_pos h]
    rfl
  · rw [if_neg h]
    rfl
theorem isHouse_T (hW : WF A) (hT : TR A τ) (x : Int32) : t_X9_isHouse F x τ = some (if inN x (zN A 6 0) then 1 else 0) := by
  obtain ⟨e, h16⟩ := hW.1.1.1
  have e : A 6 0 = Int32.ofNat (zN A 6 0) := e
  have h16 : zN A 6 0 ≤ 16 := h16
  unfold t_X9_isHouse
  simp (disch := omega) only [Option.bind_some, Option.bind_none, nmE, n_pp, n_pl, n_lp, n_mm, n_ml, n_lm, taI_n, taI_l, tsA_n, tsA_l, nar0, twA_1, twA_s, twA_n, twA_2, twA_twA, tsI_s, tsI_n, tsI_2, c_le, c_le_l, c_le_r, c_lt, c_lt_l, c_lt_r, c_eq, c_eq_l, c_eq_r, if_true, if_false, if_pos, if_neg, hT.2 6 rfl]
  rw [e]
  exact guard3 (by omega)
theorem isOffice_C (hE : EV ad B A) (σ : Cs) (x : Int32) : f_X0_isOffice F (ad 0) x (cM X ad σ B) = some (if inN x (zN A 6 1) then 1 else 0) := by
  obtain ⟨hA, hB, hW⟩ := hE
  obtain ⟨e, h16⟩ := hW.1.1.2.1
  have e : A 6 1 = Int32.ofNat (zN A 6 1) := e
  have h16 : zN A 6 1 ≤ 12 := h16
  unfold f_X0_isOffice
  simp (disch := omega) only [Option.bind_some, Option.bind_none, nmE, n_pp, n_pl, n_lp, n_mm, n_ml, n_lm, csI_s, csI_n, csI_2, csA_1, csA_s, csA_n, csA_2, csL_1, csL_2, csL_s, csL_n, csL_3, csQ_1, csQ_2, csQ_3, csQ_s, csQ_n, nar0, c_le, c_le_l, c_le_r, c_lt, c_lt_l, c_lt_r, c_eq, c_eq_l, c_eq_r, if_true, if_false, if_pos, if_neg, o0_3 hA, hB.tw]
  rw [e, within_N (by omega), Option.bind_some]
  by_cases h : inN x (zN A 6 1)
  · rw [if_pos h]
    rfl
  · rw [if_neg h]
    rfl
theorem isOffice_T (hW : WF A) (hT : TR A τ) (x : Int32) : t_X9_isOffice F x τ = some (if inN x (zN A 6 1) then 1 else 0) := by
  obtain ⟨e, h16⟩ := hW.1.1.2.1
  have e : A 6 1 = Int32.ofNat (zN A 6 1) := e
  have h16 : zN A 6 1 ≤ 12 := h16
  unfold t_X9_isOffice
  simp (disch := omega) only [Option.bind_some, Option.bind_none, nmE, n_pp, n_pl, n_lp, n_mm, n_ml, n_lm, taI_n, taI_l, tsA_n, tsA_l, nar0, twA_1, twA_s, twA_n, twA_2, twA_twA, tsI_s, tsI_n, tsI_2, c_le, c_le_l, c_le_r, c_lt, c_lt_l, c_lt_r, c_eq, c_eq_l, c_eq_r, if_true, if_false, if_pos, if_neg, hT.2 6 rfl]
  rw [e]
  exact guard3 (by omega)
theorem isHour_C (x : Int32) : p_X0_isHour F x = some (if inN x 24 then 1 else 0) := by
  unfold p_X0_isHour
  rw [within_v (inN x 24) (by
    show ((0 : Int) ≤ x.toInt ∧ x.toInt ≤ 23) ↔ (0 : Int) ≤ x.toInt ∧ x.toInt < 24
    omega), Option.bind_some]
  by_cases h : inN x 24
  · rw [if_pos h]
    rfl
  · rw [if_neg h]
    rfl
theorem isHour_T (x : Int32) : p_X9_isHour F x = some (if inN x 24 then 1 else 0) := guard3 (N := 24) (by decide)
theorem isWind_C (x : Int32) : p_X0_isWind F x = some (if inN x 100 then 1 else 0) := by
  unfold p_X0_isWind
  rw [within_v (inN x 100) (by
    show ((0 : Int) ≤ x.toInt ∧ x.toInt ≤ 99) ↔ (0 : Int) ≤ x.toInt ∧ x.toInt < 100
    omega), Option.bind_some]
  by_cases h : inN x 100
  · rw [if_pos h]
    rfl
  · rw [if_neg h]
    rfl
theorem isWind_T (x : Int32) : p_X9_isWind F x = some (if inN x 100 then 1 else 0) := guard3 (N := 100) (by decide)
/-- a guard -/
theorem gd {α : Type} {P : Prop} [Decidable P] {a b : α} : (if (if P then (1 : Int32) else 0) = 0 then a else b) = if P then b else a := by
  by_cases h : P
  · rw [if_pos h, if_pos h]
    rfl
  · rw [if_neg h, if_neg h]
    rfl
theorem gs {P : Prop} [Decidable P] {a b : Int32} : (if P then a else b) = (if P then a else b) := rfl
theorem st_b {α : Type} {f : Option Int32} {μ : α} {r : Int32} (h : f = some r) : (Option.bind f fun r => some (r, μ)) = some (r, μ) := by
  rw [h]
  rfl
theorem nif_n {α β : Type} {n : Option β} {f : α → Option β} : nif (some none) n f = n := rfl
theorem nif_s {α β : Type} {n : Option β} {f : α → Option β} {a : α} : nif (some (some a)) n f = f a := rfl
/-- 3: place -/
theorem st_3 (h : INV ad B A σ τ) (x : Nat → Int32) : ST F 3 x X ad B σ τ := by
  obtain ⟨hE, hK, hC, hT⟩ := h
  have c : f_X0_place F (ad 0) (cM X ad σ B) = some (A 0 9) := by
    unfold f_X0_place
    simp (disch := omega) only [Option.bind_some, Option.bind_none, nmE, n_pp, n_pl, n_lp, n_mm, n_ml, n_lm, csI_s, csI_n, csI_2, csA_1, csA_s, csA_n, csA_2, csL_1, csL_2, csL_s, csL_n, csL_3, csQ_1, csQ_2, csQ_3, csQ_s, csQ_n, nar0, c_le, c_le_l, c_le_r, c_lt, c_lt_l, c_lt_r, c_eq, c_eq_l, c_eq_r, if_true, if_false, if_pos, if_neg, o0_2 hE.1, hC.1.2.1]
  have t : t_X9_place F τ = some (A 0 9) := by
    unfold t_X9_place
    rw [hT.1 9 rfl]
  exact ST.ro ⟨hE, hK, hC, hT⟩ (st_b c) (st_b t) hC hT
/-- 8: tide -/
theorem st_8 (hF : 1000000 ≤ F) (h : INV ad B A σ τ) (x : Nat → Int32) : ST F 8 x X ad B σ τ := by
  obtain ⟨hE, hK, hC, hT⟩ := h
  have h1 : stC F 8 (ad 0) x (cM X ad σ B) = f_X0_tide F (ad 0) (x 1) (cM X ad σ B) := rfl
  have h2 : stT F 8 x τ = t_X9_tide F (x 1) τ := rfl
  unfold f_X0_tide at h1
  unfold t_X9_tide at h2
  rw [isHour_C, Option.bind_some, gd] at h1
  rw [isHour_T, Option.bind_some, gd] at h2
  by_cases hh : inN (x 1) 24
  · rw [if_pos hh] at h1 h2
    obtain ⟨σ', e1, g, b, e3⟩ := tideAt_C (X := X) (F := F) (hour := x 1) (by omega) hE hC
    obtain ⟨τ', e2, hT'⟩ := tideOf_T (F := F) (hour := x 1) (by omega) hE.2.1.2.2.2.2.2.2.2.2.1.c hT
    rw [oc0 hE.1, Option.bind_some, e1] at h1
    rw [e2] at h2
    exact ST.ro ⟨hE, hK, hC, hT⟩ h1 h2 (by rw [e3]; exact (hC.a rfl).i rfl) hT'
  · rw [if_neg hh] at h1 h2
    exact ST.ro ⟨hE, hK, hC, hT⟩ h1 h2 hC hT
/-- 26: sway -/
theorem st_26 (hF : 1000000 ≤ F) (h : INV ad B A σ τ) (x : Nat → Int32) : ST F 26 x X ad B σ τ := by
  obtain ⟨hE, hK, hC, hT⟩ := h
  have h1 : stC F 26 (ad 0) x (cM X ad σ B) = f_X0_sway F (ad 0) (x 1) (x 2) (cM X ad σ B) := rfl
  have h2 : stT F 26 x τ = t_X9_sway F (x 1) (x 2) τ := rfl
  unfold f_X0_sway at h1
  unfold t_X9_sway at h2
  rw [oc0 hE.1, Option.bind_some, isHouse_C hE, Option.bind_some, gd] at h1
  rw [isHouse_T hE.2.2 hT, Option.bind_some, gd] at h2
  by_cases hh : inN (x 1) (zN A 6 0)
  · rw [if_pos hh, isWind_C, Option.bind_some, gd] at h1
    rw [if_pos hh, isWind_T, Option.bind_some, gd] at h2
    by_cases hw : inN (x 2) 100
    · obtain ⟨k, hk, e⟩ := hh.ex
      have h16 : zN A 6 0 ≤ 16 := hE.2.2.1.1.1.2
      obtain ⟨σ', e1, g, b, e3, -⟩ := swayOf_C (X := X) (F := F) (h := k) (wind := x 2) (by omega) hE hC hk
      obtain ⟨τ', e2, hT'⟩ := swayOf_T (F := F) (h := k) (wind := x 2) (by omega) hE.2.2 hE.2.1.2.2.2.2.2.2.2.2.2.2.c (by omega) hT
      rw [if_pos hw, Option.bind_some, e, e1] at h1
      rw [if_pos hw, e, e2] at h2
      exact ST.ro ⟨hE, hK, hC, hT⟩ h1 h2 (by rw [e3]; exact (hC.a rfl).i rfl) hT'
    · rw [if_neg hw] at h1 h2
      exact ST.ro ⟨hE, hK, hC, hT⟩ h1 h2 hC hT
  · rw [if_neg hh] at h1 h2
    exact ST.ro ⟨hE, hK, hC, hT⟩ h1 h2 hC hT
theorem CR.nw (hC : CR ad B A σ) : σ.1 52 = Int32.ofNat (zN A 7 1) := hC.2.2.2.2.2.2.2.2.2.1.1
theorem CR.nl (hC : CR ad B A σ) : σ.1 62 = Int32.ofNat (zN A 7 2) := hC.2.2.2.2.2.2.2.2.2.2.1.1
theorem CR.sl (hC : CR ad B A σ) : ∀ s, s < 2 → (A 18 (s + 1) = 0 ∧ σ.2.2.2 9 s = none) ∨ (A 18 (s + 1) = 1 ∧ ∃ a, σ.2.2.2 9 s = some a ∧ SB B a (rowL A (s + 1))) := hC.2.2.2.2.2.2.2.2.2.2.2
theorem slotN (hA : AdOK ad B) (hC : CR ad B A σ) : (A 18 1 = 0 ∧ aQ (cM X ad σ B) 7 (ad 9) 0 = some none ∨ A 18 1 = 1 ∧ ∃ a, aQ (cM X ad σ B) 7 (ad 9) 0 = some (some a)) ∧ (A 18 2 = 0 ∧ aQ (cM X ad σ B) 7 (ad 9) 1 = some none ∨ A 18 2 = 1 ∧ ∃ a, aQ (cM X ad σ B) 7 (ad 9) 1 = some (some a)) := by
  have q0 : aQ (cM X ad σ B) 7 (ad 9) 0 = some (σ.2.2.2 9 0) := q9q hA σ 0 (by decide)
  have q1 : aQ (cM X ad σ B) 7 (ad 9) 1 = some (σ.2.2.2 9 1) := q9q hA σ 1 (by decide)
  constructor
  · rcases hC.sl 0 (by decide) with ⟨a0, b0⟩ | ⟨a0, y0, b0, -⟩
    · exact Or.inl ⟨a0, by rw [q0, b0]⟩
    · exact Or.inr ⟨a0, y0, by rw [q0, b0]⟩
  · rcases hC.sl 1 (by decide) with ⟨a0, b0⟩ | ⟨a0, y0, b0, -⟩
    · exact Or.inl ⟨a0, by rw [q1, b0]⟩
    · exact Or.inr ⟨a0, y0, by rw [q1, b0]⟩
/-- 42: count -/
theorem count_CT (hE : EV ad B A) (hC : CR ad B A σ) (hT : TR A τ) (x : Int32) : ∃ r, f_X0_count F (ad 0) x (cM X ad σ B) = some r ∧ t_X9_count F x τ = some r := by
  have hA := hE.1
  have hB := hE.2.1
  have hW := hE.2.2
  obtain ⟨⟨e0, -⟩, -, ⟨e3, -⟩, -, ⟨e5, -⟩, -, -, ⟨e8, -⟩, ⟨e9, -⟩, -⟩ := hW.1.1
  have e0 : A 6 0 = Int32.ofNat (zN A 6 0) := e0
  have e3 : A 6 3 = Int32.ofNat (zN A 6 3) := e3
  have e5 : A 6 5 = Int32.ofNat (zN A 6 5) := e5
  have e8 : A 6 8 = Int32.ofNat (zN A 6 8) := e8
  have e9 : A 6 9 = Int32.ofNat (zN A 6 9) := e9
  obtain ⟨⟨l0, -⟩, ⟨l1, -⟩, ⟨l2, -⟩⟩ := hW.2.2.1.1
  have l1 : A 7 1 = Int32.ofNat (zN A 7 1) := l1
  have l2 : A 7 2 = Int32.ofNat (zN A 7 2) := l2
  obtain ⟨c0, c9, c40, c50, c43⟩ := hC.1
  unfold f_X0_count t_X9_count
  by_cases h0 : x = 0
  · refine ⟨Int32.ofNat (zN A 6 0), ?_, ?_⟩
    · rw [if_pos h0]
      simp (disch := omega) only [Option.bind_some, Option.bind_none, nmE, n_pp, n_pl, n_lp, n_mm, n_ml, n_lm, csI_s, csI_n, csI_2, csA_1, csA_s, csA_n, csA_2, csL_1, csL_2, csL_s, csL_n, csL_3, csQ_1, csQ_2, csQ_3, csQ_s, csQ_n, nar0, c_le, c_le_l, c_le_r, c_lt, c_lt_l, c_lt_r, c_eq, c_eq_l, c_eq_r, if_true, if_false, if_pos, if_neg, oc0 hA, houses_C hE]
    · rw [if_pos h0]
      simp (disch := omega) only [Option.bind_some, Option.bind_none, nmE, n_pp, n_pl, n_lp, n_mm, n_ml, n_lm, taI_n, taI_l, tsA_n, tsA_l, nar0, twA_1, twA_s, twA_n, twA_2, twA_twA, tsI_s, tsI_n, tsI_2, c_le, c_le_l, c_le_r, c_lt, c_lt_l, c_lt_r, c_eq, c_eq_l, c_eq_r, if_true, if_false, if_pos, if_neg, hT.2 6 rfl, e0]
  by_cases h1 : x = 1
  · refine ⟨A 6 1, ?_, ?_⟩
    · rw [if_neg h0, if_pos h1]
      simp (disch := omega) only [Option.bind_some, Option.bind_none, nmE, n_pp, n_pl, n_lp, n_mm, n_ml, n_lm, csI_s, csI_n, csI_2, csA_1, csA_s, csA_n, csA_2, csL_1, csL_2, csL_s, csL_n, csL_3, csQ_1, csQ_2, csQ_3, csQ_s, csQ_n, nar0, c_le, c_le_l, c_le_r, c_lt, c_lt_l, c_lt_r, c_eq, c_eq_l, c_eq_r, if_true, if_false, if_pos, if_neg, o0_3 hA, hB.tw]
    · rw [if_neg h0, if_pos h1]
      simp (disch := omega) only [Option.bind_some, Option.bind_none, nmE, n_pp, n_pl, n_lp, n_mm, n_ml, n_lm, taI_n, taI_l, tsA_n, tsA_l, nar0, twA_1, twA_s, twA_n, twA_2, twA_twA, tsI_s, tsI_n, tsI_2, c_le, c_le_l, c_le_r, c_lt, c_lt_l, c_lt_r, c_eq, c_eq_l, c_eq_r, if_true, if_false, if_pos, if_neg, hT.2 6 rfl]
  by_cases h2 : x = 2
  · refine ⟨Int32.ofNat (zN A 6 3), ?_, ?_⟩
    · rw [if_neg h0, if_neg h1, if_pos h2]
      simp (disch := omega) only [Option.bind_some, Option.bind_none, nmE, n_pp, n_pl, n_lp, n_mm, n_ml, n_lm, csI_s, csI_n, csI_2, csA_1, csA_s, csA_n, csA_2, csL_1, csL_2, csL_s, csL_n, csL_3, csQ_1, csQ_2, csQ_3, csQ_s, csQ_n, nar0, c_le, c_le_l, c_le_r, c_lt, c_lt_l, c_lt_r, c_eq, c_eq_l, c_eq_r, if_true, if_false, if_pos, if_neg, o0_3 hA, hB.tw, hB.sn F]
    · rw [if_neg h0, if_neg h1, if_pos h2]
      simp (disch := omega) only [Option.bind_some, Option.bind_none, nmE, n_pp, n_pl, n_lp, n_mm, n_ml, n_lm, taI_n, taI_l, tsA_n, tsA_l, nar0, twA_1, twA_s, twA_n, twA_2, twA_twA, tsI_s, tsI_n, tsI_2, c_le, c_le_l, c_le_r, c_lt, c_lt_l, c_lt_r, c_eq, c_eq_l, c_eq_r, if_true, if_false, if_pos, if_neg, hT.2 6 rfl, e3]
  by_cases h3 : x = 3
  · refine ⟨A 6 4, ?_, ?_⟩
    · rw [if_neg h0, if_neg h1, if_neg h2, if_pos h3]
      simp (disch := omega) only [Option.bind_some, Option.bind_none, nmE, n_pp, n_pl, n_lp, n_mm, n_ml, n_lm, csI_s, csI_n, csI_2, csA_1, csA_s, csA_n, csA_2, csL_1, csL_2, csL_s, csL_n, csL_3, csQ_1, csQ_2, csQ_3, csQ_s, csQ_n, nar0, c_le, c_le_l, c_le_r, c_lt, c_lt_l, c_lt_r, c_eq, c_eq_l, c_eq_r, if_true, if_false, if_pos, if_neg, o0_3 hA, hB.tw]
    · rw [if_neg h0, if_neg h1, if_neg h2, if_pos h3]
      simp (disch := omega) only [Option.bind_some, Option.bind_none, nmE, n_pp, n_pl, n_lp, n_mm, n_ml, n_lm, taI_n, taI_l, tsA_n, tsA_l, nar0, twA_1, twA_s, twA_n, twA_2, twA_twA, tsI_s, tsI_n, tsI_2, c_le, c_le_l, c_le_r, c_lt, c_lt_l, c_lt_r, c_eq, c_eq_l, c_eq_r, if_true, if_false, if_pos, if_neg, hT.2 6 rfl]
  by_cases h4 : x = 4
  · refine ⟨Int32.ofNat (zN A 6 5), ?_, ?_⟩
    · rw [if_neg h0, if_neg h1, if_neg h2, if_neg h3, if_pos h4]
      simp (disch := omega) only [Option.bind_some, Option.bind_none, nmE, n_pp, n_pl, n_lp, n_mm, n_ml, n_lm, csI_s, csI_n, csI_2, csA_1, csA_s, csA_n, csA_2, csL_1, csL_2, csL_s, csL_n, csL_3, csQ_1, csQ_2, csQ_3, csQ_s, csQ_n, nar0, c_le, c_le_l, c_le_r, c_lt, c_lt_l, c_lt_r, c_eq, c_eq_l, c_eq_r, if_true, if_false, if_pos, if_neg, o0_3 hA, hB.tw, hB.wn F]
    · rw [if_neg h0, if_neg h1, if_neg h2, if_neg h3, if_pos h4]
      simp (disch := omega) only [Option.bind_some, Option.bind_none, nmE, n_pp, n_pl, n_lp, n_mm, n_ml, n_lm, taI_n, taI_l, tsA_n, tsA_l, nar0, twA_1, twA_s, twA_n, twA_2, twA_twA, tsI_s, tsI_n, tsI_2, c_le, c_le_l, c_le_r, c_lt, c_lt_l, c_lt_r, c_eq, c_eq_l, c_eq_r, if_true, if_false, if_pos, if_neg, hT.2 6 rfl, e5]
  by_cases h5 : x = 5
  · refine ⟨A 6 6, ?_, ?_⟩
    · rw [if_neg h0, if_neg h1, if_neg h2, if_neg h3, if_neg h4, if_pos h5]
      simp (disch := omega) only [Option.bind_some, Option.bind_none, nmE, n_pp, n_pl, n_lp, n_mm, n_ml, n_lm, csI_s, csI_n, csI_2, csA_1, csA_s, csA_n, csA_2, csL_1, csL_2, csL_s, csL_n, csL_3, csQ_1, csQ_2, csQ_3, csQ_s, csQ_n, nar0, c_le, c_le_l, c_le_r, c_lt, c_lt_l, c_lt_r, c_eq, c_eq_l, c_eq_r, if_true, if_false, if_pos, if_neg, o0_3 hA, hB.tw]
    · rw [if_neg h0, if_neg h1, if_neg h2, if_neg h3, if_neg h4, if_pos h5]
      simp (disch := omega) only [Option.bind_some, Option.bind_none, nmE, n_pp, n_pl, n_lp, n_mm, n_ml, n_lm, taI_n, taI_l, tsA_n, tsA_l, nar0, twA_1, twA_s, twA_n, twA_2, twA_twA, tsI_s, tsI_n, tsI_2, c_le, c_le_l, c_le_r, c_lt, c_lt_l, c_lt_r, c_eq, c_eq_l, c_eq_r, if_true, if_false, if_pos, if_neg, hT.2 6 rfl]
  by_cases h6 : x = 6
  · refine ⟨A 6 7, ?_, ?_⟩
    · rw [if_neg h0, if_neg h1, if_neg h2, if_neg h3, if_neg h4, if_neg h5, if_pos h6]
      simp (disch := omega) only [Option.bind_some, Option.bind_none, nmE, n_pp, n_pl, n_lp, n_mm, n_ml, n_lm, csI_s, csI_n, csI_2, csA_1, csA_s, csA_n, csA_2, csL_1, csL_2, csL_s, csL_n, csL_3, csQ_1, csQ_2, csQ_3, csQ_s, csQ_n, nar0, c_le, c_le_l, c_le_r, c_lt, c_lt_l, c_lt_r, c_eq, c_eq_l, c_eq_r, if_true, if_false, if_pos, if_neg, o0_3 hA, hB.tw]
    · rw [if_neg h0, if_neg h1, if_neg h2, if_neg h3, if_neg h4, if_neg h5, if_pos h6]
      simp (disch := omega) only [Option.bind_some, Option.bind_none, nmE, n_pp, n_pl, n_lp, n_mm, n_ml, n_lm, taI_n, taI_l, tsA_n, tsA_l, nar0, twA_1, twA_s, twA_n, twA_2, twA_twA, tsI_s, tsI_n, tsI_2, c_le, c_le_l, c_le_r, c_lt, c_lt_l, c_lt_r, c_eq, c_eq_l, c_eq_r, if_true, if_false, if_pos, if_neg, hT.2 6 rfl]
  by_cases h7 : x = 7
  · refine ⟨Int32.ofNat (zN A 7 1), ?_, ?_⟩
    · rw [if_neg h0, if_neg h1, if_neg h2, if_neg h3, if_neg h4, if_neg h5, if_neg h6, if_pos h7]
      simp (disch := omega) only [Option.bind_some, Option.bind_none, nmE, n_pp, n_pl, n_lp, n_mm, n_ml, n_lm, csI_s, csI_n, csI_2, csA_1, csA_s, csA_n, csA_2, csL_1, csL_2, csL_s, csL_n, csL_3, csQ_1, csQ_2, csQ_3, csQ_s, csQ_n, nar0, c_le, c_le_l, c_le_r, c_lt, c_lt_l, c_lt_r, c_eq, c_eq_l, c_eq_r, if_true, if_false, if_pos, if_neg, o0_4 hA, o46_4 hA, oc50 hA, f_J2_size, o50_2 hA, hC.nw]
    · rw [if_neg h0, if_neg h1, if_neg h2, if_neg h3, if_neg h4, if_neg h5, if_neg h6, if_pos h7]
      simp (disch := omega) only [Option.bind_some, Option.bind_none, nmE, n_pp, n_pl, n_lp, n_mm, n_ml, n_lm, taI_n, taI_l, tsA_n, tsA_l, nar0, twA_1, twA_s, twA_n, twA_2, twA_twA, tsI_s, tsI_n, tsI_2, c_le, c_le_l, c_le_r, c_lt, c_lt_l, c_lt_r, c_eq, c_eq_l, c_eq_r, if_true, if_false, if_pos, if_neg, hT.2 7 rfl, l1]
  by_cases h8 : x = 8
  · refine ⟨Int32.ofNat (zN A 7 2), ?_, ?_⟩
    · rw [if_neg h0, if_neg h1, if_neg h2, if_neg h3, if_neg h4, if_neg h5, if_neg h6, if_neg h7, if_pos h8]
      simp (disch := omega) only [Option.bind_some, Option.bind_none, nmE, n_pp, n_pl, n_lp, n_mm, n_ml, n_lm, csI_s, csI_n, csI_2, csA_1, csA_s, csA_n, csA_2, csL_1, csL_2, csL_s, csL_n, csL_3, csQ_1, csQ_2, csQ_3, csQ_s, csQ_n, nar0, c_le, c_le_l, c_le_r, c_lt, c_lt_l, c_lt_r, c_eq, c_eq_l, c_eq_r, if_true, if_false, if_pos, if_neg, o0_4 hA, o46_5 hA, oc52 hA, f_J2_size, o52_2 hA, hC.nl]
    · rw [if_neg h0, if_neg h1, if_neg h2, if_neg h3, if_neg h4, if_neg h5, if_neg h6, if_neg h7, if_pos h8]
      simp (disch := omega) only [Option.bind_some, Option.bind_none, nmE, n_pp, n_pl, n_lp, n_mm, n_ml, n_lm, taI_n, taI_l, tsA_n, tsA_l, nar0, twA_1, twA_s, twA_n, twA_2, twA_twA, tsI_s, tsI_n, tsI_2, c_le, c_le_l, c_le_r, c_lt, c_lt_l, c_lt_r, c_eq, c_eq_l, c_eq_r, if_true, if_false, if_pos, if_neg, hT.2 7 rfl, l2]
  by_cases h9 : x = 9
  · refine ⟨A 7 0, ?_, ?_⟩
    · rw [if_neg h0, if_neg h1, if_neg h2, if_neg h3, if_neg h4, if_neg h5, if_neg h6, if_neg h7, if_neg h8, if_pos h9]
      simp (disch := omega) only [Option.bind_some, Option.bind_none, nmE, n_pp, n_pl, n_lp, n_mm, n_ml, n_lm, csI_s, csI_n, csI_2, csA_1, csA_s, csA_n, csA_2, csL_1, csL_2, csL_s, csL_n, csL_3, csQ_1, csQ_2, csQ_3, csQ_s, csQ_n, nar0, c_le, c_le_l, c_le_r, c_lt, c_lt_l, c_lt_r, c_eq, c_eq_l, c_eq_r, if_true, if_false, if_pos, if_neg, o0_4 hA, o46_3 hA, c43]
    · rw [if_neg h0, if_neg h1, if_neg h2, if_neg h3, if_neg h4, if_neg h5, if_neg h6, if_neg h7, if_neg h8, if_pos h9]
      simp (disch := omega) only [Option.bind_some, Option.bind_none, nmE, n_pp, n_pl, n_lp, n_mm, n_ml, n_lm, taI_n, taI_l, tsA_n, tsA_l, nar0, twA_1, twA_s, twA_n, twA_2, twA_twA, tsI_s, tsI_n, tsI_2, c_le, c_le_l, c_le_r, c_lt, c_lt_l, c_lt_r, c_eq, c_eq_l, c_eq_r, if_true, if_false, if_pos, if_neg, hT.2 7 rfl]
  by_cases h10 : x = 10
  · refine ⟨A 0 40, ?_, ?_⟩
    · rw [if_neg h0, if_neg h1, if_neg h2, if_neg h3, if_neg h4, if_neg h5, if_neg h6, if_neg h7, if_neg h8, if_neg h9, if_pos h10]
      simp (disch := omega) only [Option.bind_some, Option.bind_none, nmE, n_pp, n_pl, n_lp, n_mm, n_ml, n_lm, csI_s, csI_n, csI_2, csA_1, csA_s, csA_n, csA_2, csL_1, csL_2, csL_s, csL_n, csL_3, csQ_1, csQ_2, csQ_3, csQ_s, csQ_n, nar0, c_le, c_le_l, c_le_r, c_lt, c_lt_l, c_lt_r, c_eq, c_eq_l, c_eq_r, if_true, if_false, if_pos, if_neg, o0_9 hA, c40]
    · rw [if_neg h0, if_neg h1, if_neg h2, if_neg h3, if_neg h4, if_neg h5, if_neg h6, if_neg h7, if_neg h8, if_neg h9, if_pos h10]
      rw [hT.1 40 rfl]
  by_cases h11 : x = 11
  · refine ⟨A 0 0, ?_, ?_⟩
    · rw [if_neg h0, if_neg h1, if_neg h2, if_neg h3, if_neg h4, if_neg h5, if_neg h6, if_neg h7, if_neg h8, if_neg h9, if_neg h10, if_pos h11]
      simp (disch := omega) only [Option.bind_some, Option.bind_none, nmE, n_pp, n_pl, n_lp, n_mm, n_ml, n_lm, csI_s, csI_n, csI_2, csA_1, csA_s, csA_n, csA_2, csL_1, csL_2, csL_s, csL_n, csL_3, csQ_1, csQ_2, csQ_3, csQ_s, csQ_n, nar0, c_le, c_le_l, c_le_r, c_lt, c_lt_l, c_lt_r, c_eq, c_eq_l, c_eq_r, if_true, if_false, if_pos, if_neg, o0_0 hA, o1_1 hA, c0]
    · rw [if_neg h0, if_neg h1, if_neg h2, if_neg h3, if_neg h4, if_neg h5, if_neg h6, if_neg h7, if_neg h8, if_neg h9, if_neg h10, if_pos h11]
      rw [hT.1 0 rfl]
  by_cases h12 : x = 12
  · rw [if_neg h0, if_neg h1, if_neg h2, if_neg h3, if_neg h4, if_neg h5, if_neg h6, if_neg h7, if_neg h8, if_neg h9, if_neg h10, if_neg h11, if_pos h12, if_neg h0, if_neg h1, if_neg h2, if_neg h3, if_neg h4, if_neg h5, if_neg h6, if_neg h7, if_neg h8, if_neg h9, if_neg h10, if_neg h11, if_pos h12]
    have n10 : ¬ (1 : Int32) = 0 := by decide
    have hs := slotN (X := X) hA hC
    rcases hs.1 with ⟨a0, b0⟩ | ⟨a0, y0, b0⟩
    · rcases hs.2 with ⟨a1, b1⟩ | ⟨a1, y1, b1⟩
      · exact ⟨0 + 0, by simp (disch := omega) only [Option.bind_some, Option.bind_none, nmE, n_pp, n_pl, n_lp, n_mm, n_ml, n_lm, csI_s, csI_n, csI_2, csA_1, csA_s, csA_n, csA_2, csL_1, csL_2, csL_s, csL_n, csL_3, csQ_1, csQ_2, csQ_3, csQ_s, csQ_n, nar0, c_le, c_le_l, c_le_r, c_lt, c_lt_l, c_lt_r, c_eq, c_eq_l, c_eq_r, if_true, if_false, if_pos, if_neg, o0_5 hA, b0, b1, nif_n, nif_s], by simp (disch := omega) only [Option.bind_some, Option.bind_none, nmE, n_pp, n_pl, n_lp, n_mm, n_ml, n_lm, taI_n, taI_l, tsA_n, tsA_l, nar0, twA_1, twA_s, twA_n, twA_2, twA_twA, tsI_s, tsI_n, tsI_2, c_le, c_le_l, c_le_r, c_lt, c_lt_l, c_lt_r, c_eq, c_eq_l, c_eq_r, if_true, if_false, if_pos, if_neg, hT.2 18 rfl, a0, a1, n10]⟩
      · exact ⟨0 + 1, by simp (disch := omega) only [Option.bind_some, Option.bind_none, nmE, n_pp, n_pl, n_lp, n_mm, n_ml, n_lm, csI_s, csI_n, csI_2, csA_1, csA_s, csA_n, csA_2, csL_1, csL_2, csL_s, csL_n, csL_3, csQ_1, csQ_2, csQ_3, csQ_s, csQ_n, nar0, c_le, c_le_l, c_le_r, c_lt, c_lt_l, c_lt_r, c_eq, c_eq_l, c_eq_r, if_true, if_false, if_pos, if_neg, o0_5 hA, b0, b1, nif_n, nif_s], by simp (disch := omega) only [Option.bind_some, Option.bind_none, nmE, n_pp, n_pl, n_lp, n_mm, n_ml, n_lm, taI_n, taI_l, tsA_n, tsA_l, nar0, twA_1, twA_s, twA_n, twA_2, twA_twA, tsI_s, tsI_n, tsI_2, c_le, c_le_l, c_le_r, c_lt, c_lt_l, c_lt_r, c_eq, c_eq_l, c_eq_r, if_true, if_false, if_pos, if_neg, hT.2 18 rfl, a0, a1, n10]⟩
    · rcases hs.2 with ⟨a1, b1⟩ | ⟨a1, y1, b1⟩
      · exact ⟨1 + 0, by simp (disch := omega) only [Option.bind_some, Option.bind_none, nmE, n_pp, n_pl, n_lp, n_mm, n_ml, n_lm, csI_s, csI_n, csI_2, csA_1, csA_s, csA_n, csA_2, csL_1, csL_2, csL_s, csL_n, csL_3, csQ_1, csQ_2, csQ_3, csQ_s, csQ_n, nar0, c_le, c_le_l, c_le_r, c_lt, c_lt_l, c_lt_r, c_eq, c_eq_l, c_eq_r, if_true, if_false, if_pos, if_neg, o0_5 hA, b0, b1, nif_n, nif_s], by simp (disch := omega) only [Option.bind_some, Option.bind_none, nmE, n_pp, n_pl, n_lp, n_mm, n_ml, n_lm, taI_n, taI_l, tsA_n, tsA_l, nar0, twA_1, twA_s, twA_n, twA_2, twA_twA, tsI_s, tsI_n, tsI_2, c_le, c_le_l, c_le_r, c_lt, c_lt_l, c_lt_r, c_eq, c_eq_l, c_eq_r, if_true, if_false, if_pos, if_neg, hT.2 18 rfl, a0, a1, n10]⟩
      · exact ⟨1 + 1, by simp (disch := omega) only [Option.bind_some, Option.bind_none, nmE, n_pp, n_pl, n_lp, n_mm, n_ml, n_lm, csI_s, csI_n, csI_2, csA_1, csA_s, csA_n, csA_2, csL_1, csL_2, csL_s, csL_n, csL_3, csQ_1, csQ_2, csQ_3, csQ_s, csQ_n, nar0, c_le, c_le_l, c_le_r, c_lt, c_lt_l, c_lt_r, c_eq, c_eq_l, c_eq_r, if_true, if_false, if_pos, if_neg, o0_5 hA, b0, b1, nif_n, nif_s], by simp (disch := omega) only [Option.bind_some, Option.bind_none, nmE, n_pp, n_pl, n_lp, n_mm, n_ml, n_lm, taI_n, taI_l, tsA_n, tsA_l, nar0, twA_1, twA_s, twA_n, twA_2, twA_twA, tsI_s, tsI_n, tsI_2, c_le, c_le_l, c_le_r, c_lt, c_lt_l, c_lt_r, c_eq, c_eq_l, c_eq_r, if_true, if_false, if_pos, if_neg, hT.2 18 rfl, a0, a1, n10]⟩
  by_cases h13 : x = 13
  · refine ⟨A 0 50, ?_, ?_⟩
    · rw [if_neg h0, if_neg h1, if_neg h2, if_neg h3, if_neg h4, if_neg h5, if_neg h6, if_neg h7, if_neg h8, if_neg h9, if_neg h10, if_neg h11, if_neg h12, if_pos h13]
      simp (disch := omega) only [Option.bind_some, Option.bind_none, nmE, n_pp, n_pl, n_lp, n_mm, n_ml, n_lm, csI_s, csI_n, csI_2, csA_1, csA_s, csA_n, csA_2, csL_1, csL_2, csL_s, csL_n, csL_3, csQ_1, csQ_2, csQ_3, csQ_s, csQ_n, nar0, c_le, c_le_l, c_le_r, c_lt, c_lt_l, c_lt_r, c_eq, c_eq_l, c_eq_r, if_true, if_false, if_pos, if_neg, o0_11 hA, c50]
    · rw [if_neg h0, if_neg h1, if_neg h2, if_neg h3, if_neg h4, if_neg h5, if_neg h6, if_neg h7, if_neg h8, if_neg h9, if_neg h10, if_neg h11, if_neg h12, if_pos h13]
      rw [hT.1 50 rfl]
  by_cases h14 : x = 14
  · refine ⟨Int32.ofNat (zN A 6 8), ?_, ?_⟩
    · rw [if_neg h0, if_neg h1, if_neg h2, if_neg h3, if_neg h4, if_neg h5, if_neg h6, if_neg h7, if_neg h8, if_neg h9, if_neg h10, if_neg h11, if_neg h12, if_neg h13, if_pos h14]
      simp (disch := omega) only [Option.bind_some, Option.bind_none, nmE, n_pp, n_pl, n_lp, n_mm, n_ml, n_lm, csI_s, csI_n, csI_2, csA_1, csA_s, csA_n, csA_2, csL_1, csL_2, csL_s, csL_n, csL_3, csQ_1, csQ_2, csQ_3, csQ_s, csQ_n, nar0, c_le, c_le_l, c_le_r, c_lt, c_lt_l, c_lt_r, c_eq, c_eq_l, c_eq_r, if_true, if_false, if_pos, if_neg, o0_3 hA, hB.tw, F_ocL hB.2.2.2.2.1.1, F_size hB.2.2.2.2.1.1]
    · rw [if_neg h0, if_neg h1, if_neg h2, if_neg h3, if_neg h4, if_neg h5, if_neg h6, if_neg h7, if_neg h8, if_neg h9, if_neg h10, if_neg h11, if_neg h12, if_neg h13, if_pos h14]
      simp (disch := omega) only [Option.bind_some, Option.bind_none, nmE, n_pp, n_pl, n_lp, n_mm, n_ml, n_lm, taI_n, taI_l, tsA_n, tsA_l, nar0, twA_1, twA_s, twA_n, twA_2, twA_twA, tsI_s, tsI_n, tsI_2, c_le, c_le_l, c_le_r, c_lt, c_lt_l, c_lt_r, c_eq, c_eq_l, c_eq_r, if_true, if_false, if_pos, if_neg, hT.2 6 rfl, e8]
  by_cases h15 : x = 15
  · refine ⟨Int32.ofNat (zN A 6 9), ?_, ?_⟩
    · rw [if_neg h0, if_neg h1, if_neg h2, if_neg h3, if_neg h4, if_neg h5, if_neg h6, if_neg h7, if_neg h8, if_neg h9, if_neg h10, if_neg h11, if_neg h12, if_neg h13, if_neg h14, if_pos h15]
      simp (disch := omega) only [Option.bind_some, Option.bind_none, nmE, n_pp, n_pl, n_lp, n_mm, n_ml, n_lm, csI_s, csI_n, csI_2, csA_1, csA_s, csA_n, csA_2, csL_1, csL_2, csL_s, csL_n, csL_3, csQ_1, csQ_2, csQ_3, csQ_s, csQ_n, nar0, c_le, c_le_l, c_le_r, c_lt, c_lt_l, c_lt_r, c_eq, c_eq_l, c_eq_r, if_true, if_false, if_pos, if_neg, o0_3 hA, hB.tw, F_ocL hB.2.2.2.2.2.1.1, F_size hB.2.2.2.2.2.1.1]
    · rw [if_neg h0, if_neg h1, if_neg h2, if_neg h3, if_neg h4, if_neg h5, if_neg h6, if_neg h7, if_neg h8, if_neg h9, if_neg h10, if_neg h11, if_neg h12, if_neg h13, if_neg h14, if_pos h15]
      simp (disch := omega) only [Option.bind_some, Option.bind_none, nmE, n_pp, n_pl, n_lp, n_mm, n_ml, n_lm, taI_n, taI_l, tsA_n, tsA_l, nar0, twA_1, twA_s, twA_n, twA_2, twA_twA, tsI_s, tsI_n, tsI_2, c_le, c_le_l, c_le_r, c_lt, c_lt_l, c_lt_r, c_eq, c_eq_l, c_eq_r, if_true, if_false, if_pos, if_neg, hT.2 6 rfl, e9]
  exact ⟨-1, by rw [if_neg h0, if_neg h1, if_neg h2, if_neg h3, if_neg h4, if_neg h5, if_neg h6, if_neg h7, if_neg h8, if_neg h9, if_neg h10, if_neg h11, if_neg h12, if_neg h13, if_neg h14, if_neg h15], by rw [if_neg h0, if_neg h1, if_neg h2, if_neg h3, if_neg h4, if_neg h5, if_neg h6, if_neg h7, if_neg h8, if_neg h9, if_neg h10, if_neg h11, if_neg h12, if_neg h13, if_neg h14, if_neg h15]⟩
theorem st_42 (h : INV ad B A σ τ) (x : Nat → Int32) : ST F 42 x X ad B σ τ := by
  obtain ⟨hE, hK, hC, hT⟩ := h
  obtain ⟨r, c, t⟩ := count_CT (X := X) (F := F) hE hC hT (x 1)
  exact ST.ro ⟨hE, hK, hC, hT⟩ (st_b c) (st_b t) hC hT
