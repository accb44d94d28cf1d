set_option maxRecDepth 100000
/-! the tape, the years, the place -/
variable {X : Nat → Option Ob} {ad : Nat → Nat} {B : Sw} {A A' : Av} {σ σ' : Cs} {τ : Tw} {F : Nat}
/-- only the tape, the row, their numbers and the place change -/
def sN (σ σ' : Cs) : Prop := (∀ i, scI i = false → i ≠ 21 → i ≠ 2 → i ≠ 11 → σ'.1 i = σ.1 i) ∧ (∀ r, scA r = false → r ≠ 2 → r ≠ 16 → σ'.2.1 r = σ.2.1 r) ∧ σ'.2.2.2 = σ.2.2.2
theorem CR.n (h : CR ad B A σ) (e : ∀ j, j ≠ 0 → j ≠ 33 → j ≠ 1 → A' j = A j) (e40 : A' 0 40 = A 0 40) (hs : sN σ σ') (h21 : σ'.1 21 = A' 0 0) (h2 : σ'.1 2 = A' 0 9) (h11 : σ'.1 11 = A' 0 50) (ht : ∀ k, k < zN A' 0 0 → σ'.2.1 2 k = (A' 1 k).toInt8.toInt32) (hy : ∀ k, k < zN A' 0 50 → σ'.2.1 16 k = A' 33 k) : CR ad B A' σ' := by
  obtain ⟨⟨-, -, p3, -, p5⟩, -, -, h4, h5, h6, h7, h8, h9, h10, h11', h12⟩ := h
  have e7 := e 7 (by decide) (by decide) (by decide)
  have e27 := e 27 (by decide) (by decide) (by decide)
  have e18 := e 18 (by decide) (by decide) (by decide)
  have z : ∀ k, zN A' 7 k = zN A 7 k := fun k => by unfold zN; rw [e7]
  have z40 : zN A' 0 40 = zN A 0 40 := by unfold zN; rw [e40]
  have er : ∀ s, rowL A' s = rowL A s := fun s => by unfold rowL; rw [e7]
  refine ⟨⟨h21, h2, ?_, h11, ?_⟩, ht, hy, ?_, ?_, ?_, ?_, ?_, ?_, ?_, ?_, ?_⟩
  · rw [hs.1 9 rfl (by decide) (by decide) (by decide), e40]; exact p3
  · rw [hs.1 43 rfl (by decide) (by decide) (by decide), e7]; exact p5
  · rw [hs.2.1 47 rfl (by decide) (by decide), e7]; exact h4
  · rw [hs.2.1 48 rfl (by decide) (by decide), e7]; exact h5
  · rw [hs.2.1 49 rfl (by decide) (by decide), e7]; exact h6
  · intro j i hj hi
    rw [z40] at hj
    rw [hs.2.1 _ (scA_hi (by omega)) (by omega) (by omega), e27]
    exact h7 j i hj hi
  · intro j i hj hi
    rw [z40] at hj
    rw [hs.2.1 _ (scA_hi (by omega)) (by omega) (by omega), e27]
    exact h8 j i hj hi
  · rw [hs.2.2]; exact h9
  · obtain ⟨a, b, c⟩ := h10
    rw [z, e7]
    refine ⟨?_, ?_, ?_⟩
    · rw [hs.1 (50 + 2) rfl (by decide) (by decide) (by decide)]; exact a
    · rw [hs.1 (50 + 3) rfl (by decide) (by decide) (by decide)]; exact b
    · rw [hs.2.2]; exact c
  · obtain ⟨a, b, c⟩ := h11'
    rw [z, e7]
    refine ⟨?_, ?_, ?_⟩
    · rw [hs.1 (60 + 2) rfl (by decide) (by decide) (by decide)]; exact a
    · rw [hs.1 (60 + 3) rfl (by decide) (by decide) (by decide)]; exact b
    · rw [hs.2.2]; exact c
  · intro s hs2
    rw [hs.2.2, er, e18]
    exact h12 s hs2
theorem WF.n (h : WF A) (e : ∀ j, j ≠ 0 → j ≠ 33 → j ≠ 1 → A' j = A j) (e40 : A' 0 40 = A 0 40) (h0 : isN (A' 0 0) 2000) (h50 : isN (A' 0 50) 12) (hy : ∀ k, k < zN A' 0 50 → isN (A' 33 k) 99) (ht : ∀ k, k < 2000 → isN (A' 1 k) 255) : WF A' := by
  obtain ⟨w1, ⟨-, n2, -, -, -, n6, n7⟩, w3, w4⟩ := h
  have e6 := e 6 (by decide) (by decide) (by decide)
  have e7 := e 7 (by decide) (by decide) (by decide)
  have e18 := e 18 (by decide) (by decide) (by decide)
  have e27 := e 27 (by decide) (by decide) (by decide)
  have z : ∀ k, zN A' 6 k = zN A 6 k := fun k => by unfold zN; rw [e6]
  have z40 : zN A' 0 40 = zN A 0 40 := by unfold zN; rw [e40]
  have er : ∀ s, rowL A' s = rowL A s := fun s => by unfold rowL; rw [e7]
  refine ⟨?_, ⟨h0, by rw [e40]; exact n2, h50, hy, ht, ?_, ?_⟩, ?_, ?_⟩
  · unfold WFt
    simp only [z, e6]
    exact w1
  · rw [z40, e27]; exact n6
  · rw [z40, e27]; exact n7
  · rw [z, z, e7]; exact w3
  · intro s hs e1
    rw [e18] at e1
    rw [z, z, er]
    exact w4 s hs e1
theorem TB.n (h : TB ad B A) (e : ∀ j, j ≠ 0 → j ≠ 33 → j ≠ 1 → A' j = A j) : TB ad B A' := h.cg fun j hj => e j (fun z => by subst z; cases hj) (fun z => by subst z; cases hj) (fun z => by subst z; cases hj)
theorem TR.n0 {v : Int32} {k : Nat} (h : TR A τ) : TR (aw A 0 (upd (A 0) k v)) (tsI τ k v) := h.I
/-- 30: clear -/
theorem st_30 (h : INV ad B A σ τ) (x : Nat → Int32) : ST F 30 x X ad B σ τ := by
  have hI := h
  obtain ⟨hE, hK, hC, hT⟩ := h
  have hA := hE.1
  have h1 : stC F 30 (ad 0) x (cM X ad σ B) = f_X0_clear F (ad 0) (cM X ad σ B) := rfl
  have h2 : stT F 30 x τ = t_X9_clear F τ := rfl
  unfold f_X0_clear at h1
  unfold t_X9_clear at h2
  simp (disch := omega) only [Option.bind_some, Option.bind_none, nmE, n_pp, n_pl, n_lp, n_mm, n_ml, n_lm, csI_s, csI_n, csI_2, csA_1, csA_s, csA_n, csA_2, csL_1, csL_2, csL_s, csL_n, csL_3, csQ_1, csQ_2, csQ_3, csQ_s, csQ_n, nar0, c_le, c_le_l, c_le_r, c_lt, c_lt_l, c_lt_r, c_eq, c_eq_l, c_eq_r, if_true, if_false, if_pos, if_neg, o0_11 hA, p0_11 hA, hC.1.2.2.2.1] at h1
  simp (disch := omega) only [Option.bind_some, Option.bind_none, nmE, n_pp, n_pl, n_lp, n_mm, n_ml, n_lm, taI_n, taI_l, tsA_n, tsA_l, nar0, twA_1, twA_s, twA_n, twA_2, twA_twA, tsI_s, tsI_n, tsI_2, c_le, c_le_l, c_le_r, c_lt, c_lt_l, c_lt_r, c_eq, c_eq_l, c_eq_r, if_true, if_false, if_pos, if_neg, hT.1 50 rfl] at h2
  have e : ∀ j, j ≠ 0 → j ≠ 33 → j ≠ 1 → aw A 0 (upd (A 0) 50 0) j = A j := fun j hj _ _ => aw_n _ _ _ _ hj
  have z50 : zN (aw A 0 (upd (A 0) 50 0)) 0 50 = 0 := by unfold zN; rw [aw_s, up_s]; rfl
  refine ST.rw hI h1 h2 (hE.2.1.n e) (hE.2.2.n e ?_ ?_ ?_ ?_ ?_) (hC.n e ?_ ?_ ?_ ?_ ?_ ?_ ?_) hT.I
  · exact rfl
  · exact hE.2.2.2.1.1
  · rw [aw_s, up_s]; exact isN.of (k := 0) (by decide) (by decide)
  · intro k hk; rw [z50] at hk; omega
  · exact hE.2.2.2.1.2.2.2.2.1
  · exact rfl
  · exact ⟨fun i _ _ _ h => csI_n _ _ _ _ h, fun _ _ _ _ => rfl, rfl⟩
  · exact hC.1.1
  · exact hC.1.2.1
  · exact rfl
  · exact hC.2.1
  · intro k hk; rw [z50] at hk; omega
/-- 29: year -/
theorem st_29 (h : INV ad B A σ τ) (x : Nat → Int32) : ST F 29 x X ad B σ τ := by
  have hI := h
  obtain ⟨hE, hK, hC, hT⟩ := h
  have hA := hE.1
  have h1 : stC F 29 (ad 0) x (cM X ad σ B) = f_X0_year F (ad 0) (x 1) (cM X ad σ B) := rfl
  have h2 : stT F 29 x τ = t_X9_year F (x 1) τ := rfl
  obtain ⟨n1, n2, n3, n4, n5, n6⟩ := hE.2.2.2.1
  obtain ⟨y, ly, ey⟩ := n3.ex
  have hv : (((0 : Int32).toInt ≤ (x 1).toInt ∧ (x 1).toInt ≤ (99 : Int32).toInt) ↔ inN (x 1) 100) := by
    show ((0 : Int) ≤ (x 1).toInt ∧ (x 1).toInt ≤ 99) ↔ (0 : Int) ≤ (x 1).toInt ∧ (x 1).toInt < 100
    omega
  unfold f_X0_year at h1
  unfold t_X9_year at h2
  rw [within_v (inN (x 1) 100) hv] at h1
  rw [isIn_v (inN (x 1) 100) hv] at h2
  simp (disch := omega) only [Option.bind_some, Option.bind_none, nmE, n_pp, n_pl, n_lp, n_mm, n_ml, n_lm, csI_s, csI_n, csI_2, csA_1, csA_s, csA_n, csA_2, csL_1, csL_2, csL_s, csL_n, csL_3, csQ_1, csQ_2, csQ_3, csQ_s, csQ_n, nar0, c_le, c_le_l, c_le_r, c_lt, c_lt_l, c_lt_r, c_eq, c_eq_l, c_eq_r, if_true, if_false, if_pos, if_neg, o0_11 hA, o0_10 hA, n16 hA, hC.1.2.2.2.1, ey, gd] at h1
  simp (disch := omega) only [Option.bind_some, Option.bind_none, nmE, n_pp, n_pl, n_lp, n_mm, n_ml, n_lm, taI_n, taI_l, tsA_n, tsA_l, nar0, twA_1, twA_s, twA_n, twA_2, twA_twA, tsI_s, tsI_n, tsI_2, c_le, c_le_l, c_le_r, c_lt, c_lt_l, c_lt_r, c_eq, c_eq_l, c_eq_r, if_true, if_false, if_pos, if_neg, hT.1 50 rfl, ey, gd] at h2
  by_cases h12 : y = 12
  · rw [if_pos h12] at h1 h2
    exact ST.ro hI h1 h2 hC hT
  rw [if_neg h12] at h1 h2
  by_cases hh : inN (x 1) 100
  · obtain ⟨k, hk, e⟩ := hh.ex
    rw [if_pos hh, e] at h1 h2
    simp (disch := omega) only [Option.bind_some, Option.bind_none, nmE, n_pp, n_pl, n_lp, n_mm, n_ml, n_lm, csI_s, csI_n, csI_2, csA_1, csA_s, csA_n, csA_2, csL_1, csL_2, csL_s, csL_n, csL_3, csQ_1, csQ_2, csQ_3, csQ_s, csQ_n, nar0, c_le, c_le_l, c_le_r, c_lt, c_lt_l, c_lt_r, c_eq, c_eq_l, c_eq_r, if_true, if_false, if_pos, if_neg, s16 hA, p0_11 hA, o0_11 hA, hC.1.2.2.2.1, ey] at h1
    try simp (disch := omega) only [Option.bind_some, Option.bind_none, nmE, n_pp, n_pl, n_lp, n_mm, n_ml, n_lm, taI_n, taI_l, tsA_n, tsA_l, nar0, twA_1, twA_s, twA_n, twA_2, twA_twA, tsI_s, tsI_n, tsI_2, c_le, c_le_l, c_le_r, c_lt, c_lt_l, c_lt_r, c_eq, c_eq_l, c_eq_r, if_true, if_false, if_pos, if_neg, hT.1 50 rfl, ey] at h2
    have z50 : ∀ f : Nat → Int32, zN (aw (aw A 33 f) 0 (upd (aw A 33 f 0) 50 (Int32.ofNat (y + 1)))) 0 50 = y + 1 := fun f => by unfold zN; rw [aw_s, up_s, i_cl (n := 100) (by omega) (by decide)]
    have hz : zN A 0 50 = y := by unfold zN; rw [ey, i_cl (n := 100) (by omega) (by decide)]
    have e : ∀ j, j ≠ 0 → j ≠ 33 → j ≠ 1 → aw (aw A 33 (upd (τ.2.1 33) y (Int32.ofNat k))) 0 (upd (aw A 33 (upd (τ.2.1 33) y (Int32.ofNat k)) 0) 50 (Int32.ofNat (y + 1))) j = A j := fun j hj h33 _ => by rw [aw_n _ _ _ _ hj, aw_n _ _ _ _ h33]
    have e33 : τ.2.1 33 = A 33 := hT.2 33 rfl
    refine ST.rw hI h1 h2 (hE.2.1.n e) (hE.2.2.n e ?_ ?_ ?_ ?_ ?_) (hC.n e ?_ ?_ ?_ ?_ ?_ ?_ ?_) (TR.I (hT.W (by decide)))
    · exact rfl
    · exact n1
    · rw [aw_s, up_s]; exact isN.of (by omega) (by decide)
    · intro i hi
      rw [z50] at hi
      show isN (upd (τ.2.1 33) y (Int32.ofNat k) i) 99
      by_cases hiy : i = y
      · rw [hiy, up_s]; exact isN.of (by omega) (by decide)
      · rw [up_n _ _ _ _ hiy, e33]
        exact n4 i (by omega)
    · exact n5
    · exact rfl
    · exact ⟨fun i _ _ _ h => (csI_n _ _ _ _ h), fun r _ _ h => csA_n _ _ _ _ h, rfl⟩
    · exact hC.1.1
    · exact hC.1.2.1
    · exact rfl
    · exact hC.2.1
    · intro i hi
      rw [z50] at hi
      show upd (σ.2.1 16) y (Int32.ofNat k) i = upd (τ.2.1 33) y (Int32.ofNat k) i
      by_cases hiy : i = y
      · rw [hiy, up_s, up_s]
      · rw [up_n _ _ _ _ hiy, up_n _ _ _ _ hiy, e33]
        exact hC.2.2.1 i (by omega)
  · rw [if_neg hh] at h1 h2
    exact ST.ro hI h1 h2 hC hT
/-- 1: back -/
theorem st_1 (h : INV ad B A σ τ) (x : Nat → Int32) : ST F 1 x X ad B σ τ := by
  have hI := h
  obtain ⟨hE, hK, hC, hT⟩ := h
  have hA := hE.1
  have h1 : stC F 1 (ad 0) x (cM X ad σ B) = f_X0_back F (ad 0) (x 1) (cM X ad σ B) := rfl
  have h2 : stT F 1 x τ = t_X9_back F (x 1) τ := rfl
  obtain ⟨n1, n2, n3, n4, n5, n6⟩ := hE.2.2.2.1
  obtain ⟨t, lt, et⟩ := n1.ex
  have hz : zN A 0 0 = t := by unfold zN; rw [et, i_cl (n := 2001) (by omega) (by decide)]
  have hv : (((0 : Int32).toInt ≤ (x 1).toInt ∧ (x 1).toInt ≤ (Int32.ofNat t).toInt) ↔ inN (x 1) (t + 1)) := by
    rw [i_tn (by omega)]
    show ((0 : Int) ≤ (x 1).toInt ∧ (x 1).toInt ≤ (t : Int)) ↔ (0 : Int) ≤ (x 1).toInt ∧ (x 1).toInt < ((t + 1 : Nat) : Int)
    omega
  unfold f_X0_back f_X1_back at h1
  unfold t_X9_back at h2
  simp (disch := omega) only [Option.bind_some, Option.bind_none, nmE, n_pp, n_pl, n_lp, n_mm, n_ml, n_lm, csI_s, csI_n, csI_2, csA_1, csA_s, csA_n, csA_2, csL_1, csL_2, csL_s, csL_n, csL_3, csQ_1, csQ_2, csQ_3, csQ_s, csQ_n, nar0, c_le, c_le_l, c_le_r, c_lt, c_lt_l, c_lt_r, c_eq, c_eq_l, c_eq_r, if_true, if_false, if_pos, if_neg, o0_0 hA, oc1 hA, o1_1 hA, hC.1.1, et] at h1
  rw [within_v (inN (x 1) (t + 1)) hv, Option.bind_some, gd] at h1
  simp (disch := omega) only [Option.bind_some, Option.bind_none, nmE, n_pp, n_pl, n_lp, n_mm, n_ml, n_lm, taI_n, taI_l, tsA_n, tsA_l, nar0, twA_1, twA_s, twA_n, twA_2, twA_twA, tsI_s, tsI_n, tsI_2, c_le, c_le_l, c_le_r, c_lt, c_lt_l, c_lt_r, c_eq, c_eq_l, c_eq_r, if_true, if_false, if_pos, if_neg, hT.1 0 rfl, et] at h2
  have h3 : (0 : Int32).toInt = 0 := rfl
  by_cases hh : inN (x 1) (t + 1)
  · obtain ⟨k, hk, e⟩ := hh.ex
    have q1 : ¬ Int32.ofNat k < 0 := Int32.not_lt.mpr (ofNat_nn (by omega))
    have q2 : Int32.ofNat k ≤ Int32.ofNat t := (c_le _ _ (by omega) (by omega)).mpr (by omega)
    have q3 : Int32.ofNat t - Int32.ofNat k = Int32.ofNat (t - k) := i_sub (by omega)
    rw [if_pos hh, e] at h1
    rw [e, if_neg q1, if_pos q2] at h2
    simp (disch := omega) only [Option.bind_some, Option.bind_none, nmE, n_pp, n_pl, n_lp, n_mm, n_ml, n_lm, csI_s, csI_n, csI_2, csA_1, csA_s, csA_n, csA_2, csL_1, csL_2, csL_s, csL_n, csL_3, csQ_1, csQ_2, csQ_3, csQ_s, csQ_n, nar0, c_le, c_le_l, c_le_r, c_lt, c_lt_l, c_lt_r, c_eq, c_eq_l, c_eq_r, if_true, if_false, if_pos, if_neg, p1_1 hA, o1_1 hA, q3] at h1
    simp (disch := omega) only [Option.bind_some, Option.bind_none, nmE, n_pp, n_pl, n_lp, n_mm, n_ml, n_lm, taI_n, taI_l, tsA_n, tsA_l, nar0, twA_1, twA_s, twA_n, twA_2, twA_twA, tsI_s, tsI_n, tsI_2, c_le, c_le_l, c_le_r, c_lt, c_lt_l, c_lt_r, c_eq, c_eq_l, c_eq_r, if_true, if_false, if_pos, if_neg, q3] at h2
    have e : ∀ j, j ≠ 0 → j ≠ 33 → j ≠ 1 → aw A 0 (upd (A 0) 0 (Int32.ofNat (t - k))) j = A j := fun j hj _ _ => aw_n _ _ _ _ hj
    have z0 : zN (aw A 0 (upd (A 0) 0 (Int32.ofNat (t - k)))) 0 0 = t - k := by unfold zN; rw [aw_s, up_s, i_cl (n := 2001) (by omega) (by decide)]
    refine ST.rw hI h1 h2 (hE.2.1.n e) (hE.2.2.n e ?_ ?_ ?_ ?_ ?_) (hC.n e ?_ ?_ ?_ ?_ ?_ ?_ ?_) hT.I
    · exact rfl
    · rw [aw_s, up_s]; exact isN.of (by omega) (by decide)
    · exact n3
    · exact n4
    · exact n5
    · exact rfl
    · exact ⟨fun i _ h _ _ => csI_n _ _ _ _ h, fun _ _ _ _ => rfl, rfl⟩
    · exact rfl
    · exact hC.1.2.1
    · exact hC.1.2.2.2.1
    · intro i hi
      rw [z0] at hi
      exact hC.2.1 i (by omega)
    · exact hC.2.2.1
  · rw [if_neg hh] at h1
    refine ST.ro hI h1 (τ' := τ) ?_ hC hT
    rw [h2]
    by_cases q1 : x 1 < 0
    · rw [if_pos q1]
    · rw [if_neg q1]
      by_cases q2 : x 1 ≤ Int32.ofNat t
      · have a := Int32.le_iff_toInt_le.mp (Int32.not_lt.mp q1)
        have b := Int32.le_iff_toInt_le.mp q2
        rw [i_tn (by omega)] at b
        exact absurd ⟨by omega, by omega⟩ hh
      · rw [if_neg q2]
