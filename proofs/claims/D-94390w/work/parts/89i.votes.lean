set_option maxRecDepth 100000
/-! 36, 37: votes -/
variable {X : Nat → Option Ob} {ad ad' : Nat → Nat} {B B' : Sw} {A A' : Av} {σ σ' : Cs} {τ : Tw} {F : Nat}
theorem live_CT (hF : 1000 ≤ F) (hE : EV ad B A) (hC : CR ad B A σ) (hT : TR A τ) {i m : Nat} (hm : m ≤ zN A 7 2) (hi : i < m) : ∃ r : Int32, (r = 0 ∨ r = 1) ∧ f_X0_counts F (ad 0) (Int32.ofNat i) (Int32.ofNat m) (cM X ad σ B) = some r ∧ t_X9_isLive F (Int32.ofNat i) (Int32.ofNat m) τ = some r := by
  have hA := hE.1
  obtain ⟨el, ll⟩ := hE.2.2.nl
  have key : ∀ (d v fc ft : Nat), v + d = m → d < fc → d < ft → ∃ r : Int32, (r = 0 ∨ r = 1) ∧ f_X0_counts_L4 F (ad 0) (Int32.ofNat i) (Int32.ofNat m) (cM X ad σ B) fc (Int32.ofNat v) = some r ∧ t_X9_isLive_L4 F (Int32.ofNat i) (Int32.ofNat m) τ ft (Int32.ofNat v) = some r := by
    intro d
    induction d with
    | zero =>
      intro v fc ft hv hfc hft
      obtain ⟨fc, rfl⟩ : ∃ m, fc = m + 1 := ⟨fc - 1, by omega⟩
      obtain ⟨ft, rfl⟩ : ∃ m, ft = m + 1 := ⟨ft - 1, by omega⟩
      refine ⟨1, Or.inr rfl, ?_, ?_⟩
      · show f_X0_counts_L4_b F (ad 0) (Int32.ofNat i) (Int32.ofNat m) (cM X ad σ B) (f_X0_counts_L4 F (ad 0) (Int32.ofNat i) (Int32.ofNat m) (cM X ad σ B) fc) (Int32.ofNat v) = _
        unfold f_X0_counts_L4_b
        simp (disch := omega) only [Option.bind_some, Option.bind_none, nmE, n_pp, n_pl, n_lp, n_mm, n_ml, n_lm, csI_s, csI_n, csI_2, csA_1, csA_s, csA_n, csA_2, csL_1, csL_2, csL_s, csL_n, csL_3, csQ_1, csQ_2, csQ_3, csQ_s, csQ_n, nar0, c_le, c_le_l, c_le_r, c_lt, c_lt_l, c_lt_r, c_eq, c_eq_l, c_eq_r, if_true, if_false, if_pos, if_neg]
      · show t_X9_isLive_L4_b F (Int32.ofNat i) (Int32.ofNat m) τ (t_X9_isLive_L4 F (Int32.ofNat i) (Int32.ofNat m) τ ft) (Int32.ofNat v) = _
        unfold t_X9_isLive_L4_b
        simp (disch := omega) only [Option.bind_some, Option.bind_none, nmE, n_pp, n_pl, n_lp, n_mm, n_ml, n_lm, taI_n, taI_l, tsA_n, tsA_l, nar0, twA_1, twA_s, twA_n, twA_2, twA_twA, tsI_s, tsI_n, tsI_2, c_le, c_le_l, c_le_r, c_lt, c_lt_l, c_lt_r, c_eq, c_eq_l, c_eq_r, if_true, if_false, if_pos, if_neg]
    | succ d ih =>
      intro v fc ft hv hfc hft
      obtain ⟨fc, rfl⟩ : ∃ m, fc = m + 1 := ⟨fc - 1, by omega⟩
      obtain ⟨ft, rfl⟩ : ∃ m, ft = m + 1 := ⟨ft - 1, by omega⟩
      obtain ⟨q1, q2, q3, q4, -⟩ := hC.lg (X := X) (F := F) hA ll (show v < zN A 7 2 by omega)
      obtain ⟨r, hr, c1, t1⟩ := ih (v + 1) fc ft (by omega) (by omega) (by omega)
      have sC : f_X0_counts_L4 F (ad 0) (Int32.ofNat i) (Int32.ofNat m) (cM X ad σ B) (fc + 1) (Int32.ofNat v) = if A 7 (180 + 4 * v) = 2 then (if A 7 (180 + 4 * v + 1) = Int32.ofNat i then some 0 else some r) else some r := by
        show f_X0_counts_L4_b F (ad 0) (Int32.ofNat i) (Int32.ofNat m) (cM X ad σ B) (f_X0_counts_L4 F (ad 0) (Int32.ofNat i) (Int32.ofNat m) (cM X ad σ B) fc) (Int32.ofNat v) = _
        unfold f_X0_counts_L4_b
        simp (disch := omega) only [Option.bind_some, Option.bind_none, nmE, n_pp, n_pl, n_lp, n_mm, n_ml, n_lm, csI_s, csI_n, csI_2, csA_1, csA_s, csA_n, csA_2, csL_1, csL_2, csL_s, csL_n, csL_3, csQ_1, csQ_2, csQ_3, csQ_s, csQ_n, nar0, c_le, c_le_l, c_le_r, c_lt, c_lt_l, c_lt_r, c_eq, c_eq_l, c_eq_r, if_true, if_false, if_pos, if_neg, o0_4 hA, o46_5 hA, oc52 hA, q1, q2, q3, q4]
        rw [c1]
      have sT : t_X9_isLive_L4 F (Int32.ofNat i) (Int32.ofNat m) τ (ft + 1) (Int32.ofNat v) = if A 7 (180 + 4 * v) = 2 then (if A 7 (180 + 4 * v + 1) = Int32.ofNat i then some 0 else some r) else some r := by
        show t_X9_isLive_L4_b F (Int32.ofNat i) (Int32.ofNat m) τ (t_X9_isLive_L4 F (Int32.ofNat i) (Int32.ofNat m) τ ft) (Int32.ofNat v) = _
        unfold t_X9_isLive_L4_b
        simp (disch := omega) only [Option.bind_some, Option.bind_none, nmE, n_pp, n_pl, n_lp, n_mm, n_ml, n_lm, taI_n, taI_l, tsA_n, tsA_l, nar0, twA_1, twA_s, twA_n, twA_2, twA_twA, tsI_s, tsI_n, tsI_2, c_le, c_le_l, c_le_r, c_lt, c_lt_l, c_lt_r, c_eq, c_eq_l, c_eq_r, if_true, if_false, if_pos, if_neg, hT.2 7 rfl]
        rw [t1]
      rw [sC, sT]
      by_cases h : A 7 (180 + 4 * v) = 2
      · rw [if_pos h]
        by_cases h2 : A 7 (180 + 4 * v + 1) = Int32.ofNat i
        · rw [if_pos h2]; exact ⟨0, Or.inl rfl, rfl, rfl⟩
        · rw [if_neg h2]; exact ⟨r, hr, rfl, rfl⟩
      · rw [if_neg h]; exact ⟨r, hr, rfl, rfl⟩
  obtain ⟨r, hr, c1, t1⟩ := key (m - (i + 1)) (i + 1) F F (by omega) (by omega) (by omega)
  refine ⟨r, hr, ?_, ?_⟩
  · unfold f_X0_counts
    simp (disch := omega) only [Option.bind_some, Option.bind_none, nmE, n_pp, n_pl, n_lp, n_mm, n_ml, n_lm, csI_s, csI_n, csI_2, csA_1, csA_s, csA_n, csA_2, csL_1, csL_2, csL_s, csL_n, csL_3, csQ_1, csQ_2, csQ_3, csQ_s, csQ_n, nar0, c_le, c_le_l, c_le_r, c_lt, c_lt_l, c_lt_r, c_eq, c_eq_l, c_eq_r, if_true, if_false, if_pos, if_neg]
    exact c1
  · unfold t_X9_isLive
    simp (disch := omega) only [Option.bind_some, Option.bind_none, nmE, n_pp, n_pl, n_lp, n_mm, n_ml, n_lm, taI_n, taI_l, tsA_n, tsA_l, nar0, twA_1, twA_s, twA_n, twA_2, twA_twA, tsI_s, tsI_n, tsI_2, c_le, c_le_l, c_le_r, c_lt, c_lt_l, c_lt_r, c_eq, c_eq_l, c_eq_r, if_true, if_false, if_pos, if_neg]
    exact t1
theorem voteOf_CT (hF : 1000 ≤ F) (hE : EV ad B A) (hC : CR ad B A σ) (hT : TR A τ) {m : Nat} (hm : m ≤ zN A 7 2) {a b : Int32} : ∃ r : Int32, f_X0_voteOf F (ad 0) a b (Int32.ofNat m) (cM X ad σ B) = some r ∧ t_X9_voteOf F a b (Int32.ofNat m) τ = some r := by
  have hA := hE.1
  obtain ⟨el, ll⟩ := hE.2.2.nl
  have key : ∀ (d fc ft : Nat), d ≤ m → d < fc → d < ft → ∃ r : Int32, f_X0_voteOf_L5 F (ad 0) a b (Int32.ofNat m) (cM X ad σ B) fc (Int32.ofNat d + (-1)) = some r ∧ t_X9_voteOf_L5 F a b (Int32.ofNat m) τ ft (Int32.ofNat d + (-1)) = some r := by
    intro d
    induction d with
    | zero =>
      intro fc ft hv hfc hft
      obtain ⟨fc, rfl⟩ : ∃ m, fc = m + 1 := ⟨fc - 1, by omega⟩
      obtain ⟨ft, rfl⟩ : ∃ m, ft = m + 1 := ⟨ft - 1, by omega⟩
      refine ⟨-1, ?_, ?_⟩
      · show f_X0_voteOf_L5_b F (ad 0) a b (Int32.ofNat m) (cM X ad σ B) (f_X0_voteOf_L5 F (ad 0) a b (Int32.ofNat m) (cM X ad σ B) fc) (Int32.ofNat 0 + (-1)) = _
        unfold f_X0_voteOf_L5_b
        rw [if_pos (by decide)]
      · show t_X9_voteOf_L5_b F a b (Int32.ofNat m) τ (t_X9_voteOf_L5 F a b (Int32.ofNat m) τ ft) (Int32.ofNat 0 + (-1)) = _
        unfold t_X9_voteOf_L5_b
        rw [if_pos (by decide)]
    | succ d ih =>
      intro fc ft hv hfc hft
      obtain ⟨fc, rfl⟩ : ∃ m, fc = m + 1 := ⟨fc - 1, by omega⟩
      obtain ⟨ft, rfl⟩ : ∃ m, ft = m + 1 := ⟨ft - 1, by omega⟩
      obtain ⟨q1, q2, q3, q4, q5, q6⟩ := hC.lg (X := X) (F := F) hA ll (show d < zN A 7 2 by omega)
      obtain ⟨r, c1, t1⟩ := ih fc ft (by omega) (by omega) (by omega)
      obtain ⟨v, hv2, c2, t2⟩ := live_CT (X := X) (F := F) hF hE hC hT hm (show d < m by omega)
      have e : Int32.ofNat (d + 1) + (-1) = Int32.ofNat d := by
        have e1 : Int32.ofNat 1 + (-1) = (0 : Int32) := by decide
        rw [Int32.ofNat_add, Int32.add_assoc, e1, Int32.add_zero]
      rw [e]
      have nn : ¬ Int32.ofNat d < 0 := Int32.not_lt.2 (ofNat_nn (by omega))
      have sC : f_X0_voteOf_L5 F (ad 0) a b (Int32.ofNat m) (cM X ad σ B) (fc + 1) (Int32.ofNat d) = if A 7 (180 + 4 * d) = 0 then (if A 7 (180 + 4 * d + 1) = a then (if A 7 (180 + 4 * d + 2) = b then (if v = 0 then some r else some (A 7 (180 + 4 * d + 3))) else some r) else some r) else some r := by
        show f_X0_voteOf_L5_b F (ad 0) a b (Int32.ofNat m) (cM X ad σ B) (f_X0_voteOf_L5 F (ad 0) a b (Int32.ofNat m) (cM X ad σ B) fc) (Int32.ofNat d) = _
        unfold f_X0_voteOf_L5_b
        rw [if_neg nn]
        simp (disch := omega) only [Option.bind_some, Option.bind_none, nmE, n_pp, n_pl, n_lp, n_mm, n_ml, n_lm, csI_s, csI_n, csI_2, csA_1, csA_s, csA_n, csA_2, csL_1, csL_2, csL_s, csL_n, csL_3, csQ_1, csQ_2, csQ_3, csQ_s, csQ_n, nar0, c_le, c_le_l, c_le_r, c_lt, c_lt_l, c_lt_r, c_eq, c_eq_l, c_eq_r, if_true, if_false, if_pos, if_neg, oc0 hA, o0_4 hA, o46_5 hA, oc52 hA, q1, q2, q3, q4, q5, q6, c2]
        rw [c1]
      have sT : t_X9_voteOf_L5 F a b (Int32.ofNat m) τ (ft + 1) (Int32.ofNat d) = if A 7 (180 + 4 * d) = 0 then (if A 7 (180 + 4 * d + 1) = a then (if A 7 (180 + 4 * d + 2) = b then (if v = 0 then some r else some (A 7 (180 + 4 * d + 3))) else some r) else some r) else some r := by
        show t_X9_voteOf_L5_b F a b (Int32.ofNat m) τ (t_X9_voteOf_L5 F a b (Int32.ofNat m) τ ft) (Int32.ofNat d) = _
        unfold t_X9_voteOf_L5_b
        rw [if_neg nn]
        simp (disch := omega) only [Option.bind_some, Option.bind_none, nmE, n_pp, n_pl, n_lp, n_mm, n_ml, n_lm, taI_n, taI_l, tsA_n, tsA_l, nar0, twA_1, twA_s, twA_n, twA_2, twA_twA, tsI_s, tsI_n, tsI_2, c_le, c_le_l, c_le_r, c_lt, c_lt_l, c_lt_r, c_eq, c_eq_l, c_eq_r, if_true, if_false, if_pos, if_neg, hT.2 7 rfl, t2]
        rw [t1]
      rw [sC, sT]
      split
      · split
        · split
          · split
            · exact ⟨_, rfl, rfl⟩
            · exact ⟨_, rfl, rfl⟩
          · exact ⟨_, rfl, rfl⟩
        · exact ⟨_, rfl, rfl⟩
      · exact ⟨_, rfl, rfl⟩
  obtain ⟨r, c1, t1⟩ := key m F F (Nat.le_refl _) (by omega) (by omega)
  have e : Int32.ofNat m - 1 = Int32.ofNat m + (-1) := Int32.sub_eq_add_neg _ _
  refine ⟨r, ?_, ?_⟩
  · unfold f_X0_voteOf
    rw [nmE, e]
    exact c1
  · unfold t_X9_voteOf
    rw [nmE, e]
    exact t1
theorem votes_CT (hF : 1000 ≤ F) (hE : EV ad B A) (hC : CR ad B A σ) (hT : TR A τ) {m : Nat} (hm : m ≤ zN A 7 2) {a b : Int32} : ∃ k : Nat, k ≤ 16 ∧ f_X0_votesFor F (ad 0) a b (Int32.ofNat m) (cM X ad σ B) = some (Int32.ofNat k) ∧ t_X9_votesOf F a b (Int32.ofNat m) τ = some (Int32.ofNat k) := by
  have hA := hE.1
  obtain ⟨eH, lH⟩ := hE.2.2.H
  have key : ∀ (d i fc ft k : Nat), i + d = zN A 6 0 → d < fc → d < ft → k ≤ i → ∃ k' : Nat, k' ≤ 16 ∧ f_X0_votesFor_L6 F (ad 0) a b (Int32.ofNat m) (cM X ad σ B) fc (Int32.ofNat k) (Int32.ofNat i) = some (Int32.ofNat k') ∧ t_X9_votesOf_L6 F a b (Int32.ofNat m) τ ft (Int32.ofNat k) (Int32.ofNat i) = some (Int32.ofNat k') := by
    intro d
    induction d with
    | zero =>
      intro i fc ft k hi hfc hft hk
      obtain ⟨fc, rfl⟩ : ∃ m, fc = m + 1 := ⟨fc - 1, by omega⟩
      obtain ⟨ft, rfl⟩ : ∃ m, ft = m + 1 := ⟨ft - 1, by omega⟩
      have e0 : i = zN A 6 0 := by omega
      rw [e0]
      refine ⟨k, by omega, ?_, ?_⟩
      · show f_X0_votesFor_L6_b F (ad 0) a b (Int32.ofNat m) (cM X ad σ B) (f_X0_votesFor_L6 F (ad 0) a b (Int32.ofNat m) (cM X ad σ B) fc) (Int32.ofNat k) (Int32.ofNat (zN A 6 0)) = _
        unfold f_X0_votesFor_L6_b
        simp (disch := omega) only [Option.bind_some, Option.bind_none, nmE, n_pp, n_pl, n_lp, n_mm, n_ml, n_lm, csI_s, csI_n, csI_2, csA_1, csA_s, csA_n, csA_2, csL_1, csL_2, csL_s, csL_n, csL_3, csQ_1, csQ_2, csQ_3, csQ_s, csQ_n, nar0, c_le, c_le_l, c_le_r, c_lt, c_lt_l, c_lt_r, c_eq, c_eq_l, c_eq_r, if_true, if_false, if_pos, if_neg, oc0 hA, houses_C hE]
      · show t_X9_votesOf_L6_b F a b (Int32.ofNat m) τ (t_X9_votesOf_L6 F a b (Int32.ofNat m) τ ft) (Int32.ofNat k) (Int32.ofNat (zN A 6 0)) = _
        unfold t_X9_votesOf_L6_b
        simp (disch := omega) only [Option.bind_some, Option.bind_none, nmE, n_pp, n_pl, n_lp, n_mm, n_ml, n_lm, taI_n, taI_l, tsA_n, tsA_l, nar0, twA_1, twA_s, twA_n, twA_2, twA_twA, tsI_s, tsI_n, tsI_2, c_le, c_le_l, c_le_r, c_lt, c_lt_l, c_lt_r, c_eq, c_eq_l, c_eq_r, if_true, if_false, if_pos, if_neg, hT.2 6 rfl, eH]
    | succ d ih =>
      intro i fc ft k hi hfc hft hk
      obtain ⟨fc, rfl⟩ : ∃ m, fc = m + 1 := ⟨fc - 1, by omega⟩
      obtain ⟨ft, rfl⟩ : ∃ m, ft = m + 1 := ⟨ft - 1, by omega⟩
      obtain ⟨r, c1, t1⟩ := voteOf_CT (X := X) (F := F) hF hE hC hT hm (a := Int32.ofNat i) (b := a)
      have sC : f_X0_votesFor_L6 F (ad 0) a b (Int32.ofNat m) (cM X ad σ B) (fc + 1) (Int32.ofNat k) (Int32.ofNat i) = if r = b then f_X0_votesFor_L6 F (ad 0) a b (Int32.ofNat m) (cM X ad σ B) fc (Int32.ofNat (k + 1)) (Int32.ofNat (i + 1)) else f_X0_votesFor_L6 F (ad 0) a b (Int32.ofNat m) (cM X ad σ B) fc (Int32.ofNat k) (Int32.ofNat (i + 1)) := by
        show f_X0_votesFor_L6_b F (ad 0) a b (Int32.ofNat m) (cM X ad σ B) (f_X0_votesFor_L6 F (ad 0) a b (Int32.ofNat m) (cM X ad σ B) fc) (Int32.ofNat k) (Int32.ofNat i) = _
        unfold f_X0_votesFor_L6_b
        simp (disch := omega) only [Option.bind_some, Option.bind_none, nmE, n_pp, n_pl, n_lp, n_mm, n_ml, n_lm, csI_s, csI_n, csI_2, csA_1, csA_s, csA_n, csA_2, csL_1, csL_2, csL_s, csL_n, csL_3, csQ_1, csQ_2, csQ_3, csQ_s, csQ_n, nar0, c_le, c_le_l, c_le_r, c_lt, c_lt_l, c_lt_r, c_eq, c_eq_l, c_eq_r, if_true, if_false, if_pos, if_neg, oc0 hA, houses_C hE, c1]
      have sT : t_X9_votesOf_L6 F a b (Int32.ofNat m) τ (ft + 1) (Int32.ofNat k) (Int32.ofNat i) = if r = b then t_X9_votesOf_L6 F a b (Int32.ofNat m) τ ft (Int32.ofNat (k + 1)) (Int32.ofNat (i + 1)) else t_X9_votesOf_L6 F a b (Int32.ofNat m) τ ft (Int32.ofNat k) (Int32.ofNat (i + 1)) := by
        show t_X9_votesOf_L6_b F a b (Int32.ofNat m) τ (t_X9_votesOf_L6 F a b (Int32.ofNat m) τ ft) (Int32.ofNat k) (Int32.ofNat i) = _
        unfold t_X9_votesOf_L6_b
        simp (disch := omega) only [Option.bind_some, Option.bind_none, nmE, n_pp, n_pl, n_lp, n_mm, n_ml, n_lm, taI_n, taI_l, tsA_n, tsA_l, nar0, twA_1, twA_s, twA_n, twA_2, twA_twA, tsI_s, tsI_n, tsI_2, c_le, c_le_l, c_le_r, c_lt, c_lt_l, c_lt_r, c_eq, c_eq_l, c_eq_r, if_true, if_false, if_pos, if_neg, hT.2 6 rfl, eH, t1]
        rfl
      rw [sC, sT]
      by_cases h : r = b
      · rw [if_pos h, if_pos h]
        exact ih (i + 1) fc ft (k + 1) (by omega) (by omega) (by omega) (by omega)
      · rw [if_neg h, if_neg h]
        exact ih (i + 1) fc ft k (by omega) (by omega) (by omega) (by omega)
  exact key (zN A 6 0) 0 F F 0 (Nat.zero_add _) (by omega) (by omega) (Nat.le_refl _)
theorem isKnown_C (hA : AdOK ad B) (hC : CR ad B A σ) (l60 : zN A 7 2 ≤ 60) (y : Int32) : f_X0_isKnown F (ad 0) y (cM X ad σ B) = some (if inN y (zN A 7 2 + 1) then 1 else 0) := by
  unfold f_X0_isKnown
  rw [o0_4 hA, Option.bind_some, o46_5 hA, Option.bind_some, oc52 hA, Option.bind_some, size52 hA, Option.bind_some, hC.nl, within_v (inN y (zN A 7 2 + 1)) (by
    rw [i_tn (by omega)]
    show ((0 : Int) ≤ y.toInt ∧ y.toInt ≤ (zN A 7 2 : Int)) ↔ (0 : Int) ≤ y.toInt ∧ y.toInt < ((zN A 7 2 + 1 : Nat) : Int)
    omega), Option.bind_some]
  by_cases h : inN y (zN A 7 2 + 1)
  · rw [if_pos h, if_pos (Or.inr rfl)]
  · rw [if_neg h, if_pos (Or.inl rfl)]
theorem isKnown_T (hW : WF A) (hT : TR A τ) (y : Int32) : t_X9_isKnown F y τ = some (if inN y (zN A 7 2 + 1) then 1 else 0) := by
  obtain ⟨el, ll⟩ := hW.nl
  unfold t_X9_isKnown
  simp (disch := omega) only [Option.bind_some, Option.bind_none, nmE, n_pp, n_pl, n_lp, n_mm, n_ml, n_lm, taI_n, taI_l, tsA_n, tsA_l, nar0, twA_1, twA_s, twA_n, twA_2, twA_twA, tsI_s, tsI_n, tsI_2, c_le, c_le_l, c_le_r, c_lt, c_lt_l, c_lt_r, c_eq, c_eq_l, c_eq_r, if_true, if_false, if_pos, if_neg, hT.2 7 rfl, el]
  by_cases h : y < 0
  · rw [if_pos h, if_neg]
    intro h2
    have := Int32.lt_iff_toInt_lt.1 h
    have z : (0 : Int32).toInt = 0 := rfl
    have := h2.1
    omega
  · rw [if_neg h]
    have h0 := Int32.not_lt.1 h
    have h0 := Int32.le_iff_toInt_le.1 h0
    have z : (0 : Int32).toInt = 0 := rfl
    by_cases h2 : Int32.ofNat (zN A 7 2) < y
    · rw [if_pos h2, if_neg]
      intro h3
      have h4 := Int32.lt_iff_toInt_lt.1 h2
      rw [i_tn (by omega)] at h4
      have := h3.2
      omega
    · rw [if_neg h2, if_pos]
      have h4 := Int32.le_iff_toInt_le.1 (Int32.not_lt.1 h2)
      rw [i_tn (by omega)] at h4
      exact ⟨by omega, by omega⟩
/-- 36: votes -/
theorem st_36 (hF : 1000000 ≤ F) (h : INV ad B A σ τ) (x : Nat → Int32) : ST F 36 x X ad B σ τ := by
  have hI := h
  obtain ⟨hE, hK, hC, hT⟩ := h
  have hA := hE.1
  obtain ⟨el, ll⟩ := hE.2.2.nl
  have e1 : ∃ r, f_X0_votes F (ad 0) (x 1) (x 2) (x 3) (cM X ad σ B) = some r ∧ t_X9_votes F (x 1) (x 2) (x 3) τ = some r := by
    unfold f_X0_votes t_X9_votes
    rw [oc0 hA, Option.bind_some, isOffice_C hE, Option.bind_some, gd, Option.bind_some, isHouse_C hE, Option.bind_some, gd, Option.bind_some, isKnown_C hA hC ll, Option.bind_some, gd, Option.bind_some]
    rw [isOffice_T hE.2.2 hT, Option.bind_some, gd, isHouse_T hE.2.2 hT, Option.bind_some, gd, isKnown_T hE.2.2 hT, Option.bind_some, gd]
    by_cases c1 : inN (x 1) (zN A 6 1)
    · rw [if_pos c1, if_pos c1]
      by_cases c2 : inN (x 2) (zN A 6 0)
      · rw [if_pos c2, if_pos c2]
        by_cases c3 : inN (x 3) (zN A 7 2 + 1)
        · rw [if_pos c3, if_pos c3]
          obtain ⟨m, hm, e⟩ := c3.ex
          obtain ⟨k, -, q1, q2⟩ := votes_CT (X := X) (F := F) (by omega) hE hC hT (m := m) (by omega) (a := x 1) (b := x 2)
          rw [e, q1, q2]
          exact ⟨_, rfl, rfl⟩
        · rw [if_neg c3, if_neg c3]; exact ⟨_, rfl, rfl⟩
      · rw [if_neg c2, if_neg c2]; exact ⟨_, rfl, rfl⟩
    · rw [if_neg c1, if_neg c1]; exact ⟨_, rfl, rfl⟩
  obtain ⟨r, e1, e2⟩ := e1
  exact ST.ro hI (show (Option.bind (f_X0_votes F (ad 0) (x 1) (x 2) (x 3) (cM X ad σ B)) fun r => some (r, cM X ad σ B)) = some (r, cM X ad σ B) by rw [e1]; rfl) (show (Option.bind (t_X9_votes F (x 1) (x 2) (x 3) τ) fun r => some (r, τ)) = some (r, τ) by rw [e2]; rfl) hC hT
