set_option maxRecDepth 100000
/-! 37: winner -/
variable {X : Nat → Option Ob} {ad ad' : Nat → Nat} {B B' : Sw} {A A' : Av} {σ σ' : Cs} {τ : Tw} {F : Nat}
theorem winner_CT (hF : 1000 ≤ F) (hE : EV ad B A) (hC : CR ad B A σ) (hT : TR A τ) {m : Nat} (hm : m ≤ zN A 7 2) {a : Int32} : ∃ r, f_X0_winner_L27 F (ad 0) a (Int32.ofNat m) (cM X ad σ B) F (-2) 0 0 = some r ∧ t_X9_winner_L27 F a (Int32.ofNat m) τ F (-2) 0 0 = some r := by
  have hA := hE.1
  obtain ⟨eH, lH⟩ := hE.2.2.H
  have h47 := hC.2.2.2.1
  have key : ∀ (d i fc ft : Nat) (best : Int32) (k : Nat), i + d = zN A 6 0 → d < fc → d < ft → k ≤ 16 → ((best = -2 ∧ k = 0) ∨ ((∃ b, b < 16 ∧ best = Int32.ofNat b) ∧ 1 ≤ k)) → ∃ r, f_X0_winner_L27 F (ad 0) a (Int32.ofNat m) (cM X ad σ B) fc best (Int32.ofNat k) (Int32.ofNat i) = some r ∧ t_X9_winner_L27 F a (Int32.ofNat m) τ ft best (Int32.ofNat k) (Int32.ofNat i) = some r := by
    intro d
    induction d with
    | zero =>
      intro i fc ft best k hi hfc hft hk hb
      obtain ⟨fc, rfl⟩ : ∃ m, fc = m + 1 := ⟨fc - 1, by omega⟩
      obtain ⟨ft, rfl⟩ : ∃ m, ft = m + 1 := ⟨ft - 1, by omega⟩
      have e0 : i = zN A 6 0 := by omega
      rw [e0]
      refine ⟨best, ?_, ?_⟩
      · show f_X0_winner_L27_b F (ad 0) a (Int32.ofNat m) (cM X ad σ B) (f_X0_winner_L27 F (ad 0) a (Int32.ofNat m) (cM X ad σ B) fc) best (Int32.ofNat k) (Int32.ofNat (zN A 6 0)) = _
        unfold f_X0_winner_L27_b
        simp (disch := omega) only [Option.bind_some, Option.bind_none, nmE, n_pp, n_pl, n_lp, n_mm, n_ml, n_lm, csI_s, csI_n, csI_2, csA_1, csA_s, csA_n, csA_2, csL_1, csL_2, csL_s, csL_n, csL_3, csQ_1, csQ_2, csQ_3, csQ_s, csQ_n, nar0, c_le, c_le_l, c_le_r, c_lt, c_lt_l, c_lt_r, c_eq, c_eq_l, c_eq_r, if_true, if_false, if_pos, if_neg, oc0 hA, houses_C hE]
      · show t_X9_winner_L27_b F a (Int32.ofNat m) τ (t_X9_winner_L27 F a (Int32.ofNat m) τ ft) best (Int32.ofNat k) (Int32.ofNat (zN A 6 0)) = _
        unfold t_X9_winner_L27_b
        simp (disch := omega) only [Option.bind_some, Option.bind_none, nmE, n_pp, n_pl, n_lp, n_mm, n_ml, n_lm, taI_n, taI_l, tsA_n, tsA_l, nar0, twA_1, twA_s, twA_n, twA_2, twA_twA, tsI_s, tsI_n, tsI_2, c_le, c_le_l, c_le_r, c_lt, c_lt_l, c_lt_r, c_eq, c_eq_l, c_eq_r, if_true, if_false, if_pos, if_neg, hT.2 6 rfl, eH]
    | succ d ih =>
      intro i fc ft best k hi hfc hft hk hb
      obtain ⟨fc, rfl⟩ : ∃ m, fc = m + 1 := ⟨fc - 1, by omega⟩
      obtain ⟨ft, rfl⟩ : ∃ m, ft = m + 1 := ⟨ft - 1, by omega⟩
      obtain ⟨n, hn, c1, t1⟩ := votes_CT (X := X) (F := F) hF hE hC hT hm (a := a) (b := Int32.ofNat i)
      have i16 : i < 16 := by omega
      have keep := ih (i + 1) fc ft best k (by omega) (by omega) (by omega) hk hb
      have take := fun h : 1 ≤ n => ih (i + 1) fc ft (Int32.ofNat i) n (by omega) (by omega) (by omega) hn (Or.inr ⟨⟨i, i16, rfl⟩, h⟩)
      have sC : f_X0_winner_L27 F (ad 0) a (Int32.ofNat m) (cM X ad σ B) (fc + 1) best (Int32.ofNat k) (Int32.ofNat i) = if n = 0 then f_X0_winner_L27 F (ad 0) a (Int32.ofNat m) (cM X ad σ B) fc best (Int32.ofNat k) (Int32.ofNat (i + 1)) else if n < k then f_X0_winner_L27 F (ad 0) a (Int32.ofNat m) (cM X ad σ B) fc best (Int32.ofNat k) (Int32.ofNat (i + 1)) else if n = k then (Option.bind (aI (cM X ad σ B) 0 (ad 47) best) fun x29 => if x29 < A 7 (10 + i) then f_X0_winner_L27 F (ad 0) a (Int32.ofNat m) (cM X ad σ B) fc (Int32.ofNat i) (Int32.ofNat n) (Int32.ofNat (i + 1)) else f_X0_winner_L27 F (ad 0) a (Int32.ofNat m) (cM X ad σ B) fc best (Int32.ofNat k) (Int32.ofNat (i + 1))) else f_X0_winner_L27 F (ad 0) a (Int32.ofNat m) (cM X ad σ B) fc (Int32.ofNat i) (Int32.ofNat n) (Int32.ofNat (i + 1)) := by
        show f_X0_winner_L27_b F (ad 0) a (Int32.ofNat m) (cM X ad σ B) (f_X0_winner_L27 F (ad 0) a (Int32.ofNat m) (cM X ad σ B) fc) best (Int32.ofNat k) (Int32.ofNat i) = _
        unfold f_X0_winner_L27_b
        simp (disch := omega) only [Option.bind_some, Option.bind_none, nmE, n_pp, n_pl, n_lp, n_mm, n_ml, n_lm, csI_s, csI_n, csI_2, csA_1, csA_s, csA_n, csA_2, csL_1, csL_2, csL_s, csL_n, csL_3, csQ_1, csQ_2, csQ_3, csQ_s, csQ_n, nar0, c_le, c_le_l, c_le_r, c_lt, c_lt_l, c_lt_r, c_eq, c_eq_l, c_eq_r, if_true, if_false, if_pos, if_neg, oc0 hA, houses_C hE, c1, o0_4 hA, o46_0 hA, a47 hA, h47 i i16]
      have sT : t_X9_winner_L27 F a (Int32.ofNat m) τ (ft + 1) best (Int32.ofNat k) (Int32.ofNat i) = if n < k then t_X9_winner_L27 F a (Int32.ofNat m) τ ft best (Int32.ofNat k) (Int32.ofNat (i + 1)) else if n = 0 then t_X9_winner_L27 F a (Int32.ofNat m) τ ft best (Int32.ofNat k) (Int32.ofNat (i + 1)) else if n = k then (if best < 0 then t_X9_winner_L27 F a (Int32.ofNat m) τ ft (Int32.ofNat i) (Int32.ofNat n) (Int32.ofNat (i + 1)) else Option.bind (t_X9_heightOf F best τ) fun q20 => if q20 < A 7 (10 + i) then t_X9_winner_L27 F a (Int32.ofNat m) τ ft (Int32.ofNat i) (Int32.ofNat n) (Int32.ofNat (i + 1)) else t_X9_winner_L27 F a (Int32.ofNat m) τ ft best (Int32.ofNat k) (Int32.ofNat (i + 1))) else t_X9_winner_L27 F a (Int32.ofNat m) τ ft (Int32.ofNat i) (Int32.ofNat n) (Int32.ofNat (i + 1)) := by
        show t_X9_winner_L27_b F a (Int32.ofNat m) τ (t_X9_winner_L27 F a (Int32.ofNat m) τ ft) best (Int32.ofNat k) (Int32.ofNat i) = _
        unfold t_X9_winner_L27_b
        have hh : t_X9_heightOf F (Int32.ofNat i) τ = some (A 7 (10 + i)) := heightOf_T (by omega) hT
        simp (disch := omega) only [Option.bind_some, Option.bind_none, nmE, n_pp, n_pl, n_lp, n_mm, n_ml, n_lm, taI_n, taI_l, tsA_n, tsA_l, nar0, twA_1, twA_s, twA_n, twA_2, twA_twA, tsI_s, tsI_n, tsI_2, c_le, c_le_l, c_le_r, c_lt, c_lt_l, c_lt_r, c_eq, c_eq_l, c_eq_r, if_true, if_false, if_pos, if_neg, hT.2 6 rfl, eH, t1, hh]
      rw [sC, sT]
      by_cases n0 : n = 0
      · rw [if_pos n0, if_pos n0]
        by_cases h : n < k
        · rw [if_pos h]; exact keep
        · rw [if_neg h]; exact keep
      rw [if_neg n0, if_neg n0]
      by_cases h : n < k
      · rw [if_pos h, if_pos h]; exact keep
      rw [if_neg h, if_neg h]
      by_cases h2 : n = k
      · rw [if_pos h2, if_pos h2]
        rcases hb with ⟨-, hb⟩ | ⟨⟨b, hb, e⟩, -⟩
        · omega
        · have nn : ¬ Int32.ofNat b < 0 := Int32.not_lt.2 (ofNat_nn (by omega))
          have hh : t_X9_heightOf F (Int32.ofNat b) τ = some (A 7 (10 + b)) := heightOf_T (by omega) hT
          rw [e] at keep ⊢
          rw [if_neg nn, a47 hA _ _ hb, h47 b hb, hh, Option.bind_some, Option.bind_some]
          by_cases h3 : A 7 (10 + b) < A 7 (10 + i)
          · rw [if_pos h3, if_pos h3]; exact take (by omega)
          · rw [if_neg h3, if_neg h3]; exact keep
      · rw [if_neg h2, if_neg h2]
        exact take (by omega)
  exact key (zN A 6 0) 0 F F (-2) 0 (Nat.zero_add _) (by omega) (by omega) (by omega) (Or.inl ⟨rfl, rfl⟩)
theorem st_37 (hF : 1000000 ≤ F) (h : INV ad B A σ τ) (x : Nat → Int32) : ST F 37 x X ad B σ τ := by
  have hI := h
  obtain ⟨hE, hK, hC, hT⟩ := h
  have hA := hE.1
  obtain ⟨el, ll⟩ := hE.2.2.nl
  have e1 : ∃ r, f_X0_winner F (ad 0) (x 1) (x 2) (cM X ad σ B) = some r ∧ t_X9_winner F (x 1) (x 2) τ = some r := by
    unfold f_X0_winner t_X9_winner
    rw [oc0 hA, Option.bind_some, isOffice_C hE, Option.bind_some, gd, Option.bind_some, isKnown_C hA hC ll, Option.bind_some, gd]
    rw [isOffice_T hE.2.2 hT, Option.bind_some, gd, isKnown_T hE.2.2 hT, Option.bind_some, gd]
    by_cases c1 : inN (x 1) (zN A 6 1)
    · rw [if_pos c1, if_pos c1]
      by_cases c3 : inN (x 2) (zN A 7 2 + 1)
      · rw [if_pos c3, if_pos c3]
        obtain ⟨m, hm, e⟩ := c3.ex
        rw [e]
        exact winner_CT (by omega) hE hC hT (by omega)
      · rw [if_neg c3, if_neg c3]; exact ⟨_, rfl, rfl⟩
    · rw [if_neg c1, if_neg c1]; exact ⟨_, rfl, rfl⟩
  obtain ⟨r, e1, e2⟩ := e1
  exact ST.ro hI (show (Option.bind (f_X0_winner F (ad 0) (x 1) (x 2) (cM X ad σ B)) fun r => some (r, cM X ad σ B)) = some (r, cM X ad σ B) by rw [e1]; rfl) (show (Option.bind (t_X9_winner F (x 1) (x 2) τ) fun r => some (r, τ)) = some (r, τ) by rw [e2]; rfl) hC hT
/-- no such case -/
theorem st_more (h : INV ad B A σ τ) (x : Nat → Int32) {k : Nat} (hk : 43 ≤ k) : ST F k x X ad B σ τ := by
  obtain ⟨j, rfl⟩ : ∃ j, k = j + 43 := ⟨k - 43, by omega⟩
  exact ST.ro h (r := 0) rfl rfl h.2.2.1 h.2.2.2
