set_option maxRecDepth 100000
/-! 27, 28 -/
variable {X : Nat → Option Ob} {ad : Nat → Nat} {B : Sw} {A A' : Av} {σ σ' : Cs} {τ : Tw} {F : Nat}
theorem ST.ir {k : Nat} {x : Nat → Int32} {r : Int32} {A' : Av} {σ' : Cs} {τ' : Tw} (h : INV ad B A σ τ) (h1 : stC F k (ad 0) x (cM X ad σ B) = some (r, cM X ad σ' B)) (h2 : stT F k x τ = some (r, τ')) (hi : irr A A') (h3 : CR ad B A' σ') (h4 : TR A' τ') : ST F k x X ad B σ τ := ST.rw h h1 h2 (hi.tb h.1.2.1) (hi.wf h.1.2.2) h3 h4
theorem st_27 (hF : 1000000 ≤ F) (h : INV ad B A σ τ) (x : Nat → Int32) : ST F 27 x X ad B σ τ := by
  have hI := h
  obtain ⟨hE, hK, hC, hT⟩ := h
  have hA := hE.1
  have lH := hE.2.2.H.2
  have h1 : stC F 27 (ad 0) x (cM X ad σ B) = f_X0_chain F (ad 0) (x 1) (x 2) (x 3) (cM X ad σ B) := rfl
  have h2 : stT F 27 x τ = t_X9_chain F (x 1) (x 2) (x 3) τ := rfl
  unfold f_X0_chain at h1
  unfold t_X9_chain at h2
  rw [oc0 hA, Option.bind_some, isHouse_C hE, Option.bind_some, gd] at h1
  rw [isHouse_T hE.2.2 hT, Option.bind_some, gd] at h2
  by_cases hh : inN (x 1) (zN A 6 0)
  · rw [if_pos hh, isWind_C, Option.bind_some, gd] at h1
    rw [if_pos hh, isWind_T, Option.bind_some, gd] at h2
    by_cases hw : inN (x 2) 100
    · obtain ⟨k, hk, e⟩ := hh.ex
      rw [if_pos hw, Option.bind_some, isHouse_C hE, Option.bind_some, gd] at h1
      rw [if_pos hw, isIn_v (x 3 = 0 ∨ x 3 = 1) (by
        constructor
        · rintro ⟨a, b⟩
          have a' : (0 : Int) ≤ (x 3).toInt := a
          have b' : (x 3).toInt ≤ 1 := b
          by_cases c : (x 3).toInt = 0
          · exact Or.inl (Int32.toInt_inj.1 (c.trans rfl))
          · exact Or.inr (Int32.toInt_inj.1 ((show (x 3).toInt = 1 by omega).trans rfl))
        · rintro (a | a)
          · rw [a]; decide
          · rw [a]; decide), Option.bind_some, gd, isHouse_T hE.2.2 hT, Option.bind_some, gd] at h2
      obtain ⟨A', σ', τ', l, r1, r2, r3, r4, r5, r6, r7⟩ := chains_CT (X := X) (F := F) (by omega) hE hC hT hk (w := x 2)
      have hE' := r1.ev hE
      have hA' := hE'.1
      have g6 : zN A' 6 0 = zN A 6 0 := by unfold zN; rw [r1.1 6 (by omega)]
      have jC : f_X0_chain_j37 F (ad 0) (x 1) (x 2) (x 3) (cM X ad σ B) = if x 3 = 0 then some (pc (A' 0 48), cM X ad σ' B) else if x 3 ≤ 1 then some (Int32.ofNat l, cM X ad σ' B) else Option.bind (aI (cM X ad σ' B) 0 (ad 31) (x 3 - 10)) fun x9 => if x9 = (-1) then some ((-2), cM X ad σ' B) else Option.bind (aI (cM X ad σ' B) 0 (ad 31) (x 3 - 10)) fun x14 => some (x14, cM X ad σ' B) := by
        unfold f_X0_chain_j37
        rw [oc0 hA, Option.bind_some, e, r6, Option.bind_some]
        simp (disch := omega) only [Option.bind_some, Option.bind_none, nmE, n_pp, n_pl, n_lp, n_mm, n_ml, n_lm, csI_s, csI_n, csI_2, csA_1, csA_s, csA_n, csA_2, csL_1, csL_2, csL_s, csL_n, csL_3, csQ_1, csQ_2, csQ_3, csQ_s, csQ_n, nar0, c_le, c_le_l, c_le_r, c_lt, c_lt_l, c_lt_r, c_eq, c_eq_l, c_eq_r, if_true, if_false, if_pos, if_neg, o0_18 hA, last_C (X := X) (F := F) (by omega) hE' r4]
      have jT : t_X9_chain_j37 F (x 1) (x 2) (x 3) τ = if x 3 = 0 then some (pc (A' 0 48), τ') else if x 3 = 1 then some (Int32.ofNat l, τ') else Option.bind (taI τ' 32 16 (x 3 - 10)) fun x5 => some (x5, τ') := by
        unfold t_X9_chain_j37
        rw [e, r7, Option.bind_some, r3.1 48 rfl, count_T (by omega), r3.1 49 rfl, r4.2.1]
        rfl
      rw [jC] at h1
      rw [jT] at h2
      by_cases c0 : x 3 = 0
      · rw [if_pos c0, if_pos c0] at h1
        rw [if_pos (Or.inl c0), if_pos c0] at h2
        exact ST.ir hI h1 h2 r1 r2 r3
      have n0 : ¬ x 3 = 0 := c0
      rw [if_neg c0] at h1 h2
      by_cases c1 : x 3 = 1
      · rw [if_pos c1, if_neg c0, if_pos (by rw [c1]; decide)] at h1
        rw [if_pos (Or.inr c1), if_pos c1] at h2
        exact ST.ir hI h1 h2 r1 r2 r3
      have n01 : ¬ (x 3 = 0 ∨ x 3 = 1) := fun q => q.elim c0 c1
      rw [if_neg c1] at h1
      rw [if_neg n01, if_neg c1] at h2
      by_cases hd : inN (x 3 - 10) (zN A 6 0)
      · obtain ⟨d, ld, ed⟩ := hd.ex
        have n1 : ¬ x 3 ≤ 1 := by
          have e2 : x 3 = Int32.ofNat (d + 10) := by
            have : x 3 = (x 3 - 10) + 10 := (Int32.sub_add_cancel _ _).symm
            rw [this, ed]
            exact n_lp 10 d
          rw [e2]
          simp (disch := omega) only [Option.bind_some, Option.bind_none, nmE, n_pp, n_pl, n_lp, n_mm, n_ml, n_lm, csI_s, csI_n, csI_2, csA_1, csA_s, csA_n, csA_2, csL_1, csL_2, csL_s, csL_n, csL_3, csQ_1, csQ_2, csQ_3, csQ_s, csQ_n, nar0, c_le, c_le_l, c_le_r, c_lt, c_lt_l, c_lt_r, c_eq, c_eq_l, c_eq_r, if_true, if_false, if_pos, if_neg]
          omega
        rw [if_pos hd, if_neg c0, if_neg n1, ed] at h1
        rw [if_pos hd, ed] at h2
        simp (disch := omega) only [Option.bind_some, Option.bind_none, nmE, n_pp, n_pl, n_lp, n_mm, n_ml, n_lm, csI_s, csI_n, csI_2, csA_1, csA_s, csA_n, csA_2, csL_1, csL_2, csL_s, csL_n, csL_3, csQ_1, csQ_2, csQ_3, csQ_s, csQ_n, nar0, c_le, c_le_l, c_le_r, c_lt, c_lt_l, c_lt_r, c_eq, c_eq_l, c_eq_r, if_true, if_false, if_pos, if_neg, a31 hA'] at h1
        simp (disch := omega) only [Option.bind_some, Option.bind_none, nmE, n_pp, n_pl, n_lp, n_mm, n_ml, n_lm, taI_n, taI_l, tsA_n, tsA_l, nar0, twA_1, twA_s, twA_n, twA_2, twA_twA, tsI_s, tsI_n, tsI_2, c_le, c_le_l, c_le_r, c_lt, c_lt_l, c_lt_r, c_eq, c_eq_l, c_eq_r, if_true, if_false, if_pos, if_neg, r3.2 32 rfl] at h2
        rcases r4.1 d (by rw [g6]; exact ld) with ⟨a, b, -⟩ | ⟨j, hj, a, b, -⟩
        · rw [a, if_pos rfl] at h1
          rw [b] at h2
          exact ST.ir hI h1 h2 r1 r2 r3
        · have := r4.2.2.2.1
          rw [a, if_neg (ofNat_ne_m1 (by omega))] at h1
          rw [b] at h2
          exact ST.ir hI h1 h2 r1 r2 r3
      · rw [if_neg hd] at h1 h2
        exact ST.ro hI h1 h2 hC hT
    · rw [if_neg hw] at h1 h2
      exact ST.ro hI h1 h2 hC hT
  · rw [if_neg hh] at h1 h2
    exact ST.ro hI h1 h2 hC hT
theorem pcN_pos {n i : Nat} : ∀ k, i < k → n.testBit i = true → 0 < pcN n k := by
  intro k
  induction k with
  | zero => intro h; exact absurd h (Nat.not_lt_zero i)
  | succ k ih =>
    intro h ht
    show 0 < pcN n k + (if n.testBit k then 1 else 0)
    by_cases e : i = k
    · rw [← e, if_pos ht]; omega
    · have := ih (by omega) ht
      omega
theorem pc_pos {v : Int32} {i : Nat} (hi : i < 16) (h : tb v i = true) (hb : b16 v) : ∃ k, 0 < k ∧ k ≤ 16 ∧ pc v = Int32.ofNat k := ⟨_, pcN_pos 16 hi h, (sw_ok hb.lt).2.2.2.2.2, rfl⟩
/-- 28: dread -/
theorem dread_CT (hF : 100000 ≤ F) {w : Int32} : ∀ (d i fc ft : Nat) (best : Int32) (cnt : Nat) (A : Av) (σ : Cs) (τ : Tw), i + d = zN A 6 0 → d < fc → d < ft → EV ad B A → CR ad B A σ → TR A τ → ((best = -2 ∧ cnt = 0) ∨ ((∃ b, b < 16 ∧ best = Int32.ofNat b) ∧ cnt ≤ 16)) → ∃ A' σ' τ' r, irr A A' ∧ CR ad B A' σ' ∧ TR A' τ' ∧ f_X0_dread_L17 F (ad 0) w fc best (Int32.ofNat cnt) (Int32.ofNat i) (cM X ad σ B) = some (r, cM X ad σ' B) ∧ t_X9_dread_L17 F w ft best (Int32.ofNat cnt) (Int32.ofNat i) τ = some (r, τ') := by
  intro d
  induction d with
  | zero =>
    intro i fc ft best cnt A σ τ hi hfc hft hE hC hT hb
    obtain ⟨fc, rfl⟩ : ∃ m, fc = m + 1 := ⟨fc - 1, by omega⟩
    obtain ⟨ft, rfl⟩ : ∃ m, ft = m + 1 := ⟨ft - 1, by omega⟩
    obtain ⟨eH, lH⟩ := hE.2.2.H
    have e0 : i = zN A 6 0 := by omega
    rw [e0]
    refine ⟨A, σ, τ, best, irr.rf, hC, hT, ?_, ?_⟩
    · show f_X0_dread_L17_b F (ad 0) w (f_X0_dread_L17 F (ad 0) w fc) best (Int32.ofNat cnt) (Int32.ofNat (zN A 6 0)) _ = _
      unfold f_X0_dread_L17_b
      simp (disch := omega) only [Option.bind_some, Option.bind_none, nmE, n_pp, n_pl, n_lp, n_mm, n_ml, n_lm, csI_s, csI_n, csI_2, csA_1, csA_s, csA_n, csA_2, csL_1, csL_2, csL_s, csL_n, csL_3, csQ_1, csQ_2, csQ_3, csQ_s, csQ_n, nar0, c_le, c_le_l, c_le_r, c_lt, c_lt_l, c_lt_r, c_eq, c_eq_l, c_eq_r, if_true, if_false, if_pos, if_neg, oc0 hE.1, houses_C hE]
    · show t_X9_dread_L17_b F w (t_X9_dread_L17 F w ft) best (Int32.ofNat cnt) (Int32.ofNat (zN A 6 0)) τ = _
      unfold t_X9_dread_L17_b
      simp (disch := omega) only [Option.bind_some, Option.bind_none, nmE, n_pp, n_pl, n_lp, n_mm, n_ml, n_lm, taI_n, taI_l, tsA_n, tsA_l, nar0, twA_1, twA_s, twA_n, twA_2, twA_twA, tsI_s, tsI_n, tsI_2, c_le, c_le_l, c_le_r, c_lt, c_lt_l, c_lt_r, c_eq, c_eq_l, c_eq_r, if_true, if_false, if_pos, if_neg, hT.2 6 rfl, eH]
  | succ d ih =>
    intro i fc ft best cnt A σ τ hi hfc hft hE hC hT hb
    obtain ⟨fc, rfl⟩ : ∃ m, fc = m + 1 := ⟨fc - 1, by omega⟩
    obtain ⟨ft, rfl⟩ : ∃ m, ft = m + 1 := ⟨ft - 1, by omega⟩
    have hA := hE.1
    obtain ⟨eH, lH⟩ := hE.2.2.H
    obtain ⟨A1, σ1, τ1, l, r1, r2, r3, r4, r5, r6, r7⟩ := chains_CT (X := X) (F := F) (by omega) hE hC hT (show i < zN A 6 0 by omega) (w := w)
    have hE1 := r1.ev hE
    have g6 : zN A1 6 0 = zN A 6 0 := by unfold zN; rw [r1.1 6 (by omega)]
    obtain ⟨k, k0, k16, ek⟩ := pc_pos (show i < 16 by omega) r5 r4.2.2.2.2
    have c16 : cnt ≤ 16 := by rcases hb with h | h <;> omega
    have sC : f_X0_dread_L17 F (ad 0) w (fc + 1) best (Int32.ofNat cnt) (Int32.ofNat i) (cM X ad σ B) = if cnt < k then f_X0_dread_L17 F (ad 0) w fc (Int32.ofNat i) (Int32.ofNat k) (Int32.ofNat (i + 1)) (cM X ad σ1 B) else f_X0_dread_L17 F (ad 0) w fc best (Int32.ofNat cnt) (Int32.ofNat (i + 1)) (cM X ad σ1 B) := by
      show f_X0_dread_L17_b F (ad 0) w (f_X0_dread_L17 F (ad 0) w fc) best (Int32.ofNat cnt) (Int32.ofNat i) _ = _
      unfold f_X0_dread_L17_b
      simp (disch := omega) only [Option.bind_some, Option.bind_none, nmE, n_pp, n_pl, n_lp, n_mm, n_ml, n_lm, csI_s, csI_n, csI_2, csA_1, csA_s, csA_n, csA_2, csL_1, csL_2, csL_s, csL_n, csL_3, csQ_1, csQ_2, csQ_3, csQ_s, csQ_n, nar0, c_le, c_le_l, c_le_r, c_lt, c_lt_l, c_lt_r, c_eq, c_eq_l, c_eq_r, if_true, if_false, if_pos, if_neg, oc0 hA, houses_C hE, r6, ek]
    have sT : t_X9_dread_L17 F w (ft + 1) best (Int32.ofNat cnt) (Int32.ofNat i) τ = if best < 0 then t_X9_dread_L17 F w ft (Int32.ofNat i) (Int32.ofNat k) (Int32.ofNat (i + 1)) τ1 else if cnt < k then t_X9_dread_L17 F w ft (Int32.ofNat i) (Int32.ofNat k) (Int32.ofNat (i + 1)) τ1 else t_X9_dread_L17 F w ft best (Int32.ofNat cnt) (Int32.ofNat (i + 1)) τ1 := by
      show t_X9_dread_L17_b F w (t_X9_dread_L17 F w ft) best (Int32.ofNat cnt) (Int32.ofNat i) τ = _
      unfold t_X9_dread_L17_b
      have hc : p_X9_bitsOf F (A1 0 48) = some (Int32.ofNat k) := by rw [count_T (by omega), ek]
      simp (disch := omega) only [Option.bind_some, Option.bind_none, nmE, n_pp, n_pl, n_lp, n_mm, n_ml, n_lm, taI_n, taI_l, tsA_n, tsA_l, nar0, twA_1, twA_s, twA_n, twA_2, twA_twA, tsI_s, tsI_n, tsI_2, c_le, c_le_l, c_le_r, c_lt, c_lt_l, c_lt_r, c_eq, c_eq_l, c_eq_r, if_true, if_false, if_pos, if_neg, hT.2 6 rfl, eH, r7, r3.1 48 rfl, hc]
    have hneg : ¬ cnt < k → ¬ best < 0 := by
      intro h
      rcases hb with ⟨-, h2⟩ | ⟨⟨b, hb, e⟩, -⟩
      · omega
      · rw [e]
        exact Int32.not_lt.2 (ofNat_nn (by omega))
    by_cases h : cnt < k
    · rw [if_pos h] at sC
      rw [if_pos h] at sT
      have sT' : t_X9_dread_L17 F w (ft + 1) best (Int32.ofNat cnt) (Int32.ofNat i) τ = t_X9_dread_L17 F w ft (Int32.ofNat i) (Int32.ofNat k) (Int32.ofNat (i + 1)) τ1 := by
        rw [sT]
        by_cases q : best < 0
        · rw [if_pos q]
        · rw [if_neg q]
      obtain ⟨A2, σ2, τ2, r, p1, p2, p3, p4, p5⟩ := ih (i + 1) fc ft (Int32.ofNat i) k A1 σ1 τ1 (by omega) (by omega) (by omega) hE1 r2 r3 (Or.inr ⟨⟨i, by omega, rfl⟩, k16⟩)
      exact ⟨A2, σ2, τ2, r, r1.tr p1, p2, p3, sC.trans p4, sT'.trans p5⟩
    · rw [if_neg h] at sC
      rw [if_neg h, if_neg (hneg h)] at sT
      obtain ⟨A2, σ2, τ2, r, p1, p2, p3, p4, p5⟩ := ih (i + 1) fc ft best cnt A1 σ1 τ1 (by omega) (by omega) (by omega) hE1 r2 r3 hb
      exact ⟨A2, σ2, τ2, r, r1.tr p1, p2, p3, sC.trans p4, sT.trans p5⟩
theorem st_28 (hF : 1000000 ≤ F) (h : INV ad B A σ τ) (x : Nat → Int32) : ST F 28 x X ad B σ τ := by
  have hI := h
  obtain ⟨hE, hK, hC, hT⟩ := h
  have hA := hE.1
  have lH := hE.2.2.H.2
  have h1 : stC F 28 (ad 0) x (cM X ad σ B) = f_X0_dread F (ad 0) (x 1) (cM X ad σ B) := rfl
  have h2 : stT F 28 x τ = t_X9_dread F (x 1) τ := rfl
  unfold f_X0_dread at h1
  unfold t_X9_dread at h2
  rw [isWind_C, Option.bind_some, gd] at h1
  rw [isWind_T, Option.bind_some, gd] at h2
  by_cases hw : inN (x 1) 100
  · obtain ⟨A', σ', τ', r, p1, p2, p3, p4, p5⟩ := dread_CT (X := X) (F := F) (w := x 1) (by omega) (zN A 6 0) 0 F F (-2) 0 A σ τ (Nat.zero_add _) (by omega) (by omega) hE hC hT (Or.inl ⟨rfl, rfl⟩)
    rw [if_pos hw] at h1 h2
    exact ST.ir hI (h1.trans p4) (h2.trans p5) p1 p2 p3
  · rw [if_neg hw] at h1 h2
    exact ST.ro hI h1 h2 hC hT
