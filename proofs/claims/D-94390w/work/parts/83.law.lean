set_option maxRecDepth 100000
/-! rules, what is bad, what the law says of heights -/
variable {X : Nat → Option Ob} {ad : Nat → Nat} {B : Sw} {A A' : Av} {σ σ' : Cs} {τ : Tw} {F : Nat}
theorem rule_bad (hF : 1000 ≤ F) (hE : EV ad B A) {env : Nat → Int32} (hT0 : TR A τ) (heC : ∀ j, j < 9 → σ.2.1 11 j = env j) (heT : ∀ j, j < 9 → τ.2.1 23 j = env j) : ∃ v σ' τ', (v = 0 ∨ v = 1) ∧ (σ' = σ ∨ ∃ z, σ' = csI σ 41 z) ∧ f_X0_isBad_L20 F (ad 0) F 0 (cM X ad σ B) = some (v, cM X ad σ' B) ∧ t_X9_isRule F 9 200 τ = some (v, τ') ∧ TR A τ' := by
  have hA := hE.1
  have hB := hE.2.1
  have hL := hB.2.2.2.2.2.1.1
  have hR := hB.2.2.2.2.2.1.2
  have eN : A 6 9 = Int32.ofNat (zN A 6 9) := by
    have := hE.2.2.1.1
    first | exact this.2.2.2.2.2.2.2.1.1 | exact this.2.2.2.2.2.2.2.2.1.1
  have lN : zN A 6 9 ≤ 4 := by
    have := hE.2.2.1.1
    first | exact this.2.2.2.2.2.2.2.1.2 | exact this.2.2.2.2.2.2.2.2.1.2
  have key : ∀ (d i fc ft : Nat) (σ : Cs) (τ : Tw), i + d = zN A 6 9 → d < fc → d < ft → TR A τ → (∀ j, j < 9 → σ.2.1 11 j = env j) → (∀ j, j < 9 → τ.2.1 23 j = env j) → ∃ v σ1 τ', (v = 0 ∨ v = 1) ∧ (σ1 = σ ∨ ∃ z, σ1 = csI σ 41 z) ∧ f_X0_isBad_L20 F (ad 0) fc (Int32.ofNat i) (cM X ad σ B) = some (v, cM X ad σ1 B) ∧ t_X9_isRule_L2 F 9 200 ft (Int32.ofNat i) τ = some (v, τ') ∧ TR A τ' := by
    intro d
    induction d with
    | zero =>
      intro i fc ft σ τ hi hfc hft hT hC hE2
      obtain ⟨fc, rfl⟩ : ∃ m, fc = m + 1 := ⟨fc - 1, by omega⟩
      obtain ⟨ft, rfl⟩ : ∃ m, ft = m + 1 := ⟨ft - 1, by omega⟩
      have e0 : i = zN A 6 9 := by omega
      refine ⟨0, σ, τ, Or.inl rfl, Or.inl rfl, ?_, ?_, hT⟩
      · rw [e0]
        show f_X0_isBad_L20_b F (ad 0) (f_X0_isBad_L20 F (ad 0) fc) (Int32.ofNat (zN A 6 9)) _ = _
        unfold f_X0_isBad_L20_b
        simp (disch := omega) only [Option.bind_some, Option.bind_none, nmE, n_pp, n_pl, n_lp, n_mm, n_ml, n_lm, csI_s, csI_n, csI_2, csA_1, csA_s, csA_n, csA_2, csL_1, csL_2, csL_s, csL_n, csL_3, csQ_1, csQ_2, csQ_3, csQ_s, csQ_n, nar0, c_le, c_le_l, c_le_r, c_lt, c_lt_l, c_lt_r, c_eq, c_eq_l, c_eq_r, if_true, if_false, if_pos, if_neg, o0_3 hA, hB.tw, F_ocL hL, F_size hL]
      · rw [e0]
        show t_X9_isRule_L2_b F 9 200 (t_X9_isRule_L2 F 9 200 ft) (Int32.ofNat (zN A 6 9)) τ = _
        unfold t_X9_isRule_L2_b
        simp (disch := omega) only [Option.bind_some, Option.bind_none, nmE, n_pp, n_pl, n_lp, n_mm, n_ml, n_lm, taI_n, taI_l, tsA_n, tsA_l, nar0, twA_1, twA_s, twA_n, twA_2, twA_twA, tsI_s, tsI_n, tsI_2, c_le, c_le_l, c_le_r, c_lt, c_lt_l, c_lt_r, c_eq, c_eq_l, c_eq_r, if_true, if_false, if_pos, if_neg, hT.2 6 rfl, eN]
    | succ d ih =>
      intro i fc ft σ τ hi hfc hft hT hC hE2
      obtain ⟨fc, rfl⟩ : ∃ m, fc = m + 1 := ⟨fc - 1, by omega⟩
      obtain ⟨ft, rfl⟩ : ∃ m, ft = m + 1 := ⟨ft - 1, by omega⟩
      obtain ⟨f0, ns, r1, r2, r3, r4⟩ := hR i (by omega)
      obtain ⟨v, σ1, τ1, hv, hs, c1, t1, hT1, hE1⟩ := any_CT (X := X) hF hA hT r1 rfl r4 hC hE2
      have hC1 : ∀ j, j < 9 → σ1.2.1 11 j = env j := by
        rcases hs with e | ⟨z, e⟩ <;> (subst e; exact hC)
      have c1' := c1 4
      have cn : ¬ Int32.ofNat (zN A 6 9) ≤ Int32.ofNat i := by rw [c_le _ _ (by omega) (by omega)]; omega
      have i1 : Int32.ofNat i + 1 = Int32.ofNat (i + 1) := (Int32.ofNat_add i 1).symm
      have stepC : f_X0_isBad_L20 F (ad 0) (fc + 1) (Int32.ofNat i) (cM X ad σ B) = if v = 0 then f_X0_isBad_L20 F (ad 0) fc (Int32.ofNat (i + 1)) (cM X ad σ1 B) else some (1, cM X ad σ1 B) := by
        show f_X0_isBad_L20_b F (ad 0) (f_X0_isBad_L20 F (ad 0) fc) (Int32.ofNat i) _ = _
        unfold f_X0_isBad_L20_b
        simp (disch := omega) only [Option.bind_some, Option.bind_none, nmE, n_pp, n_pl, n_lp, n_mm, n_ml, n_lm, csI_s, csI_n, csI_2, csA_1, csA_s, csA_n, csA_2, csL_1, csL_2, csL_s, csL_n, csL_3, csQ_1, csQ_2, csQ_3, csQ_s, csQ_n, nar0, c_le, c_le_l, c_le_r, c_lt, c_lt_l, c_lt_r, c_eq, c_eq_l, c_eq_r, if_true, if_false, if_pos, if_neg, o0_3 hA, hB.tw, F_ocL hL, F_size hL, F_get hL (show i < zN A 6 9 by omega), oTest_y r1, o0_6 hA]
        have c1' : f_holds F 8 (ad (1400 + i)) (ad 10) (cM X ad σ B) = _ := c1'
        rw [c1', Option.bind_some]
      have stepT : t_X9_isRule_L2 F 9 200 (ft + 1) (Int32.ofNat i) τ = if v = 0 then t_X9_isRule_L2 F 9 200 ft (Int32.ofNat (i + 1)) τ1 else some (1, τ1) := by
        show t_X9_isRule_L2_b F 9 200 (t_X9_isRule_L2 F 9 200 ft) (Int32.ofNat i) τ = _
        unfold t_X9_isRule_L2_b
        simp (disch := omega) only [Option.bind_some, Option.bind_none, nmE, n_pp, n_pl, n_lp, n_mm, n_ml, n_lm, taI_n, taI_l, tsA_n, tsA_l, nar0, twA_1, twA_s, twA_n, twA_2, twA_twA, tsI_s, tsI_n, tsI_2, c_le, c_le_l, c_le_r, c_lt, c_lt_l, c_lt_r, c_eq, c_eq_l, c_eq_r, if_true, if_false, if_pos, if_neg, hT.2 6 rfl, eN]
        rw [r2, r3, t1, Option.bind_some]
      rcases hv with hv | hv
      · subst hv
        obtain ⟨v2, σ2, τ2, p1, p2, p4, p5, p6⟩ := ih (i + 1) fc ft σ1 τ1 (by omega) (by omega) (by omega) hT1 hC1 hE1
        have p2' : σ2 = σ ∨ ∃ z, σ2 = csI σ 41 z := by
          rcases hs with e | ⟨z, e⟩
          · subst e; exact p2
          · rcases p2 with p | ⟨y, p⟩
            · exact Or.inr ⟨z, by rw [p, e]⟩
            · exact Or.inr ⟨y, by rw [p, e, csI_csI]⟩
        refine ⟨v2, σ2, τ2, p1, p2', ?_, ?_, p6⟩
        · rw [stepC, if_pos rfl, p4]
        · rw [stepT, if_pos rfl, p5]
      · subst hv
        refine ⟨1, σ1, τ1, Or.inr rfl, hs, ?_, ?_, hT1⟩
        · rw [stepC, if_neg (by decide)]
        · rw [stepT, if_neg (by decide)]
  obtain ⟨v, σ1, τ', p1, p2, p4, p5, p6⟩ := key (zN A 6 9) 0 F F σ τ (Nat.zero_add _) (by omega) (by omega) hT0 heC heT
  exact ⟨v, σ1, τ', p1, p2, p4, p5, p6⟩
theorem rule_fall (hF : 1000 ≤ F) (hE : EV ad B A) {env : Nat → Int32} (hT0 : TR A τ) (heC : ∀ j, j < 9 → σ.2.1 11 j = env j) (heT : ∀ j, j < 9 → τ.2.1 23 j = env j) : ∃ v σ' τ', (v = 0 ∨ v = 1) ∧ (σ' = σ ∨ ∃ z, σ' = csI σ 41 z) ∧ f_X0_falls_L39 F (ad 0) F 0 (cM X ad σ B) = some (v, cM X ad σ' B) ∧ t_X9_isRule F 8 190 τ = some (v, τ') ∧ TR A τ' := by
  have hA := hE.1
  have hB := hE.2.1
  have hL := hB.2.2.2.2.1.1
  have hR := hB.2.2.2.2.1.2
  have eN : A 6 8 = Int32.ofNat (zN A 6 8) := by
    have := hE.2.2.1.1
    first | exact this.2.2.2.2.2.2.2.1.1 | exact this.2.2.2.2.2.2.2.2.1.1
  have lN : zN A 6 8 ≤ 4 := by
    have := hE.2.2.1.1
    first | exact this.2.2.2.2.2.2.2.1.2 | exact this.2.2.2.2.2.2.2.2.1.2
  have key : ∀ (d i fc ft : Nat) (σ : Cs) (τ : Tw), i + d = zN A 6 8 → d < fc → d < ft → TR A τ → (∀ j, j < 9 → σ.2.1 11 j = env j) → (∀ j, j < 9 → τ.2.1 23 j = env j) → ∃ v σ1 τ', (v = 0 ∨ v = 1) ∧ (σ1 = σ ∨ ∃ z, σ1 = csI σ 41 z) ∧ f_X0_falls_L39 F (ad 0) fc (Int32.ofNat i) (cM X ad σ B) = some (v, cM X ad σ1 B) ∧ t_X9_isRule_L2 F 8 190 ft (Int32.ofNat i) τ = some (v, τ') ∧ TR A τ' := by
    intro d
    induction d with
    | zero =>
      intro i fc ft σ τ hi hfc hft hT hC hE2
      obtain ⟨fc, rfl⟩ : ∃ m, fc = m + 1 := ⟨fc - 1, by omega⟩
      obtain ⟨ft, rfl⟩ : ∃ m, ft = m + 1 := ⟨ft - 1, by omega⟩
      have e0 : i = zN A 6 8 := by omega
      refine ⟨0, σ, τ, Or.inl rfl, Or.inl rfl, ?_, ?_, hT⟩
      · rw [e0]
        show f_X0_falls_L39_b F (ad 0) (f_X0_falls_L39 F (ad 0) fc) (Int32.ofNat (zN A 6 8)) _ = _
        unfold f_X0_falls_L39_b
        simp (disch := omega) only [Option.bind_some, Option.bind_none, nmE, n_pp, n_pl, n_lp, n_mm, n_ml, n_lm, csI_s, csI_n, csI_2, csA_1, csA_s, csA_n, csA_2, csL_1, csL_2, csL_s, csL_n, csL_3, csQ_1, csQ_2, csQ_3, csQ_s, csQ_n, nar0, c_le, c_le_l, c_le_r, c_lt, c_lt_l, c_lt_r, c_eq, c_eq_l, c_eq_r, if_true, if_false, if_pos, if_neg, o0_3 hA, hB.tw, F_ocL hL, F_size hL]
      · rw [e0]
        show t_X9_isRule_L2_b F 8 190 (t_X9_isRule_L2 F 8 190 ft) (Int32.ofNat (zN A 6 8)) τ = _
        unfold t_X9_isRule_L2_b
        simp (disch := omega) only [Option.bind_some, Option.bind_none, nmE, n_pp, n_pl, n_lp, n_mm, n_ml, n_lm, taI_n, taI_l, tsA_n, tsA_l, nar0, twA_1, twA_s, twA_n, twA_2, twA_twA, tsI_s, tsI_n, tsI_2, c_le, c_le_l, c_le_r, c_lt, c_lt_l, c_lt_r, c_eq, c_eq_l, c_eq_r, if_true, if_false, if_pos, if_neg, hT.2 6 rfl, eN]
    | succ d ih =>
      intro i fc ft σ τ hi hfc hft hT hC hE2
      obtain ⟨fc, rfl⟩ : ∃ m, fc = m + 1 := ⟨fc - 1, by omega⟩
      obtain ⟨ft, rfl⟩ : ∃ m, ft = m + 1 := ⟨ft - 1, by omega⟩
      obtain ⟨f0, ns, r1, r2, r3, r4⟩ := hR i (by omega)
      obtain ⟨v, σ1, τ1, hv, hs, c1, t1, hT1, hE1⟩ := any_CT (X := X) hF hA hT r1 rfl r4 hC hE2
      have hC1 : ∀ j, j < 9 → σ1.2.1 11 j = env j := by
        rcases hs with e | ⟨z, e⟩ <;> (subst e; exact hC)
      have c1' := c1 4
      have cn : ¬ Int32.ofNat (zN A 6 8) ≤ Int32.ofNat i := by rw [c_le _ _ (by omega) (by omega)]; omega
      have i1 : Int32.ofNat i + 1 = Int32.ofNat (i + 1) := (Int32.ofNat_add i 1).symm
      have stepC : f_X0_falls_L39 F (ad 0) (fc + 1) (Int32.ofNat i) (cM X ad σ B) = if v = 0 then f_X0_falls_L39 F (ad 0) fc (Int32.ofNat (i + 1)) (cM X ad σ1 B) else some (1, cM X ad σ1 B) := by
        show f_X0_falls_L39_b F (ad 0) (f_X0_falls_L39 F (ad 0) fc) (Int32.ofNat i) _ = _
        unfold f_X0_falls_L39_b
        simp (disch := omega) only [Option.bind_some, Option.bind_none, nmE, n_pp, n_pl, n_lp, n_mm, n_ml, n_lm, csI_s, csI_n, csI_2, csA_1, csA_s, csA_n, csA_2, csL_1, csL_2, csL_s, csL_n, csL_3, csQ_1, csQ_2, csQ_3, csQ_s, csQ_n, nar0, c_le, c_le_l, c_le_r, c_lt, c_lt_l, c_lt_r, c_eq, c_eq_l, c_eq_r, if_true, if_false, if_pos, if_neg, o0_3 hA, hB.tw, F_ocL hL, F_size hL, F_get hL (show i < zN A 6 8 by omega), oTest_y r1, o0_6 hA]
        have c1' : f_holds F 8 (ad (1300 + i)) (ad 10) (cM X ad σ B) = _ := c1'
        rw [c1', Option.bind_some]
      have stepT : t_X9_isRule_L2 F 8 190 (ft + 1) (Int32.ofNat i) τ = if v = 0 then t_X9_isRule_L2 F 8 190 ft (Int32.ofNat (i + 1)) τ1 else some (1, τ1) := by
        show t_X9_isRule_L2_b F 8 190 (t_X9_isRule_L2 F 8 190 ft) (Int32.ofNat i) τ = _
        unfold t_X9_isRule_L2_b
        simp (disch := omega) only [Option.bind_some, Option.bind_none, nmE, n_pp, n_pl, n_lp, n_mm, n_ml, n_lm, taI_n, taI_l, tsA_n, tsA_l, nar0, twA_1, twA_s, twA_n, twA_2, twA_twA, tsI_s, tsI_n, tsI_2, c_le, c_le_l, c_le_r, c_lt, c_lt_l, c_lt_r, c_eq, c_eq_l, c_eq_r, if_true, if_false, if_pos, if_neg, hT.2 6 rfl, eN]
        rw [r2, r3, t1, Option.bind_some]
      rcases hv with hv | hv
      · subst hv
        obtain ⟨v2, σ2, τ2, p1, p2, p4, p5, p6⟩ := ih (i + 1) fc ft σ1 τ1 (by omega) (by omega) (by omega) hT1 hC1 hE1
        have p2' : σ2 = σ ∨ ∃ z, σ2 = csI σ 41 z := by
          rcases hs with e | ⟨z, e⟩
          · subst e; exact p2
          · rcases p2 with p | ⟨y, p⟩
            · exact Or.inr ⟨z, by rw [p, e]⟩
            · exact Or.inr ⟨y, by rw [p, e, csI_csI]⟩
        refine ⟨v2, σ2, τ2, p1, p2', ?_, ?_, p6⟩
        · rw [stepC, if_pos rfl, p4]
        · rw [stepT, if_pos rfl, p5]
      · subst hv
        refine ⟨1, σ1, τ1, Or.inr rfl, hs, ?_, ?_, hT1⟩
        · rw [stepC, if_neg (by decide)]
        · rw [stepT, if_neg (by decide)]
  obtain ⟨v, σ1, τ', p1, p2, p4, p5, p6⟩ := key (zN A 6 8) 0 F F σ τ (Nat.zero_add _) (by omega) (by omega) hT0 heC heT
  exact ⟨v, σ1, τ', p1, p2, p4, p5, p6⟩
theorem CR.br (hC : CR ad B A σ) (h : σ' = σ ∨ ∃ z, σ' = csI σ 41 z) : CR ad B A σ' := by
  rcases h with e | ⟨z, e⟩
  · rw [e]; exact hC
  · rw [e]; exact hC.i rfl
/-- whether a house is bad -/
theorem isBad_CT (hF : 1000 ≤ F) (hE : EV ad B A) (hC : CR ad B A σ) (hT : TR A τ) {h : Nat} (hh : h < zN A 6 0) : ∃ v σ' τ', (v = 0 ∨ v = 1) ∧ f_X0_isBad F (ad 0) (Int32.ofNat h) (cM X ad σ B) = some (v, cM X ad σ' B) ∧ t_X9_isBad F (Int32.ofNat h) τ = some (v, τ') ∧ CR ad B A σ' ∧ TR A τ' := by
  have hA := hE.1
  have lH := hE.2.2.H.2
  obtain ⟨σ1, e1, g, b, e3, hg⟩ := swayOf_C (X := X) (F := F) (h := h) (wind := 0) hF hE hC hh
  have hC1 : CR ad B A σ1 := by rw [e3]; exact (hC.a rfl).i rfl
  have hg1 : ∀ j, j < 9 → σ1.2.1 11 j = envL A h 0 j := by rw [e3]; exact hg
  obtain ⟨τ1, t1, hT1⟩ := swayOf_T (F := F) (h := h) (wind := 0) hF hE.2.2 hE.l2 (by omega) hT
  obtain ⟨g2, t2, hg2⟩ := look_T (F := F) (wind := 0) hF hE.2.2 (show h < 16 by omega) hT1
  have hC2 : CR ad B A (csA σ1 11 (upd (σ1.2.1 11) 8 (sSway A h 0))) := hC1.a rfl
  have hT2 : TR A (twA τ1 23 (upd g2 8 (sSway A h 0))) := hT1.w rfl
  obtain ⟨v, σ2, τ2, hv, hs, c3, t3, hT3⟩ := rule_bad (X := X) (F := F) (σ := csA σ1 11 (upd (σ1.2.1 11) 8 (sSway A h 0))) (τ := twA τ1 23 (upd g2 8 (sSway A h 0))) (env := upd (envL A h 0) 8 (sSway A h 0)) hF hE hT2 (fun j hj => by
    rw [csA_s]
    unfold upd
    by_cases e : j = 8
    · rw [if_pos e, if_pos e]
    · rw [if_neg e, if_neg e]; exact hg1 j hj) (fun j hj => by
    rw [twA_s]
    unfold upd
    by_cases e : j = 8
    · rw [if_pos e, if_pos e]
    · rw [if_neg e, if_neg e]; exact hg2 j hj)
  refine ⟨v, σ2, τ2, hv, ?_, ?_, hC2.br hs, hT3⟩
  · unfold f_X0_isBad
    simp (disch := omega) only [Option.bind_some, Option.bind_none, nmE, n_pp, n_pl, n_lp, n_mm, n_ml, n_lm, csI_s, csI_n, csI_2, csA_1, csA_s, csA_n, csA_2, csL_1, csL_2, csL_s, csL_n, csL_3, csQ_1, csQ_2, csQ_3, csQ_s, csQ_n, nar0, c_le, c_le_l, c_le_r, c_lt, c_lt_l, c_lt_r, c_eq, c_eq_l, c_eq_r, if_true, if_false, if_pos, if_neg, oc0 hA, e1, o0_6 hA, o10_0 hA, sl11 hA]
    exact c3
  · unfold t_X9_isBad
    rw [t1, Option.bind_some, t2, Option.bind_some]
    simp (disch := omega) only [Option.bind_some, Option.bind_none, nmE, n_pp, n_pl, n_lp, n_mm, n_ml, n_lm, taI_n, taI_l, tsA_n, tsA_l, nar0, twA_1, twA_s, twA_n, twA_2, twA_twA, tsI_s, tsI_n, tsI_2, c_le, c_le_l, c_le_r, c_lt, c_lt_l, c_lt_r, c_eq, c_eq_l, c_eq_r, if_true, if_false, if_pos, if_neg]
    rw [t3, Option.bind_some, if_pos hv]
/-- which ones are untrue -/
def sUnt (A : Av) : Nat → Int32
  | 0 => 0
  | k + 1 => if sHt A k = sDue A k then sUnt A k else sUnt A k ||| bit k
theorem untrue_C (hF : 1000 ≤ F) (hE : EV ad B A) (hC : CR ad B A σ) : ∃ σ', f_X0_untrue F (ad 0) (cM X ad σ B) = some (sUnt A (zN A 6 0), cM X ad σ' B) ∧ CR ad B A σ' ∧ sC σ σ' ∧ σ'.2.1 47 = σ.2.1 47 ∧ σ'.2.1 48 = σ.2.1 48 ∧ σ'.2.1 49 = σ.2.1 49 ∧ σ'.1 43 = σ.1 43 := by
  have hA := hE.1
  have lH := hE.2.2.H.2
  unfold f_X0_untrue
  refine for_up (L := fun n i (s : Int32 × Cs) => f_X0_untrue_L4 F (ad 0) n s.1 i (cM X ad s.2 B)) (N := zN A 6 0) (Inv := fun k s => s.1 = sUnt A k ∧ CR ad B A s.2 ∧ sC σ s.2 ∧ s.2.2.1 47 = σ.2.1 47 ∧ s.2.2.1 48 = σ.2.1 48 ∧ s.2.2.1 49 = σ.2.1 49 ∧ s.2.1 43 = σ.1 43) (Post := fun r => ∃ σ', r = some (sUnt A (zN A 6 0), cM X ad σ' B) ∧ CR ad B A σ' ∧ sC σ σ' ∧ σ'.2.1 47 = σ.2.1 47 ∧ σ'.2.1 48 = σ.2.1 48 ∧ σ'.2.1 49 = σ.2.1 49 ∧ σ'.1 43 = σ.1 43) ?_ ?_ (zN A 6 0) 0 F (0, σ) (Nat.zero_add _) (by omega) ⟨rfl, hC, sC.rf, rfl, rfl, rfl, rfl⟩
  · intro n k s hk ⟨e1, e2, e3, e4, e5, e6, e7⟩
    obtain ⟨s1, s2⟩ := s
    have e1 : s1 = sUnt A k := e1
    subst e1
    obtain ⟨σ', c1, g, b, c3⟩ := dueOf_C (X := X) (F := F) hF hE e2 hk
    refine Or.inl ⟨(sUnt A (k + 1), σ'), ⟨rfl, by show CR ad B A σ'; rw [c3]; exact ((show CR ad B A s2 from e2).a rfl).i rfl, e3.tr (by show sC s2 σ'; rw [c3]; exact (sC.a (Or.inl rfl)).tr (sC.i (Or.inl rfl))), by show σ'.2.1 47 = _; rw [c3]; exact e4, by show σ'.2.1 48 = _; rw [c3]; exact e5, by show σ'.2.1 49 = _; rw [c3]; exact e6, by show σ'.1 43 = _; rw [c3]; exact e7⟩, ?_⟩
    show f_X0_untrue_L4_b F (ad 0) (f_X0_untrue_L4 F (ad 0) n) _ (Int32.ofNat k) _ = f_X0_untrue_L4 F (ad 0) n (if sHt A k = sDue A k then sUnt A k else sUnt A k ||| bit k) _ _
    unfold f_X0_untrue_L4_b
    have e2' : ∀ i, i < 16 → s2.2.1 47 i = A 7 (10 + i) := e2.2.2.2.1
    simp (disch := omega) only [Option.bind_some, Option.bind_none, nmE, n_pp, n_pl, n_lp, n_mm, n_ml, n_lm, csI_s, csI_n, csI_2, csA_1, csA_s, csA_n, csA_2, csL_1, csL_2, csL_s, csL_n, csL_3, csQ_1, csQ_2, csQ_3, csQ_s, csQ_n, nar0, c_le, c_le_l, c_le_r, c_lt, c_lt_l, c_lt_r, c_eq, c_eq_l, c_eq_r, if_true, if_false, if_pos, if_neg, oc0 hA, houses_C hE, o0_4 hA, o46_0 hA, a47 hA, e2', c1]
    show (if sHt A k = sDue A k then _ else _) = _
    by_cases h : sHt A k = sDue A k
    · rw [if_pos h, if_pos h]
    · rw [if_neg h, if_neg h]
      rfl
  · intro n s ⟨e1, e2⟩
    refine ⟨s.2, ?_, e2⟩
    show f_X0_untrue_L4_b F (ad 0) (f_X0_untrue_L4 F (ad 0) n) _ (Int32.ofNat (zN A 6 0)) _ = _
    unfold f_X0_untrue_L4_b
    simp (disch := omega) only [Option.bind_some, Option.bind_none, nmE, n_pp, n_pl, n_lp, n_mm, n_ml, n_lm, csI_s, csI_n, csI_2, csA_1, csA_s, csA_n, csA_2, csL_1, csL_2, csL_s, csL_n, csL_3, csQ_1, csQ_2, csQ_3, csQ_s, csQ_n, nar0, c_le, c_le_l, c_le_r, c_lt, c_lt_l, c_lt_r, c_eq, c_eq_l, c_eq_r, if_true, if_false, if_pos, if_neg, oc0 hA, houses_C hE]
    rw [e1]
theorem untrue_T (hF : 1000 ≤ F) (hW : WF A) (hL : LawC A 1) (hT : TR A τ) : ∃ τ', t_X9_untrue F τ = some (sUnt A (zN A 6 0), τ') ∧ TR A τ' := by
  obtain ⟨eH, lH⟩ := hW.H
  unfold t_X9_untrue
  refine for_up (L := fun n i (s : Int32 × Tw) => t_X9_untrue_L4 F n s.1 i s.2) (N := zN A 6 0) (Inv := fun k s => s.1 = sUnt A k ∧ TR A s.2) (Post := fun r => ∃ τ', r = some (sUnt A (zN A 6 0), τ') ∧ TR A τ') ?_ ?_ (zN A 6 0) 0 F (0, τ) (Nat.zero_add _) (by omega) ⟨rfl, hT⟩
  · intro n k s hk ⟨e1, e2⟩
    obtain ⟨s1, s2⟩ := s
    have e1 : s1 = sUnt A k := e1
    subst e1
    have e2 : TR A s2 := e2
    obtain ⟨τ', c1, hT'⟩ := dueOf_T (F := F) (h := k) hF hW hL (by omega) e2
    refine Or.inl ⟨(sUnt A (k + 1), τ'), ⟨rfl, hT'⟩, ?_⟩
    show t_X9_untrue_L4_b F (t_X9_untrue_L4 F n) _ (Int32.ofNat k) _ = t_X9_untrue_L4 F n (if sHt A k = sDue A k then sUnt A k else sUnt A k ||| bit k) _ _
    unfold t_X9_untrue_L4_b
    rw [heightOf_T (by omega) e2]
    simp (disch := omega) only [Option.bind_some, Option.bind_none, nmE, n_pp, n_pl, n_lp, n_mm, n_ml, n_lm, taI_n, taI_l, tsA_n, tsA_l, nar0, twA_1, twA_s, twA_n, twA_2, twA_twA, tsI_s, tsI_n, tsI_2, c_le, c_le_l, c_le_r, c_lt, c_lt_l, c_lt_r, c_eq, c_eq_l, c_eq_r, if_true, if_false, if_pos, if_neg, e2.2 6 rfl, eH, c1]
    by_cases h : sHt A k = sDue A k
    · rw [if_pos h, if_pos h]
    · rw [if_neg h, if_neg h]
      rfl
  · intro n s ⟨e1, e2⟩
    refine ⟨s.2, ?_, e2⟩
    show t_X9_untrue_L4_b F (t_X9_untrue_L4 F n) _ (Int32.ofNat (zN A 6 0)) _ = _
    unfold t_X9_untrue_L4_b
    simp (disch := omega) only [Option.bind_some, Option.bind_none, nmE, n_pp, n_pl, n_lp, n_mm, n_ml, n_lm, taI_n, taI_l, tsA_n, tsA_l, nar0, twA_1, twA_s, twA_n, twA_2, twA_twA, tsI_s, tsI_n, tsI_2, c_le, c_le_l, c_le_r, c_lt, c_lt_l, c_lt_r, c_eq, c_eq_l, c_eq_r, if_true, if_false, if_pos, if_neg, e2.2 6 rfl, eH]
    rw [e1]
theorem sUnt_b : ∀ k, k ≤ 16 → b16 (sUnt A k) := by
  intro k
  induction k with
  | zero => intro _; exact b16.z
  | succ k ih =>
    intro hk
    show b16 (if sHt A k = sDue A k then sUnt A k else sUnt A k ||| bit k)
    by_cases h : sHt A k = sDue A k
    · rw [if_pos h]; exact ih (by omega)
    · rw [if_neg h]; exact (ih (by omega)).or (b16.bt (by omega))
/-- pairs the wrong way round -/
def sTi (A : Av) (h : Nat) (acc : Int32) : Nat → Int32
  | 0 => acc
  | o + 1 => if sRk A h ≤ sRk A o then sTi A h acc o else if sHt A o < sHt A h then sTi A h acc o else sTi A h acc o + 1
def sTo (A : Av) : Nat → Int32
  | 0 => 0
  | h + 1 => sTi A h (sTo A h) (zN A 6 0)
theorem turnIn_C (hF : 1000 ≤ F) (hE : EV ad B A) (hC : CR ad B A σ) {k : Nat} (hk : k < 16) {acc : Int32} {K : Int32 → Option Int32} : f_X0_turned_L14 F K (ad 0) (Int32.ofNat k) (cM X ad σ B) F acc 0 = K (sTi A k acc (zN A 6 0)) := by
  have hA := hE.1
  have lH := hE.2.2.H.2
  refine for_up (L := fun m i s => f_X0_turned_L14 F K (ad 0) (Int32.ofNat k) (cM X ad σ B) m s i) (N := zN A 6 0) (Inv := fun o s => s = sTi A k acc o) (Post := fun r => r = K (sTi A k acc (zN A 6 0))) ?_ ?_ (zN A 6 0) 0 F acc (Nat.zero_add _) (by omega) rfl
  · intro m o s ho e
    subst e
    refine Or.inl ⟨_, rfl, ?_⟩
    show f_X0_turned_L14_b F K (ad 0) (Int32.ofNat k) (cM X ad σ B) (f_X0_turned_L14 F K (ad 0) (Int32.ofNat k) (cM X ad σ B) m) _ (Int32.ofNat o) = f_X0_turned_L14 F K (ad 0) (Int32.ofNat k) (cM X ad σ B) m (if sRk A k ≤ sRk A o then sTi A k acc o else if sHt A o < sHt A k then sTi A k acc o else sTi A k acc o + 1) _
    unfold f_X0_turned_L14_b
    have r1 := rankOf_C (X := X) (F := F) hE σ hC (show k < 16 by omega)
    have r2 := rankOf_C (X := X) (F := F) hE σ hC (show o < 16 by omega)
    simp (disch := omega) only [Option.bind_some, Option.bind_none, nmE, n_pp, n_pl, n_lp, n_mm, n_ml, n_lm, csI_s, csI_n, csI_2, csA_1, csA_s, csA_n, csA_2, csL_1, csL_2, csL_s, csL_n, csL_3, csQ_1, csQ_2, csQ_3, csQ_s, csQ_n, nar0, c_le, c_le_l, c_le_r, c_lt, c_lt_l, c_lt_r, c_eq, c_eq_l, c_eq_r, if_true, if_false, if_pos, if_neg, oc0 hA, houses_C hE, r1, r2, o0_4 hA, o46_0 hA, a47 hA, hC.2.2.2.1]
    by_cases h : sRk A k ≤ sRk A o
    · rw [if_pos h, if_pos h]
    · rw [if_neg h, if_neg h]
      show (if sHt A o < sHt A k then _ else _) = _
      by_cases h2 : sHt A o < sHt A k
      · rw [if_pos h2, if_pos h2]
      · rw [if_neg h2, if_neg h2]
  · intro m s e
    subst e
    show f_X0_turned_L14_b F K (ad 0) (Int32.ofNat k) (cM X ad σ B) (f_X0_turned_L14 F K (ad 0) (Int32.ofNat k) (cM X ad σ B) m) _ (Int32.ofNat (zN A 6 0)) = _
    unfold f_X0_turned_L14_b
    simp (disch := omega) only [Option.bind_some, Option.bind_none, nmE, n_pp, n_pl, n_lp, n_mm, n_ml, n_lm, csI_s, csI_n, csI_2, csA_1, csA_s, csA_n, csA_2, csL_1, csL_2, csL_s, csL_n, csL_3, csQ_1, csQ_2, csQ_3, csQ_s, csQ_n, nar0, c_le, c_le_l, c_le_r, c_lt, c_lt_l, c_lt_r, c_eq, c_eq_l, c_eq_r, if_true, if_false, if_pos, if_neg, oc0 hA, houses_C hE]
theorem turnIn_T (hF : 1000 ≤ F) (hW : WF A) (hT : TR A τ) {k : Nat} (hk : k < 16) {acc : Int32} {K : Int32 → Option Int32} : t_X9_turned_L16 F K (Int32.ofNat k) τ F acc 0 = K (sTi A k acc (zN A 6 0)) := by
  obtain ⟨eH, lH⟩ := hW.H
  refine for_up (L := fun m i s => t_X9_turned_L16 F K (Int32.ofNat k) τ m s i) (N := zN A 6 0) (Inv := fun o s => s = sTi A k acc o) (Post := fun r => r = K (sTi A k acc (zN A 6 0))) ?_ ?_ (zN A 6 0) 0 F acc (Nat.zero_add _) (by omega) rfl
  · intro m o s ho e
    subst e
    refine Or.inl ⟨_, rfl, ?_⟩
    show t_X9_turned_L16_b F K (Int32.ofNat k) τ (t_X9_turned_L16 F K (Int32.ofNat k) τ m) _ (Int32.ofNat o) = t_X9_turned_L16 F K (Int32.ofNat k) τ m (if sRk A k ≤ sRk A o then sTi A k acc o else if sHt A o < sHt A k then sTi A k acc o else sTi A k acc o + 1) _
    unfold t_X9_turned_L16_b
    rw [rankOf_T hW (show k < 16 by omega) hT, rankOf_T hW (show o < 16 by omega) hT, heightOf_T (show k < 16 by omega) hT, heightOf_T (show o < 16 by omega) hT]
    simp (disch := omega) only [Option.bind_some, Option.bind_none, nmE, n_pp, n_pl, n_lp, n_mm, n_ml, n_lm, taI_n, taI_l, tsA_n, tsA_l, nar0, twA_1, twA_s, twA_n, twA_2, twA_twA, tsI_s, tsI_n, tsI_2, c_le, c_le_l, c_le_r, c_lt, c_lt_l, c_lt_r, c_eq, c_eq_l, c_eq_r, if_true, if_false, if_pos, if_neg, hT.2 6 rfl, eH, Int32.add_zero]
    by_cases h : sRk A k ≤ sRk A o
    · rw [if_pos h, if_pos h]
    · rw [if_neg h, if_neg h]
      by_cases h2 : sHt A o < sHt A k
      · rw [if_pos h2, if_pos h2]
      · rw [if_neg h2, if_neg h2]
  · intro m s e
    subst e
    show t_X9_turned_L16_b F K (Int32.ofNat k) τ (t_X9_turned_L16 F K (Int32.ofNat k) τ m) _ (Int32.ofNat (zN A 6 0)) = _
    unfold t_X9_turned_L16_b
    simp (disch := omega) only [Option.bind_some, Option.bind_none, nmE, n_pp, n_pl, n_lp, n_mm, n_ml, n_lm, taI_n, taI_l, tsA_n, tsA_l, nar0, twA_1, twA_s, twA_n, twA_2, twA_twA, tsI_s, tsI_n, tsI_2, c_le, c_le_l, c_le_r, c_lt, c_lt_l, c_lt_r, c_eq, c_eq_l, c_eq_r, if_true, if_false, if_pos, if_neg, hT.2 6 rfl, eH]
theorem turned_C (hF : 1000 ≤ F) (hE : EV ad B A) (hC : CR ad B A σ) : f_X0_turned F (ad 0) (cM X ad σ B) = some (sTo A (zN A 6 0)) := by
  have hA := hE.1
  have lH := hE.2.2.H.2
  unfold f_X0_turned
  refine for_up (L := fun n i s => f_X0_turned_L4 F (ad 0) (cM X ad σ B) n s i) (N := zN A 6 0) (Inv := fun k s => s = sTo A k) (Post := fun r => r = some (sTo A (zN A 6 0))) ?_ ?_ (zN A 6 0) 0 F 0 (Nat.zero_add _) (by omega) rfl
  · intro n k s hk e
    subst e
    refine Or.inl ⟨_, rfl, ?_⟩
    show f_X0_turned_L4_b F (ad 0) (cM X ad σ B) (f_X0_turned_L4 F (ad 0) (cM X ad σ B) n) _ (Int32.ofNat k) = f_X0_turned_L4 F (ad 0) (cM X ad σ B) n (sTi A k (sTo A k) (zN A 6 0)) _
    unfold f_X0_turned_L4_b
    simp (disch := omega) only [Option.bind_some, Option.bind_none, nmE, n_pp, n_pl, n_lp, n_mm, n_ml, n_lm, csI_s, csI_n, csI_2, csA_1, csA_s, csA_n, csA_2, csL_1, csL_2, csL_s, csL_n, csL_3, csQ_1, csQ_2, csQ_3, csQ_s, csQ_n, nar0, c_le, c_le_l, c_le_r, c_lt, c_lt_l, c_lt_r, c_eq, c_eq_l, c_eq_r, if_true, if_false, if_pos, if_neg, oc0 hA, houses_C hE]
    exact turnIn_C hF hE hC (by omega)
  · intro n s e
    subst e
    show f_X0_turned_L4_b F (ad 0) (cM X ad σ B) (f_X0_turned_L4 F (ad 0) (cM X ad σ B) n) _ (Int32.ofNat (zN A 6 0)) = _
    unfold f_X0_turned_L4_b
    simp (disch := omega) only [Option.bind_some, Option.bind_none, nmE, n_pp, n_pl, n_lp, n_mm, n_ml, n_lm, csI_s, csI_n, csI_2, csA_1, csA_s, csA_n, csA_2, csL_1, csL_2, csL_s, csL_n, csL_3, csQ_1, csQ_2, csQ_3, csQ_s, csQ_n, nar0, c_le, c_le_l, c_le_r, c_lt, c_lt_l, c_lt_r, c_eq, c_eq_l, c_eq_r, if_true, if_false, if_pos, if_neg, oc0 hA, houses_C hE]
theorem turned_T (hF : 1000 ≤ F) (hW : WF A) (hT : TR A τ) : t_X9_turned F τ = some (sTo A (zN A 6 0)) := by
  obtain ⟨eH, lH⟩ := hW.H
  unfold t_X9_turned
  refine for_up (L := fun n i s => t_X9_turned_L4 F τ n s i) (N := zN A 6 0) (Inv := fun k s => s = sTo A k) (Post := fun r => r = some (sTo A (zN A 6 0))) ?_ ?_ (zN A 6 0) 0 F 0 (Nat.zero_add _) (by omega) rfl
  · intro n k s hk e
    subst e
    refine Or.inl ⟨_, rfl, ?_⟩
    show t_X9_turned_L4_b F τ (t_X9_turned_L4 F τ n) _ (Int32.ofNat k) = t_X9_turned_L4 F τ n (sTi A k (sTo A k) (zN A 6 0)) _
    unfold t_X9_turned_L4_b
    simp (disch := omega) only [Option.bind_some, Option.bind_none, nmE, n_pp, n_pl, n_lp, n_mm, n_ml, n_lm, taI_n, taI_l, tsA_n, tsA_l, nar0, twA_1, twA_s, twA_n, twA_2, twA_twA, tsI_s, tsI_n, tsI_2, c_le, c_le_l, c_le_r, c_lt, c_lt_l, c_lt_r, c_eq, c_eq_l, c_eq_r, if_true, if_false, if_pos, if_neg, hT.2 6 rfl, eH]
    exact turnIn_T hF hW hT (by omega)
  · intro n s e
    subst e
    show t_X9_turned_L4_b F τ (t_X9_turned_L4 F τ n) _ (Int32.ofNat (zN A 6 0)) = _
    unfold t_X9_turned_L4_b
    simp (disch := omega) only [Option.bind_some, Option.bind_none, nmE, n_pp, n_pl, n_lp, n_mm, n_ml, n_lm, taI_n, taI_l, tsA_n, tsA_l, nar0, twA_1, twA_s, twA_n, twA_2, twA_twA, tsI_s, tsI_n, tsI_2, c_le, c_le_l, c_le_r, c_lt, c_lt_l, c_lt_r, c_eq, c_eq_l, c_eq_r, if_true, if_false, if_pos, if_neg, hT.2 6 rfl, eH]
