set_option maxRecDepth 100000
/-! rows, conditions, rules: both sides at once -/
variable {X : Nat → Option Ob} {ad : Nat → Nat} {B : Sw} {A A' : Av} {σ σ' : Cs} {τ : Tw} {F : Nat}
/-- only what is broken changed -/
def sBr (σ σ' : Cs) : Prop := σ'.2 = σ.2 ∧ (CR ad B A σ → CR ad B A σ')
/-- a relation -/
theorem lit_CT (hF : 1000 ≤ F) (hA : AdOK ad B) (hT : TR A τ) {env : Nat → Int32} {a k : Nat} (hk : k < 200) (h : LitB A B a k) (heC : ∀ j, j < 9 → σ.2.1 11 j = env j) (heT : ∀ j, j < 9 → τ.2.1 23 j = env j) : ∃ v z τ', (v = 0 ∨ v = 1) ∧ (∀ D, f_holds F (D + 2) a (ad 10) (cM X ad σ B) = some (v, cM X ad (csI σ 41 z) B)) ∧ t_X9_isLit F (Int32.ofNat k) τ = some (v, τ') ∧ TR A τ' ∧ ∀ j, j < 9 → τ'.2.1 23 j = env j := by
  obtain ⟨b, s, l, r, dl, dr, f0, cl, cr, h1, h2, h3, h4, h5, h6, h7, h8, h9, h10, h11, h12, h13⟩ := h
  obtain ⟨z, hz⟩ := beside_C (X := X) (F := F) hA h2 h3 h4 h5 h6 h7 heC
  have hn : A 12 k = 0 ∨ A 12 k = 1 := by
    rcases h1 with ⟨q, -⟩ | ⟨q, -⟩
    · exact Or.inl q
    · exact Or.inr q
  obtain ⟨τ', e1, hT', he'⟩ := lit_T (F := F) hF hT (env := env) hk h4.ok h5.ok h8 h9 h10 h11 h12 h13 hn heT
  refine ⟨_, z, τ', litv_01 hn _ _, fun D => ?_, e1, hT', he'⟩
  rcases h1 with ⟨q1, q2⟩ | ⟨q1, q2⟩
  · subst q2
    rw [q1, f_holds_s, if_pos (F_oc h2), hz]
  · rw [q1, f_holds_s, if_neg (oc_no q2 (by decide)), if_pos (F_oc q2)]
    unfold f_X16_holds
    rw [F_gR (k := 0) q2 rfl, Option.bind_some, f_holds_s, if_pos (F_oc h2), hz, Option.bind_some, litv_1]
    by_cases h0 : litv (A 13 k) 0 (vl env cl) (vl env cr) = 0
    · rw [if_pos h0, if_pos h0]
    · rw [if_neg h0, if_neg h0]
theorem oTest_l {a : Nat} {k : Nat} (h : LitB A B a k) : oTest (cM X ad σ B) a = some () := by
  obtain ⟨b, s, l, r, dl, dr, f0, cl, cr, h1, h2, -⟩ := h
  unfold oTest
  rcases h1 with ⟨-, q2⟩ | ⟨-, q2⟩
  · subst q2
    exact if_pos (Or.inl (F_oc h2))
  · exact if_pos (Or.inr (Or.inl (F_oc q2)))
/-- all of a row -/
theorem all_CT (hF : 1000 ≤ F) (hA : AdOK ad B) {env : Nat → Int32} {a k n : Nat} {row : Int32} {T : Nat} {K : Int32 → Int32 → Tw → Option (Int32 × Tw)} (hT0 : TR A τ) (h : AllB A B a k n row) (hk : k + n ≤ T) (hT2 : T ≤ 200) (hstop : k + n < T → A 17 (k + n) ≠ row) (heC : ∀ j, j < 9 → σ.2.1 11 j = env j) (heT : ∀ j, j < 9 → τ.2.1 23 j = env j) : ∃ v z τ', (v = 0 ∨ v = 1) ∧ (∀ D, f_holds F (D + 3) a (ad 10) (cM X ad σ B) = some (v, cM X ad (csI σ 41 z) B)) ∧ t_X9_isHeld_L18 F K (Int32.ofNat T) row F (Int32.ofNat k) 1 τ = K (Int32.ofNat (k + n)) v τ' ∧ TR A τ' ∧ ∀ j, j < 9 → τ'.2.1 23 j = env j := by
  obtain ⟨h1, l, e, h2, h3, h4⟩ := h
  -- what is left when one is false
  have skip : ∀ (d i f : Nat) (τ : Tw), i + d = n → d < f → TR A τ → t_X9_isHeld_L18 F K (Int32.ofNat T) row f (Int32.ofNat (k + i)) 0 τ = K (Int32.ofNat (k + n)) 0 τ := by
    intro d
    induction d with
    | zero =>
      intro i f τ hi hf hT
      obtain ⟨f, rfl⟩ : ∃ m, f = m + 1 := ⟨f - 1, by omega⟩
      have e0 : k + i = k + n := by omega
      rw [e0]
      show t_X9_isHeld_L18_b F K (Int32.ofNat T) row (t_X9_isHeld_L18 F K (Int32.ofNat T) row f) (Int32.ofNat (k + n)) 0 τ = _
      unfold t_X9_isHeld_L18_b
      simp (disch := omega) only [Option.bind_some, Option.bind_none, nmE, n_pp, n_pl, n_lp, n_mm, n_ml, n_lm, taI_n, taI_l, tsA_n, tsA_l, nar0, twA_1, twA_s, twA_n, twA_2, twA_twA, tsI_s, tsI_n, tsI_2, c_le, c_le_l, c_le_r, c_lt, c_lt_l, c_lt_r, c_eq, c_eq_l, c_eq_r, if_true, if_false, if_pos, if_neg, hT.2 17 rfl]
      by_cases c : T ≤ k + n
      · rw [if_pos c]
      · rw [if_neg c]
        try simp (disch := omega) only [Option.bind_some, Option.bind_none, nmE, n_pp, n_pl, n_lp, n_mm, n_ml, n_lm, taI_n, taI_l, tsA_n, tsA_l, nar0, twA_1, twA_s, twA_n, twA_2, twA_twA, tsI_s, tsI_n, tsI_2, c_le, c_le_l, c_le_r, c_lt, c_lt_l, c_lt_r, c_eq, c_eq_l, c_eq_r, if_true, if_false, if_pos, if_neg, hT.2 17 rfl]
        rw [if_neg (hstop (by omega))]
    | succ d ih =>
      intro i f τ hi hf hT
      obtain ⟨f, rfl⟩ : ∃ m, f = m + 1 := ⟨f - 1, by omega⟩
      show t_X9_isHeld_L18_b F K (Int32.ofNat T) row (t_X9_isHeld_L18 F K (Int32.ofNat T) row f) (Int32.ofNat (k + i)) 0 τ = _
      unfold t_X9_isHeld_L18_b
      have c : ¬ T ≤ k + i := by omega
      simp (disch := omega) only [Option.bind_some, Option.bind_none, nmE, n_pp, n_pl, n_lp, n_mm, n_ml, n_lm, taI_n, taI_l, tsA_n, tsA_l, nar0, twA_1, twA_s, twA_n, twA_2, twA_twA, tsI_s, tsI_n, tsI_2, c_le, c_le_l, c_le_r, c_lt, c_lt_l, c_lt_r, c_eq, c_eq_l, c_eq_r, if_true, if_false, if_pos, if_neg, hT.2 17 rfl, (h4 i (by omega)).2]
      exact ih (i + 1) f τ (by omega) (by omega) hT
  have key : ∀ (d i fc ft : Nat) (σ : Cs) (τ : Tw), i + d = n → d < fc → d < ft → TR A τ → (∀ j, j < 9 → σ.2.1 11 j = env j) → (∀ j, j < 9 → τ.2.1 23 j = env j) → ∃ v σ1 τ', (v = 0 ∨ v = 1) ∧ (σ1 = σ ∨ ∃ z, σ1 = csI σ 41 z) ∧ (1 ≤ d → ∃ z, σ1 = csI σ 41 z) ∧ (∀ D, f_X17_holds_L2 F (f_holds F (D + 2)) a (ad 10) fc (Int32.ofNat i) (cM X ad σ B) = some (v, cM X ad σ1 B)) ∧ t_X9_isHeld_L18 F K (Int32.ofNat T) row ft (Int32.ofNat (k + i)) 1 τ = K (Int32.ofNat (k + n)) v τ' ∧ TR A τ' ∧ ∀ j, j < 9 → τ'.2.1 23 j = env j := by
    intro d
    induction d with
    | zero =>
      intro i fc ft σ τ hi hfc hft hT hC hE
      obtain ⟨fc, rfl⟩ : ∃ m, fc = m + 1 := ⟨fc - 1, by omega⟩
      obtain ⟨ft, rfl⟩ : ∃ m, ft = m + 1 := ⟨ft - 1, by omega⟩
      refine ⟨1, σ, τ, Or.inr rfl, Or.inl rfl, fun z => absurd z (by decide), fun D => ?_, ?_, hT, hE⟩
      · have e0 : i = n := by omega
        subst e0
        show f_X17_holds_L2_b F (f_holds F (D + 2)) a (ad 10) (f_X17_holds_L2 F (f_holds F (D + 2)) a (ad 10) fc) (Int32.ofNat i) _ = _
        unfold f_X17_holds_L2_b
        rw [F_gR (k := 1) h2 rfl, Option.bind_some, F_ocL h3, Option.bind_some, F_size h3, Option.bind_some, if_pos (Int32.le_refl _), F_gI (k := 0) h2 rfl, Option.bind_some, if_pos (Or.inr rfl)]
      · have e0 : k + i = k + n := by omega
        rw [e0]
        show t_X9_isHeld_L18_b F K (Int32.ofNat T) row (t_X9_isHeld_L18 F K (Int32.ofNat T) row ft) (Int32.ofNat (k + n)) 1 τ = _
        unfold t_X9_isHeld_L18_b
        by_cases c : T ≤ k + n
        · rw [if_pos ((c_le _ _ (by omega) (by omega)).mpr c)]
        · have c' : ¬ Int32.ofNat T ≤ Int32.ofNat (k + n) := fun z => c ((c_le _ _ (by omega) (by omega)).mp z)
          rw [if_neg c', taI_n _ _ _ _ (by omega) (by decide), hT.2 17 rfl, Option.bind_some, if_neg (hstop (by omega))]
    | succ d ih =>
      intro i fc ft σ τ hi hfc hft hT hC hE
      obtain ⟨fc, rfl⟩ : ∃ m, fc = m + 1 := ⟨fc - 1, by omega⟩
      obtain ⟨ft, rfl⟩ : ∃ m, ft = m + 1 := ⟨ft - 1, by omega⟩
      obtain ⟨hl, hr⟩ := h4 i (by omega)
      obtain ⟨v, z, τ1, hv, c1, t1, hT1, hE1⟩ := lit_CT (X := X) (F := F) hF hA hT (by omega) hl hC hE
      have stepT : t_X9_isHeld_L18 F K (Int32.ofNat T) row (ft + 1) (Int32.ofNat (k + i)) 1 τ = t_X9_isHeld_L18 F K (Int32.ofNat T) row ft (Int32.ofNat (k + (i + 1))) v τ1 := by
        show t_X9_isHeld_L18_b F K (Int32.ofNat T) row (t_X9_isHeld_L18 F K (Int32.ofNat T) row ft) (Int32.ofNat (k + i)) 1 τ = _
        unfold t_X9_isHeld_L18_b
        have c' : ¬ Int32.ofNat T ≤ Int32.ofNat (k + i) := by rw [c_le _ _ (by omega) (by omega)]; omega
        rw [if_neg c', taI_n _ _ _ _ (by omega) (by decide), hT.2 17 rfl, Option.bind_some, if_pos hr, if_neg (by decide), t1, Option.bind_some]
        simp (disch := omega) only [Option.bind_some, Option.bind_none, nmE, n_pp, n_pl, n_lp, n_mm, n_ml, n_lm, taI_n, taI_l, tsA_n, tsA_l, nar0, twA_1, twA_s, twA_n, twA_2, twA_twA, tsI_s, tsI_n, tsI_2, c_le, c_le_l, c_le_r, c_lt, c_lt_l, c_lt_r, c_eq, c_eq_l, c_eq_r, if_true, if_false, if_pos, if_neg]
        rfl
      have stepC : ∀ D, f_X17_holds_L2 F (f_holds F (D + 2)) a (ad 10) (fc + 1) (Int32.ofNat i) (cM X ad σ B) = if v = 1 then f_X17_holds_L2 F (f_holds F (D + 2)) a (ad 10) fc (Int32.ofNat (i + 1)) (cM X ad (csI σ 41 z) B) else some (0, cM X ad (csI σ 41 z) B) := by
        intro D
        show f_X17_holds_L2_b F (f_holds F (D + 2)) a (ad 10) (f_X17_holds_L2 F (f_holds F (D + 2)) a (ad 10) fc) (Int32.ofNat i) _ = _
        unfold f_X17_holds_L2_b
        have hn := h3.1
        have c' : ¬ Int32.ofNat n ≤ Int32.ofNat i := by rw [c_le _ _ (by omega) (by omega)]; omega
        have i1 : Int32.ofNat i + 1 = Int32.ofNat (i + 1) := (Int32.ofNat_add i 1).symm
        rw [F_gR (k := 1) h2 rfl, Option.bind_some, F_ocL h3, Option.bind_some, F_size h3, Option.bind_some, if_neg c', Option.bind_some, F_ocL h3, Option.bind_some, F_get h3 (by omega), Option.bind_some, oTest_l hl, Option.bind_some, c1 D, Option.bind_some, F_gI (k := 0) h2 rfl, Option.bind_some]
        by_cases h1 : v = 1
        · rw [if_pos h1, if_pos h1, nmE, i1]
        · rw [if_neg h1, if_neg h1, Option.bind_some, if_neg (by decide)]
      rcases hv with hv | hv
      · subst hv
        refine ⟨0, csI σ 41 z, τ1, Or.inl rfl, Or.inr ⟨z, rfl⟩, fun _ => ⟨z, rfl⟩, fun D => ?_, ?_, hT1, hE1⟩
        · rw [stepC, if_neg (by decide)]
        · rw [stepT, skip d (i + 1) ft τ1 (by omega) (by omega) hT1]
      · subst hv
        obtain ⟨v2, σ2, τ2, p1, p2, -, p4, p5, p6, p7⟩ := ih (i + 1) fc ft (csI σ 41 z) τ1 (by omega) (by omega) (by omega) hT1 hC hE1
        have p2' : ∃ z, σ2 = csI σ 41 z := by
          rcases p2 with p | ⟨y, p⟩
          · exact ⟨z, p⟩
          · exact ⟨y, by rw [p, csI_csI]⟩
        refine ⟨v2, σ2, τ2, p1, Or.inr p2', fun _ => p2', fun D => ?_, ?_, p6, p7⟩
        · rw [stepC, if_pos rfl, p4]
        · rw [stepT, p5]
  have hn := h3.1
  obtain ⟨v, σ1, τ', p1, -, p3, p4, p5, p6, p7⟩ := key n 0 F F σ τ (Nat.zero_add _) (by omega) (by omega) hT0 heC heT
  obtain ⟨z, hz⟩ := p3 h1
  refine ⟨v, z, τ', p1, fun D => ?_, p5, p6, p7⟩
  rw [f_holds_s, if_neg (oc_no h2 (by decide)), if_neg (oc_no h2 (by decide)), if_pos (F_oc h2)]
  unfold f_X17_holds
  rw [← hz]
  exact p4 D
theorem oTest_a {a k n : Nat} {row : Int32} (h : AllB A B a k n row) : oTest (cM X ad σ B) a = some () := by
  obtain ⟨-, l, e, h2, -⟩ := h
  unfold oTest
  exact if_pos (Or.inr (Or.inr (F_oc h2)))
/-- a condition -/
theorem any_CT (hF : 1000 ≤ F) (hA : AdOK ad B) {env : Nat → Int32} {a k0 : Nat} {ns : List Nat} {T : Nat} (hT0 : TR A τ) (h : AnyB A B a k0 ns) (hk : k0 + ns.sum = T) (hT2 : T ≤ 200) (heC : ∀ j, j < 9 → σ.2.1 11 j = env j) (heT : ∀ j, j < 9 → τ.2.1 23 j = env j) : ∃ v σ' τ', (v = 0 ∨ v = 1) ∧ (σ' = σ ∨ ∃ z, σ' = csI σ 41 z) ∧ (∀ D, f_holds F (D + 4) a (ad 10) (cM X ad σ B) = some (v, cM X ad σ' B)) ∧ t_X9_isHeld F (Int32.ofNat k0) (Int32.ofNat T) τ = some (v, τ') ∧ TR A τ' ∧ ∀ j, j < 9 → τ'.2.1 23 j = env j := by
  obtain ⟨l, e, h2, h3, h5, h4⟩ := h
  have key : ∀ (ms : List Nat) (i k fc ft : Nat) (σ : Cs) (τ : Tw), i + ms.length = ns.length → k + ms.sum = T → RowsB A B e i k ms → ms.length < fc → ms.length < ft → TR A τ → (∀ j, j < 9 → σ.2.1 11 j = env j) → (∀ j, j < 9 → τ.2.1 23 j = env j) → ∃ v σ1 τ', (v = 0 ∨ v = 1) ∧ (σ1 = σ ∨ ∃ z, σ1 = csI σ 41 z) ∧ (∀ D, f_X17_holds_L2 F (f_holds F (D + 3)) a (ad 10) fc (Int32.ofNat i) (cM X ad σ B) = some (v, cM X ad σ1 B)) ∧ t_X9_isHeld_L2 F (Int32.ofNat T) ft (Int32.ofNat k) τ = some (v, τ') ∧ TR A τ' ∧ ∀ j, j < 9 → τ'.2.1 23 j = env j := by
    intro ms
    induction ms with
    | nil =>
      intro i k fc ft σ τ hi hk hR hfc hft hT hC hE
      obtain ⟨fc, rfl⟩ : ∃ m, fc = m + 1 := ⟨fc - 1, by have : ([] : List Nat).length = 0 := rfl; omega⟩
      obtain ⟨ft, rfl⟩ : ∃ m, ft = m + 1 := ⟨ft - 1, by have : ([] : List Nat).length = 0 := rfl; omega⟩
      have hi : i + 0 = ns.length := hi
      have hk : k + 0 = T := hk
      refine ⟨0, σ, τ, Or.inl rfl, Or.inl rfl, fun D => ?_, ?_, hT, hE⟩
      · have e0 : i = ns.length := by omega
        rw [e0]
        show f_X17_holds_L2_b F (f_holds F (D + 3)) a (ad 10) (f_X17_holds_L2 F (f_holds F (D + 3)) a (ad 10) fc) (Int32.ofNat ns.length) _ = _
        unfold f_X17_holds_L2_b
        rw [F_gR (k := 1) h2 rfl, Option.bind_some, F_ocL h3, Option.bind_some, F_size h3, Option.bind_some, if_pos (Int32.le_refl _), F_gI (k := 0) h2 rfl, Option.bind_some, if_pos (Or.inl rfl)]
      · have e0 : k = T := by omega
        rw [e0]
        show t_X9_isHeld_L2_b F (Int32.ofNat T) (t_X9_isHeld_L2 F (Int32.ofNat T) ft) (Int32.ofNat T) τ = _
        unfold t_X9_isHeld_L2_b
        rw [if_pos (Int32.le_refl _)]
    | cons n ms ih =>
      intro i k fc ft σ τ hi hk hR hfc hft hT hC hE
      have e1 : (n :: ms).length = ms.length + 1 := rfl
      have e2 : (n :: ms).sum = n + ms.sum := List.sum_cons
      obtain ⟨fc, rfl⟩ : ∃ m, fc = m + 1 := ⟨fc - 1, by omega⟩
      obtain ⟨ft, rfl⟩ : ∃ m, ft = m + 1 := ⟨ft - 1, by omega⟩
      obtain ⟨hB1, hR2⟩ := hR
      have hn1 := hB1.1
      have hn : ns.length < 100000 := h3.1
      have hstop : k + n < T → A 17 (k + n) ≠ Int32.ofNat i := by
        intro hlt z
        cases ms with
        | nil =>
          have : ([] : List Nat).sum = 0 := rfl
          omega
        | cons n2 ms2 =>
          obtain ⟨⟨q0, l2, e2', -, -, q2⟩, -⟩ := hR2
          have := (q2 0 (by omega)).2
          rw [Nat.add_zero, z, c_eq _ _ (by omega) (by omega)] at this
          omega
      have hrow : A 17 k = Int32.ofNat i := by
        obtain ⟨q0, l2, e2', -, -, q2⟩ := hB1
        have := (q2 0 (by omega)).2
        rw [Nat.add_zero] at this
        exact this
      obtain ⟨v, z, τ1, hv, c1, t1, hT1, hE1⟩ := all_CT (X := X) (σ := σ) (T := T) (K := fun w4 w5 τ6 => if w5 = 0 then t_X9_isHeld_L2 F (Int32.ofNat T) ft w4 τ6 else some (1, τ6)) hF hA hT hB1 (by omega) hT2 hstop hC hE
      have stepT : t_X9_isHeld_L2 F (Int32.ofNat T) (ft + 1) (Int32.ofNat k) τ = if v = 0 then t_X9_isHeld_L2 F (Int32.ofNat T) ft (Int32.ofNat (k + n)) τ1 else some (1, τ1) := by
        show t_X9_isHeld_L2_b F (Int32.ofNat T) (t_X9_isHeld_L2 F (Int32.ofNat T) ft) (Int32.ofNat k) τ = _
        unfold t_X9_isHeld_L2_b
        have c' : ¬ Int32.ofNat T ≤ Int32.ofNat k := by rw [c_le _ _ (by omega) (by omega)]; omega
        rw [if_neg c', taI_n _ _ _ _ (by omega) (by decide), hT.2 17 rfl, Option.bind_some, hrow]
        exact t1
      have stepC : ∀ D, f_X17_holds_L2 F (f_holds F (D + 3)) a (ad 10) (fc + 1) (Int32.ofNat i) (cM X ad σ B) = if v = 0 then f_X17_holds_L2 F (f_holds F (D + 3)) a (ad 10) fc (Int32.ofNat (i + 1)) (cM X ad (csI σ 41 z) B) else some (1, cM X ad (csI σ 41 z) B) := by
        intro D
        show f_X17_holds_L2_b F (f_holds F (D + 3)) a (ad 10) (f_X17_holds_L2 F (f_holds F (D + 3)) a (ad 10) fc) (Int32.ofNat i) _ = _
        unfold f_X17_holds_L2_b
        have c' : ¬ Int32.ofNat ns.length ≤ Int32.ofNat i := by rw [c_le _ _ (by omega) (by omega)]; omega
        have i1 : Int32.ofNat i + 1 = Int32.ofNat (i + 1) := (Int32.ofNat_add i 1).symm
        rw [F_gR (k := 1) h2 rfl, Option.bind_some, F_ocL h3, Option.bind_some, F_size h3, Option.bind_some, if_neg c', Option.bind_some, F_ocL h3, Option.bind_some, F_get h3 (by omega), Option.bind_some, oTest_a hB1, Option.bind_some, c1 D, Option.bind_some, F_gI (k := 0) h2 rfl, Option.bind_some]
        by_cases h1 : v = 0
        · rw [if_pos h1, if_pos h1, nmE, i1]
        · rw [if_neg h1, if_neg h1, Option.bind_some, if_pos rfl]
      rcases hv with hv | hv
      · subst hv
        obtain ⟨v2, σ2, τ2, p1, p2, p4, p5, p6, p7⟩ := ih (i + 1) (k + n) fc ft (csI σ 41 z) τ1 (by omega) (by omega) hR2 (by omega) (by omega) hT1 hC hE1
        have p2' : ∃ z, σ2 = csI σ 41 z := by
          rcases p2 with p | ⟨y, p⟩
          · exact ⟨z, p⟩
          · exact ⟨y, by rw [p, csI_csI]⟩
        refine ⟨v2, σ2, τ2, p1, Or.inr p2', fun D => ?_, ?_, p6, p7⟩
        · rw [stepC, if_pos rfl, p4]
        · rw [stepT, if_pos rfl, p5]
      · subst hv
        refine ⟨1, csI σ 41 z, τ1, Or.inr rfl, Or.inr ⟨z, rfl⟩, fun D => ?_, ?_, hT1, hE1⟩
        · rw [stepC, if_neg (by decide)]
        · rw [stepT, if_neg (by decide)]
  obtain ⟨v, σ1, τ', p1, p2, p4, p5, p6, p7⟩ := key ns 0 k0 F F σ τ (Nat.zero_add _) hk h4 (by omega) (by omega) hT0 heC heT
  refine ⟨v, σ1, τ', p1, p2, fun D => ?_, p5, p6, p7⟩
  rw [f_holds_s, if_neg (oc_no h2 (by decide)), if_neg (oc_no h2 (by decide)), if_pos (F_oc h2)]
  unfold f_X17_holds
  exact p4 D
theorem oTest_y {a k : Nat} {ns : List Nat} (h : AnyB A B a k ns) : oTest (cM X ad σ B) a = some () := by
  obtain ⟨l, e, h2, -⟩ := h
  unfold oTest
  exact if_pos (Or.inr (Or.inr (F_oc h2)))
