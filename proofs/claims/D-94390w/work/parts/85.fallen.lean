set_option maxRecDepth 100000
/-! chains: who falls after a house -/
variable {X : Nat → Option Ob} {ad : Nat → Nat} {B : Sw} {A A' : Av} {σ σ' : Cs} {τ : Tw} {F : Nat}
theorem aw_aw (A : Av) (j : Nat) (f g : Nat → Int32) : aw (aw A j f) j g = aw A j g := by
  funext q
  unfold aw
  by_cases h : q = j
  · rw [if_pos h, if_pos h]
  · rw [if_neg h, if_neg h, if_neg h]
def chP (A : Av) (g : Nat → Int32) (m : Nat) (n : Int32) (i h : Nat) : Prop := (g h = -1 ∧ A 32 h = -2 ∧ tb (A 0 48) h = false ∧ tb n h = false) ∨ (∃ k, k < m ∧ g h = Int32.ofNat k ∧ A 32 h = Int32.ofNat k ∧ tb (A 0 48) h = true ∧ tb n h = false) ∨ (h < i ∧ g h = Int32.ofNat m ∧ A 32 h = Int32.ofNat m ∧ tb (A 0 48) h = false ∧ tb n h = true)
theorem chP.s {g : Nat → Int32} {m i h : Nat} {n : Int32} (p : chP A g m n i h) : chP A g m n (i + 1) h := by
  rcases p with p | p | ⟨p1, p2⟩
  · exact Or.inl p
  · exact Or.inr (Or.inl p)
  · exact Or.inr (Or.inr ⟨by omega, p2⟩)
def bH (A : Av) (n : Int32) : Prop := ∀ i, i < 32 → tb n i = true → i < zN A 6 0
theorem bH.b (hW : WF A) {n : Int32} (h : bH A n) : b16 n := fun i h1 h2 => by
  have := hW.H.2
  cases e : tb n i with
  | false => rfl
  | true => have := h i h2 e; omega
theorem bH.or {n : Int32} {k : Nat} (h : bH A n) (hk : k < zN A 6 0) (h32 : k < 32) : bH A (n ||| bit k) := fun i hi ht => by
  rw [tb_or, tb_bit h32 hi] at ht
  by_cases e : i = k
  · rw [e]; exact hk
  · rw [decide_eq_false e, Bool.or_false] at ht
    exact h i hi ht
theorem round_CT (hF : 1000 ≤ F) {wind : Int32} {m : Nat} (hm : m ≤ 100000) {KC : Int32 → Sw → Option (Int32 × Sw)} {KT : Int32 → Tw → Option Tw} : ∀ (d i fc ft : Nat) (n : Int32) (A : Av) (σ : Cs) (τ : Tw), i + d = zN A 6 0 → d < fc → d < ft → EV ad B A → CR ad B A σ → TR A τ → bH A n → (∀ h, h < zN A 6 0 → chP A (σ.2.1 31) m n i h) → ∃ f σ' τ' n', EV ad B (aw A 32 f) ∧ CR ad B (aw A 32 f) σ' ∧ TR (aw A 32 f) τ' ∧ bH A n' ∧ (∀ h, h < zN A 6 0 → chP (aw A 32 f) (σ'.2.1 31) m n' (zN A 6 0) h) ∧ f_X0_chains_L54 F KC (ad 0) wind (A 0 48) (Int32.ofNat m) fc (A 0 48 ||| n) (Int32.ofNat i) (cM X ad σ B) = KC (A 0 48 ||| n') (cM X ad σ' B) ∧ t_X9_chains_L56 F KT wind (Int32.ofNat m) ft n (Int32.ofNat i) τ = KT n' τ' ∧ (∀ h, h < zN A 6 0 → tb (A 0 48) h = true → σ'.2.1 31 h = σ.2.1 31 h) := by
  intro d
  induction d with
  | zero =>
    intro i fc ft n A σ τ hi hfc hft hE hC hT hb hP
    obtain ⟨fc, rfl⟩ : ∃ m, fc = m + 1 := ⟨fc - 1, by omega⟩
    obtain ⟨ft, rfl⟩ : ∃ m, ft = m + 1 := ⟨ft - 1, by omega⟩
    obtain ⟨eH, lH⟩ := hE.2.2.H
    have e0 : i = zN A 6 0 := by omega
    rw [e0] at hP
    rw [e0]
    have eA : aw A 32 (A 32) = A := by
      funext q
      unfold aw
      by_cases h : q = 32
      · rw [if_pos h, h]
      · rw [if_neg h]
    refine ⟨A 32, σ, τ, n, ?_, ?_, ?_, hb, ?_, ?_, ?_, fun _ _ _ => rfl⟩
    · rw [eA]; exact hE
    · rw [eA]; exact hC
    · rw [eA]; exact hT
    · rw [eA]; exact hP
    · show f_X0_chains_L54_b F KC (ad 0) wind (A 0 48) (Int32.ofNat m) (f_X0_chains_L54 F KC (ad 0) wind (A 0 48) (Int32.ofNat m) fc) _ (Int32.ofNat (zN A 6 0)) _ = _
      unfold f_X0_chains_L54_b
      simp (disch := omega) only [Option.bind_some, Option.bind_none, nmE, n_pp, n_pl, n_lp, n_mm, n_ml, n_lm, csI_s, csI_n, csI_2, csA_1, csA_s, csA_n, csA_2, csL_1, csL_2, csL_s, csL_n, csL_3, csQ_1, csQ_2, csQ_3, csQ_s, csQ_n, nar0, c_le, c_le_l, c_le_r, c_lt, c_lt_l, c_lt_r, c_eq, c_eq_l, c_eq_r, if_true, if_false, if_pos, if_neg, oc0 hE.1, houses_C hE]
    · show t_X9_chains_L56_b F KT wind (Int32.ofNat m) (t_X9_chains_L56 F KT wind (Int32.ofNat m) ft) n (Int32.ofNat (zN A 6 0)) τ = _
      unfold t_X9_chains_L56_b
      simp (disch := omega) only [Option.bind_some, Option.bind_none, nmE, n_pp, n_pl, n_lp, n_mm, n_ml, n_lm, taI_n, taI_l, tsA_n, tsA_l, nar0, twA_1, twA_s, twA_n, twA_2, twA_twA, tsI_s, tsI_n, tsI_2, c_le, c_le_l, c_le_r, c_lt, c_lt_l, c_lt_r, c_eq, c_eq_l, c_eq_r, if_true, if_false, if_pos, if_neg, hT.2 6 rfl, eH]
  | succ d ih =>
    intro i fc ft n A σ τ hi hfc hft hE hC hT hb hP
    obtain ⟨fc, rfl⟩ : ∃ m, fc = m + 1 := ⟨fc - 1, by omega⟩
    obtain ⟨ft, rfl⟩ : ∃ m, ft = m + 1 := ⟨ft - 1, by omega⟩
    have hA := hE.1
    obtain ⟨eH, lH⟩ := hE.2.2.H
    have stepC : ∀ w, f_X0_chains_L54 F KC (ad 0) wind (A 0 48) (Int32.ofNat m) (fc + 1) w (Int32.ofNat i) (cM X ad σ B) = f_X0_chains_L54_b F KC (ad 0) wind (A 0 48) (Int32.ofNat m) (f_X0_chains_L54 F KC (ad 0) wind (A 0 48) (Int32.ofNat m) fc) w (Int32.ofNat i) (cM X ad σ B) := fun _ => rfl
    have stepT : t_X9_chains_L56 F KT wind (Int32.ofNat m) (ft + 1) n (Int32.ofNat i) τ = t_X9_chains_L56_b F KT wind (Int32.ofNat m) (t_X9_chains_L56 F KT wind (Int32.ofNat m) ft) n (Int32.ofNat i) τ := rfl
    rcases hP i (by omega) with ⟨p1, p2, p3, p4⟩ | ⟨k, hk, p1, p2, p3, p4⟩ | ⟨p, -⟩
    · obtain ⟨v, σ1, τ1, hv, c1, t1, hC1, hT1, e31⟩ := falls_CT (X := X) (F := F) (h := i) (wind := wind) (S := A 0 48) hF hE hC hT (by omega)
      have bt : (A 0 48 >>> (Int32.ofNat i &&& 31)) &&& 1 = 0 := by rw [bit_of _ (by omega), p3]; rfl
      rcases hv with hv | hv
      · subst hv
        obtain ⟨f, σ2, τ2, n2, q1, q2, q3, q4, q5, q6, q7, q8⟩ := ih (i + 1) fc ft n A σ1 τ1 (by omega) (by omega) (by omega) hE hC1 hT1 hb (fun h hh => by rw [e31]; exact (hP h hh).s)
        refine ⟨f, σ2, τ2, n2, q1, q2, q3, q4, q5, ?_, ?_, fun h hh ht => by rw [q8 h hh ht, e31]⟩
        · rw [← q6, stepC]
          unfold f_X0_chains_L54_b
          simp (disch := omega) only [Option.bind_some, Option.bind_none, nmE, n_pp, n_pl, n_lp, n_mm, n_ml, n_lm, csI_s, csI_n, csI_2, csA_1, csA_s, csA_n, csA_2, csL_1, csL_2, csL_s, csL_n, csL_3, csQ_1, csQ_2, csQ_3, csQ_s, csQ_n, nar0, c_le, c_le_l, c_le_r, c_lt, c_lt_l, c_lt_r, c_eq, c_eq_l, c_eq_r, if_true, if_false, if_pos, if_neg, oc0 hA, houses_C hE, o0_18 hA, a31 hA, p1, c1]
        · rw [← q7, stepT]
          unfold t_X9_chains_L56_b
          simp (disch := omega) only [Option.bind_some, Option.bind_none, nmE, n_pp, n_pl, n_lp, n_mm, n_ml, n_lm, taI_n, taI_l, tsA_n, tsA_l, nar0, twA_1, twA_s, twA_n, twA_2, twA_twA, tsI_s, tsI_n, tsI_2, c_le, c_le_l, c_le_r, c_lt, c_lt_l, c_lt_r, c_eq, c_eq_l, c_eq_r, if_true, if_false, if_pos, if_neg, hT.2 6 rfl, eH, hT.1 48 rfl, bt]
          rw [if_neg (by decide), t1, Option.bind_some, if_pos rfl]
      · subst hv
        have e32 : τ1.2.1 32 = A 32 := hT1.2 32 rfl
        have hr : irr A (aw A 32 (upd (A 32) i (Int32.ofNat m))) := irr.w (by omega)
        have hT2 : TR (aw A 32 (upd (A 32) i (Int32.ofNat m))) (twA τ1 32 (upd (A 32) i (Int32.ofNat m))) := hT1.W (by decide)
        have hC2 : CR ad B (aw A 32 (upd (A 32) i (Int32.ofNat m))) (csA σ1 31 (upd (σ1.2.1 31) i (Int32.ofNat m))) := hr.cr (hC1.a rfl)
        have z6 : zN (aw A 32 (upd (A 32) i (Int32.ofNat m))) 6 0 = zN A 6 0 := rfl
        have z0 : aw A 32 (upd (A 32) i (Int32.ofNat m)) 0 = A 0 := rfl
        obtain ⟨f, σ2, τ2, n2, q1, q2, q3, q4, q5, q6, q7, q8⟩ := ih (i + 1) fc ft (n ||| bit i) _ _ _ (by rw [z6]; omega) (by omega) (by omega) (hr.ev hE) hC2 hT2 (hb.or (by omega) (by omega)) (fun h hh => by
          rw [z6] at hh
          unfold chP
          rw [csA_s, aw_s, z0]
          by_cases hi2 : h = i
          · subst hi2
            rw [up_s, up_s]
            refine Or.inr (Or.inr ⟨by omega, rfl, rfl, p3, ?_⟩)
            rw [tb_or, tb_bit (by omega) (by omega), decide_eq_true rfl, Bool.or_true]
          · rw [up_n _ _ _ _ hi2, up_n _ _ _ _ hi2, e31]
            have en : tb (n ||| bit i) h = tb n h := by rw [tb_or, tb_bit (by omega) (by omega), decide_eq_false hi2, Bool.or_false]
            rw [en]
            exact (hP h hh).s)
        rw [z0] at q6
        rw [aw_aw] at q1 q2 q3
        rw [z6] at q5
        refine ⟨f, σ2, τ2, n2, q1, q2, q3, q4, fun h hh => ?_, ?_, ?_, fun h hh ht => ?_⟩
        · have := q5 h hh
          rw [aw_aw] at this
          exact this
        · rw [← q6, stepC]
          unfold f_X0_chains_L54_b
          simp (disch := omega) only [Option.bind_some, Option.bind_none, nmE, n_pp, n_pl, n_lp, n_mm, n_ml, n_lm, csI_s, csI_n, csI_2, csA_1, csA_s, csA_n, csA_2, csL_1, csL_2, csL_s, csL_n, csL_3, csQ_1, csQ_2, csQ_3, csQ_s, csQ_n, nar0, c_le, c_le_l, c_le_r, c_lt, c_lt_l, c_lt_r, c_eq, c_eq_l, c_eq_r, if_true, if_false, if_pos, if_neg, oc0 hA, houses_C hE, o0_18 hA, a31 hA, p1, c1]
          rw [if_neg (by decide)]
          simp (disch := omega) only [Option.bind_some, Option.bind_none, nmE, n_pp, n_pl, n_lp, n_mm, n_ml, n_lm, csI_s, csI_n, csI_2, csA_1, csA_s, csA_n, csA_2, csL_1, csL_2, csL_s, csL_n, csL_3, csQ_1, csQ_2, csQ_3, csQ_s, csQ_n, nar0, c_le, c_le_l, c_le_r, c_lt, c_lt_l, c_lt_r, c_eq, c_eq_l, c_eq_r, if_true, if_false, if_pos, if_neg, o0_18 hA, s31 hA]
          rw [bit_ofNat, Int32.or_assoc]
        · rw [← q7, stepT]
          unfold t_X9_chains_L56_b
          simp (disch := omega) only [Option.bind_some, Option.bind_none, nmE, n_pp, n_pl, n_lp, n_mm, n_ml, n_lm, taI_n, taI_l, tsA_n, tsA_l, nar0, twA_1, twA_s, twA_n, twA_2, twA_twA, tsI_s, tsI_n, tsI_2, c_le, c_le_l, c_le_r, c_lt, c_lt_l, c_lt_r, c_eq, c_eq_l, c_eq_r, if_true, if_false, if_pos, if_neg, hT.2 6 rfl, eH, hT.1 48 rfl, bt]
          rw [if_neg (by decide), t1, Option.bind_some, if_neg (show ¬ (1 : Int32) = 0 by decide)]
          simp (disch := omega) only [Option.bind_some, Option.bind_none, nmE, n_pp, n_pl, n_lp, n_mm, n_ml, n_lm, taI_n, taI_l, tsA_n, tsA_l, nar0, twA_1, twA_s, twA_n, twA_2, twA_twA, tsI_s, tsI_n, tsI_2, c_le, c_le_l, c_le_r, c_lt, c_lt_l, c_lt_r, c_eq, c_eq_l, c_eq_r, if_true, if_false, if_pos, if_neg, e32]
          rw [bit_ofNat]
        · rw [q8 h (by rw [z6]; exact hh) (by rw [z0]; exact ht), csA_s, up_n _ _ _ _ (fun e => by rw [e, p3] at ht; cases ht), e31]
    · obtain ⟨f, σ2, τ2, n2, q1, q2, q3, q4, q5, q6, q7, q8⟩ := ih (i + 1) fc ft n A σ τ (by omega) (by omega) (by omega) hE hC hT hb (fun h hh => (hP h hh).s)
      have bt : (A 0 48 >>> (Int32.ofNat i &&& 31)) &&& 1 = 1 := by rw [bit_of _ (by omega), p3]; rfl
      have nk : ¬ Int32.ofNat k = -1 := ofNat_ne_m1 (by omega)
      refine ⟨f, σ2, τ2, n2, q1, q2, q3, q4, q5, ?_, ?_, q8⟩
      · rw [← q6, stepC]
        unfold f_X0_chains_L54_b
        simp (disch := omega) only [Option.bind_some, Option.bind_none, nmE, n_pp, n_pl, n_lp, n_mm, n_ml, n_lm, csI_s, csI_n, csI_2, csA_1, csA_s, csA_n, csA_2, csL_1, csL_2, csL_s, csL_n, csL_3, csQ_1, csQ_2, csQ_3, csQ_s, csQ_n, nar0, c_le, c_le_l, c_le_r, c_lt, c_lt_l, c_lt_r, c_eq, c_eq_l, c_eq_r, if_true, if_false, if_pos, if_neg, oc0 hA, houses_C hE, o0_18 hA, a31 hA, p1, nk]
      · rw [← q7, stepT]
        unfold t_X9_chains_L56_b
        simp (disch := omega) only [Option.bind_some, Option.bind_none, nmE, n_pp, n_pl, n_lp, n_mm, n_ml, n_lm, taI_n, taI_l, tsA_n, tsA_l, nar0, twA_1, twA_s, twA_n, twA_2, twA_twA, tsI_s, tsI_n, tsI_2, c_le, c_le_l, c_le_r, c_lt, c_lt_l, c_lt_r, c_eq, c_eq_l, c_eq_r, if_true, if_false, if_pos, if_neg, hT.2 6 rfl, eH, hT.1 48 rfl, bt]
    · omega
