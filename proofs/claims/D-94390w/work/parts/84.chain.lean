set_option maxRecDepth 100000
/-! the law's numbers; chains -/
variable {X : Nat → Option Ob} {ad : Nat → Nat} {B : Sw} {A A' : Av} {σ σ' : Cs} {τ : Tw} {F : Nat}
theorem bad_CT (hF : 100000 ≤ F) (hE : EV ad B A) (hC : CR ad B A σ) (hT : TR A τ) : ∃ v σ' τ', b16 v ∧ f_X0_badOnes F (ad 0) (cM X ad σ B) = some (v, cM X ad σ' B) ∧ (∀ c1, t_X9_law_L54 F c1 F 0 0 τ = some (if c1 = 2 then pc v else v, τ')) ∧ CR ad B A σ' ∧ TR A τ' := by
  have hA := hE.1
  obtain ⟨eH, lH⟩ := hE.2.2.H
  have key : ∀ (d i fc ft : Nat) (s : Int32) (σ : Cs) (τ : Tw), i + d = zN A 6 0 → d < fc → d < ft → b16 s → CR ad B A σ → TR A τ → ∃ v σ' τ', b16 v ∧ f_X0_badOnes_L4 F (ad 0) fc s (Int32.ofNat i) (cM X ad σ B) = some (v, cM X ad σ' B) ∧ (∀ c1, t_X9_law_L54 F c1 ft s (Int32.ofNat i) τ = some (if c1 = 2 then pc v else v, τ')) ∧ CR ad B A σ' ∧ TR A τ' := by
    intro d
    induction d with
    | zero =>
      intro i fc ft s σ τ hi hfc hft hb hC hT
      obtain ⟨fc, rfl⟩ : ∃ m, fc = m + 1 := ⟨fc - 1, by omega⟩
      obtain ⟨ft, rfl⟩ : ∃ m, ft = m + 1 := ⟨ft - 1, by omega⟩
      have e0 : i = zN A 6 0 := by omega
      rw [e0]
      refine ⟨s, σ, τ, hb, ?_, fun c1 => ?_, hC, hT⟩
      · show f_X0_badOnes_L4_b F (ad 0) (f_X0_badOnes_L4 F (ad 0) fc) s (Int32.ofNat (zN A 6 0)) _ = _
        unfold f_X0_badOnes_L4_b
        simp (disch := omega) only [Option.bind_some, Option.bind_none, nmE, n_pp, n_pl, n_lp, n_mm, n_ml, n_lm, csI_s, csI_n, csI_2, csA_1, csA_s, csA_n, csA_2, csL_1, csL_2, csL_s, csL_n, csL_3, csQ_1, csQ_2, csQ_3, csQ_s, csQ_n, nar0, c_le, c_le_l, c_le_r, c_lt, c_lt_l, c_lt_r, c_eq, c_eq_l, c_eq_r, if_true, if_false, if_pos, if_neg, oc0 hA, houses_C hE]
      · show t_X9_law_L54_b F c1 (t_X9_law_L54 F c1 ft) s (Int32.ofNat (zN A 6 0)) τ = _
        unfold t_X9_law_L54_b
        rw [count_T (by omega)]
        simp (disch := omega) only [Option.bind_some, Option.bind_none, nmE, n_pp, n_pl, n_lp, n_mm, n_ml, n_lm, taI_n, taI_l, tsA_n, tsA_l, nar0, twA_1, twA_s, twA_n, twA_2, twA_twA, tsI_s, tsI_n, tsI_2, c_le, c_le_l, c_le_r, c_lt, c_lt_l, c_lt_r, c_eq, c_eq_l, c_eq_r, if_true, if_false, if_pos, if_neg, hT.2 6 rfl, eH]
        by_cases h : c1 = 2
        · rw [if_pos h, if_pos h]
        · rw [if_neg h, if_neg h]
    | succ d ih =>
      intro i fc ft s σ τ hi hfc hft hb hC hT
      obtain ⟨fc, rfl⟩ : ∃ m, fc = m + 1 := ⟨fc - 1, by omega⟩
      obtain ⟨ft, rfl⟩ : ∃ m, ft = m + 1 := ⟨ft - 1, by omega⟩
      obtain ⟨v, σ1, τ1, hv, c1, t1, hC1, hT1⟩ := isBad_CT (X := X) (F := F) (by omega) hE hC hT (show i < zN A 6 0 by omega)
      obtain ⟨v2, σ2, τ2, p1, p2, p3, p4, p5⟩ := ih (i + 1) fc ft (if v = 0 then s else s ||| bit i) σ1 τ1 (by omega) (by omega) (by omega) (by
        by_cases h : v = 0
        · rw [if_pos h]; exact hb
        · rw [if_neg h]; exact hb.or (b16.bt (by omega))) hC1 hT1
      refine ⟨v2, σ2, τ2, p1, ?_, fun cc => ?_, p4, p5⟩
      · rw [← p2]
        show f_X0_badOnes_L4_b F (ad 0) (f_X0_badOnes_L4 F (ad 0) fc) s (Int32.ofNat i) _ = _
        unfold f_X0_badOnes_L4_b
        simp (disch := omega) only [Option.bind_some, Option.bind_none, nmE, n_pp, n_pl, n_lp, n_mm, n_ml, n_lm, csI_s, csI_n, csI_2, csA_1, csA_s, csA_n, csA_2, csL_1, csL_2, csL_s, csL_n, csL_3, csQ_1, csQ_2, csQ_3, csQ_s, csQ_n, nar0, c_le, c_le_l, c_le_r, c_lt, c_lt_l, c_lt_r, c_eq, c_eq_l, c_eq_r, if_true, if_false, if_pos, if_neg, oc0 hA, houses_C hE, c1]
        by_cases h : v = 0
        · rw [if_pos h, if_pos h]
        · rw [if_neg h, if_neg h]
          rfl
      · rw [← p3 cc]
        show t_X9_law_L54_b F cc (t_X9_law_L54 F cc ft) s (Int32.ofNat i) τ = _
        unfold t_X9_law_L54_b
        simp (disch := omega) only [Option.bind_some, Option.bind_none, nmE, n_pp, n_pl, n_lp, n_mm, n_ml, n_lm, taI_n, taI_l, tsA_n, tsA_l, nar0, twA_1, twA_s, twA_n, twA_2, twA_twA, tsI_s, tsI_n, tsI_2, c_le, c_le_l, c_le_r, c_lt, c_lt_l, c_lt_r, c_eq, c_eq_l, c_eq_r, if_true, if_false, if_pos, if_neg, hT.2 6 rfl, eH, t1]
        by_cases h : v = 0
        · rw [if_pos h, if_pos h]
        · rw [if_neg h, if_neg h]
          rfl
  exact key (zN A 6 0) 0 F F 0 σ τ (Nat.zero_add _) (by omega) (by omega) b16.z hC hT
/-- 15: law -/
theorem st_15 (hF : 1000000 ≤ F) (h : INV ad B A σ τ) (x : Nat → Int32) : ST F 15 x X ad B σ τ := by
  have hI := h
  obtain ⟨hE, hK, hC, hT⟩ := h
  have hA := hE.1
  have h1 : stC F 15 (ad 0) x (cM X ad σ B) = f_X0_law F (ad 0) (x 1) (cM X ad σ B) := rfl
  have h2 : stT F 15 x τ = t_X9_law F (x 1) τ := rfl
  unfold f_X0_law at h1
  unfold t_X9_law at h2
  have hub := sUnt_b (A := A) (zN A 6 0) hE.2.2.H.2
  by_cases c0 : x 1 = 0
  · have n1 : ¬ x 1 = 1 := by rw [c0]; decide
    obtain ⟨σ', e1, hC', -⟩ := untrue_C (X := X) (F := F) (by omega) hE hC
    obtain ⟨τ', e2, hT'⟩ := untrue_T (F := F) (by omega) hE.2.2 hE.l1 hT
    rw [if_pos c0, oc0 hA, Option.bind_some, e1, Option.bind_some, count_C hub] at h1
    rw [if_neg n1, if_pos c0, if_pos c0, e2, Option.bind_some, count_T (by omega)] at h2
    exact ST.ro hI h1 h2 hC' hT'
  rw [if_neg c0] at h1
  by_cases c1 : x 1 = 1
  · rw [if_pos c1, oc0 hA, Option.bind_some, turned_C (by omega) hE hC] at h1
    rw [if_pos c1, turned_T (by omega) hE.2.2 hT] at h2
    exact ST.ro hI h1 h2 hC hT
  rw [if_neg c1] at h1
  rw [if_neg c1, if_neg c0] at h2
  obtain ⟨v, σb, τb, hb, cb, tb2, hCb, hTb⟩ := bad_CT (X := X) (F := F) (by omega) hE hC hT
  by_cases c2 : x 1 = 2
  · have n3 : ¬ x 1 = 3 := by rw [c2]; decide
    rw [if_pos c2, oc0 hA, Option.bind_some, cb, Option.bind_some, count_C hb] at h1
    rw [if_neg n3, if_pos c2, tb2, if_pos c2] at h2
    exact ST.ro hI h1 h2 hCb hTb
  rw [if_neg c2] at h1
  by_cases c3 : x 1 = 3
  · obtain ⟨σ', e1, hC', -⟩ := untrue_C (X := X) (F := F) (by omega) hE hC
    obtain ⟨τ', e2, hT'⟩ := untrue_T (F := F) (by omega) hE.2.2 hE.l1 hT
    rw [if_pos c3, oc0 hA, Option.bind_some, e1] at h1
    rw [if_pos c3, if_neg c0, e2] at h2
    exact ST.ro hI h1 h2 hC' hT'
  rw [if_neg c3] at h1
  rw [if_neg c3, if_neg c2] at h2
  by_cases c4 : x 1 = 4
  · rw [if_pos c4, oc0 hA, Option.bind_some, cb] at h1
    rw [if_pos c4, tb2, if_neg c2] at h2
    exact ST.ro hI h1 h2 hCb hTb
  · rw [if_neg c4] at h1 h2
    exact ST.ro hI h1 h2 hC hT
/-! houses with a stair to one -/
def sGb (A : Av) (h : Nat) : Nat → Int32
  | 0 => 0
  | s + 1 => if A 6 (120 + 3 * s + 1) = -1 then sGb A h s else if A 6 (120 + 3 * s) = Int32.ofNat h then sGb A h s ||| bit (zN A 6 (120 + 3 * s + 1)) else if A 6 (120 + 3 * s + 1) = Int32.ofNat h then sGb A h s ||| bit (zN A 6 (120 + 3 * s)) else sGb A h s
theorem sGb_b (hW : WF A) {h : Nat} : ∀ s, s ≤ zN A 6 3 → b16 (sGb A h s) := by
  have lH := hW.H.2
  intro s
  induction s with
  | zero => intro _; exact b16.z
  | succ s ih =>
    intro hs
    obtain ⟨-, la, hb⟩ := hW.st (s := s) (by omega)
    show b16 (if A 6 (120 + 3 * s + 1) = -1 then sGb A h s else if A 6 (120 + 3 * s) = Int32.ofNat h then sGb A h s ||| bit (zN A 6 (120 + 3 * s + 1)) else if A 6 (120 + 3 * s + 1) = Int32.ofNat h then sGb A h s ||| bit (zN A 6 (120 + 3 * s)) else sGb A h s)
    by_cases c1 : A 6 (120 + 3 * s + 1) = -1
    · rw [if_pos c1]; exact ih (by omega)
    rw [if_neg c1]
    by_cases c2 : A 6 (120 + 3 * s) = Int32.ofNat h
    · rw [if_pos c2]
      refine (ih (by omega)).or (b16.bt ?_)
      rcases hb with e | ⟨-, e⟩
      · exact absurd e c1
      · omega
    rw [if_neg c2]
    by_cases c3 : A 6 (120 + 3 * s + 1) = Int32.ofNat h
    · rw [if_pos c3]; exact (ih (by omega)).or (b16.bt (by omega))
    · rw [if_neg c3]; exact ih (by omega)
theorem gone_C (hF : 1000 ≤ F) (hE : EV ad B A) {h : Nat} {S : Int32} : f_X0_goneBeside F (ad 0) (Int32.ofNat h) S (cM X ad σ B) = some (pc (sGb A h (zN A 6 3) &&& S)) := by
  have hA := hE.1
  have hB := hE.2.1
  obtain ⟨eS, lS⟩ := hE.2.2.S
  have lH := hE.2.2.H.2
  unfold f_X0_goneBeside
  refine for_up (L := fun n i s => f_X0_goneBeside_L5 F (ad 0) (Int32.ofNat h) S (cM X ad σ B) n s i) (N := zN A 6 3) (Inv := fun k s => s = sGb A h k) (Post := fun r => r = some (pc (sGb A h (zN A 6 3) &&& S))) ?_ ?_ (zN A 6 3) 0 F 0 (Nat.zero_add _) (by omega) rfl
  · intro n k s hk e
    subst e
    refine Or.inl ⟨_, rfl, ?_⟩
    show f_X0_goneBeside_L5_b F (ad 0) (Int32.ofNat h) S (cM X ad σ B) (f_X0_goneBeside_L5 F (ad 0) (Int32.ofNat h) S (cM X ad σ B) n) _ (Int32.ofNat k) = f_X0_goneBeside_L5 F (ad 0) (Int32.ofNat h) S (cM X ad σ B) n (if A 6 (120 + 3 * k + 1) = -1 then sGb A h k else if A 6 (120 + 3 * k) = Int32.ofNat h then sGb A h k ||| bit (zN A 6 (120 + 3 * k + 1)) else if A 6 (120 + 3 * k + 1) = Int32.ofNat h then sGb A h k ||| bit (zN A 6 (120 + 3 * k)) else sGb A h k) _
    obtain ⟨ea, la, hb⟩ := hE.2.2.st hk
    have q := hB.ss F hk (X := X)
    unfold f_X0_goneBeside_L5_b
    simp (disch := omega) only [Option.bind_some, Option.bind_none, nmE, n_pp, n_pl, n_lp, n_mm, n_ml, n_lm, csI_s, csI_n, csI_2, csA_1, csA_s, csA_n, csA_2, csL_1, csL_2, csL_s, csL_n, csL_3, csQ_1, csQ_2, csQ_3, csQ_s, csQ_n, nar0, c_le, c_le_l, c_le_r, c_lt, c_lt_l, c_lt_r, c_eq, c_eq_l, c_eq_r, if_true, if_false, if_pos, if_neg, o0_3 hA, hB.tw, hB.sn F, q, f_X12_isOf, f_X12_other]
    by_cases c1 : A 6 (120 + 3 * k + 1) = -1
    · rw [if_pos c1, if_pos c1]
    rw [if_neg c1, if_neg c1]
    have eb : A 6 (120 + 3 * k + 1) = Int32.ofNat (zN A 6 (120 + 3 * k + 1)) := by
      rcases hb with e | ⟨e, -⟩
      · exact absurd e c1
      · exact e
    by_cases c2 : A 6 (120 + 3 * k) = Int32.ofNat h
    · rw [if_pos c2, if_pos c2, Option.bind_some, if_neg (by decide), if_pos c2, Option.bind_some, eb]
      rfl
    rw [if_neg c2, if_neg c2]
    by_cases c3 : A 6 (120 + 3 * k + 1) = Int32.ofNat h
    · rw [if_pos c3, if_pos c3, Option.bind_some, if_neg (by decide), if_neg c2, Option.bind_some, ea]
      rfl
    · rw [if_neg c3, if_neg c3, Option.bind_some, if_pos rfl, if_neg c2]
  · intro n s e
    subst e
    show f_X0_goneBeside_L5_b F (ad 0) (Int32.ofNat h) S (cM X ad σ B) (f_X0_goneBeside_L5 F (ad 0) (Int32.ofNat h) S (cM X ad σ B) n) _ (Int32.ofNat (zN A 6 3)) = _
    unfold f_X0_goneBeside_L5_b
    have hc := count_C (F := F) ((sGb_b hE.2.2 (h := h) (zN A 6 3) (Nat.le_refl _)).an (w := S))
    simp (disch := omega) only [Option.bind_some, Option.bind_none, nmE, n_pp, n_pl, n_lp, n_mm, n_ml, n_lm, csI_s, csI_n, csI_2, csA_1, csA_s, csA_n, csA_2, csL_1, csL_2, csL_s, csL_n, csL_3, csQ_1, csQ_2, csQ_3, csQ_s, csQ_n, nar0, c_le, c_le_l, c_le_r, c_lt, c_lt_l, c_lt_r, c_eq, c_eq_l, c_eq_r, if_true, if_false, if_pos, if_neg, o0_3 hA, hB.tw, hB.sn F, hc]
theorem or_dup (v w : Int32) : v ||| w ||| w = v ||| w := by
  apply tb_ext
  intro i _
  rw [tb_or, tb_or]
  cases tb v i <;> cases tb w i <;> rfl
theorem gone_T (hF : 1000 ≤ F) (hW : WF A) (hT : TR A τ) {h : Nat} {S : Int32} : t_X9_goneBeside F (Int32.ofNat h) S τ = some (pc (sGb A h (zN A 6 3) &&& S)) := by
  obtain ⟨eS, lS⟩ := hW.S
  have lH := hW.H.2
  unfold t_X9_goneBeside
  refine for_up (L := fun n i s => t_X9_goneBeside_L5 F (Int32.ofNat h) S τ n s i) (N := zN A 6 3) (Inv := fun k s => s = sGb A h k) (Post := fun r => r = some (pc (sGb A h (zN A 6 3) &&& S))) ?_ ?_ (zN A 6 3) 0 F 0 (Nat.zero_add _) (by omega) rfl
  · intro n k s hk e
    subst e
    refine Or.inl ⟨_, rfl, ?_⟩
    show t_X9_goneBeside_L5_b F (Int32.ofNat h) S τ (t_X9_goneBeside_L5 F (Int32.ofNat h) S τ n) _ (Int32.ofNat k) = t_X9_goneBeside_L5 F (Int32.ofNat h) S τ n (if A 6 (120 + 3 * k + 1) = -1 then sGb A h k else if A 6 (120 + 3 * k) = Int32.ofNat h then sGb A h k ||| bit (zN A 6 (120 + 3 * k + 1)) else if A 6 (120 + 3 * k + 1) = Int32.ofNat h then sGb A h k ||| bit (zN A 6 (120 + 3 * k)) else sGb A h k) _
    obtain ⟨ea, la, hb⟩ := hW.st hk
    unfold t_X9_goneBeside_L5_b
    simp (disch := omega) only [Option.bind_some, Option.bind_none, nmE, n_pp, n_pl, n_lp, n_mm, n_ml, n_lm, taI_n, taI_l, tsA_n, tsA_l, nar0, twA_1, twA_s, twA_n, twA_2, twA_twA, tsI_s, tsI_n, tsI_2, c_le, c_le_l, c_le_r, c_lt, c_lt_l, c_lt_r, c_eq, c_eq_l, c_eq_r, if_true, if_false, if_pos, if_neg, hT.2 6 rfl, eS]
    rcases hb with hb | ⟨hb, lb⟩
    · rw [if_pos hb, hb, if_neg (by decide)]
    have n1 : ¬ A 6 (120 + 3 * k + 1) = -1 := by rw [hb]; exact ofNat_ne_m1 (by omega)
    have n0 : (0 : Int32) ≤ A 6 (120 + 3 * k + 1) := by rw [hb]; exact ofNat_nn (by omega)
    rw [if_neg n1, if_pos n0]
    unfold t_X9_goneBeside_j67
    simp (disch := omega) only [Option.bind_some, Option.bind_none, nmE, n_pp, n_pl, n_lp, n_mm, n_ml, n_lm, taI_n, taI_l, tsA_n, tsA_l, nar0, twA_1, twA_s, twA_n, twA_2, twA_twA, tsI_s, tsI_n, tsI_2, c_le, c_le_l, c_le_r, c_lt, c_lt_l, c_lt_r, c_eq, c_eq_l, c_eq_r, if_true, if_false, if_pos, if_neg]
    by_cases c2 : A 6 (120 + 3 * k) = Int32.ofNat h
    · rw [if_pos c2, if_pos c2]
      by_cases c3 : A 6 (120 + 3 * k + 1) = Int32.ofNat h
      · rw [if_pos c3]
        have e1 : zN A 6 (120 + 3 * k) = zN A 6 (120 + 3 * k + 1) := by unfold zN; rw [c2, c3]
        rw [ea, hb, e1, bit_ofNat, or_dup]
      · rw [if_neg c3, hb]
        rfl
    · rw [if_neg c2, if_neg c2]
      by_cases c3 : A 6 (120 + 3 * k + 1) = Int32.ofNat h
      · rw [if_pos c3, if_pos c3, ea]
        rfl
      · rw [if_neg c3, if_neg c3]
  · intro n s e
    subst e
    show t_X9_goneBeside_L5_b F (Int32.ofNat h) S τ (t_X9_goneBeside_L5 F (Int32.ofNat h) S τ n) _ (Int32.ofNat (zN A 6 3)) = _
    unfold t_X9_goneBeside_L5_b
    rw [count_T (by omega)]
    simp (disch := omega) only [Option.bind_some, Option.bind_none, nmE, n_pp, n_pl, n_lp, n_mm, n_ml, n_lm, taI_n, taI_l, tsA_n, tsA_l, nar0, twA_1, twA_s, twA_n, twA_2, twA_twA, tsI_s, tsI_n, tsI_2, c_le, c_le_l, c_le_r, c_lt, c_lt_l, c_lt_r, c_eq, c_eq_l, c_eq_r, if_true, if_false, if_pos, if_neg, hT.2 6 rfl, eS]
/-- whether a house falls when others are gone -/
theorem falls_CT (hF : 1000 ≤ F) (hE : EV ad B A) (hC : CR ad B A σ) (hT : TR A τ) {h : Nat} {wind S : Int32} (hh : h < zN A 6 0) : ∃ v σ' τ', (v = 0 ∨ v = 1) ∧ f_X0_falls F (ad 0) (Int32.ofNat h) wind S (cM X ad σ B) = some (v, cM X ad σ' B) ∧ t_X9_isFalling F (Int32.ofNat h) wind S τ = some (v, τ') ∧ CR ad B A σ' ∧ TR A τ' ∧ σ'.2.1 31 = σ.2.1 31 := by
  have hA := hE.1
  have lH := hE.2.2.H.2
  obtain ⟨σ1, e1, g, b, e3, hg⟩ := swayOf_C (X := X) (F := F) (h := h) (wind := wind) hF hE hC hh
  have hC1 : CR ad B A σ1 := by rw [e3]; exact (hC.a rfl).i rfl
  have hg1 : ∀ j, j < 9 → σ1.2.1 11 j = envL A h wind j := by rw [e3]; exact hg
  have h31 : σ1.2.1 31 = σ.2.1 31 := by rw [e3]; rfl
  obtain ⟨τ1, t1, hT1⟩ := swayOf_T (F := F) (h := h) (wind := wind) hF hE.2.2 hE.l2 (by omega) hT
  obtain ⟨g2, t2, hg2⟩ := look_T (F := F) (wind := wind) hF hE.2.2 (show h < 16 by omega) hT1
  obtain ⟨v, σ2, τ2, hv, hs, c3, t3, hT3⟩ := rule_fall (X := X) (F := F) (σ := csA σ1 11 (upd (upd (σ1.2.1 11) 8 (sSway A h wind)) 7 (pc (sGb A h (zN A 6 3) &&& S)))) (τ := twA τ1 23 (upd (upd g2 7 (pc (sGb A h (zN A 6 3) &&& S))) 8 (sSway A h wind))) (env := fun j => if j = 7 then pc (sGb A h (zN A 6 3) &&& S) else if j = 8 then sSway A h wind else envL A h wind j) hF hE (hT1.w rfl) (fun j hj => by
    rw [csA_s]
    unfold upd
    by_cases e : j = 7
    · rw [if_pos e, if_pos e]
    · rw [if_neg e, if_neg e]
      by_cases e2 : j = 8
      · rw [if_pos e2, if_pos e2]
      · rw [if_neg e2, if_neg e2]; exact hg1 j hj) (fun j hj => by
    rw [twA_s]
    unfold upd
    by_cases e : j = 8
    · subst e; rfl
    · rw [if_neg e]
      by_cases e2 : j = 7
      · rw [if_pos e2, if_pos e2]
      · rw [if_neg e2, if_neg e2, if_neg e]; exact hg2 j hj)
  have hgC := gone_C (X := X) (F := F) (σ := csA σ1 11 (upd (σ1.2.1 11) 8 (sSway A h wind))) (h := h) (S := S) hF hE
  refine ⟨v, σ2, τ2, hv, ?_, ?_, CR.br (hC1.a rfl) hs, hT3, ?_⟩
  · unfold f_X0_falls
    simp (disch := omega) only [Option.bind_some, Option.bind_none, nmE, n_pp, n_pl, n_lp, n_mm, n_ml, n_lm, csI_s, csI_n, csI_2, csA_1, csA_s, csA_n, csA_2, csL_1, csL_2, csL_s, csL_n, csL_3, csQ_1, csQ_2, csQ_3, csQ_s, csQ_n, nar0, c_le, c_le_l, c_le_r, c_lt, c_lt_l, c_lt_r, c_eq, c_eq_l, c_eq_r, if_true, if_false, if_pos, if_neg, oc0 hA, e1, o0_6 hA, o10_0 hA, sl11 hA, hgC, csA_csA]
    exact c3
  · unfold t_X9_isFalling
    rw [t1, Option.bind_some, t2, Option.bind_some, gone_T hF hE.2.2 (hT1.w rfl), Option.bind_some]
    simp (disch := omega) only [Option.bind_some, Option.bind_none, nmE, n_pp, n_pl, n_lp, n_mm, n_ml, n_lm, taI_n, taI_l, tsA_n, tsA_l, nar0, twA_1, twA_s, twA_n, twA_2, twA_twA, tsI_s, tsI_n, tsI_2, c_le, c_le_l, c_le_r, c_lt, c_lt_l, c_lt_r, c_eq, c_eq_l, c_eq_r, if_true, if_false, if_pos, if_neg]
    rw [t3, Option.bind_some, if_pos hv]
  · rcases hs with e | ⟨z, e⟩
    · rw [e]; exact h31
    · rw [e]; exact h31
