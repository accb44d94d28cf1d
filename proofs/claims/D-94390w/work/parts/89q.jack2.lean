set_option maxRecDepth 100000
/-! 17: jack; the component's rows, all -/
variable {X : Nat → Option Ob} {ad ad' : Nat → Nat} {B B' : Sw} {A A' : Av} {σ σ' : Cs} {τ : Tw} {F : Nat}
theorem rowJ_C (hF : 1000 ≤ F) (hE : EV ad B A) {p k : Nat} (hp : p < 100) (hk : k < zN A 6 5) (hC : CR ad B A σ) (hFJ : FJ A p σ (k + 1)) {K : Sw → Option (Int32 × Sw)} : ∃ g, f_X0_fewest_L73 F K (ad 0) (Int32.ofNat p) (Int32.ofNat k) (Int32.ofNat (jL A k)) F 0 (cM X ad σ B) = K (cM X ad (csA σ (18 + k) g) B) ∧ ∀ u, u ≤ p → g u = Int32.ofNat (jP A 1000000000 (8 - k) u) := by
  have hA := hE.1
  have lW := hE.2.2.W.2
  have bs := jS_b hE.2.2 k
  have sc : scA (18 + k) = true := by unfold scA; simp; omega
  refine for_up (L := fun n i (s : Nat → Int32) => f_X0_fewest_L73 F K (ad 0) (Int32.ofNat p) (Int32.ofNat k) (Int32.ofNat (jL A k)) n i (cM X ad (csA σ (18 + k) s) B)) (N := p + 1) (Inv := fun j s => ∀ u, u < j → s u = Int32.ofNat (jP A 1000000000 (8 - k) u)) (Post := fun q => ∃ g, q = K (cM X ad (csA σ (18 + k) g) B) ∧ ∀ u, u ≤ p → g u = Int32.ofNat (jP A 1000000000 (8 - k) u)) ?_ ?_ (p + 1) 0 F (σ.2.1 (18 + k)) (Nat.zero_add _) (by omega) (fun i hi => absurd hi (Nat.not_lt_zero i)) |> fun h => by
    rw [csA_id] at h
    exact h
  · intro n j s hj hI
    have hC1 : CR ad B A (csA σ (18 + k) (upd s j 1000000000)) := hC.a sc
    obtain ⟨g, c1, c2, c3⟩ := cellJ_C (X := X) (F := F) (v := j) hE hp hk (by omega) (K := fun _ => none) (K2 := fun μ8 => nm (Int32.ofNat j + 1) fun x9 => f_X0_fewest_L73 F K (ad 0) (Int32.ofNat p) (Int32.ofNat k) (Int32.ofNat (jL A k)) n x9 μ8) (min (jS A k) (j / jL A k) + 1) 0 F 1000000000 (csA σ (18 + k) (upd s j 1000000000)) (by omega) (by omega) hC1 (fun q h1 h2 u hu => by rw [csA_n _ _ _ _ (by omega)]; exact hFJ q h1 h2 u hu) (by rw [csA_s, up_s]; rfl) (Nat.le_refl _)
    rw [csA_csA] at c1
    refine Or.inl ⟨g, fun u hu => ?_, ?_⟩
    · by_cases eu : u = j
      · rw [eu, c3, jP_row (by omega)]
      · rw [c2 u eu, csA_s, up_n _ _ _ _ eu]
        exact hI u (by omega)
    · show f_X0_fewest_L73_b F K (ad 0) (Int32.ofNat p) (Int32.ofNat k) (Int32.ofNat (jL A k)) (f_X0_fewest_L73 F K (ad 0) (Int32.ofNat p) (Int32.ofNat k) (Int32.ofNat (jL A k)) n) (Int32.ofNat j) _ = _
      unfold f_X0_fewest_L73_b
      have n1 : ¬ Int32.ofNat p < Int32.ofNat j := fun q => by
        have := (c_lt p j (by omega) (by omega)).1 q
        omega
      have qr : ∀ s, (csA σ (18 + k) s).2.2.2 17 k = some (ad (18 + k)) := fun s => hC.2.2.2.2.2.2.2.2.1.2.1 k (by omega)
      rw [if_neg n1, o0_12 hA, Option.bind_some, q17r hA _ _ _ (by omega) (qr s), Option.bind_some, s_pc hA _ _ _ _ (by omega) (by omega), Option.bind_some, csA_s, csA_csA]
      refine c1.trans ?_
      simp (disch := omega) only [Option.bind_some, Option.bind_none, nmE, n_pp, n_pl, n_lp, n_mm, n_ml, n_lm, csI_s, csI_n, csI_2, csA_1, csA_s, csA_n, csA_2, csL_1, csL_2, csL_s, csL_n, csL_3, csQ_1, csQ_2, csQ_3, csQ_s, csQ_n, nar0, c_le, c_le_l, c_le_r, c_lt, c_lt_l, c_lt_r, c_eq, c_eq_l, c_eq_r, if_true, if_false, if_pos, if_neg]
  · intro n s hI
    refine ⟨s, ?_, fun u hu => hI u (by omega)⟩
    show f_X0_fewest_L73_b F K (ad 0) (Int32.ofNat p) (Int32.ofNat k) (Int32.ofNat (jL A k)) (f_X0_fewest_L73 F K (ad 0) (Int32.ofNat p) (Int32.ofNat k) (Int32.ofNat (jL A k)) n) (Int32.ofNat (p + 1)) _ = _
    unfold f_X0_fewest_L73_b
    rw [if_pos ((c_lt p (p + 1) (by omega) (by omega)).2 (by omega))]
/-- only the rows of pieces changed -/
def fr18 (σ σ' : Cs) : Prop := σ'.1 = σ.1 ∧ (∀ r, r < 18 ∨ 27 ≤ r → σ'.2.1 r = σ.2.1 r) ∧ σ'.2.2 = σ.2.2
theorem rowsJ_C (hF : 1000 ≤ F) (hE : EV ad B A) {p : Nat} (hp : p < 100) : ∀ (k fc : Nat) (σ : Cs), k ≤ zN A 6 5 → k < fc → CR ad B A σ → FJ A p σ k → ∃ σ', CR ad B A σ' ∧ FJ A p σ' 0 ∧ f_X0_fewest_L47 F (ad 0) (Int32.ofNat p) fc (Int32.ofNat k + (-1)) (cM X ad σ B) = some (Int32.ofNat (jP A 1000000000 8 p), cM X ad σ' B) ∧ fr18 σ σ' := by
  have hA := hE.1
  have lW := hE.2.2.W.2
  intro k
  induction k with
  | zero =>
    intro fc σ hk hfc hC hFJ
    obtain ⟨fc, rfl⟩ : ∃ m, fc = m + 1 := ⟨fc - 1, by omega⟩
    refine ⟨σ, hC, hFJ, ?_, rfl, fun _ _ => rfl, rfl⟩
    show f_X0_fewest_L47_b F (ad 0) (Int32.ofNat p) (f_X0_fewest_L47 F (ad 0) (Int32.ofNat p) fc) (Int32.ofNat 0 + (-1)) _ = _
    unfold f_X0_fewest_L47_b
    have qr : σ.2.2.2 17 0 = some (ad (18 + 0)) := hC.2.2.2.2.2.2.2.2.1.2.1 0 (by omega)
    have h0 := hFJ 0 (Nat.le_refl _) (Nat.zero_le _) p (Nat.le_refl _)
    rw [if_pos (by decide), o0_12 hA, Option.bind_some, show (0 : Int32) = Int32.ofNat 0 from rfl, q17r hA _ _ _ (by omega) qr, Option.bind_some, a_pc hA _ _ _ (by omega) (by omega), Option.bind_some, h0]
  | succ k ih =>
    intro fc σ hk hfc hC hFJ
    obtain ⟨fc, rfl⟩ : ∃ m, fc = m + 1 := ⟨fc - 1, by omega⟩
    have er : Int32.ofNat (k + 1) + (-1) = Int32.ofNat k := by
      have e1 : Int32.ofNat 1 + (-1) = (0 : Int32) := by decide
      rw [Int32.ofNat_add, Int32.add_assoc, e1, Int32.add_zero]
    rw [er]
    obtain ⟨g, c1, c2⟩ := rowJ_C (X := X) (F := F) hF hE hp (show k < zN A 6 5 by omega) hC hFJ (K := fun μ20 => nm (Int32.ofNat k + (-1)) fun x21 => f_X0_fewest_L47 F (ad 0) (Int32.ofNat p) fc x21 μ20)
    have hC1 : CR ad B A (csA σ (18 + k) g) := hC.a (by unfold scA; simp; omega)
    have hF1 : FJ A p (csA σ (18 + k) g) k := fun q h1 h2 v hv => by
      by_cases eq : q = k
      · rw [eq, csA_s]; exact c2 v hv
      · rw [csA_n _ _ _ _ (by omega)]; exact hFJ q (by omega) h2 v hv
    obtain ⟨σ', p1, p2, p3, p4, p5, p6⟩ := ih fc _ (by omega) (by omega) hC1 hF1
    refine ⟨σ', p1, p2, ?_, p4, fun r hr => (p5 r hr).trans (csA_n _ _ _ _ (by omega)), p6⟩
    rw [← p3]
    show f_X0_fewest_L47_b F (ad 0) (Int32.ofNat p) (f_X0_fewest_L47 F (ad 0) (Int32.ofNat p) fc) (Int32.ofNat k) _ = _
    unfold f_X0_fewest_L47_b
    obtain ⟨w1, w2, w3, -⟩ := hE.2.1.ws F (show k < zN A 6 5 by omega) (X := X) σ
    have eL : A 6 (170 + 2 * k) = Int32.ofNat (jL A k) := by
      have : jL A k = zN A 6 (170 + 2 * k) := if_pos (by omega)
      rw [this]
      exact (hE.2.2.1.2.2.2.2.2 k (by omega)).1.1
    rw [if_neg (Int32.not_lt.2 (ofNat_nn (by omega)))]
    simp (disch := omega) only [Option.bind_some, Option.bind_none, nmE, n_pp, n_pl, n_lp, n_mm, n_ml, n_lm, csI_s, csI_n, csI_2, csA_1, csA_s, csA_n, csA_2, csL_1, csL_2, csL_s, csL_n, csL_3, csQ_1, csQ_2, csQ_3, csQ_s, csQ_n, nar0, c_le, c_le_l, c_le_r, c_lt, c_lt_l, c_lt_r, c_eq, c_eq_l, c_eq_r, if_true, if_false, if_pos, if_neg, o0_3 hA, hE.2.1.tw, (hE.2.1.wn F (X := X) σ).1, w1, w2, w3]
    rw [eL]
    exact c1
theorem fewest_C (hF : 1000 ≤ F) (hE : EV ad B A) (hC : CR ad B A σ) {p : Nat} (hp : p < 100) : ∃ σ', CR ad B A σ' ∧ FJ A p σ' 0 ∧ f_X0_fewest F (ad 0) (Int32.ofNat p) (cM X ad σ B) = some (Int32.ofNat (jP A 1000000000 8 p), cM X ad σ' B) ∧ fr18 σ σ' := by
  have hA := hE.1
  have lW := hE.2.2.W.2
  obtain ⟨K, hK⟩ : ∃ K : Sw → Option (Int32 × Sw), K = fun μ9 => nm (Int32.ofNat (zN A 6 5) - 1) fun x10 => f_X0_fewest_L47 F (ad 0) (Int32.ofNat p) F x10 μ9 := ⟨_, rfl⟩
  have hz : ∃ g, f_X0_fewest_L13 F K (ad 0) (Int32.ofNat p) (Int32.ofNat (zN A 6 5)) F 0 (cM X ad σ B) = K (cM X ad (csA σ (18 + zN A 6 5) g) B) ∧ ∀ u, u ≤ p → g u = Int32.ofNat (if u = 0 then 0 else 1000000000) := by
    refine for_up (L := fun n i (s : Nat → Int32) => f_X0_fewest_L13 F K (ad 0) (Int32.ofNat p) (Int32.ofNat (zN A 6 5)) n i (cM X ad (csA σ (18 + zN A 6 5) s) B)) (N := p + 1) (Inv := fun k s => ∀ u, u < k → s u = Int32.ofNat (if u = 0 then 0 else 1000000000)) (Post := fun q => ∃ g, q = K (cM X ad (csA σ (18 + zN A 6 5) g) B) ∧ ∀ u, u ≤ p → g u = Int32.ofNat (if u = 0 then 0 else 1000000000)) ?_ ?_ (p + 1) 0 F (σ.2.1 (18 + zN A 6 5)) (Nat.zero_add _) (by omega) (fun i hi => absurd hi (Nat.not_lt_zero i)) |> fun h => by
      rw [csA_id] at h
      exact h
    · intro n k s hk hI
      refine Or.inl ⟨upd s k (Int32.ofNat (if k = 0 then 0 else 1000000000)), fun u hu => ?_, ?_⟩
      · by_cases eu : u = k
        · rw [eu, up_s]
        · rw [up_n _ _ _ _ eu]; exact hI u (by omega)
      · show f_X0_fewest_L13_b F K (ad 0) (Int32.ofNat p) (Int32.ofNat (zN A 6 5)) (f_X0_fewest_L13 F K (ad 0) (Int32.ofNat p) (Int32.ofNat (zN A 6 5)) n) (Int32.ofNat k) _ = _
        unfold f_X0_fewest_L13_b
        have n1 : ¬ Int32.ofNat p < Int32.ofNat k := fun q => by
          have := (c_lt p k (by omega) (by omega)).1 q
          omega
        have qr : (csA σ (18 + zN A 6 5) s).2.2.2 17 (zN A 6 5) = some (ad (18 + zN A 6 5)) := hC.2.2.2.2.2.2.2.2.1.2.1 _ (by omega)
        rw [if_neg n1, o0_12 hA, Option.bind_some, q17r hA _ _ _ (by omega) qr, Option.bind_some]
        by_cases k0 : k = 0
        · rw [if_pos (by rw [k0]; rfl), if_pos k0, s_pc hA _ _ _ _ (by omega) (by omega), Option.bind_some, csA_s, csA_csA]
          simp (disch := omega) only [Option.bind_some, Option.bind_none, nmE, n_pp, n_pl, n_lp, n_mm, n_ml, n_lm, csI_s, csI_n, csI_2, csA_1, csA_s, csA_n, csA_2, csL_1, csL_2, csL_s, csL_n, csL_3, csQ_1, csQ_2, csQ_3, csQ_s, csQ_n, nar0, c_le, c_le_l, c_le_r, c_lt, c_lt_l, c_lt_r, c_eq, c_eq_l, c_eq_r, if_true, if_false, if_pos, if_neg]
          rfl
        · rw [if_neg (show ¬ Int32.ofNat k = 0 from fun q => k0 ((c_eq k 0 (by omega) (by omega)).1 q)), if_neg k0, s_pc hA _ _ _ _ (by omega) (by omega), Option.bind_some, csA_s, csA_csA]
          simp (disch := omega) only [Option.bind_some, Option.bind_none, nmE, n_pp, n_pl, n_lp, n_mm, n_ml, n_lm, csI_s, csI_n, csI_2, csA_1, csA_s, csA_n, csA_2, csL_1, csL_2, csL_s, csL_n, csL_3, csQ_1, csQ_2, csQ_3, csQ_s, csQ_n, nar0, c_le, c_le_l, c_le_r, c_lt, c_lt_l, c_lt_r, c_eq, c_eq_l, c_eq_r, if_true, if_false, if_pos, if_neg]
          rfl
    · intro n s hI
      refine ⟨s, ?_, fun u hu => hI u (by omega)⟩
      show f_X0_fewest_L13_b F K (ad 0) (Int32.ofNat p) (Int32.ofNat (zN A 6 5)) (f_X0_fewest_L13 F K (ad 0) (Int32.ofNat p) (Int32.ofNat (zN A 6 5)) n) (Int32.ofNat (p + 1)) _ = _
      unfold f_X0_fewest_L13_b
      rw [if_pos ((c_lt p (p + 1) (by omega) (by omega)).2 (by omega))]
  obtain ⟨g, c1, c2⟩ := hz
  have hC1 : CR ad B A (csA σ (18 + zN A 6 5) g) := hC.a (by unfold scA; simp; omega)
  obtain ⟨σ', p1, p2, p3, p4, p5, p6⟩ := rowsJ_C (X := X) (F := F) hF hE hp (zN A 6 5) F (csA σ (18 + zN A 6 5) g) (Nat.le_refl _) (by omega) hC1 (fun q h1 h2 v hv => by
    have : q = zN A 6 5 := by omega
    rw [this, csA_s, c2 v hv, jP_hi (Nat.le_refl _) (by omega)])
  refine ⟨σ', p1, p2, ?_, p4, fun r hr => (p5 r hr).trans (csA_n _ _ _ _ (by omega)), p6⟩
  unfold f_X0_fewest
  simp (disch := omega) only [Option.bind_some, Option.bind_none, nmE, n_pp, n_pl, n_lp, n_mm, n_ml, n_lm, csI_s, csI_n, csI_2, csA_1, csA_s, csA_n, csA_2, csL_1, csL_2, csL_s, csL_n, csL_3, csQ_1, csQ_2, csQ_3, csQ_s, csQ_n, nar0, c_le, c_le_l, c_le_r, c_lt, c_lt_l, c_lt_r, c_eq, c_eq_l, c_eq_r, if_true, if_false, if_pos, if_neg, o0_3 hA, hE.2.1.tw, (hE.2.1.wn F (X := X) σ).1, (hE.2.1.wn F (X := X) σ).2]
  have hK2 : (fun μ9 : Sw => f_X0_fewest_L47 F (ad 0) (Int32.ofNat p) F (Int32.ofNat (zN A 6 5) - 1) μ9) = K := hK.symm
  rw [hK2, c1, hK]
  show nm (Int32.ofNat (zN A 6 5) - 1) _ = _
  rw [nmE, Int32.sub_eq_add_neg]
  exact p3
