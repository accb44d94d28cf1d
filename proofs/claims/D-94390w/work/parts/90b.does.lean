set_option maxRecDepth 100000
/-! 20 .. 22: a work is done -/
variable {X : Nat → Option Ob} {ad ad' : Nat → Nat} {B B' : Sw} {A A' : Av} {σ σ' : Cs} {τ : Tw} {F : Nat}
/-- what works may change -/
def WK (A A' : Av) (σ σ' : Cs) : Prop := (∀ j, j ≠ 0 → j ≠ 7 → j ≠ 25 → j ≠ 26 → A' j = A j) ∧ (∀ q, q ≠ 41 → A' 0 q = A 0 q) ∧ (∀ q, q < 10 ∨ (26 ≤ q ∧ q < 50) ∨ 58 ≤ q → A' 7 q = A 7 q) ∧ σ'.2.1 13 = σ.2.1 13 ∧ σ'.2.1 14 = σ.2.1 14 ∧ σ'.1 13 = A' 0 41
theorem WK.rf (h : σ.1 13 = A 0 41) : WK A A σ σ := ⟨fun _ _ _ _ _ => rfl, fun _ _ => rfl, fun _ _ => rfl, rfl, rfl, h⟩
theorem WK.tr {A2 : Av} {σ2 : Cs} (h : WK A A' σ σ') (g : WK A' A2 σ' σ2) : WK A A2 σ σ2 := ⟨fun j a b c d => (g.1 j a b c d).trans (h.1 j a b c d), fun q a => (g.2.1 q a).trans (h.2.1 q a), fun q a => (g.2.2.1 q a).trans (h.2.2.1 q a), g.2.2.2.1.trans h.2.2.2.1, g.2.2.2.2.1.trans h.2.2.2.2.1, g.2.2.2.2.2⟩
theorem csA_cm {r r' : Nat} {f g : Nat → Int32} (h : r ≠ r') : csA (csA σ r f) r' g = csA (csA σ r' g) r f := by
  have e : (fun q => if q = r' then g else if q = r then f else σ.2.1 q) = (fun q => if q = r then f else if q = r' then g else σ.2.1 q) := by
    funext q
    by_cases h1 : q = r'
    · rw [if_pos h1, if_neg (by omega), if_pos h1]
    · rw [if_neg h1]
      by_cases h2 : q = r
      · rw [if_pos h2, if_pos h2]
      · rw [if_neg h2, if_neg h2, if_neg h1]
  show (σ.1, (fun q => if q = r' then g else if q = r then f else σ.2.1 q), σ.2.2) = _
  rw [e]
  rfl
theorem LR.get5 {n : Nat} {e : Nat → Nat} {ob : Nat → Ob} (hA : AdOK ad B) (h : LR ad B σ 50 50 n e ob) (hn : n < 1000) {j : Nat} (hj : j < n) : f_J2_get F (ad 50) (Int32.ofNat j) (cM X ad σ B) = some (e j) := by
  obtain ⟨l1, l2, l3⟩ := h
  obtain ⟨b1, b2, b3⟩ : B.1 (ad 51) = none ∧ n ≤ (σ.1 53).toNatClampNeg ∧ (σ.1 53).toNatClampNeg < 1000 := by
    rcases l2 with l2 | ⟨l2, -⟩
    · exact l2
    · omega
  have l1 : σ.1 52 = Int32.ofNat n := l1
  unfold f_J2_get
  rw [o50_2 hA, Option.bind_some, l1]
  have hc : p_J14_checkIndex F (Int32.ofNat j) (Int32.ofNat n) = some (Int32.ofNat j) := by
    unfold p_J14_checkIndex p_J6_checkIndex
    have e1 : ¬ Int32.ofNat j < 0 := fun h => absurd ((c_lt j 0 (by omega) (by omega)).mp h) (Nat.not_lt_zero j)
    have e2 : Int32.ofNat j < Int32.ofNat n := (c_lt j n (by omega) (by omega)).mpr hj
    rw [if_neg e1, if_pos e2]
    rfl
  rw [hc, Option.bind_some, oc50 hA, Option.bind_some]
  unfold f_J2_elementData
  have hq : aR (cM X ad σ B) 6 (ad 51) (Int32.ofNat j) = some (e j) := R_aR hA (by decide) b1 (show cK σ 51 = (3, 6, (σ.1 53).toNatClampNeg) from rfl) (by omega) (by omega) (l3 j hj).1
  rw [o50_1 hA, Option.bind_some, hq]
  rfl
theorem CR.wk (hA : AdOK ad B) (hC : CR ad B A σ) (l40 : zN A 7 1 ≤ 40) {j : Nat} (hj : j < zN A 7 1) : f_J2_get F (ad 50) (Int32.ofNat j) (cM X ad σ B) = some (ad (1500 + j)) ∧ oc (cM X ad σ B) (ad (1500 + j)) 18 = some () ∧ gfI (cM X ad σ B) (ad (1500 + j)) 18 0 = some (A 7 (60 + 3 * j)) ∧ gfI (cM X ad σ B) (ad (1500 + j)) 18 1 = some (A 7 (60 + 3 * j + 1)) ∧ gfI (cM X ad σ B) (ad (1500 + j)) 18 2 = some (A 7 (60 + 3 * j + 2)) := by
  have h := hC.2.2.2.2.2.2.2.2.2.1
  have hb := (h.2.2 j hj).2
  exact ⟨h.get5 hA (by omega) hj, F_oc hb, F_gI (k := 0) hb rfl, F_gI (k := 1) hb rfl, F_gI (k := 2) hb rfl⟩
/-- a work's house and inches, in B -/
theorem CR.wf {σ2 : Cs} (hC : CR ad B A σ) {j : Nat} (hj : j < zN A 7 1) : gfI (cM X ad σ2 B) (ad (1500 + j)) 18 0 = some (A 7 (60 + 3 * j)) ∧ gfI (cM X ad σ2 B) (ad (1500 + j)) 18 1 = some (A 7 (60 + 3 * j + 1)) ∧ gfI (cM X ad σ2 B) (ad (1500 + j)) 18 2 = some (A 7 (60 + 3 * j + 2)) := by
  have hb := (hC.2.2.2.2.2.2.2.2.2.1.2.2 j hj).2
  exact ⟨F_gI (k := 0) hb rfl, F_gI (k := 1) hb rfl, F_gI (k := 2) hb rfl⟩
/-- saws: which wood -/
theorem saws_CT (hE : EV ad B A) (hT : TR A τ) {v : Int32} {h : Int32} {KC : Int32 → Option Sw} {KT : Int32 → Option (Int32 × Tw)} : ∀ (d i fc ft : Nat), i + d = zN A 6 5 → d < fc → d < ft → (∃ k, k < zN A 6 5 ∧ f_X0_saws_L2 F KC (ad 0) (-v) (cM X ad σ B) fc (Int32.ofNat i) = KC (Int32.ofNat k) ∧ t_X9_makes_L162 F KT h v τ ft (Int32.ofNat i) = KT (Int32.ofNat k)) ∨ (f_X0_saws_L2 F KC (ad 0) (-v) (cM X ad σ B) fc (Int32.ofNat i) = some (cM X ad σ B) ∧ t_X9_makes_L162 F KT h v τ ft (Int32.ofNat i) = t_X9_makes_j233 F h v τ) := by
  have hA := hE.1
  have hW := hE.2.2
  obtain ⟨eW, lW⟩ := hW.W
  intro d
  induction d with
  | zero =>
    intro i fc ft hi hfc hft
    obtain ⟨fc, rfl⟩ : ∃ m, fc = m + 1 := ⟨fc - 1, by omega⟩
    obtain ⟨ft, rfl⟩ : ∃ m, ft = m + 1 := ⟨ft - 1, by omega⟩
    have e0 : i = zN A 6 5 := by omega
    rw [e0]
    refine Or.inr ⟨?_, ?_⟩
    · show f_X0_saws_L2_b F KC (ad 0) (-v) (cM X ad σ B) (f_X0_saws_L2 F KC (ad 0) (-v) (cM X ad σ B) fc) (Int32.ofNat (zN A 6 5)) = _
      unfold f_X0_saws_L2_b
      simp (disch := omega) only [Option.bind_some, Option.bind_none, nmE, n_pp, n_pl, n_lp, n_mm, n_ml, n_lm, csI_s, csI_n, csI_2, csA_1, csA_s, csA_n, csA_2, csL_1, csL_2, csL_s, csL_n, csL_3, csQ_1, csQ_2, csQ_3, csQ_s, csQ_n, nar0, c_le, c_le_l, c_le_r, c_lt, c_lt_l, c_lt_r, c_eq, c_eq_l, c_eq_r, if_true, if_false, if_pos, if_neg, o0_3 hA, hE.2.1.tw, hE.2.1.wn F]
    · show t_X9_makes_L162_b F KT h v τ (t_X9_makes_L162 F KT h v τ ft) (Int32.ofNat (zN A 6 5)) = _
      unfold t_X9_makes_L162_b
      simp (disch := omega) only [Option.bind_some, Option.bind_none, nmE, n_pp, n_pl, n_lp, n_mm, n_ml, n_lm, taI_n, taI_l, tsA_n, tsA_l, nar0, twA_1, twA_s, twA_n, twA_2, twA_twA, tsI_s, tsI_n, tsI_2, c_le, c_le_l, c_le_r, c_lt, c_lt_l, c_lt_r, c_eq, c_eq_l, c_eq_r, if_true, if_false, if_pos, if_neg, hT.2 6 rfl, eW]
  | succ d ih =>
    intro i fc ft hi hfc hft
    obtain ⟨fc, rfl⟩ : ∃ m, fc = m + 1 := ⟨fc - 1, by omega⟩
    obtain ⟨ft, rfl⟩ : ∃ m, ft = m + 1 := ⟨ft - 1, by omega⟩
    have hiW : i < zN A 6 5 := by omega
    obtain ⟨w1, w2, w3, -⟩ := hE.2.1.ws F hiW (X := X) σ
    have sC : f_X0_saws_L2 F KC (ad 0) (-v) (cM X ad σ B) (fc + 1) (Int32.ofNat i) = f_X0_saws_L2_b F KC (ad 0) (-v) (cM X ad σ B) (f_X0_saws_L2 F KC (ad 0) (-v) (cM X ad σ B) fc) (Int32.ofNat i) := rfl
    have sT : t_X9_makes_L162 F KT h v τ (ft + 1) (Int32.ofNat i) = t_X9_makes_L162_b F KT h v τ (t_X9_makes_L162 F KT h v τ ft) (Int32.ofNat i) := rfl
    unfold f_X0_saws_L2_b at sC
    unfold t_X9_makes_L162_b at sT
    simp (disch := omega) only [Option.bind_some, Option.bind_none, nmE, n_pp, n_pl, n_lp, n_mm, n_ml, n_lm, csI_s, csI_n, csI_2, csA_1, csA_s, csA_n, csA_2, csL_1, csL_2, csL_s, csL_n, csL_3, csQ_1, csQ_2, csQ_3, csQ_s, csQ_n, nar0, c_le, c_le_l, c_le_r, c_lt, c_lt_l, c_lt_r, c_eq, c_eq_l, c_eq_r, if_true, if_false, if_pos, if_neg, o0_3 hA, hE.2.1.tw, (hE.2.1.wn F (X := X) σ).1, (hE.2.1.wn F (X := X) σ).2, w1, w2, w3] at sC
    simp (disch := omega) only [Option.bind_some, Option.bind_none, nmE, n_pp, n_pl, n_lp, n_mm, n_ml, n_lm, taI_n, taI_l, tsA_n, tsA_l, nar0, twA_1, twA_s, twA_n, twA_2, twA_twA, tsI_s, tsI_n, tsI_2, c_le, c_le_l, c_le_r, c_lt, c_lt_l, c_lt_r, c_eq, c_eq_l, c_eq_r, if_true, if_false, if_pos, if_neg, hT.2 6 rfl, eW] at sT
    by_cases e : A 6 (170 + 2 * i) = -v
    · rw [if_pos e] at sC sT
      exact Or.inl ⟨i, hiW, sC, sT⟩
    · rw [if_neg e] at sC sT
      rw [sC, sT]
      exact ih (i + 1) fc ft (by omega) (by omega) (by omega)
theorem jN_le (A : Av) (hW : WF A) {p : Nat} (hp : p < 100) (hval : jP A 1000000000 8 p < 1000000000) {k : Nat} (hk : k < 8) : jN A k (jV A p k) ≤ jS A k ∧ jS A k ≤ zN A 7 (50 + k) ∧ jN A k (jV A p k) * jL A k ≤ jV A p k := by
  obtain ⟨h1, h2⟩ := jV_ok hW hp hval k (by omega)
  obtain ⟨c1, c2⟩ := jT_ok _ (jCk_ex hk h2)
  have c2 : jN A k (jV A p k) ≤ min (jS A k) (jV A p k / jL A k) := c2
  refine ⟨by omega, ?_, (le_dv (jL_b hW k).1).1 (by omega)⟩
  unfold jS
  split <;> omega
/-- all kinds give their pieces: the component -/
theorem give_C (hF : 1000 ≤ F) (hE : EV ad B A) (hC : CR ad B A σ) {p k hs : Nat} (hp : p < 100) (hFJ : FJ A p σ 0) (hval : jP A 1000000000 8 p < 1000000000) (hk : k < zN A 7 1) (ehs : A 7 (60 + 3 * k + 1) = Int32.ofNat hs) (lhs : hs < 16) {y : Int32} : ∀ (d i fc : Nat) (f : Nat → Int32), i + d = zN A 6 5 → d < fc → (∀ j, j < i → f j = Int32.ofNat (zN A 7 (50 + j) - jN A j (jV A p j))) → (∀ j, i ≤ j → j < 8 → f j = A 7 (50 + j)) → ∃ g, (∀ j, j < 8 → g j = Int32.ofNat (zN A 7 (50 + j) - jN A j (jV A p j))) ∧ f_X0_does_L109 F (ad 0) (ad (1500 + k)) y fc (Int32.ofNat (jV A p i)) (Int32.ofNat i) (cM X ad (csA σ 49 f) B) = some (0, cM X ad (csA (csA σ 49 g) 47 (upd (σ.2.1 47) hs y)) B) := by
  have hA := hE.1
  have hW := hE.2.2
  obtain ⟨eW, lW⟩ := hW.W
  intro d
  induction d with
  | zero =>
    intro i fc f hi hfc h1 h2
    obtain ⟨fc, rfl⟩ : ∃ m, fc = m + 1 := ⟨fc - 1, by omega⟩
    have e0 : i = zN A 6 5 := by omega
    refine ⟨f, fun j hj => ?_, ?_⟩
    · by_cases q : j < i
      · exact h1 j q
      · have b := (jN_le A hW hp hval hj).1
        have : jS A j = 0 := if_neg (by omega)
        rw [h2 j (by omega) hj, show zN A 7 (50 + j) - jN A j (jV A p j) = zN A 7 (50 + j) by omega]
        exact (hW.2.2.1.2.2.2.2.1 j hj).1
    · rw [e0]
      show f_X0_does_L109_b F (ad 0) (ad (1500 + k)) y (f_X0_does_L109 F (ad 0) (ad (1500 + k)) y fc) (Int32.ofNat (jV A p (zN A 6 5))) (Int32.ofNat (zN A 6 5)) _ = _
      unfold f_X0_does_L109_b
      simp (disch := omega) only [Option.bind_some, Option.bind_none, nmE, n_pp, n_pl, n_lp, n_mm, n_ml, n_lm, csI_s, csI_n, csI_2, csA_1, csA_s, csA_n, csA_2, csL_1, csL_2, csL_s, csL_n, csL_3, csQ_1, csQ_2, csQ_3, csQ_s, csQ_n, nar0, c_le, c_le_l, c_le_r, c_lt, c_lt_l, c_lt_r, c_eq, c_eq_l, c_eq_r, if_true, if_false, if_pos, if_neg, o0_3 hA, hE.2.1.tw, hE.2.1.wn F, o0_4 hA, o46_0 hA, (hC.wf hk).2.1, ehs, s47 hA]
  | succ d ih =>
    intro i fc f hi hfc h1 h2
    obtain ⟨fc, rfl⟩ : ∃ m, fc = m + 1 := ⟨fc - 1, by omega⟩
    have hiW : i < zN A 6 5 := by omega
    have i8 : i < 8 := by omega
    obtain ⟨n1, n2, n3⟩ := jN_le A hW hp hval i8
    have fi : f i = A 7 (50 + i) := h2 i (Nat.le_refl _) i8
    have ew : A 7 (50 + i) = Int32.ofNat (zN A 7 (50 + i)) := (hW.2.2.1.2.2.2.2.1 i i8).1
    have tk := tk_C' (X := X) (F := F) (σ := csA σ 49 f) hF hE hC.2.2.2.2.2.2.2.2.1.2.1 hp (fun q a b v hv => by rw [csA_n _ _ _ _ (by omega)]; exact hFJ q a b v hv) hval hiW (by rw [csA_s]; exact fi)
    obtain ⟨w1, w2, w3, -⟩ := hE.2.1.ws F hiW (X := X) (csA σ 49 f)
    have eL : A 6 (170 + 2 * i) = Int32.ofNat (jL A i) := by
      have : jL A i = zN A 6 (170 + 2 * i) := if_pos hiW
      rw [this]
      exact (hW.1.2.2.2.2.2 i hiW).1.1
    obtain ⟨g, g1, g2⟩ := ih (i + 1) fc (upd f i (Int32.ofNat (zN A 7 (50 + i) - jN A i (jV A p i)))) (by omega) (by omega) (fun j hj => by
      by_cases q : j = i
      · rw [q, up_s]
      · rw [up_n _ _ _ _ q]; exact h1 j (by omega)) (fun j a b => by rw [up_n _ _ _ _ (by omega)]; exact h2 j (by omega) b)
    refine ⟨g, g1, ?_⟩
    rw [← g2]
    show f_X0_does_L109_b F (ad 0) (ad (1500 + k)) y (f_X0_does_L109 F (ad 0) (ad (1500 + k)) y fc) (Int32.ofNat (jV A p i)) (Int32.ofNat i) _ = _
    unfold f_X0_does_L109_b
    simp (disch := omega) only [Option.bind_some, Option.bind_none, nmE, n_pp, n_pl, n_lp, n_mm, n_ml, n_lm, csI_s, csI_n, csI_2, csA_1, csA_s, csA_n, csA_2, csL_1, csL_2, csL_s, csL_n, csL_3, csQ_1, csQ_2, csQ_3, csQ_s, csQ_n, nar0, c_le, c_le_l, c_le_r, c_lt, c_lt_l, c_lt_r, c_eq, c_eq_l, c_eq_r, if_true, if_false, if_pos, if_neg, oc0 hA, o0_3 hA, hE.2.1.tw, (hE.2.1.wn F (X := X) (csA σ 49 f)).1, (hE.2.1.wn F (X := X) (csA σ 49 f)).2, w1, w2, w3, tk, eL, o0_4 hA, o46_2 hA, a49 hA, s49 hA, fi, ew, csA_csA, n_ss]
    rfl
/-- and the reference -/
theorem give_T (hW : WF A) {p : Nat} (hp : p < 100) (hval : jP A 1000000000 8 p < 1000000000) {s : Nat → Int32} (hs : ∀ i, i < 8 → s i = Int32.ofNat (jN A i (jV A p i))) (h26 : τ.2.1 26 = s) {h v : Int32} : ∀ (d i ft : Nat) (f : Nat → Int32), i + d = 8 → d < ft → (∀ j, j < i → f (50 + j) = Int32.ofNat (zN A 7 (50 + j) - jN A j (jV A p j))) → (∀ q, q < 50 ∨ 50 + i ≤ q → f q = A 7 q) → ∃ g, (∀ j, j < 8 → g (50 + j) = Int32.ofNat (zN A 7 (50 + j) - jN A j (jV A p j))) ∧ (∀ q, q < 50 ∨ 58 ≤ q → g q = A 7 q) ∧ t_X9_makes_L123 F h v ft (Int32.ofNat i) (twA τ 7 f) = t_X9_makes_j233 F h v (twA τ 7 g) := by
  intro d
  induction d with
  | zero =>
    intro i ft f hi hft h1 h2
    obtain ⟨ft, rfl⟩ : ∃ m, ft = m + 1 := ⟨ft - 1, by omega⟩
    have e0 : i = 8 := by omega
    subst e0
    refine ⟨f, h1, fun q hq => h2 q (by omega), ?_⟩
    show t_X9_makes_L123_b F h v (t_X9_makes_L123 F h v ft) (Int32.ofNat 8) (twA τ 7 f) = _
    unfold t_X9_makes_L123_b
    rw [if_pos (show (8 : Int32) ≤ Int32.ofNat 8 by decide)]
  | succ d ih =>
    intro i ft f hi hft h1 h2
    obtain ⟨ft, rfl⟩ : ∃ m, ft = m + 1 := ⟨ft - 1, by omega⟩
    have i8 : i < 8 := by omega
    obtain ⟨n1, n2, n3⟩ := jN_le A hW hp hval i8
    have fi : f (50 + i) = Int32.ofNat (zN A 7 (50 + i)) := by
      rw [h2 (50 + i) (Or.inr (Nat.le_refl _))]
      exact (hW.2.2.1.2.2.2.2.1 i i8).1
    obtain ⟨g, g1, g2, g3⟩ := ih (i + 1) ft (upd f (50 + i) (Int32.ofNat (zN A 7 (50 + i) - jN A i (jV A p i)))) (by omega) (by omega) (fun j hj => by
      by_cases q : j = i
      · rw [q, up_s]
      · rw [up_n _ _ _ _ (by omega)]; exact h1 j (by omega)) (fun q hq => by rw [up_n _ _ _ _ (by omega)]; exact h2 q (by omega))
    refine ⟨g, g1, g2, ?_⟩
    rw [← g3]
    show t_X9_makes_L123_b F h v (t_X9_makes_L123 F h v ft) (Int32.ofNat i) (twA τ 7 f) = _
    unfold t_X9_makes_L123_b
    simp (disch := omega) only [Option.bind_some, Option.bind_none, nmE, n_pp, n_pl, n_lp, n_mm, n_ml, n_lm, taI_n, taI_l, tsA_n, tsA_l, nar0, twA_1, twA_s, twA_n, twA_2, twA_twA, tsI_s, tsI_n, tsI_2, c_le, c_le_l, c_le_r, c_lt, c_lt_l, c_lt_r, c_eq, c_eq_l, c_eq_r, if_true, if_false, if_pos, if_neg, h26, hs, fi, n_ss]
theorem j233_T {h : Nat} (hh : h < 16) {v : Int32} : t_X9_makes_j233 F (Int32.ofNat h) v τ = some (0, twA τ 7 (upd (τ.2.1 7) (10 + h) (τ.2.1 7 (10 + h) + v))) := by
  unfold t_X9_makes_j233
  simp (disch := omega) only [Option.bind_some, Option.bind_none, nmE, n_pp, n_pl, n_lp, n_mm, n_ml, n_lm, taI_n, taI_l, tsA_n, tsA_l, nar0, twA_1, twA_s, twA_n, twA_2, twA_twA, tsI_s, tsI_n, tsI_2, c_le, c_le_l, c_le_r, c_lt, c_lt_l, c_lt_r, c_eq, c_eq_l, c_eq_r, if_true, if_false, if_pos, if_neg]
/-- the relations after a work -/
theorem done_rel (hE : EV ad B A) (hC : CR ad B A σ) (h13 : σ.1 13 = A 0 41) {L g : Nat → Int32} {h m : Nat} (hh : h < 16) (hm : m ≤ 99) {y : Int32} (hy : y = Int32.ofNat m) (hL : ∀ q, q < 50 ∨ 58 ≤ q → L q = A 7 q) (hg : ∀ i, i < 8 → g i = L (50 + i)) (hw : ∀ i, i < 8 → isN (L (50 + i)) 99) : EV ad B (aw A 7 (upd L (10 + h) y)) ∧ CR ad B (aw A 7 (upd L (10 + h) y)) (csA (csA σ 49 g) 47 (upd (σ.2.1 47) h y)) ∧ WK A (aw A 7 (upd L (10 + h) y)) σ (csA (csA σ 49 g) 47 (upd (σ.2.1 47) h y)) := by
  have hW := hE.2.2
  have p := put_rel (L := upd L (10 + h) y) (f := upd (σ.2.1 47) h y) (g := g) hE hC (fun q hq => by rw [up_n _ _ _ _ (by omega)]; exact hL q (by omega)) (fun i hi => by
    by_cases e : i = h
    · rw [e, up_s, up_s]
    · rw [up_n _ _ _ _ e, up_n _ _ _ _ (by omega), hL _ (by omega)]; exact hC.2.2.2.1 i hi) (fun i hi => by rw [up_n _ _ _ _ (by omega)]; exact hg i hi) (fun i hi => by
    by_cases e : i = h
    · rw [e, up_s, hy]; exact isN.of hm (by omega)
    · rw [up_n _ _ _ _ (by omega), hL _ (by omega)]; exact hW.2.2.1.2.1 i hi) (fun i hi => by rw [up_n _ _ _ _ (by omega)]; exact hw i hi)
  rw [csA_cm (show (49 : Nat) ≠ 47 by decide)]
  refine ⟨p.1, p.2, fun j a b c d => aw_n _ _ _ _ b, fun q hq => by rw [aw_n _ _ _ _ (by decide)], fun q hq => by rw [aw_s, up_n _ _ _ _ (by omega)]; exact hL q (by omega), ?_, ?_, h13⟩
  · rw [csA_n _ _ _ _ (by decide), csA_n _ _ _ _ (by decide)]
  · rw [csA_n _ _ _ _ (by decide), csA_n _ _ _ _ (by decide)]
theorem ab_or (v : Int32) : ab v = if 0 ≤ v then v else -v := by
  unfold ab
  rw [Int32.zero_sub]
theorem irr.wk (h : irr A A') (h7 : A' 7 = A 7) (ho : ∀ j, j ≠ 0 → j ≠ 7 → j ≠ 25 → j ≠ 26 → A' j = A j) (h0 : ∀ q, q ≠ 41 → A' 0 q = A 0 q) (h1 : σ'.2.1 13 = σ.2.1 13) (h2 : σ'.2.1 14 = σ.2.1 14) (h3 : σ'.1 13 = A' 0 41) : WK A A' σ σ' := ⟨ho, h0, fun q _ => by rw [h7], h1, h2, h3⟩
