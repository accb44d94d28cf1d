set_option maxRecDepth 100000
/-! heights and wood are kept, and put back -/
variable {X : Nat → Option Ob} {ad ad' : Nat → Nat} {B B' : Sw} {A A' : Av} {σ σ' : Cs} {τ : Tw} {F : Nat}
theorem cK_54 {r : Nat} (h : 54 ≤ r ∧ r < 74) : (cK σ r).1 = 0 := by
  unfold cK
  split <;> first | rfl | omega | (rw [if_neg (by omega), if_pos (by omega)])
theorem cK_74 {r : Nat} (h : 74 ≤ r ∧ r < 94) : cK σ r = (1, 0, 16) := by
  unfold cK
  split <;> first | rfl | omega | (rw [if_neg (by omega), if_neg (by omega), if_pos (by omega)])
theorem cK_94 {r : Nat} (h : 94 ≤ r ∧ r < 114) : cK σ r = (1, 0, 8) := by
  unfold cK
  split <;> first | rfl | omega | (rw [if_neg (by omega), if_neg (by omega), if_neg (by omega)])
/-- a kept one's roles: itself, its heights, its wood -/
def ktR (q h w : Nat) : Prop := (q = 12 ∧ h = 13 ∧ w = 14) ∨ (54 ≤ q ∧ q < 74 ∧ h = q + 20 ∧ w = q + 40)
theorem kt_o (hA : AdOK ad B) {q h w : Nat} (k : ktR q h w) (σ : Cs) : gfR (cM X ad σ B) (ad q) 8 0 = some (ad h) ∧ gfR (cM X ad σ B) (ad q) 8 1 = some (ad w) ∧ oc (cM X ad σ B) (ad q) 8 = some () := by
  rcases k with ⟨rfl, rfl, rfl⟩ | ⟨a, b, rfl, rfl⟩
  · exact ⟨o12_0 hA σ, o12_1 hA σ, oc12 hA σ⟩
  · exact ⟨R_gR hA (by omega) (by omega) (by omega) (cK_54 ⟨a, b⟩) (cO_54 ⟨a, b⟩) rfl, R_gR hA (by omega) (by omega) (by omega) (cK_54 ⟨a, b⟩) (cO_54 ⟨a, b⟩) rfl, R_oc hA (by omega) (by omega) (by omega) (cK_54 ⟨a, b⟩) (cO_54 ⟨a, b⟩)⟩
theorem kt_k {q h w : Nat} (k : ktR q h w) (σ : Cs) : cK σ h = (1, 0, 16) ∧ cK σ w = (1, 0, 8) ∧ h < 114 ∧ w < 114 ∧ h ≠ 51 ∧ h ≠ 53 ∧ w ≠ 51 ∧ w ≠ 53 ∧ h ≠ 47 ∧ h ≠ 49 ∧ w ≠ 47 ∧ w ≠ 49 ∧ h ≠ w := by
  rcases k with ⟨rfl, rfl, rfl⟩ | ⟨a, b, rfl, rfl⟩
  · exact ⟨rfl, rfl, by omega⟩
  · exact ⟨cK_74 (by omega), cK_94 (by omega), by omega⟩
theorem cpy_i {f g : Nat → Int32} {n i : Nat} (h : i < n) : va_cpy f g 0 0 n i = f i := by
  rw [pk_cpy_in (by omega) (by omega)]
  show f (0 + (i - 0)) = f i
  congr 1
  omega
theorem keep_C (hA : AdOK ad B) : ∃ f g, f_X8_keep F (ad 12) (ad 46) (cM X ad σ B) = some (cM X ad (csA (csA σ 13 f) 14 g) B) ∧ (∀ i, i < 16 → f i = σ.2.1 47 i) ∧ ∀ i, i < 8 → g i = σ.2.1 49 i := by
  refine ⟨va_cpy (σ.2.1 47) (σ.2.1 13) 0 0 16, va_cpy (σ.2.1 49) (σ.2.1 14) 0 0 8, ?_, fun i hi => cpy_i hi, fun i hi => cpy_i hi⟩
  unfold f_X8_keep
  rw [o46_0 hA, Option.bind_some, o12_0 hA, Option.bind_some, R_cpI (k := 16) (m := 16) hA (by decide) (by decide) (by decide) (by decide) (by decide) (by decide) (n := 16) (n' := 16) rfl rfl rfl (Nat.le_refl _) (Nat.le_refl _) (by omega), Option.bind_some, o46_2 hA, Option.bind_some, o12_1 hA, Option.bind_some, R_cpI (k := 8) (m := 8) hA (by decide) (by decide) (by decide) (by decide) (by decide) (by decide) (n := 8) (n' := 8) rfl rfl rfl (Nat.le_refl _) (Nat.le_refl _) (by omega), Option.bind_some]
  rw [csA_n _ _ _ _ (show (49 : Nat) ≠ 13 by decide), csA_n _ _ _ _ (show (14 : Nat) ≠ 13 by decide)]
theorem back_C (hA : AdOK ad B) {q h w : Nat} (k : ktR q h w) : ∃ f g, f_X8_back F (ad q) (ad 46) (cM X ad σ B) = some (cM X ad (csA (csA σ 47 f) 49 g) B) ∧ (∀ i, i < 16 → f i = σ.2.1 h i) ∧ ∀ i, i < 8 → g i = σ.2.1 w i := by
  obtain ⟨k1, k2, k3, k4, k5, k6, k7, k8, k9, k10, k11, k12, k13⟩ := kt_k k σ
  refine ⟨va_cpy (σ.2.1 h) (σ.2.1 47) 0 0 16, va_cpy (σ.2.1 w) (σ.2.1 49) 0 0 8, ?_, fun i hi => cpy_i hi, fun i hi => cpy_i hi⟩
  unfold f_X8_back
  rw [(kt_o hA k σ).1, Option.bind_some, o46_0 hA, Option.bind_some, R_cpI (k := 16) (m := 16) hA k3 k5 k6 (by decide) (by decide) (by decide) (n := 16) (n' := 16) k1 rfl rfl (Nat.le_refl _) (Nat.le_refl _) (by omega), Option.bind_some, (kt_o hA k _).2.1, Option.bind_some, o46_2 hA, Option.bind_some, R_cpI (σ := csA σ 47 (va_cpy (σ.2.1 h) (σ.2.1 47) 0 0 16)) (k := 8) (m := 8) hA k4 k7 k8 (by decide) (by decide) (by decide) (n := 8) (n' := 8) (by rw [cK_A]; exact k2) rfl rfl (Nat.le_refl _) (Nat.le_refl _) (by omega), Option.bind_some]
  rw [csA_n _ _ _ _ k11, csA_n _ _ _ _ (show (49 : Nat) ≠ 47 by decide)]
/-! the reference's side -/
theorem keep1_T (hF : 1000 ≤ F) {l : Nat} (hl : l ≤ 20) (f0 : Nat → Int32) (h7 : τ.2.1 7 = f0) {K : Tw → Option Tw} : ∃ g, t_X9_keep_L2 F K (Int32.ofNat l) F 0 τ = K (twA τ 27 g) ∧ (∀ i, i < 16 → g (24 * l + i) = f0 (10 + i)) ∧ ∀ q, q < 24 * l ∨ 24 * l + 16 ≤ q → g q = τ.2.1 27 q := by
  refine for_up (L := fun n i (s : Nat → Int32) => t_X9_keep_L2 F K (Int32.ofNat l) n i (twA τ 27 s)) (N := 16) (Inv := fun k s => (∀ i, i < k → s (24 * l + i) = f0 (10 + i)) ∧ ∀ q, q < 24 * l ∨ 24 * l + k ≤ q → s q = τ.2.1 27 q) (Post := fun r => ∃ g, r = K (twA τ 27 g) ∧ (∀ i, i < 16 → g (24 * l + i) = f0 (10 + i)) ∧ ∀ q, q < 24 * l ∨ 24 * l + 16 ≤ q → g q = τ.2.1 27 q) ?_ ?_ 16 0 F (τ.2.1 27) (Nat.zero_add _) (by omega) ⟨fun i hi => absurd hi (Nat.not_lt_zero i), fun _ _ => rfl⟩ |> fun h => by
    rw [twA_id] at h
    exact h
  · rintro n k s hk ⟨h1, h2⟩
    refine Or.inl ⟨upd s (24 * l + k) (f0 (10 + k)), ⟨fun i hi => ?_, fun q hq => ?_⟩, ?_⟩
    · by_cases e : i = k
      · rw [e, up_s]
      · rw [up_n _ _ _ _ (by omega)]; exact h1 i (by omega)
    · rw [up_n _ _ _ _ (by omega)]; exact h2 q (by omega)
    · show t_X9_keep_L2_b F K (Int32.ofNat l) (t_X9_keep_L2 F K (Int32.ofNat l) n) (Int32.ofNat k) (twA τ 27 s) = _
      unfold t_X9_keep_L2_b
      simp (disch := omega) only [Option.bind_some, Option.bind_none, nmE, n_pp, n_pl, n_lp, n_mm, n_ml, n_lm, taI_n, taI_l, tsA_n, tsA_l, nar0, twA_1, twA_s, twA_n, twA_2, twA_twA, tsI_s, tsI_n, tsI_2, c_le, c_le_l, c_le_r, c_lt, c_lt_l, c_lt_r, c_eq, c_eq_l, c_eq_r, if_true, if_false, if_pos, if_neg, h7]
  · rintro n s ⟨h1, h2⟩
    refine ⟨s, ?_, h1, h2⟩
    show t_X9_keep_L2_b F K (Int32.ofNat l) (t_X9_keep_L2 F K (Int32.ofNat l) n) (Int32.ofNat 16) (twA τ 27 s) = _
    unfold t_X9_keep_L2_b
    rw [if_pos (show (16 : Int32) ≤ Int32.ofNat 16 by decide)]
theorem keep2_T (hF : 1000 ≤ F) {l : Nat} (hl : l ≤ 20) (f0 : Nat → Int32) (h7 : τ.2.1 7 = f0) : ∃ g, t_X9_keep_L36 F (Int32.ofNat l) F 0 τ = some (twA τ 27 g) ∧ (∀ i, i < 8 → g (24 * l + 16 + i) = f0 (50 + i)) ∧ ∀ q, q < 24 * l + 16 ∨ 24 * l + 24 ≤ q → g q = τ.2.1 27 q := by
  refine for_up (L := fun n i (s : Nat → Int32) => t_X9_keep_L36 F (Int32.ofNat l) n i (twA τ 27 s)) (N := 8) (Inv := fun k s => (∀ i, i < k → s (24 * l + 16 + i) = f0 (50 + i)) ∧ ∀ q, q < 24 * l + 16 ∨ 24 * l + 16 + k ≤ q → s q = τ.2.1 27 q) (Post := fun r => ∃ g, r = some (twA τ 27 g) ∧ (∀ i, i < 8 → g (24 * l + 16 + i) = f0 (50 + i)) ∧ ∀ q, q < 24 * l + 16 ∨ 24 * l + 24 ≤ q → g q = τ.2.1 27 q) ?_ ?_ 8 0 F (τ.2.1 27) (Nat.zero_add _) (by omega) ⟨fun i hi => absurd hi (Nat.not_lt_zero i), fun _ _ => rfl⟩ |> fun h => by
    rw [twA_id] at h
    exact h
  · rintro n k s hk ⟨h1, h2⟩
    refine Or.inl ⟨upd s (24 * l + 16 + k) (f0 (50 + k)), ⟨fun i hi => ?_, fun q hq => ?_⟩, ?_⟩
    · by_cases e : i = k
      · rw [e, up_s]
      · rw [up_n _ _ _ _ (by omega)]; exact h1 i (by omega)
    · rw [up_n _ _ _ _ (by omega)]; exact h2 q (by omega)
    · show t_X9_keep_L36_b F (Int32.ofNat l) (t_X9_keep_L36 F (Int32.ofNat l) n) (Int32.ofNat k) (twA τ 27 s) = _
      unfold t_X9_keep_L36_b
      simp (disch := omega) only [Option.bind_some, Option.bind_none, nmE, n_pp, n_pl, n_lp, n_mm, n_ml, n_lm, taI_n, taI_l, tsA_n, tsA_l, nar0, twA_1, twA_s, twA_n, twA_2, twA_twA, tsI_s, tsI_n, tsI_2, c_le, c_le_l, c_le_r, c_lt, c_lt_l, c_lt_r, c_eq, c_eq_l, c_eq_r, if_true, if_false, if_pos, if_neg, h7]
  · rintro n s ⟨h1, h2⟩
    refine ⟨s, ?_, h1, fun q hq => h2 q (by omega)⟩
    show t_X9_keep_L36_b F (Int32.ofNat l) (t_X9_keep_L36 F (Int32.ofNat l) n) (Int32.ofNat 8) (twA τ 27 s) = _
    unfold t_X9_keep_L36_b
    rw [if_pos (show (8 : Int32) ≤ Int32.ofNat 8 by decide)]
theorem keep_T (hF : 1000 ≤ F) {l : Nat} (hl : l ≤ 20) (hT : TR A τ) : ∃ g, t_X9_keep F (Int32.ofNat l) τ = some (twA τ 27 g) ∧ (∀ i, i < 16 → g (24 * l + i) = A 7 (10 + i)) ∧ (∀ i, i < 8 → g (24 * l + 16 + i) = A 7 (50 + i)) ∧ ∀ q, q < 24 * l ∨ 24 * l + 24 ≤ q → g q = A 27 q := by
  unfold t_X9_keep
  obtain ⟨g, e1, e2, e3⟩ := keep1_T (F := F) hF hl (A 7) (hT.2 7 rfl) (K := fun τ1 => t_X9_keep_L36 F (Int32.ofNat l) F 0 τ1)
  obtain ⟨g', f1, f2, f3⟩ := keep2_T (F := F) (τ := twA τ 27 g) hF hl (A 7) (by rw [twA_n _ _ _ _ (by decide)]; exact hT.2 7 rfl)
  rw [twA_s] at f3
  rw [twA_twA] at f1
  refine ⟨g', e1.trans f1, fun i hi => ?_, f2, fun q hq => ?_⟩
  · rw [f3 _ (by omega)]; exact e2 i hi
  · rw [f3 _ (by omega), e3 _ (by omega), hT.2 27 rfl]
theorem put1_T (hF : 1000 ≤ F) {l : Nat} (hl : l ≤ 20) (f0 : Nat → Int32) (h7 : τ.2.1 27 = f0) {K : Tw → Option Tw} : ∃ g, t_X9_putBack_L2 F K (Int32.ofNat l) F 0 τ = K (twA τ 7 g) ∧ (∀ i, i < 16 → g (10 + i) = f0 (24 * l + i)) ∧ ∀ q, q < 10 ∨ 26 ≤ q → g q = τ.2.1 7 q := by
  refine for_up (L := fun n i (s : Nat → Int32) => t_X9_putBack_L2 F K (Int32.ofNat l) n i (twA τ 7 s)) (N := 16) (Inv := fun k s => (∀ i, i < k → s (10 + i) = f0 (24 * l + i)) ∧ ∀ q, q < 10 ∨ 10 + k ≤ q → s q = τ.2.1 7 q) (Post := fun r => ∃ g, r = K (twA τ 7 g) ∧ (∀ i, i < 16 → g (10 + i) = f0 (24 * l + i)) ∧ ∀ q, q < 10 ∨ 26 ≤ q → g q = τ.2.1 7 q) ?_ ?_ 16 0 F (τ.2.1 7) (Nat.zero_add _) (by omega) ⟨fun i hi => absurd hi (Nat.not_lt_zero i), fun _ _ => rfl⟩ |> fun h => by
    rw [twA_id] at h
    exact h
  · rintro n k s hk ⟨h1, h2⟩
    refine Or.inl ⟨upd s (10 + k) (f0 (24 * l + k)), ⟨fun i hi => ?_, fun q hq => ?_⟩, ?_⟩
    · by_cases e : i = k
      · rw [e, up_s]
      · rw [up_n _ _ _ _ (by omega)]; exact h1 i (by omega)
    · rw [up_n _ _ _ _ (by omega)]; exact h2 q (by omega)
    · show t_X9_putBack_L2_b F K (Int32.ofNat l) (t_X9_putBack_L2 F K (Int32.ofNat l) n) (Int32.ofNat k) (twA τ 7 s) = _
      unfold t_X9_putBack_L2_b
      simp (disch := omega) only [Option.bind_some, Option.bind_none, nmE, n_pp, n_pl, n_lp, n_mm, n_ml, n_lm, taI_n, taI_l, tsA_n, tsA_l, nar0, twA_1, twA_s, twA_n, twA_2, twA_twA, tsI_s, tsI_n, tsI_2, c_le, c_le_l, c_le_r, c_lt, c_lt_l, c_lt_r, c_eq, c_eq_l, c_eq_r, if_true, if_false, if_pos, if_neg, h7]
  · rintro n s ⟨h1, h2⟩
    refine ⟨s, ?_, h1, h2⟩
    show t_X9_putBack_L2_b F K (Int32.ofNat l) (t_X9_putBack_L2 F K (Int32.ofNat l) n) (Int32.ofNat 16) (twA τ 7 s) = _
    unfold t_X9_putBack_L2_b
    rw [if_pos (show (16 : Int32) ≤ Int32.ofNat 16 by decide)]
theorem put2_T (hF : 1000 ≤ F) {l : Nat} (hl : l ≤ 20) (f0 : Nat → Int32) (h7 : τ.2.1 27 = f0) : ∃ g, t_X9_putBack_L36 F (Int32.ofNat l) F 0 τ = some (twA τ 7 g) ∧ (∀ i, i < 8 → g (50 + i) = f0 (24 * l + 16 + i)) ∧ ∀ q, q < 50 ∨ 58 ≤ q → g q = τ.2.1 7 q := by
  refine for_up (L := fun n i (s : Nat → Int32) => t_X9_putBack_L36 F (Int32.ofNat l) n i (twA τ 7 s)) (N := 8) (Inv := fun k s => (∀ i, i < k → s (50 + i) = f0 (24 * l + 16 + i)) ∧ ∀ q, q < 50 ∨ 50 + k ≤ q → s q = τ.2.1 7 q) (Post := fun r => ∃ g, r = some (twA τ 7 g) ∧ (∀ i, i < 8 → g (50 + i) = f0 (24 * l + 16 + i)) ∧ ∀ q, q < 50 ∨ 58 ≤ q → g q = τ.2.1 7 q) ?_ ?_ 8 0 F (τ.2.1 7) (Nat.zero_add _) (by omega) ⟨fun i hi => absurd hi (Nat.not_lt_zero i), fun _ _ => rfl⟩ |> fun h => by
    rw [twA_id] at h
    exact h
  · rintro n k s hk ⟨h1, h2⟩
    refine Or.inl ⟨upd s (50 + k) (f0 (24 * l + 16 + k)), ⟨fun i hi => ?_, fun q hq => ?_⟩, ?_⟩
    · by_cases e : i = k
      · rw [e, up_s]
      · rw [up_n _ _ _ _ (by omega)]; exact h1 i (by omega)
    · rw [up_n _ _ _ _ (by omega)]; exact h2 q (by omega)
    · show t_X9_putBack_L36_b F (Int32.ofNat l) (t_X9_putBack_L36 F (Int32.ofNat l) n) (Int32.ofNat k) (twA τ 7 s) = _
      unfold t_X9_putBack_L36_b
      simp (disch := omega) only [Option.bind_some, Option.bind_none, nmE, n_pp, n_pl, n_lp, n_mm, n_ml, n_lm, taI_n, taI_l, tsA_n, tsA_l, nar0, twA_1, twA_s, twA_n, twA_2, twA_twA, tsI_s, tsI_n, tsI_2, c_le, c_le_l, c_le_r, c_lt, c_lt_l, c_lt_r, c_eq, c_eq_l, c_eq_r, if_true, if_false, if_pos, if_neg, h7]
  · rintro n s ⟨h1, h2⟩
    refine ⟨s, ?_, h1, fun q hq => h2 q (by omega)⟩
    show t_X9_putBack_L36_b F (Int32.ofNat l) (t_X9_putBack_L36 F (Int32.ofNat l) n) (Int32.ofNat 8) (twA τ 7 s) = _
    unfold t_X9_putBack_L36_b
    rw [if_pos (show (8 : Int32) ≤ Int32.ofNat 8 by decide)]
theorem put_T (hF : 1000 ≤ F) {l : Nat} (hl : l ≤ 20) (hT : TR A τ) : ∃ L, t_X9_putBack F (Int32.ofNat l) τ = some (twA τ 7 L) ∧ (∀ i, i < 16 → L (10 + i) = A 27 (24 * l + i)) ∧ (∀ i, i < 8 → L (50 + i) = A 27 (24 * l + 16 + i)) ∧ ∀ q, q < 10 ∨ (26 ≤ q ∧ q < 50) ∨ 58 ≤ q → L q = A 7 q := by
  unfold t_X9_putBack
  obtain ⟨g, e1, e2, e3⟩ := put1_T (F := F) hF hl (A 27) (hT.2 27 rfl) (K := fun τ1 => t_X9_putBack_L36 F (Int32.ofNat l) F 0 τ1)
  obtain ⟨g', f1, f2, f3⟩ := put2_T (F := F) (τ := twA τ 7 g) hF hl (A 27) (by rw [twA_n _ _ _ _ (by decide)]; exact hT.2 27 rfl)
  rw [twA_s] at f3
  rw [twA_twA] at f1
  refine ⟨g', e1.trans f1, fun i hi => ?_, f2, fun q hq => ?_⟩
  · rw [f3 _ (by omega)]; exact e2 i hi
  · rw [f3 _ (by omega), e3 _ (by omega), hT.2 7 rfl]
/-! the relations -/
/-- a change of what is kept: the lots below stay -/
theorem CR.k27 {g : Nat → Int32} (h : CR ad B A σ) (hg : ∀ q, q < 24 * zN A 0 40 → g q = A 27 q) : CR ad B (aw A 27 g) σ := by
  obtain ⟨p1, h2, h3, h4, h5, h6, h7, h8, h9, h10, h11, h12⟩ := h
  refine ⟨p1, h2, h3, h4, h5, h6, fun j i hj hi => ?_, fun j i hj hi => ?_, h9, h10, h11, h12⟩
  · have hj : j < zN A 0 40 := hj
    rw [aw_s, hg _ (by omega)]
    exact h7 j i hj hi
  · have hj : j < zN A 0 40 := hj
    rw [aw_s, hg _ (by omega)]
    exact h8 j i hj hi
theorem WF.k27 {g : Nat → Int32} (h : WF A) (hg : ∀ q, q < 24 * zN A 0 40 → g q = A 27 q) : WF (aw A 27 g) := by
  obtain ⟨h1, ⟨n1, n2, n3, n4, n5, n6, n7⟩, h3, h4⟩ := h
  refine ⟨h1, ⟨n1, n2, n3, n4, n5, fun j i hj hi => ?_, fun j i hj hi => ?_⟩, h3, h4⟩
  · have hj : j < zN A 0 40 := hj
    rw [aw_s, hg _ (by omega)]
    exact n6 j i hj hi
  · have hj : j < zN A 0 40 := hj
    rw [aw_s, hg _ (by omega)]
    exact n7 j i hj hi
/-- heights and wood changed to others -/
theorem put_rel (hE : EV ad B A) (hC : CR ad B A σ) {L f g : Nat → Int32} (hL : ∀ q, q < 10 ∨ (26 ≤ q ∧ q < 50) ∨ 58 ≤ q → L q = A 7 q) (h1 : ∀ i, i < 16 → f i = L (10 + i)) (h2 : ∀ i, i < 8 → g i = L (50 + i)) (w1 : ∀ i, i < 16 → isN (L (10 + i)) 99) (w2 : ∀ i, i < 8 → isN (L (50 + i)) 99) : EV ad B (aw A 7 L) ∧ CR ad B (aw A 7 L) (csA (csA σ 47 f) 49 g) := by
  obtain ⟨hA, hB, hW⟩ := hE
  have hl : ∀ k, ¬ liv k → L k = A 7 k := fun k hk => hL k (by unfold liv at hk; omega)
  refine ⟨⟨hA, hB.aw rfl, hW.hw hl ?_ w1 ?_ ?_ w2⟩, hC.hw hl ((sC.a (Or.inr (Or.inl rfl))).tr (sC.a (Or.inr (Or.inr (Or.inr rfl))))) ?_ ?_ ?_ ?_⟩
  · rw [hL _ (by omega)]; exact hW.2.2.1.1.1
  · intro i hi
    rw [hL _ (by omega)]; exact hW.2.2.1.2.2.1 i hi
  · intro i j hi hj
    rw [hL _ (by omega), hL _ (by omega)]; exact hW.2.2.1.2.2.2.1 i j hi hj
  · rw [hL _ (by omega)]; exact hC.1.2.2.2.2
  · intro i hi
    rw [csA_n _ _ _ _ (by decide), csA_s]; exact h1 i hi
  · intro i hi
    rw [csA_n _ _ _ _ (by decide), csA_n _ _ _ _ (by decide), hL _ (by omega)]; exact hC.2.2.2.2.1 i hi
  · intro i hi
    rw [csA_s]; exact h2 i hi
theorem WF.k0 (hW : WF A) : A 0 40 = Int32.ofNat (zN A 0 40) ∧ zN A 0 40 ≤ 20 := hW.2.1.2.1
/-- fewer lots -/
theorem CR.k40 (h : CR ad B A σ) {z : Nat} (hz : z ≤ zN A 0 40) : CR ad B (aw A 0 (upd (A 0) 40 (Int32.ofNat z))) (csI σ 9 (Int32.ofNat z)) := by
  obtain ⟨⟨p1, p2, p3, p4, p5⟩, h2, h3, h4, h5, h6, h7, h8, h9, h10, h11, h12⟩ := h
  have z0 : zN (aw A 0 (upd (A 0) 40 (Int32.ofNat z))) 0 0 = zN A 0 0 := by unfold zN; rw [aw_s, up_n _ _ _ _ (by decide)]
  have z50 : zN (aw A 0 (upd (A 0) 40 (Int32.ofNat z))) 0 50 = zN A 0 50 := by unfold zN; rw [aw_s, up_n _ _ _ _ (by decide)]
  have zl : zN A 0 40 < 2147483648 := by
    have := Int32.toNatClampNeg_lt (A 0 40)
    exact this
  have z40 : zN (aw A 0 (upd (A 0) 40 (Int32.ofNat z))) 0 40 = z := by unfold zN; rw [aw_s, up_s]; exact i_cl (n := 2147483648) (by omega) (by omega)
  refine ⟨⟨?_, ?_, ?_, ?_, ?_⟩, ?_, ?_, h4, h5, h6, fun j i hj hi => ?_, fun j i hj hi => ?_, h9, h10, h11, h12⟩
  · rw [aw_s, up_n _ _ _ _ (by decide), csI_n _ _ _ _ (by decide)]; exact p1
  · rw [aw_s, up_n _ _ _ _ (by decide), csI_n _ _ _ _ (by decide)]; exact p2
  · rw [aw_s, up_s, csI_s]
  · rw [aw_s, up_n _ _ _ _ (by decide), csI_n _ _ _ _ (by decide)]; exact p4
  · rw [csI_n _ _ _ _ (by decide)]; exact p5
  · rw [z0]; exact h2
  · rw [z50]; exact h3
  · rw [z40] at hj; exact h7 j i (by omega) hi
  · rw [z40] at hj; exact h8 j i (by omega) hi
theorem WF.k40 (h : WF A) {z : Nat} (hz : z ≤ zN A 0 40) (hz20 : z ≤ 20) : WF (aw A 0 (upd (A 0) 40 (Int32.ofNat z))) := by
  obtain ⟨h1, ⟨n1, n2, n3, n4, n5, n6, n7⟩, h3, h4⟩ := h
  have z50 : zN (aw A 0 (upd (A 0) 40 (Int32.ofNat z))) 0 50 = zN A 0 50 := by unfold zN; rw [aw_s, up_n _ _ _ _ (by decide)]
  have z40 : zN (aw A 0 (upd (A 0) 40 (Int32.ofNat z))) 0 40 = z := by unfold zN; rw [aw_s, up_s]; exact i_cl (n := 1000) (by omega) (by omega)
  refine ⟨h1, ⟨?_, ?_, ?_, ?_, n5, fun j i hj hi => ?_, fun j i hj hi => ?_⟩, h3, h4⟩
  · rw [aw_s, up_n _ _ _ _ (by decide)]; exact n1
  · rw [aw_s, up_s]; exact isN.of hz20 (by omega)
  · rw [aw_s, up_n _ _ _ _ (by decide)]; exact n3
  · rw [z50]; exact n4
  · rw [z40] at hj; exact n6 j i (by omega) hi
  · rw [z40] at hj; exact n7 j i (by omega) hi
