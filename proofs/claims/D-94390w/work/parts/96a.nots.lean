set_option maxRecDepth 100000
/-! conditions, read: the word not -/
variable {X X' X2 : Nat → Option Ob} {ad : Nat → Nat} {B B' B2 : Sw} {A : Av} {σ σ' σ2 : Cs} {τ τ' τ2 : Tw} {F : Nat} {c pl : Nat → Nat} {last j : Nat}
theorem not_CT {K : Int32 → Sw → Option ((Nat ⊕ Nat) × Sw)} {KT : Int32 → Tw → Option (Int32 × Tw)} {v1 x4 : Int32} {m w : Nat} (hA : AdOK ad B) : ∀ (k f g : Nat) (s : Int32) (σ : Cs) (τ : Tw) (j : Nat), last - j ≤ k → k < f → k < g → PK c pl last j σ τ → (s = 0 ∨ s = 1) → (∃ s' σ' τ' j', f_X2_literal_L2 F K (ad 6) f s (cM X ad σ B) = K s' (cM X ad σ' B) ∧ t_X9_cond_L32 F KT v1 x4 g s τ = KT s' τ' ∧ j ≤ j' ∧ PK c pl last j' σ' τ' ∧ (s' = 0 ∨ s' = 1) ∧ EF σ σ' ∧ σ'.1 32 = σ.1 32 ∧ ET m w τ τ' ∧ τ'.2 = τ.2) ∨ FL ad X B σ τ 1 m w (f_X2_literal_L2 F K (ad 6) f s (cM X ad σ B)) (t_X9_cond_L32 F KT v1 x4 g s τ) := by
  intro k
  induction k with
  | zero =>
    intro f g s σ τ j hk hf hg hP hs
    obtain ⟨f, rfl⟩ : ∃ f', f = f' + 1 := ⟨f - 1, by omega⟩
    obtain ⟨g, rfl⟩ : ∃ g', g = g' + 1 := ⟨g - 1, by omega⟩
    have hjl := hP.2.2.2
    show (∃ s' σ' τ' j', f_X2_literal_L2_b F K (ad 6) (f_X2_literal_L2 F K (ad 6) f) s (cM X ad σ B) = K s' (cM X ad σ' B) ∧ t_X9_cond_L32_b F KT v1 x4 (t_X9_cond_L32 F KT v1 x4 g) s τ = KT s' τ' ∧ _) ∨ FL ad X B σ τ 1 m w (f_X2_literal_L2_b F K (ad 6) (f_X2_literal_L2 F K (ad 6) f) s (cM X ad σ B)) (t_X9_cond_L32_b F KT v1 x4 (t_X9_cond_L32 F KT v1 x4 g) s τ)
    have i33 := is_CC (X := X) (F := F) hA hP (q := 33) (by decide)
    rw [show kT 33 = 217 from rfl] at i33
    have w17 := word_TT (F := F) hP (q := 17) (by decide)
    rw [show wtL.getD 17 0 = 10 from rfl] at w17
    unfold f_X2_literal_L2_b t_X9_cond_L32_b
    rw [show 16 + 17 = 33 from rfl] at w17
    rw [oc6 hA, Option.bind_some, i33, Option.bind_some, w17]
    by_cases e : c j = 33
    · rw [if_pos e]
      simp only [Option.bind_some]
      rw [if_neg (show ¬ (1 : Int32) = 0 by decide), if_neg (show ¬ (1 : Int32) = 0 by decide)]
      rcases go_CT (F := F) (X := X) hA hP (by omega) (by omega) with ⟨k1, k2, k3⟩ | ⟨k2, k3⟩
      · omega
      · refine Or.inr ?_
        rw [k2, th_r, k3, Option.bind_some, if_pos rfl]
        exact FL.at hA hP (by decide)
    · rw [if_neg e]
      simp only [Option.bind_some]
      rw [if_pos trivial, if_pos trivial]
      exact Or.inl ⟨s, σ, τ, j, rfl, rfl, Nat.le_refl _, hP, hs, EF.rf, rfl, ET.rf, rfl⟩
  | succ k ih =>
    intro f g s σ τ j hk hf hg hP hs
    obtain ⟨f, rfl⟩ : ∃ f', f = f' + 1 := ⟨f - 1, by omega⟩
    obtain ⟨g, rfl⟩ : ∃ g', g = g' + 1 := ⟨g - 1, by omega⟩
    have hjl := hP.2.2.2
    show (∃ s' σ' τ' j', f_X2_literal_L2_b F K (ad 6) (f_X2_literal_L2 F K (ad 6) f) s (cM X ad σ B) = K s' (cM X ad σ' B) ∧ t_X9_cond_L32_b F KT v1 x4 (t_X9_cond_L32 F KT v1 x4 g) s τ = KT s' τ' ∧ _) ∨ FL ad X B σ τ 1 m w (f_X2_literal_L2_b F K (ad 6) (f_X2_literal_L2 F K (ad 6) f) s (cM X ad σ B)) (t_X9_cond_L32_b F KT v1 x4 (t_X9_cond_L32 F KT v1 x4 g) s τ)
    have i33 := is_CC (X := X) (F := F) hA hP (q := 33) (by decide)
    rw [show kT 33 = 217 from rfl] at i33
    have w17 := word_TT (F := F) hP (q := 17) (by decide)
    rw [show wtL.getD 17 0 = 10 from rfl] at w17
    unfold f_X2_literal_L2_b t_X9_cond_L32_b
    rw [show 16 + 17 = 33 from rfl] at w17
    rw [oc6 hA, Option.bind_some, i33, Option.bind_some, w17]
    by_cases e : c j = 33
    · rw [if_pos e]
      simp only [Option.bind_some]
      rw [if_neg (show ¬ (1 : Int32) = 0 by decide), if_neg (show ¬ (1 : Int32) = 0 by decide)]
      rcases go_CT (F := F) (X := X) hA hP (by omega) (by omega) with ⟨k1, k2, k3⟩ | ⟨k2, k3⟩
      · rw [k2, th_l, k3, Option.bind_some, if_neg (show ¬ (1 : Int32) = 0 by decide)]
        have hP1 := hP.go k1
        have fin : ∀ s2 : Int32, (s2 = 0 ∨ s2 = 1) → (∃ s' σ' τ' j', f_X2_literal_L2 F K (ad 6) f s2 (cM X ad (csI σ 31 (Int32.ofNat (j + 1))) B) = K s' (cM X ad σ' B) ∧ t_X9_cond_L32 F KT v1 x4 g s2 (tsI τ 7 (Int32.ofNat (j + 1))) = KT s' τ' ∧ j ≤ j' ∧ PK c pl last j' σ' τ' ∧ (s' = 0 ∨ s' = 1) ∧ EF σ σ' ∧ σ'.1 32 = σ.1 32 ∧ ET m w τ τ' ∧ τ'.2 = τ.2) ∨ FL ad X B σ τ 1 m w (f_X2_literal_L2 F K (ad 6) f s2 (cM X ad (csI σ 31 (Int32.ofNat (j + 1))) B)) (t_X9_cond_L32 F KT v1 x4 g s2 (tsI τ 7 (Int32.ofNat (j + 1)))) := by
          intro s2 h2
          rcases ih f g s2 _ _ (j + 1) (by omega) (by omega) (by omega) hP1 h2 with ⟨s', σ', τ', j', a1, a2, a3, a4, a5, a6, a7, a8, a9⟩ | hB
          · exact Or.inl ⟨s', σ', τ', j', a1, a2, by omega, a4, a5, EF.i31.tr a6, a7.trans (csI_n _ _ _ _ (by decide)), (ET.i7 (m := m) (w := w)).tr a8 (Nat.le_refl _) (Nat.le_refl _), a9⟩
          · exact Or.inr ((FL.pre (MF.rf hA) EF.i31 (ET.i7 (m := m) (w := w)) (Nat.le_refl _) (Nat.le_refl _) hB).le (by omega))
        rcases hs with rfl | rfl
        · rw [if_pos rfl, if_pos rfl]
          exact fin 1 (Or.inr rfl)
        · rw [if_neg (show ¬ (1 : Int32) = 0 by decide), if_neg (show ¬ (1 : Int32) = 0 by decide)]
          exact fin 0 (Or.inl rfl)
      · refine Or.inr ?_
        rw [k2, th_r, k3, Option.bind_some, if_pos rfl]
        exact FL.at hA hP (by decide)
    · rw [if_neg e]
      simp only [Option.bind_some]
      rw [if_pos trivial, if_pos trivial]
      exact Or.inl ⟨s, σ, τ, j, rfl, rfl, Nat.le_refl _, hP, hs, EF.rf, rfl, ET.rf, rfl⟩
