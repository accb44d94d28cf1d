set_option maxRecDepth 100000
/-! 19: forget -/
variable {X : Nat → Option Ob} {ad ad' : Nat → Nat} {B B' : Sw} {A A' : Av} {σ σ' : Cs} {τ : Tw} {F : Nat}
theorem csQ_id (σ : Cs) (r : Nat) : csQ σ r (σ.2.2.2 r) = σ := by
  have e : (fun q => if q = r then σ.2.2.2 r else σ.2.2.2 q) = σ.2.2.2 := by
    funext q
    by_cases h : q = r
    · rw [if_pos h, h]
    · rw [if_neg h]
  show (σ.1, σ.2.1, σ.2.2.1, (fun q => if q = r then σ.2.2.2 r else σ.2.2.2 q)) = σ
  rw [e]
theorem csQ_csQ (σ : Cs) (r : Nat) (f g : Nat → Option Nat) : csQ (csQ σ r f) r g = csQ σ r g := by
  have e : (fun q => if q = r then g else (if q = r then f else σ.2.2.2 q)) = (fun q => if q = r then g else σ.2.2.2 q) := by
    funext q
    by_cases h : q = r
    · rw [if_pos h, if_pos h]
    · rw [if_neg h, if_neg h, if_neg h]
  show (σ.1, σ.2.1, σ.2.2.1, (fun q => if q = r then g else (if q = r then f else σ.2.2.2 q))) = _
  rw [e]
  rfl
/-- the works are cleared -/
theorem clear50 (hF : 1000 ≤ F) (hE : EV ad B A) (hC : CR ad B A σ) : ∃ σ', f_J2_clear F (ad 50) (cM X ad σ B) = some (cM X ad σ' B) ∧ σ'.1 13 = σ.1 13 ∧ ∀ L : Nat → Int32, L 1 = 0 → (∀ k, k ≠ 1 → L k = A 7 k) → CR ad B (aw A 7 L) σ' := by
  have hA := hE.1
  have lw : zN A 7 1 ≤ 40 := hE.2.2.2.2.1.1.2.1.2
  have h10 := hC.2.2.2.2.2.2.2.2.2.1
  have hl := hC.nw
  have hloop : ∀ σ0 : Cs, σ0.1 53 = σ.1 53 → ∃ g, f_J2_clear_L27 F (ad 51) (Int32.ofNat (zN A 7 1)) F 0 (cM X ad σ0 B) = some (cM X ad (csQ σ0 51 g) B) := by
    intro σ0 e53
    refine for_up (L := fun n i (s : Nat → Option Nat) => f_J2_clear_L27 F (ad 51) (Int32.ofNat (zN A 7 1)) n i (cM X ad (csQ σ0 51 s) B)) (N := zN A 7 1) (Inv := fun _ _ => True) (Post := fun r => ∃ g, r = some (cM X ad (csQ σ0 51 g) B)) ?_ ?_ (zN A 7 1) 0 F (σ0.2.2.2 51) (Nat.zero_add _) (by omega) trivial |> fun h => by
      have e : csQ σ0 51 (σ0.2.2.2 51) = σ0 := csQ_id σ0 51
      rw [e] at h
      exact h
    · intro n k s hk _
      obtain ⟨b1, b2, b3⟩ : B.1 (ad 51) = none ∧ zN A 7 1 ≤ (σ.1 53).toNatClampNeg ∧ (σ.1 53).toNatClampNeg < 1000 := by
        rcases h10.2.1 with l2 | ⟨l2, -⟩
        · exact l2
        · omega
      have hs : sQ (cM X ad (csQ σ0 51 s) B) 6 (ad 51) (Int32.ofNat k) none = some (cM X ad (csQ (csQ σ0 51 s) 51 (va_up ((csQ σ0 51 s).2.2.2 51) k none)) B) := R_sQ hA (by decide) b1 (show cK (csQ σ0 51 s) 51 = (3, 6, (σ0.1 53).toNatClampNeg) from rfl) (by rw [e53]; omega) (by rw [e53]; omega)
      rw [csQ_csQ] at hs
      refine Or.inl ⟨va_up ((csQ σ0 51 s).2.2.2 51) k none, trivial, ?_⟩
      · show f_J2_clear_L27_b F (ad 51) (Int32.ofNat (zN A 7 1)) (f_J2_clear_L27 F (ad 51) (Int32.ofNat (zN A 7 1)) n) (Int32.ofNat k) _ = _
        unfold f_J2_clear_L27_b
        simp (disch := omega) only [Option.bind_some, Option.bind_none, nmE, n_pp, n_pl, n_lp, n_mm, n_ml, n_lm, csI_s, csI_n, csI_2, csA_1, csA_s, csA_n, csA_2, csL_1, csL_2, csL_s, csL_n, csL_3, csQ_1, csQ_2, csQ_3, csQ_s, csQ_n, nar0, c_le, c_le_l, c_le_r, c_lt, c_lt_l, c_lt_r, c_eq, c_eq_l, c_eq_r, if_true, if_false, if_pos, if_neg, hs]
    · intro n s _
      refine ⟨s, ?_⟩
      show f_J2_clear_L27_b F (ad 51) (Int32.ofNat (zN A 7 1)) (f_J2_clear_L27 F (ad 51) (Int32.ofNat (zN A 7 1)) n) (Int32.ofNat (zN A 7 1)) _ = _
      unfold f_J2_clear_L27_b
      simp (disch := omega) only [Option.bind_some, Option.bind_none, nmE, n_pp, n_pl, n_lp, n_mm, n_ml, n_lm, csI_s, csI_n, csI_2, csA_1, csA_s, csA_n, csA_2, csL_1, csL_2, csL_s, csL_n, csL_3, csQ_1, csQ_2, csQ_3, csQ_s, csQ_n, nar0, c_le, c_le_l, c_le_r, c_lt, c_lt_l, c_lt_r, c_eq, c_eq_l, c_eq_r, if_true, if_false, if_pos, if_neg]
  obtain ⟨g, hg⟩ := hloop (csI (csI σ 50 (σ.1 50 + 1)) 52 0) rfl
  refine ⟨csQ (csI (csI σ 50 (σ.1 50 + 1)) 52 0) 51 g, ?_, rfl, fun L l1 lo => ?_⟩
  · unfold f_J2_clear
    simp (disch := omega) only [Option.bind_some, Option.bind_none, nmE, n_pp, n_pl, n_lp, n_mm, n_ml, n_lm, csI_s, csI_n, csI_2, csA_1, csA_s, csA_n, csA_2, csL_1, csL_2, csL_s, csL_n, csL_3, csQ_1, csQ_2, csQ_3, csQ_s, csQ_n, nar0, c_le, c_le_l, c_le_r, c_lt, c_lt_l, c_lt_r, c_eq, c_eq_l, c_eq_r, if_true, if_false, if_pos, if_neg, o50_0 hA, p50_0 hA, o50_1 hA, o50_2 hA, p50_2 hA, hl]
    exact hg
  · obtain ⟨⟨p1, p2, p3, p4, p5⟩, h2, h3, h4, h5, h6, h7, h8, ⟨h9, h9', h9''⟩, h10, h11, h12⟩ := hC
    have z1 : zN (aw A 7 L) 7 1 = 0 := by unfold zN; rw [aw_s, l1]; rfl
    have z2 : zN (aw A 7 L) 7 2 = zN A 7 2 := by unfold zN; rw [aw_s, lo 2 (by omega)]
    refine ⟨⟨p1, p2, p3, p4, ?_⟩, h2, h3, ?_, ?_, ?_, h7, h8, ⟨h9, h9', h9''⟩, ?_, ?_, fun s hs => ?_⟩
    · rw [aw_s, lo 0 (by omega)]; exact p5
    · rw [aw_s]
      intro i hi
      rw [lo _ (by omega)]
      exact h4 i hi
    · rw [aw_s]
      intro i hi
      rw [lo _ (by omega)]
      exact h5 i hi
    · rw [aw_s]
      intro i hi
      rw [lo _ (by omega)]
      exact h6 i hi
    · rw [z1]
      refine ⟨rfl, ?_, fun j hj => absurd hj (Nat.not_lt_zero j)⟩
      rcases h10.2.1 with ⟨a, b, c⟩ | ⟨a, b⟩
      · exact Or.inl ⟨a, Nat.zero_le _, c⟩
      · exact Or.inr ⟨rfl, b⟩
    · rw [z2]
      refine h11.gr (fun _ _ h => h) rfl (fun h => h) rfl rfl rfl rfl (fun _ _ => rfl) (fun j hj => ?_)
      rw [aw_s, lo _ (by omega), lo _ (by omega), lo _ (by omega), lo _ (by omega)]
    · rcases h12 s hs with h | ⟨a, b, c, d⟩
      · exact Or.inl h
      · refine Or.inr ⟨a, b, c, ?_⟩
        have : rowL (aw A 7 L) (s + 1) = rowL A (s + 1) := by
          funext k
          show aw A 7 L 7 (420 * (s + 1) + k) = A 7 (420 * (s + 1) + k)
          rw [aw_s, lo _ (by omega)]
        rw [this]
        exact d
theorem WF.cl {L : Nat → Int32} (hW : WF A) (l1 : L 1 = 0) (lo : ∀ k, k ≠ 1 → L k = A 7 k) : WF (aw A 7 L) := by
  obtain ⟨⟨m0, m1, m2⟩, w1, w2, w3, w4, w5, w6⟩ := hW.2.2.1
  refine hW.lv ⟨⟨by rw [lo 0 (by omega)]; exact m0, by rw [l1]; exact isN.of (k := 0) (by omega) (by omega), by rw [lo 2 (by omega)]; exact m2⟩, fun h hh => by rw [lo _ (by omega)]; exact w1 h hh, fun h hh => by rw [lo _ (by omega)]; exact w2 h hh, fun h i hh hi => by rw [lo _ (by omega), lo _ (by omega)]; exact w3 h i hh hi, fun w hw => by rw [lo _ (by omega)]; exact w4 w hw, fun j hj => ?_, fun j hj => ?_⟩ (fun k hk => lo k (by omega))
  · rw [l1] at hj
    exact absurd hj (Nat.not_lt_zero j)
  · rw [lo 2 (by omega)] at hj
    rw [lo _ (by omega), lo _ (by omega), lo _ (by omega)]
    exact w6 j hj
theorem st_19 (hF : 1000000 ≤ F) (h : INV ad B A σ τ) (x : Nat → Int32) : ST F 19 x X ad B σ τ := by
  have hI := h
  obtain ⟨hE, hK, hC, hT⟩ := h
  have hA := hE.1
  have ew : A 7 1 = Int32.ofNat (zN A 7 1) := hE.2.2.2.2.1.1.2.1.1
  have h1 : stC F 19 (ad 0) x (cM X ad σ B) = f_X0_forget F (ad 0) (cM X ad σ B) := rfl
  have h2 : stT F 19 x τ = t_X9_forget F τ := rfl
  unfold f_X0_forget at h1
  unfold t_X9_forget at h2
  obtain ⟨σ', e1, -, hC'⟩ := clear50 (X := X) (F := F) (by omega) hE hC
  simp (disch := omega) only [Option.bind_some, Option.bind_none, nmE, n_pp, n_pl, n_lp, n_mm, n_ml, n_lm, csI_s, csI_n, csI_2, csA_1, csA_s, csA_n, csA_2, csL_1, csL_2, csL_s, csL_n, csL_3, csQ_1, csQ_2, csQ_3, csQ_s, csQ_n, nar0, c_le, c_le_l, c_le_r, c_lt, c_lt_l, c_lt_r, c_eq, c_eq_l, c_eq_r, if_true, if_false, if_pos, if_neg, o0_4 hA, o46_4 hA, oc50 hA, size50 hA, hC.nw, e1] at h1
  simp (disch := omega) only [Option.bind_some, Option.bind_none, nmE, n_pp, n_pl, n_lp, n_mm, n_ml, n_lm, taI_n, taI_l, tsA_n, tsA_l, nar0, twA_1, twA_s, twA_n, twA_2, twA_twA, tsI_s, tsI_n, tsI_2, c_le, c_le_l, c_le_r, c_lt, c_lt_l, c_lt_r, c_eq, c_eq_l, c_eq_r, if_true, if_false, if_pos, if_neg, hT.2 7 rfl, ew] at h2
  have l1 : upd (A 7) 1 0 1 = 0 := up_s _ _ _
  have lo : ∀ k, k ≠ 1 → upd (A 7) 1 0 k = A 7 k := fun k hk => up_n _ _ _ _ hk
  exact ST.rw hI h1 h2 (hE.2.1.aw rfl) (hE.2.2.cl l1 lo) (hC' _ l1 lo) (hT.W (by decide))
