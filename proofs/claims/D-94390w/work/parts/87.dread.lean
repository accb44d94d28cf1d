set_option maxRecDepth 100000
/-! 27, 28: chains -/
variable {X : Nat → Option Ob} {ad : Nat → Nat} {B : Sw} {A A' : Av} {σ σ' : Cs} {τ : Tw} {F : Nat}
theorem csA_id (σ : Cs) (r : Nat) : csA σ r (σ.2.1 r) = σ := by
  have e : (fun q => if q = r then σ.2.1 r else σ.2.1 q) = σ.2.1 := by
    funext q
    by_cases h : q = r
    · rw [if_pos h, h]
    · rw [if_neg h]
  show (σ.1, (fun q => if q = r then σ.2.1 r else σ.2.1 q), σ.2.2) = σ
  rw [e]
theorem twA_id (τ : Tw) (r : Nat) : twA τ r (τ.2.1 r) = τ := by
  have e : (fun q => if q = r then τ.2.1 r else τ.2.1 q) = τ.2.1 := by
    funext q
    by_cases h : q = r
    · rw [if_pos h, h]
    · rw [if_neg h]
  show (τ.1, (fun q => if q = r then τ.2.1 r else τ.2.1 q), τ.2.2) = τ
  rw [e]
theorem mx_n {a b : Nat} (ha : a < 2147483648) (hb : b < 2147483648) : mx (Int32.ofNat a) (Int32.ofNat b) = Int32.ofNat (max a b) := by
  unfold mx
  simp (disch := omega) only [Option.bind_some, Option.bind_none, nmE, n_pp, n_pl, n_lp, n_mm, n_ml, n_lm, csI_s, csI_n, csI_2, csA_1, csA_s, csA_n, csA_2, csL_1, csL_2, csL_s, csL_n, csL_3, csQ_1, csQ_2, csQ_3, csQ_s, csQ_n, nar0, c_le, c_le_l, c_le_r, c_lt, c_lt_l, c_lt_r, c_eq, c_eq_l, c_eq_r, if_true, if_false, if_pos, if_neg]
  by_cases h : a < b
  · rw [if_pos h, Nat.max_eq_right (by omega)]
  · rw [if_neg h, Nat.max_eq_left (by omega)]
theorem mx_m {a : Nat} (ha : a < 2147483648) : mx (Int32.ofNat a) (-1) = Int32.ofNat a := by
  unfold mx
  rw [if_neg]
  intro c
  rw [Int32.lt_iff_toInt_lt, i_tn ha] at c
  have : (-1 : Int32).toInt = -1 := rfl
  omega
theorem gSet_C (hF : 1000 ≤ F) (hE : EV ad B A) {h0 : Nat} (h16 : h0 < 16) {w : Int32} {K : Sw → Option (Int32 × Sw)} : ∃ g, f_X0_chains_L2 F K (ad 0) (Int32.ofNat h0) w F 0 (cM X ad σ B) = K (cM X ad (csA σ 31 g) B) ∧ ∀ i, i < zN A 6 0 → g i = if i = h0 then 0 else -1 := by
  have hA := hE.1
  have lH := hE.2.2.H.2
  refine for_up (L := fun n i (s : Nat → Int32) => f_X0_chains_L2 F K (ad 0) (Int32.ofNat h0) w n i (cM X ad (csA σ 31 s) B)) (N := zN A 6 0) (Inv := fun k s => ∀ i, i < k → s i = if i = h0 then 0 else -1) (Post := fun r => ∃ g, r = K (cM X ad (csA σ 31 g) B) ∧ ∀ i, i < zN A 6 0 → g i = if i = h0 then 0 else -1) ?_ ?_ (zN A 6 0) 0 F (σ.2.1 31) (Nat.zero_add _) (by omega) (fun i hi => absurd hi (Nat.not_lt_zero i)) |> fun h => by
    have e : csA σ 31 (σ.2.1 31) = σ := csA_id σ 31
    rw [e] at h
    exact h
  · intro n k s hk hI
    refine Or.inl ⟨upd s k (if k = h0 then 0 else -1), fun i hi => ?_, ?_⟩
    · by_cases e : i = k
      · rw [e, up_s]
      · rw [up_n _ _ _ _ e]; exact hI i (by omega)
    · show f_X0_chains_L2_b F K (ad 0) (Int32.ofNat h0) w (f_X0_chains_L2 F K (ad 0) (Int32.ofNat h0) w n) (Int32.ofNat k) _ = _
      unfold f_X0_chains_L2_b
      simp (disch := omega) only [Option.bind_some, Option.bind_none, nmE, n_pp, n_pl, n_lp, n_mm, n_ml, n_lm, csI_s, csI_n, csI_2, csA_1, csA_s, csA_n, csA_2, csL_1, csL_2, csL_s, csL_n, csL_3, csQ_1, csQ_2, csQ_3, csQ_s, csQ_n, nar0, c_le, c_le_l, c_le_r, c_lt, c_lt_l, c_lt_r, c_eq, c_eq_l, c_eq_r, if_true, if_false, if_pos, if_neg, oc0 hA, houses_C hE, o0_18 hA, s31 hA, csA_csA]
      by_cases e : k = h0
      · rw [if_pos e, if_pos e]
      · rw [if_neg e, if_neg e]
  · intro n s hI
    refine ⟨s, ?_, hI⟩
    show f_X0_chains_L2_b F K (ad 0) (Int32.ofNat h0) w (f_X0_chains_L2 F K (ad 0) (Int32.ofNat h0) w n) (Int32.ofNat (zN A 6 0)) _ = _
    unfold f_X0_chains_L2_b
    simp (disch := omega) only [Option.bind_some, Option.bind_none, nmE, n_pp, n_pl, n_lp, n_mm, n_ml, n_lm, csI_s, csI_n, csI_2, csA_1, csA_s, csA_n, csA_2, csL_1, csL_2, csL_s, csL_n, csL_3, csQ_1, csQ_2, csQ_3, csQ_s, csQ_n, nar0, c_le, c_le_l, c_le_r, c_lt, c_lt_l, c_lt_r, c_eq, c_eq_l, c_eq_r, if_true, if_false, if_pos, if_neg, oc0 hA, houses_C hE]
theorem fSet_T (hF : 1000 ≤ F) {a w : Int32} {K : Tw → Option Tw} : ∃ g, t_X9_chains_L2 F K a w F 0 τ = K (twA τ 32 g) ∧ ∀ i, i < 16 → g i = -2 := by
  refine for_up (L := fun n i (s : Nat → Int32) => t_X9_chains_L2 F K a w n i (twA τ 32 s)) (N := 16) (Inv := fun k s => ∀ i, i < k → s i = -2) (Post := fun r => ∃ g, r = K (twA τ 32 g) ∧ ∀ i, i < 16 → g i = -2) ?_ ?_ 16 0 F (τ.2.1 32) (Nat.zero_add _) (by omega) (fun i hi => absurd hi (Nat.not_lt_zero i)) |> fun h => by
    have e : twA τ 32 (τ.2.1 32) = τ := twA_id τ 32
    rw [e] at h
    exact h
  · intro n k s hk hI
    refine Or.inl ⟨upd s k (-2), fun i hi => ?_, ?_⟩
    · by_cases e : i = k
      · rw [e, up_s]
      · rw [up_n _ _ _ _ e]; exact hI i (by omega)
    · show t_X9_chains_L2_b F K a w (t_X9_chains_L2 F K a w n) (Int32.ofNat k) _ = _
      unfold t_X9_chains_L2_b
      simp (disch := omega) only [Option.bind_some, Option.bind_none, nmE, n_pp, n_pl, n_lp, n_mm, n_ml, n_lm, taI_n, taI_l, tsA_n, tsA_l, nar0, twA_1, twA_s, twA_n, twA_2, twA_twA, tsI_s, tsI_n, tsI_2, c_le, c_le_l, c_le_r, c_lt, c_lt_l, c_lt_r, c_eq, c_eq_l, c_eq_r, if_true, if_false, if_pos, if_neg]
  · intro n s hI
    refine ⟨s, ?_, hI⟩
    show t_X9_chains_L2_b F K a w (t_X9_chains_L2 F K a w n) (Int32.ofNat 16) _ = _
    unfold t_X9_chains_L2_b
    simp (disch := omega) only [Option.bind_some, Option.bind_none, nmE, n_pp, n_pl, n_lp, n_mm, n_ml, n_lm, taI_n, taI_l, tsA_n, tsA_l, nar0, twA_1, twA_s, twA_n, twA_2, twA_twA, tsI_s, tsI_n, tsI_2, c_le, c_le_l, c_le_r, c_lt, c_lt_l, c_lt_r, c_eq, c_eq_l, c_eq_r, if_true, if_false, if_pos, if_neg]
theorem bit_n0 {k : Nat} (h : k < 32) : ¬ (0 : Int32) = bit k := fun e => by
  have := tb_bit h h
  rw [← e, tb_0, decide_eq_true rfl] at this
  cases this
theorem bit_1 {k : Nat} (h : k < 16) : 1 ≤ (bit k).toBitVec.toNat := by
  have : ∀ k, k < 16 → 1 ≤ (bit k).toBitVec.toNat := by decide +kernel
  exact this k h
theorem chains_CT (hF : 100000 ≤ F) (hE : EV ad B A) (hC : CR ad B A σ) (hT : TR A τ) {h0 : Nat} (hh : h0 < zN A 6 0) {w : Int32} : ∃ A' σ' τ' l, irr A A' ∧ CR ad B A' σ' ∧ TR A' τ' ∧ chE A' (σ'.2.1 31) l ∧ tb (A' 0 48) h0 = true ∧ f_X0_chains F (ad 0) (Int32.ofNat h0) w (cM X ad σ B) = some (pc (A' 0 48), cM X ad σ' B) ∧ t_X9_chains F (Int32.ofNat h0) w τ = some τ' := by
  have hA := hE.1
  have lH := hE.2.2.H.2
  obtain ⟨g, c1, hg⟩ := gSet_C (X := X) (F := F) (σ := σ) (by omega) hE (h0 := h0) (by omega) (w := w) (K := fun μ1 => nm ((1 : Int32) <<< (Int32.ofNat h0 &&& 31)) fun x2 => f_X0_chains_L42 F (ad 0) w F x2 0 1 μ1)
  obtain ⟨f, t1, hf⟩ := fSet_T (F := F) (τ := τ) (by omega) (a := Int32.ofNat h0) (w := w) (K := fun τ1 => Option.bind (tsA τ1 32 0 16 (Int32.ofNat h0) 0) fun τ3 => nm (tsI τ3 48 ((1 : Int32) <<< (Int32.ofNat h0 &&& 31))) fun τ4 => nm (tsI τ4 49 0) fun τ6 => t_X9_chains_L46 F w F 1 1 τ6)
  have hT1 : TR (aw A 32 (upd f h0 0)) (twA τ 32 (upd f h0 0)) := hT.W (by decide)
  have hT2 := (hT1.I (k := 48) (v := bit h0)).I (k := 49) (v := 0)
  have r1 : irr A (aw A 32 (upd f h0 0)) := irr.w (by omega)
  have r2 : irr (aw A 32 (upd f h0 0)) _ := irr.i (A := aw A 32 (upd f h0 0)) (z := 48) (v := bit h0) (by omega)
  have r3 : irr _ _ := irr.i (A := aw (aw A 32 (upd f h0 0)) 0 (upd (aw A 32 (upd f h0 0) 0) 48 (bit h0))) (z := 49) (v := 0) (by omega)
  have rr := (r1.tr r2).tr r3
  generalize hA2 : aw (aw (aw A 32 (upd f h0 0)) 0 (upd (aw A 32 (upd f h0 0) 0) 48 (bit h0))) 0 (upd (aw (aw A 32 (upd f h0 0)) 0 (upd (aw A 32 (upd f h0 0) 0) 48 (bit h0)) 0) 49 0) = A2 at hT2 rr
  have a48 : A2 0 48 = bit h0 := by rw [← hA2]; rfl
  have a49 : A2 0 49 = 0 := by rw [← hA2]; rfl
  have a32 : A2 32 = upd f h0 0 := by rw [← hA2]; rfl
  have a6 : zN A2 6 0 = zN A 6 0 := by rw [← hA2]; rfl
  have hC1 : CR ad B A (csA σ 31 g) := hC.a rfl
  have b1 := bit_1 (show h0 < 16 by omega)
  obtain ⟨A', σ', τ', l, p1, p2, p3, p4, p5, p6, p7⟩ := fall_CT (X := X) (F := F) (by omega) (wind := w) 65537 1 F F 0 A2 (csA σ 31 g) _ 0 (by omega) (by omega) (by omega) (by omega) (by rw [a48]; exact b1) (rr.ev hE) (rr.cr hC1) hT2 (by rw [a48]; exact bit_n0 (by omega)) ⟨fun h hh2 => by
    rw [a6] at hh2
    rw [csA_s, hg h hh2, a32, a48, tb_bit (by omega) (by omega)]
    by_cases e : h = h0
    · rw [if_pos e, e, up_s, decide_eq_true rfl]
      exact Or.inr ⟨0, Nat.le_refl _, rfl, rfl, rfl⟩
    · rw [if_neg e, up_n _ _ _ _ e, decide_eq_false e]
      exact Or.inl ⟨rfl, hf h (by omega), rfl⟩, a49, Or.inl rfl, by omega, by rw [a48]; exact b16.bt (by omega)⟩
  refine ⟨A', σ', τ', l, rr.tr p1, p2, p3, p4, p5 h0 (by omega) (by rw [a48, tb_bit (by omega) (by omega), decide_eq_true rfl]), ?_, ?_⟩
  · unfold f_X0_chains
    rw [c1, nmE, bit_ofNat, ← a48]
    exact p6
  · unfold t_X9_chains
    rw [t1, ← p7, bit_ofNat]
    simp (disch := omega) only [Option.bind_some, Option.bind_none, nmE, n_pp, n_pl, n_lp, n_mm, n_ml, n_lm, taI_n, taI_l, tsA_n, tsA_l, nar0, twA_1, twA_s, twA_n, twA_2, twA_twA, tsI_s, tsI_n, tsI_2, c_le, c_le_l, c_le_r, c_lt, c_lt_l, c_lt_r, c_eq, c_eq_l, c_eq_r, if_true, if_false, if_pos, if_neg]
    rfl
/-- 27: the latest round -/
theorem last_C (hF : 1000 ≤ F) (hE : EV ad B A) {l : Nat} (hP : chE A (σ.2.1 31) l) : f_X0_chain_L91 F (ad 0) (cM X ad σ B) F 0 0 = some (Int32.ofNat l, cM X ad σ B) := by
  have hA := hE.1
  have lH := hE.2.2.H.2
  refine for_up (L := fun n i s => f_X0_chain_L91 F (ad 0) (cM X ad σ B) n s i) (N := zN A 6 0) (Inv := fun k s => ∃ m, m ≤ l ∧ s = Int32.ofNat m ∧ ∀ h j, h < k → j < 70000 → σ.2.1 31 h = Int32.ofNat j → j ≤ m) (Post := fun r => r = some (Int32.ofNat l, cM X ad σ B)) ?_ ?_ (zN A 6 0) 0 F 0 (Nat.zero_add _) (by omega) ⟨0, Nat.zero_le _, rfl, fun h j hh => absurd hh (Nat.not_lt_zero h)⟩
  · rintro n k s hk ⟨m, hm, rfl, hI⟩
    have hl := hP.2.2.2.1
    refine Or.inl ⟨mx (Int32.ofNat m) (σ.2.1 31 k), ?_, ?_⟩
    · rcases hP.1 k hk with ⟨e, -⟩ | ⟨j, hj, e, -⟩
      · refine ⟨m, hm, ?_, fun h j hh hj e2 => ?_⟩
        · rw [e, mx_m (by omega)]
        · by_cases ek : h = k
          · rw [ek, e] at e2
            exact absurd e2.symm (ofNat_ne_m1 (by omega))
          · exact hI h j (by omega) hj e2
      · refine ⟨max m j, by omega, ?_, fun h j2 hh hj2 e2 => ?_⟩
        · rw [e, mx_n (by omega) (by omega)]
        · by_cases ek : h = k
          · rw [ek, e] at e2
            have := congrArg Int32.toInt e2
            rw [i_tn (by omega), i_tn (by omega)] at this
            omega
          · have := hI h j2 (by omega) hj2 e2
            omega
    · show f_X0_chain_L91_b F (ad 0) (cM X ad σ B) (f_X0_chain_L91 F (ad 0) (cM X ad σ B) n) (Int32.ofNat m) (Int32.ofNat k) = _
      unfold f_X0_chain_L91_b
      simp (disch := omega) only [Option.bind_some, Option.bind_none, nmE, n_pp, n_pl, n_lp, n_mm, n_ml, n_lm, csI_s, csI_n, csI_2, csA_1, csA_s, csA_n, csA_2, csL_1, csL_2, csL_s, csL_n, csL_3, csQ_1, csQ_2, csQ_3, csQ_s, csQ_n, nar0, c_le, c_le_l, c_le_r, c_lt, c_lt_l, c_lt_r, c_eq, c_eq_l, c_eq_r, if_true, if_false, if_pos, if_neg, oc0 hA, houses_C hE, o0_18 hA, a31 hA]
  · rintro n s ⟨m, hm, rfl, hI⟩
    have hml : m = l := by
      rcases hP.2.2.1 with h0 | ⟨h, hh, e⟩
      · omega
      · have := hI h l hh hP.2.2.2.1 e
        omega
    show f_X0_chain_L91_b F (ad 0) (cM X ad σ B) (f_X0_chain_L91 F (ad 0) (cM X ad σ B) n) (Int32.ofNat m) (Int32.ofNat (zN A 6 0)) = _
    unfold f_X0_chain_L91_b
    simp (disch := omega) only [Option.bind_some, Option.bind_none, nmE, n_pp, n_pl, n_lp, n_mm, n_ml, n_lm, csI_s, csI_n, csI_2, csA_1, csA_s, csA_n, csA_2, csL_1, csL_2, csL_s, csL_n, csL_3, csQ_1, csQ_2, csQ_3, csQ_s, csQ_n, nar0, c_le, c_le_l, c_le_r, c_lt, c_lt_l, c_lt_r, c_eq, c_eq_l, c_eq_r, if_true, if_false, if_pos, if_neg, oc0 hA, houses_C hE]
    rw [hml]
