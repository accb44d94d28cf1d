set_option maxRecDepth 100000
/-! who is reached: the component's side, and the steps that ask for it -/
variable {X : Nat → Option Ob} {ad : Nat → Nat} {B : Sw} {A A' : Av} {σ σ' : Cs} {τ : Tw} {F : Nat}
theorem round_C (hF : 1000 ≤ F) (hE : EV ad B A) (hC : CR ad B A σ) {t ns dry w c6 v : Int32} {K : Int32 → Option Int32} (hwd : ∀ i, i < zN A 6 0 → tb w i = !tb dry i) : f_X0_reachedBy_L89 F K (ad 0) t ns w c6 (cM X ad σ B) F v 0 = K (sRd A t ns dry v (zN A 6 3)) := by
  have hA := hE.1
  have hB := hE.2.1
  obtain ⟨eS, lS⟩ := hE.2.2.S
  refine for_up (L := fun n i s => f_X0_reachedBy_L89 F K (ad 0) t ns w c6 (cM X ad σ B) n s i) (N := zN A 6 3) (Inv := fun k s => s = sRd A t ns dry v k) (Post := fun r => r = K (sRd A t ns dry v (zN A 6 3))) ?_ ?_ (zN A 6 3) 0 F v (Nat.zero_add _) (by omega) rfl
  · intro n k s hk e
    subst e
    refine Or.inl ⟨_, rfl, ?_⟩
    show f_X0_reachedBy_L89_b F K (ad 0) t ns w c6 (cM X ad σ B) (f_X0_reachedBy_L89 F K (ad 0) t ns w c6 (cM X ad σ B) n) _ (Int32.ofNat k) = f_X0_reachedBy_L89 F K (ad 0) t ns w c6 (cM X ad σ B) n (sSt A t ns dry k (sRd A t ns dry v k)) _
    generalize sRd A t ns dry v k = u
    unfold f_X0_reachedBy_L89_b
    simp (disch := omega) only [Option.bind_some, Option.bind_none, nmE, n_pp, n_pl, n_lp, n_mm, n_ml, n_lm, csI_s, csI_n, csI_2, csA_1, csA_s, csA_n, csA_2, csL_1, csL_2, csL_s, csL_n, csL_3, csQ_1, csQ_2, csQ_3, csQ_s, csQ_n, nar0, c_le, c_le_l, c_le_r, c_lt, c_lt_l, c_lt_r, c_eq, c_eq_l, c_eq_r, if_true, if_false, if_pos, if_neg, o0_3 hA, hB.tw, hB.sn F, hB.ss F hk, oc0 hA, by_C hE hC hk]
    by_cases h1 : Int32.ofNat k = ns
    · have e : sSt A t ns dry k u = u := by unfold sSt; rw [if_pos h1]
      rw [if_pos h1, e]
    · rw [if_neg h1, by_eq hE.2.2 hk hwd h1]
  · intro n s e
    subst e
    show f_X0_reachedBy_L89_b F K (ad 0) t ns w c6 (cM X ad σ B) (f_X0_reachedBy_L89 F K (ad 0) t ns w c6 (cM X ad σ B) n) _ (Int32.ofNat (zN A 6 3)) = _
    unfold f_X0_reachedBy_L89_b
    simp (disch := omega) only [Option.bind_some, Option.bind_none, nmE, n_pp, n_pl, n_lp, n_mm, n_ml, n_lm, csI_s, csI_n, csI_2, csA_1, csA_s, csA_n, csA_2, csL_1, csL_2, csL_s, csL_n, csL_3, csQ_1, csQ_2, csQ_3, csQ_s, csQ_n, nar0, c_le, c_le_l, c_le_r, c_lt, c_lt_l, c_lt_r, c_eq, c_eq_l, c_eq_r, if_true, if_false, if_pos, if_neg, o0_3 hA, hB.tw, hB.sn F]
theorem fix_C (hF : 100000 ≤ F) (hE : EV ad B A) (hC : CR ad B A σ) {t ns dry w : Int32} (hwd : ∀ i, i < zN A 6 0 → tb w i = !tb dry i) : ∀ (m n : Nat) (v p : Int32), 65536 < m + v.toBitVec.toNat → m < n → b16 v → p ≠ v → f_X0_reachedBy_L75 F (ad 0) t ns w (cM X ad σ B) n v p = some (sFx A t ns dry m v) := by
  intro m
  induction m with
  | zero => intro n v p h1 h2 hv; have := hv.lt; omega
  | succ m ih =>
    intro n v p h1 h2 hv hp
    obtain ⟨n, rfl⟩ : ∃ q, n = q + 1 := ⟨n - 1, by omega⟩
    show f_X0_reachedBy_L75_b F (ad 0) t ns w (cM X ad σ B) (f_X0_reachedBy_L75 F (ad 0) t ns w (cM X ad σ B) n) v p = _
    unfold f_X0_reachedBy_L75_b
    rw [if_neg hp, round_C (by omega) hE hC hwd]
    obtain ⟨g1, g2⟩ := sRd_b hE.2.2 (t := t) (ns := ns) (dry := dry) hv (zN A 6 3) (Nat.le_refl _)
    show f_X0_reachedBy_L75 F (ad 0) t ns w (cM X ad σ B) n (sRd A t ns dry v (zN A 6 3)) v = some (if sRd A t ns dry v (zN A 6 3) = v then v else sFx A t ns dry m (sRd A t ns dry v (zN A 6 3)))
    by_cases h : sRd A t ns dry v (zN A 6 3) = v
    · rw [if_pos h, h]
      obtain ⟨n, rfl⟩ : ∃ q, n = q + 1 := ⟨n - 1, by omega⟩
      show f_X0_reachedBy_L75_b F (ad 0) t ns w (cM X ad σ B) (f_X0_reachedBy_L75 F (ad 0) t ns w (cM X ad σ B) n) v v = _
      unfold f_X0_reachedBy_L75_b
      rw [if_pos rfl]
    · rw [if_neg h]
      have := grow g2 h
      exact ih n _ v (by omega) (by omega) g1 (fun z => h z.symm)
theorem tb_wet {t : Int32} : ∀ k, k ≤ 16 → ∀ i, i < 32 → tb (sWet A t k) i = decide (i < k ∧ ¬ t ≤ sHt A i) := by
  intro k
  induction k with
  | zero => intro _ i hi; show tb 0 i = _; rw [tb_0]; simp
  | succ k ih =>
    intro hk i hi
    show tb (if t ≤ sHt A k then sWet A t k else sWet A t k ||| bit k) i = _
    by_cases h : t ≤ sHt A k
    · rw [if_pos h, ih (by omega) i hi]
      by_cases e : i = k
      · subst e
        simp [h]
      · have : (i < k + 1) ↔ (i < k) := by omega
        simp only [this]
    · rw [if_neg h, tb_or, ih (by omega) i hi, tb_bit (by omega) hi]
      by_cases e : i = k
      · subst e
        simp [h]
      · have : (i < k + 1) ↔ (i < k) := by omega
        simp only [this, e]
        simp
theorem tb_dry {t nh : Int32} : ∀ k, k ≤ 16 → ∀ i, i < 32 → tb (sDry A t nh k) i = decide (i < k ∧ t ≤ sHt A i ∧ Int32.ofNat i ≠ nh) := by
  intro k
  induction k with
  | zero => intro _ i hi; show tb 0 i = _; rw [tb_0]; simp
  | succ k ih =>
    intro hk i hi
    show tb (if sHt A k < t then sDry A t nh k else if Int32.ofNat k = nh then sDry A t nh k else sDry A t nh k ||| bit k) i = _
    by_cases h : sHt A k < t
    · rw [if_pos h, ih (by omega) i hi]
      by_cases e : i = k
      · subst e
        have h2 : ¬ t ≤ sHt A i := Int32.not_le.mpr h
        simp [h2]
      · have : (i < k + 1) ↔ (i < k) := by omega
        simp only [this]
    · have h2 : t ≤ sHt A k := Int32.not_lt.mp h
      rw [if_neg h]
      by_cases h3 : Int32.ofNat k = nh
      · rw [if_pos h3, ih (by omega) i hi]
        by_cases e : i = k
        · subst e
          simp [h3]
        · have : (i < k + 1) ↔ (i < k) := by omega
          simp only [this]
      · rw [if_neg h3, tb_or, ih (by omega) i hi, tb_bit (by omega) hi]
        by_cases e : i = k
        · subst e
          simp [h2, h3]
        · have : (i < k + 1) ↔ (i < k) := by omega
          simp only [this, e]
          simp
theorem tb_qy {dry : Int32} (hW : WF A) : ∀ k, k ≤ zN A 6 4 → ∀ i, i < 32 → tb (sQy A dry k) i = (decide (∃ q, q < k ∧ zN A 6 (160 + q) = i) && tb dry i) := by
  have lH := hW.H.2
  intro k
  induction k with
  | zero => intro _ i hi; show tb 0 i = _; rw [tb_0]; simp
  | succ k ih =>
    intro hk i hi
    show tb (sQy A dry k ||| (bit (zN A 6 (160 + k)) &&& dry)) i = _
    have l := (hW.qy (q := k) (by omega)).2
    rw [tb_or, tb_and, ih (by omega) i hi, tb_bit (by omega) hi]
    have e : (∃ q, q < k + 1 ∧ zN A 6 (160 + q) = i) ↔ (∃ q, q < k ∧ zN A 6 (160 + q) = i) ∨ i = zN A 6 (160 + k) := by
      constructor
      · intro ⟨q, h1, h2⟩
        by_cases h : q = k
        · subst h
          exact Or.inr h2.symm
        · exact Or.inl ⟨q, by omega, h2⟩
      · intro h
        rcases h with ⟨q, h1, h2⟩ | h
        · exact ⟨q, by omega, h2⟩
        · exact ⟨k, by omega, h.symm⟩
    rw [decide_eq_decide.mpr e, Bool.decide_or, Bool.and_or_distrib_right]
theorem quay_C (hF : 1000 ≤ F) (hE : EV ad B A) {t ns w : Int32} {K : Int32 → Option Int32} : ∃ v, f_X0_reachedBy_L26 F K (ad 0) t ns w (cM X ad σ B) F 0 0 = K v ∧ ∀ i, i < 32 → tb v i = decide (∃ q, q < zN A 6 4 ∧ zN A 6 (160 + q) = i) := by
  have hA := hE.1
  have hB := hE.2.1
  obtain ⟨eH, lH⟩ := hE.2.2.H
  obtain ⟨f, hf1, hf2⟩ := hB.2.2.2.2.2.2.2.1
  have hq : ∀ i, i < 16 → (f i = 0 ↔ ¬ ∃ q, q < zN A 6 4 ∧ zN A 6 (160 + q) = i) := by
    intro i hi
    rcases hf2 i hi with ⟨h1, q, h2, h3⟩ | ⟨h1, h2⟩
    · constructor
      · intro z; rw [h1] at z; cases z
      · intro z
        exact absurd ⟨q, h2, by unfold zN; rw [h3, i_cl (n := 16) hi (by decide)]⟩ z
    · refine ⟨fun _ ⟨q, h3, h4⟩ => h2 q h3 ?_, fun _ => h1⟩
      rw [(hE.2.2.qy h3).1, h4]
  refine for_up (L := fun n i s => f_X0_reachedBy_L26 F K (ad 0) t ns w (cM X ad σ B) n s i) (N := zN A 6 0) (Inv := fun k s => ∀ i, i < 32 → tb s i = decide (i < k ∧ ∃ q, q < zN A 6 4 ∧ zN A 6 (160 + q) = i)) (Post := fun r => ∃ v, r = K v ∧ ∀ i, i < 32 → tb v i = decide (∃ q, q < zN A 6 4 ∧ zN A 6 (160 + q) = i)) ?_ ?_ (zN A 6 0) 0 F 0 (Nat.zero_add _) (by omega) (fun i _ => by rw [tb_0]; simp)
  · intro n k s hk hs
    have e : ∀ s' : Int32, (∀ i, i < 32 → tb s' i = decide (i < k + 1 ∧ ∃ q, q < zN A 6 4 ∧ zN A 6 (160 + q) = i)) → f_X0_reachedBy_L26_b F K (ad 0) t ns w (cM X ad σ B) (f_X0_reachedBy_L26 F K (ad 0) t ns w (cM X ad σ B) n) s (Int32.ofNat k) = f_X0_reachedBy_L26 F K (ad 0) t ns w (cM X ad σ B) n s' (Int32.ofNat (k + 1)) → (∃ s', (∀ i, i < 32 → tb s' i = decide (i < k + 1 ∧ ∃ q, q < zN A 6 4 ∧ zN A 6 (160 + q) = i)) ∧ f_X0_reachedBy_L26_b F K (ad 0) t ns w (cM X ad σ B) (f_X0_reachedBy_L26 F K (ad 0) t ns w (cM X ad σ B) n) s (Int32.ofNat k) = f_X0_reachedBy_L26 F K (ad 0) t ns w (cM X ad σ B) n s' (Int32.ofNat (k + 1))) := fun s' h1 h2 => ⟨s', h1, h2⟩
    refine Or.inl ?_
    by_cases h0 : f k = 0
    · refine e s ?_ ?_
      · intro i hi
        rw [hs i hi]
        by_cases ek : i = k
        · subst ek
          have := (hq i (by omega)).mp h0
          simp [this]
        · have : (i < k + 1) ↔ (i < k) := by omega
          simp only [this]
      · unfold f_X0_reachedBy_L26_b
        simp (disch := omega) only [Option.bind_some, Option.bind_none, nmE, n_pp, n_pl, n_lp, n_mm, n_ml, n_lm, csI_s, csI_n, csI_2, csA_1, csA_s, csA_n, csA_2, csL_1, csL_2, csL_s, csL_n, csL_3, csQ_1, csQ_2, csQ_3, csQ_s, csQ_n, nar0, c_le, c_le_l, c_le_r, c_lt, c_lt_l, c_lt_r, c_eq, c_eq_l, c_eq_r, if_true, if_false, if_pos, if_neg, oc0 hA, houses_C hE, o0_3 hA, hB.tw, F_aI hf1, h0]
    · refine e (s ||| bit k) ?_ ?_
      · intro i hi
        rw [tb_or, hs i hi, tb_bit (by omega) hi]
        by_cases ek : i = k
        · subst ek
          have h1 : ∃ q, q < zN A 6 4 ∧ zN A 6 (160 + q) = i := Classical.byContradiction fun z => h0 ((hq i (by omega)).mpr z)
          simp [h1]
        · have : (i < k + 1) ↔ (i < k) := by omega
          simp only [this, ek]
          simp
      · unfold f_X0_reachedBy_L26_b
        simp (disch := omega) only [Option.bind_some, Option.bind_none, nmE, n_pp, n_pl, n_lp, n_mm, n_ml, n_lm, csI_s, csI_n, csI_2, csA_1, csA_s, csA_n, csA_2, csL_1, csL_2, csL_s, csL_n, csL_3, csQ_1, csQ_2, csQ_3, csQ_s, csQ_n, nar0, c_le, c_le_l, c_le_r, c_lt, c_lt_l, c_lt_r, c_eq, c_eq_l, c_eq_r, if_true, if_false, if_pos, if_neg, oc0 hA, houses_C hE, o0_3 hA, hB.tw, F_aI hf1]
        rfl
  · intro n s hs
    refine ⟨s, ?_, ?_⟩
    · show f_X0_reachedBy_L26_b F K (ad 0) t ns w (cM X ad σ B) (f_X0_reachedBy_L26 F K (ad 0) t ns w (cM X ad σ B) n) _ (Int32.ofNat (zN A 6 0)) = _
      unfold f_X0_reachedBy_L26_b
      simp (disch := omega) only [Option.bind_some, Option.bind_none, nmE, n_pp, n_pl, n_lp, n_mm, n_ml, n_lm, csI_s, csI_n, csI_2, csA_1, csA_s, csA_n, csA_2, csL_1, csL_2, csL_s, csL_n, csL_3, csQ_1, csQ_2, csQ_3, csQ_s, csQ_n, nar0, c_le, c_le_l, c_le_r, c_lt, c_lt_l, c_lt_r, c_eq, c_eq_l, c_eq_r, if_true, if_false, if_pos, if_neg, oc0 hA, houses_C hE]
    · intro i hi
      rw [hs i hi]
      refine decide_eq_decide.mpr ⟨fun h => h.2, fun ⟨q, h1, h2⟩ => ⟨?_, q, h1, h2⟩⟩
      have := (hE.2.2.qy h1).2
      omega
theorem lt_dec (a b : Int32) : decide (a < b) = !decide (b ≤ a) := by
  by_cases q : b ≤ a
  · have := Int32.not_lt.mpr q
    simp [q, this]
  · have := Int32.not_le.mp q
    simp [q, this]
theorem reach_C (hF : 100000 ≤ F) (hE : EV ad B A) (hC : CR ad B A σ) {t ns nh : Int32} (hn : nh = -1 ∨ ∃ k, k < zN A 6 0 ∧ nh = Int32.ofNat k) : f_X0_reachedBy F (ad 0) t ns nh (cM X ad σ B) = some (sReach A t ns nh) := by
  obtain ⟨eH, lH⟩ := hE.2.2.H
  have key : ∀ w : Int32, (∀ i, i < zN A 6 0 → tb w i = !tb (sDry A t nh (zN A 6 0)) i) → f_X0_reachedBy_L26 F (fun w13 => nm (w13 &&& (w ^^^ (-1))) fun x14 => f_X0_reachedBy_L75 F (ad 0) t ns w (cM X ad σ B) F x14 (-1)) (ad 0) t ns w (cM X ad σ B) F 0 0 = some (sReach A t ns nh) := by
    intro w hwd
    obtain ⟨v, e1, hv⟩ := quay_C (X := X) (σ := σ) (F := F) (t := t) (ns := ns) (w := w) (K := fun w13 => nm (w13 &&& (w ^^^ (-1))) fun x14 => f_X0_reachedBy_L75 F (ad 0) t ns w (cM X ad σ B) F x14 (-1)) (by omega) hE
    rw [e1]
    have e2 : v &&& (w ^^^ (-1)) = sQy A (sDry A t nh (zN A 6 0)) (zN A 6 4) := by
      apply tb_ext
      intro i hi
      rw [tb_and, hv i hi, tb_not _ hi, tb_qy hE.2.2 _ (Nat.le_refl _) i hi]
      by_cases h : ∃ q, q < zN A 6 4 ∧ zN A 6 (160 + q) = i
      · obtain ⟨q, h1, h2⟩ := h
        have := (hE.2.2.qy h1).2
        rw [hwd i (by omega)]
        simp
      · simp [h]
    show f_X0_reachedBy_L75 F (ad 0) t ns w (cM X ad σ B) F (v &&& (w ^^^ (-1))) (-1) = _
    rw [e2]
    have hb := sQy_b hE.2.2 (dry := sDry A t nh (zN A 6 0)) (zN A 6 4) (Nat.le_refl _)
    have := hb.lt
    obtain ⟨m, rfl⟩ : ∃ m, F = 70000 + m := ⟨F - 70000, by omega⟩
    refine fix_C hF hE hC hwd 70000 _ _ (-1) (by omega) (by omega) hb (fun z => ?_)
    have := hb 16 (by decide) (by decide)
    rw [← z, tb_m1 (by decide)] at this
    cases this
  unfold f_X0_reachedBy
  rw [oc0 hE.1, Option.bind_some, wetBy_C (by omega) hE hC, Option.bind_some]
  rcases hn with hn | ⟨k, hk, hn⟩
  · rw [if_pos hn]
    refine key (sWet A t (zN A 6 0) ||| 0) fun i hi => ?_
    rw [tb_or, tb_0, tb_wet _ lH i (by omega), tb_dry _ lH i (by omega)]
    have : Int32.ofNat i ≠ nh := by rw [hn]; exact ofNat_ne_m1 (by omega)
    simp [hi, this, lt_dec]
  · have n1 : ¬ nh = -1 := by rw [hn]; exact ofNat_ne_m1 (by omega)
    rw [if_neg n1]
    have e3 : (1 : Int32) <<< (nh &&& 31) = bit k := by rw [hn]; rfl
    rw [e3]
    refine key (sWet A t (zN A 6 0) ||| bit k) fun i hi => ?_
    rw [tb_or, tb_bit (by omega) (by omega), tb_wet _ lH i (by omega), tb_dry _ lH i (by omega), hn]
    have : (Int32.ofNat i ≠ Int32.ofNat k) ↔ i ≠ k := by rw [Ne, c_eq _ _ (by omega) (by omega)]
    simp only [this]
    by_cases e : i = k
    · subst e; simp
    · simp [hi, e, lt_dec]
