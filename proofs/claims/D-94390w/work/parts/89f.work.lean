set_option maxRecDepth 100000
/-! 18: work -/
variable {X : Nat → Option Ob} {ad ad' : Nat → Nat} {B B' : Sw} {A A' : Av} {σ σ' : Cs} {τ : Tw} {F : Nat}
theorem size50 (hA : AdOK ad B) : f_J2_size F (ad 50) (cM X ad σ B) = some (σ.1 52) := by
  unfold f_J2_size
  rw [o50_2 hA]
  rfl
theorem size52 (hA : AdOK ad B) : f_J2_size F (ad 52) (cM X ad σ B) = some (σ.1 62) := by
  unfold f_J2_size
  rw [o52_2 hA]
  rfl
theorem sub_1 (n : Nat) : Int32.ofNat (n + 1) - 1 = Int32.ofNat n := by
  rw [show (1 : Int32) = Int32.ofNat 1 from rfl, n_ss _ _ (by omega), Nat.add_sub_cancel]
theorem int_ext {x y : Int32} (h : x.toInt = y.toInt) : x = y := Int32.toInt_inj.1 h
theorem WF.lv {L : Nat → Int32} (h : WF A) (hl : WFl (zN A 6 0) (zN A 6 1) L) (hr : ∀ k, 420 ≤ k → L k = A 7 k) : WF (aw A 7 L) := by
  obtain ⟨h1, h2, h3, h4⟩ := h
  refine ⟨h1, h2, hl, ?_⟩
  intro s hs e
  have e2 : rowL (aw A 7 L) (s + 1) = rowL A (s + 1) := by
    funext k
    unfold rowL
    rw [aw_s, hr _ (by omega)]
  rw [e2]
  exact h4 s hs e
theorem st_18 (hF : 1000000 ≤ F) (h : INV ad B A σ τ) (x : Nat → Int32) : ST F 18 x X ad B σ τ := by
  have hI := h
  obtain ⟨hE, hK, hC, hT⟩ := h
  have hA := hE.1
  have lH := hE.2.2.H.2
  have h1 : stC F 18 (ad 0) x (cM X ad σ B) = f_X0_work F (ad 0) (x 1) (x 2) (x 3) (cM X ad σ B) := rfl
  have h2 : stT F 18 x τ = t_X9_work F (x 1) (x 2) (x 3) τ := rfl
  obtain ⟨⟨m0, m1, m2⟩, w1, w2, w3, w4, w5, w6⟩ := hE.2.2.2.2.1
  have ew : A 7 1 = Int32.ofNat (zN A 7 1) := m1.1
  have lw : zN A 7 1 ≤ 40 := m1.2
  unfold f_X0_work at h1
  unfold t_X9_work at h2
  have v99 : (((0 : Int32).toInt ≤ (x 1).toInt ∧ (x 1).toInt ≤ (99 : Int32).toInt) ↔ inN (x 1) 100) := by
    show ((0 : Int) ≤ (x 1).toInt ∧ (x 1).toInt ≤ 99) ↔ (0 : Int) ≤ (x 1).toInt ∧ (x 1).toInt < 100
    omega
  have v3 : (((-99 : Int32).toInt ≤ (x 3).toInt ∧ (x 3).toInt ≤ (99 : Int32).toInt) ↔ ((-99 : Int) ≤ (x 3).toInt ∧ (x 3).toInt ≤ 99)) := Iff.rfl
  rw [o0_4 hA, Option.bind_some, o46_4 hA, Option.bind_some, oc50 hA, Option.bind_some, size50 hA, Option.bind_some, hC.nw, within_v _ v99, Option.bind_some, gd, oc0 hA, Option.bind_some, isHouse_C hE, Option.bind_some, gd, within_v _ v3, Option.bind_some, gd] at h1
  rw [isIn_v _ v99] at h2
  simp (disch := omega) only [Option.bind_some, Option.bind_none, nmE, n_pp, n_pl, n_lp, n_mm, n_ml, n_lm, taI_n, taI_l, tsA_n, tsA_l, nar0, twA_1, twA_s, twA_n, twA_2, twA_twA, tsI_s, tsI_n, tsI_2, c_le, c_le_l, c_le_r, c_lt, c_lt_l, c_lt_r, c_eq, c_eq_l, c_eq_r, if_true, if_false, if_pos, if_neg, hT.2 7 rfl, ew, gd, isHouse_T hE.2.2 hT] at h2
  rw [isIn_v _ v3] at h2
  simp (disch := omega) only [Option.bind_some, Option.bind_none, nmE, n_pp, n_pl, n_lp, n_mm, n_ml, n_lm, taI_n, taI_l, tsA_n, tsA_l, nar0, twA_1, twA_s, twA_n, twA_2, twA_twA, tsI_s, tsI_n, tsI_2, c_le, c_le_l, c_le_r, c_lt, c_lt_l, c_lt_r, c_eq, c_eq_l, c_eq_r, if_true, if_false, if_pos, if_neg, gd, up_s, up_n, ew] at h2
  by_cases h40 : zN A 7 1 = 40
  · rw [if_pos h40] at h2
    rw [if_pos (by rw [h40]; rfl)] at h1
    exact ST.ro hI h1 h2 hC hT
  rw [if_neg h40] at h2
  rw [if_neg (show ¬ Int32.ofNat (zN A 7 1) = 40 from fun q => h40 ((c_eq (zN A 7 1) 40 (by omega) (by omega)).1 q))] at h1
  by_cases c1 : inN (x 1) 100
  · rw [if_pos c1] at h1 h2
    by_cases c2 : inN (x 2) (zN A 6 0)
    · rw [if_pos c2] at h1 h2
      by_cases c30 : x 3 = 0
      · have hr : (-99 : Int) ≤ (x 3).toInt ∧ (x 3).toInt ≤ 99 := by rw [c30]; decide
        rw [if_pos c30] at h1
        rw [if_pos hr, if_pos c30] at h2
        exact ST.ro hI h1 h2 hC hT
      rw [if_neg c30] at h1
      by_cases hr : (-99 : Int) ≤ (x 3).toInt ∧ (x 3).toInt ≤ 99
      · rw [if_pos hr] at h1
        rw [if_pos hr, if_neg c30] at h2
        obtain ⟨n, hn⟩ : ∃ n, n = zN A 7 1 := ⟨_, rfl⟩
        rw [← hn] at h2 h40 lw ew
        have n40 : n < 40 := by omega
        obtain ⟨ad2, B2, σ2, e1, hA2, hK2, hX2, hB2, a0, a46, a50, s52, hCR⟩ := put_w (X := X) (F := F) hE hK hC hn.symm n40 (q := [.int (x 1), .int (x 2), .int (x 3)]) (s := 3) (by omega)
        have g4 : gfR (cM X ad2 σ2 B2) (ad 0) 0 4 = some (ad 46) := by
          have := o0_4 (X := X) hA2 σ2
          rw [a0, a46] at this
          exact this
        have g46 : gfR (cM X ad2 σ2 B2) (ad 46) 6 4 = some (ad 50) := by
          have := o46_4 (X := X) hA2 σ2
          rw [a46, a50] at this
          exact this
        have g50 : oc (cM X ad2 σ2 B2) (ad 50) 20 = some () := by
          have := oc50 (X := X) hA2 σ2
          rw [a50] at this
          exact this
        have gz : f_J2_size F (ad 50) (cM X ad2 σ2 B2) = some (Int32.ofNat (n + 1)) := by
          have := size50 (X := X) (F := F) (σ := σ2) hA2
          rw [a50, s52] at this
          exact this
        have hnew : f_X18_init F (cM X ad σ B).2.1 (x 1) (x 2) (x 3) (nw (cM X ad σ B) (.inr (18, dfX18)) 3) = some (cM X ad σ (fz B (.inr (18, [.int (x 1), .int (x 2), .int (x 3)])) 3)) := new18
        have hsub := sub_1 n
        rw [Option.bind_some, o46_4 hA, Option.bind_some, nmE, hnew, Option.bind_some, oc50 (fz_ad hA), Option.bind_some] at h1
        have e1' : f_J2_add F (ad 50) (cM X ad σ B).2.1 (cM X ad σ (fz B (.inr (18, [.int (x 1), .int (x 2), .int (x 3)])) 3)) = some (1, cM X ad2 σ2 B2) := e1
        rw [e1', Option.bind_some, g4, Option.bind_some, g46, Option.bind_some, g50, Option.bind_some, gz, Option.bind_some, hsub] at h1
        obtain ⟨L, hL⟩ : ∃ L, L = upd (upd (upd (upd (A 7) (60 + 3 * n) (x 1)) (60 + 3 * n + 1) (x 2)) (60 + 3 * n + 2) (x 3)) 1 (Int32.ofNat (n + 1)) := ⟨_, rfl⟩
        have h2' : stT F 18 x τ = some (Int32.ofNat n, twA τ 7 L) := by
          rw [h2, hL]
          try rw [hsub]
        have L0 : L 0 = A 7 0 := by rw [hL, up_n _ _ _ _ (by omega), up_n _ _ _ _ (by omega), up_n _ _ _ _ (by omega), up_n _ _ _ _ (by omega)]
        have L1 : L 1 = Int32.ofNat (n + 1) := by rw [hL, up_s]
        have L2 : L 2 = A 7 2 := by rw [hL, up_n _ _ _ _ (by omega), up_n _ _ _ _ (by omega), up_n _ _ _ _ (by omega), up_n _ _ _ _ (by omega)]
        have Lo : ∀ k, (10 ≤ k ∧ k < 60 + 3 * n) ∨ 180 ≤ k → L k = A 7 k := fun k hk => by rw [hL, up_n _ _ _ _ (by omega), up_n _ _ _ _ (by omega), up_n _ _ _ _ (by omega), up_n _ _ _ _ (by omega)]
        have La : L (60 + 3 * n) = x 1 := by rw [hL, up_n _ _ _ _ (by omega), up_n _ _ _ _ (by omega), up_n _ _ _ _ (by omega), up_s]
        have Lb : L (60 + 3 * n + 1) = x 2 := by rw [hL, up_n _ _ _ _ (by omega), up_n _ _ _ _ (by omega), up_s]
        have Lc : L (60 + 3 * n + 2) = x 3 := by rw [hL, up_n _ _ _ _ (by omega), up_s]
        have zL1 : (L 1).toNatClampNeg = n + 1 := by rw [L1]; exact i_cl (n := 1000) (by omega) (by omega)
        obtain ⟨v1, lv1, ev1⟩ := c1.ex
        obtain ⟨v2, lv2, ev2⟩ := c2.ex
        have hWl : WFl (zN A 6 0) (zN A 6 1) L := by
          refine ⟨⟨by rw [L0]; exact m0, by rw [L1]; exact isN.of (by omega) (by omega), by rw [L2]; exact m2⟩, fun h hh => by rw [Lo _ (by omega)]; exact w1 h hh, fun h hh => by rw [Lo _ (by omega)]; exact w2 h hh, fun h i hh hi => by rw [Lo _ (by omega), Lo _ (by omega)]; exact w3 h i hh hi, fun w hw => by rw [Lo _ (by omega)]; exact w4 w hw, fun j hj => ?_, fun j hj => ?_⟩
          · rw [zL1] at hj
            by_cases ej : j = n
            · rw [ej, La, Lb, Lc, ev1, ev2]
              refine ⟨isN.of (by omega) (by omega), isN.of (by omega) (by omega), ?_, hr.1, hr.2, c30⟩
              rw [i_cl (n := 1000) (by omega) (by omega)]
              exact lv2
            · rw [Lo _ (by omega), Lo _ (by omega), Lo _ (by omega)]
              refine w5 j ?_
              have : (A 7 1).toNatClampNeg = n := by rw [ew]; exact i_cl (n := 1000) (by omega) (by omega)
              omega
          · rw [L2] at hj
            rw [Lo _ (by omega), Lo _ (by omega), Lo _ (by omega)]
            exact w6 j hj
        have hW2 : WF (aw A 7 L) := hE.2.2.lv hWl fun k hk => Lo k (by omega)
        exact ⟨Int32.ofNat n, ad2, B2, aw A 7 L, σ2, twA τ 7 L, h1, h2', ⟨⟨hA2, hB2.aw rfl, hW2⟩, hK2, hCR L L0 L1 L2 Lo (by rw [La, Lb, Lc]), hT.W (by decide)⟩, hX2⟩
      · rw [if_neg hr] at h1 h2
        exact ST.ro hI h1 h2 hC hT
    · rw [if_neg c2] at h1 h2
      exact ST.ro hI h1 h2 hC hT
  · rw [if_neg c1] at h1 h2
    exact ST.ro hI h1 h2 hC hT
