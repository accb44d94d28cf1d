set_option maxRecDepth 100000
/-! 33, 34, 35: the log -/
variable {X : Nat → Option Ob} {ad ad' : Nat → Nat} {B B' : Sw} {A A' : Av} {σ σ' : Cs} {τ : Tw} {F : Nat}
theorem hasRoom_C (hA : AdOK ad B) (hC : CR ad B A σ) (l60 : zN A 7 2 ≤ 60) : f_X0_hasRoom F (ad 0) (cM X ad σ B) = some (if zN A 7 2 < 60 then 1 else 0) := by
  unfold f_X0_hasRoom
  rw [o0_4 hA, Option.bind_some, o46_5 hA, Option.bind_some, oc52 hA, Option.bind_some, size52 hA, Option.bind_some, hC.nl]
  simp (disch := omega) only [Option.bind_some, Option.bind_none, nmE, n_pp, n_pl, n_lp, n_mm, n_ml, n_lm, csI_s, csI_n, csI_2, csA_1, csA_s, csA_n, csA_2, csL_1, csL_2, csL_s, csL_n, csL_3, csQ_1, csQ_2, csQ_3, csQ_s, csQ_n, nar0, c_le, c_le_l, c_le_r, c_lt, c_lt_l, c_lt_r, c_eq, c_eq_l, c_eq_r, if_true, if_false, if_pos, if_neg]
  by_cases h : zN A 7 2 < 60
  · rw [if_pos h, if_neg (by omega)]
  · rw [if_neg h, if_pos (by omega)]
theorem ST.log {k : Nat} {x : Nat → Int32} (h : INV ad B A σ τ) (h60 : zN A 7 2 < 60) {kk a b c : Int32} (hk : isN kk 2) (hm : kk = 1 → isN b 99 ∧ isN c 99) (h1 : stC F k (ad 0) x (cM X ad σ B) = nm (nw (cM X ad σ B) (.inr (19, dfX19)) 4) fun μ => Option.bind (f_X19_init F (cM X ad σ B).2.1 kk a b c μ) fun q => Option.bind (oc q (ad 0) 0) fun _ => Option.bind (f_X0_writes F (ad 0) (cM X ad σ B).2.1 q) fun q2 => some (q2.1, q2.2)) (h2 : stT F k x τ = Option.bind (t_X9_log F kk a b c τ) fun q => some (q.1, q.2)) : ST F k x X ad B σ τ := by
  have hI := h
  obtain ⟨hE, hK, hC, hT⟩ := h
  have hA := hE.1
  obtain ⟨⟨m0, m1, m2⟩, w1, w2, w3, w4, w5, w6⟩ := hE.2.2.2.2.1
  have ew : A 7 2 = Int32.ofNat (zN A 7 2) := m2.1
  obtain ⟨n, hn⟩ : ∃ n, n = zN A 7 2 := ⟨_, rfl⟩
  rw [← hn] at h60 ew
  obtain ⟨ad2, B2, σ2, e1, hA2, hK2, hX2, hB2, a0, a46, a52, s62, hCR⟩ := put_l (X := X) (F := F) hE hK hC hn.symm h60 (q := [.int kk, .int a, .int b, .int c]) (s := 4) (by omega)
  have g4 : gfR (cM X ad2 σ2 B2) (ad 0) 0 4 = some (ad 46) := by
    have := o0_4 (X := X) hA2 σ2
    rw [a0, a46] at this
    exact this
  have g46 : gfR (cM X ad2 σ2 B2) (ad 46) 6 5 = some (ad 52) := by
    have := o46_5 (X := X) hA2 σ2
    rw [a46, a52] at this
    exact this
  have g52 : oc (cM X ad2 σ2 B2) (ad 52) 20 = some () := by
    have := oc52 (X := X) hA2 σ2
    rw [a52] at this
    exact this
  have gz : f_J2_size F (ad 52) (cM X ad2 σ2 B2) = some (Int32.ofNat (n + 1)) := by
    have := size52 (X := X) (F := F) (σ := σ2) hA2
    rw [a52, s62] at this
    exact this
  have hnew : f_X19_init F (cM X ad σ B).2.1 kk a b c (nw (cM X ad σ B) (.inr (19, dfX19)) 4) = some (cM X ad σ (fz B (.inr (19, [.int kk, .int a, .int b, .int c])) 4)) := new19
  have hA1 : AdOK ad (fz B (.inr (19, [.int kk, .int a, .int b, .int c])) 4) := fz_ad hA
  have e1' : f_J2_add F (ad 52) (cM X ad σ B).2.1 (cM X ad σ (fz B (.inr (19, [.int kk, .int a, .int b, .int c])) 4)) = some (1, cM X ad2 σ2 B2) := e1
  have hsub := sub_1 n
  have hw : f_X0_writes F (ad 0) (cM X ad σ B).2.1 (cM X ad σ (fz B (.inr (19, [.int kk, .int a, .int b, .int c])) 4)) = some (Int32.ofNat n, cM X ad2 σ2 B2) := by
    unfold f_X0_writes
    rw [o0_4 hA1, Option.bind_some, o46_5 hA1, Option.bind_some, oc52 hA1, Option.bind_some, e1', Option.bind_some, g4, Option.bind_some, g46, Option.bind_some, g52, Option.bind_some, gz, Option.bind_some, hsub]
  rw [nmE, hnew, Option.bind_some, oc0 hA1, Option.bind_some, hw, Option.bind_some] at h1
  unfold t_X9_log at h2
  simp (disch := omega) only [Option.bind_some, Option.bind_none, nmE, n_pp, n_pl, n_lp, n_mm, n_ml, n_lm, taI_n, taI_l, tsA_n, tsA_l, nar0, twA_1, twA_s, twA_n, twA_2, twA_twA, tsI_s, tsI_n, tsI_2, c_le, c_le_l, c_le_r, c_lt, c_lt_l, c_lt_r, c_eq, c_eq_l, c_eq_r, if_true, if_false, if_pos, if_neg, hT.2 7 rfl, ew, up_s, up_n] at h2
  obtain ⟨L, hL⟩ : ∃ L, L = upd (upd (upd (upd (upd (A 7) (180 + 4 * n) kk) (180 + 4 * n + 1) a) (180 + 4 * n + 2) b) (180 + 4 * n + 3) c) 2 (Int32.ofNat (n + 1)) := ⟨_, rfl⟩
  have h2' : stT F k x τ = some (Int32.ofNat n, twA τ 7 L) := by
    rw [h2, hL]
    try rw [hsub]
  have L0 : L 0 = A 7 0 := by rw [hL, up_n _ _ _ _ (by omega), up_n _ _ _ _ (by omega), up_n _ _ _ _ (by omega), up_n _ _ _ _ (by omega), up_n _ _ _ _ (by omega)]
  have L1 : L 1 = A 7 1 := by rw [hL, up_n _ _ _ _ (by omega), up_n _ _ _ _ (by omega), up_n _ _ _ _ (by omega), up_n _ _ _ _ (by omega), up_n _ _ _ _ (by omega)]
  have L2 : L 2 = Int32.ofNat (n + 1) := by rw [hL, up_s]
  have Lo : ∀ k, (10 ≤ k ∧ k < 180 + 4 * n) ∨ 420 ≤ k → L k = A 7 k := fun k hk => by rw [hL, up_n _ _ _ _ (by omega), up_n _ _ _ _ (by omega), up_n _ _ _ _ (by omega), up_n _ _ _ _ (by omega), up_n _ _ _ _ (by omega)]
  have La : L (180 + 4 * n) = kk := by rw [hL, up_n _ _ _ _ (by omega), up_n _ _ _ _ (by omega), up_n _ _ _ _ (by omega), up_n _ _ _ _ (by omega), up_s]
  have Lb : L (180 + 4 * n + 1) = a := by rw [hL, up_n _ _ _ _ (by omega), up_n _ _ _ _ (by omega), up_n _ _ _ _ (by omega), up_s]
  have Lc : L (180 + 4 * n + 2) = b := by rw [hL, up_n _ _ _ _ (by omega), up_n _ _ _ _ (by omega), up_s]
  have Ld : L (180 + 4 * n + 3) = c := by rw [hL, up_n _ _ _ _ (by omega), up_s]
  have zL2 : (L 2).toNatClampNeg = n + 1 := by rw [L2]; exact i_cl (n := 1000) (by omega) (by omega)
  have w40 : (A 7 1).toNatClampNeg ≤ 40 := m1.2
  have hWl : WFl (zN A 6 0) (zN A 6 1) L := by
    refine ⟨⟨by rw [L0]; exact m0, by rw [L1]; exact m1, by rw [L2]; exact isN.of (by omega) (by omega)⟩, fun h hh => by rw [Lo _ (by omega)]; exact w1 h hh, fun h hh => by rw [Lo _ (by omega)]; exact w2 h hh, fun h i hh hi => by rw [Lo _ (by omega), Lo _ (by omega)]; exact w3 h i hh hi, fun w hw => by rw [Lo _ (by omega)]; exact w4 w hw, fun j hj => ?_, fun j hj => ?_⟩
    · rw [L1] at hj
      rw [Lo _ (by omega), Lo _ (by omega), Lo _ (by omega)]
      exact w5 j hj
    · rw [zL2] at hj
      by_cases ej : j = n
      · rw [ej, La, Lc, Ld]
        exact ⟨hk, hm⟩
      · rw [Lo _ (by omega), Lo _ (by omega), Lo _ (by omega)]
        refine w6 j ?_
        have : (A 7 2).toNatClampNeg = n := by rw [ew]; exact i_cl (n := 1000) (by omega) (by omega)
        omega
  have hW2 : WF (aw A 7 L) := hE.2.2.lv hWl fun k hk => Lo k (by omega)
  exact ⟨Int32.ofNat n, ad2, B2, aw A 7 L, σ2, twA τ 7 L, h1, h2', ⟨⟨hA2, hB2.aw rfl, hW2⟩, hK2, hCR L L0 L1 L2 Lo (by rw [La, Lb, Lc, Ld]), hT.W (by decide)⟩, hX2⟩
theorem log60 (hT : TR A τ) (ew : A 7 2 = Int32.ofNat (zN A 7 2)) (h : ¬ zN A 7 2 < 60) (l60 : zN A 7 2 ≤ 60) {k a b c : Int32} : t_X9_log F k a b c τ = some (-1, τ) := by
  unfold t_X9_log
  simp (disch := omega) only [Option.bind_some, Option.bind_none, nmE, n_pp, n_pl, n_lp, n_mm, n_ml, n_lm, taI_n, taI_l, tsA_n, tsA_l, nar0, twA_1, twA_s, twA_n, twA_2, twA_twA, tsI_s, tsI_n, tsI_2, c_le, c_le_l, c_le_r, c_lt, c_lt_l, c_lt_r, c_eq, c_eq_l, c_eq_r, if_true, if_false, if_pos, if_neg, hT.2 7 rfl, ew]
theorem WF.nl (hW : WF A) : A 7 2 = Int32.ofNat (zN A 7 2) ∧ zN A 7 2 ≤ 60 := hW.2.2.1.1.2.2
theorem isN_in {x : Int32} {m : Nat} (h : inN x (m + 1)) (hm : m < 1000000) : isN x m := by
  obtain ⟨k, hk, e⟩ := h.ex
  rw [e]
  exact isN.of (by omega) (by omega)
/-- 33: vote -/
theorem st_33 (hF : 1000000 ≤ F) (h : INV ad B A σ τ) (x : Nat → Int32) : ST F 33 x X ad B σ τ := by
  have hI := h
  obtain ⟨hE, hK, hC, hT⟩ := h
  have hA := hE.1
  obtain ⟨el, ll⟩ := hE.2.2.nl
  have h1 : stC F 33 (ad 0) x (cM X ad σ B) = f_X0_vote F (ad 0) (x 1) (x 2) (x 3) (cM X ad σ B) := rfl
  have h2 : stT F 33 x τ = t_X9_vote F (x 1) (x 2) (x 3) τ := rfl
  unfold f_X0_vote at h1
  unfold t_X9_vote at h2
  rw [oc0 hA, Option.bind_some, hasRoom_C hA hC ll, Option.bind_some, gd, Option.bind_some, isHouse_C hE, Option.bind_some, gd, Option.bind_some, isOffice_C hE, Option.bind_some, gd, Option.bind_some, isHouse_C hE, Option.bind_some, gd] at h1
  rw [isHouse_T hE.2.2 hT, Option.bind_some, gd, isOffice_T hE.2.2 hT, Option.bind_some, gd, isHouse_T hE.2.2 hT, Option.bind_some, gd] at h2
  by_cases h60 : zN A 7 2 < 60
  · rw [if_pos h60] at h1
    by_cases c1 : inN (x 1) (zN A 6 0)
    · rw [if_pos c1] at h1 h2
      by_cases c2 : inN (x 2) (zN A 6 1)
      · rw [if_pos c2] at h1 h2
        by_cases c3 : inN (x 3) (zN A 6 0)
        · rw [if_pos c3] at h1 h2
          exact ST.log hI h60 (isN.of (k := 0) (by omega) (by omega)) (fun h => absurd h (by decide)) h1 h2
        · rw [if_neg c3] at h1 h2
          exact ST.ro hI h1 h2 hC hT
      · rw [if_neg c2] at h1 h2
        exact ST.ro hI h1 h2 hC hT
    · rw [if_neg c1] at h1 h2
      exact ST.ro hI h1 h2 hC hT
  · rw [if_neg h60] at h1
    rw [log60 hT el h60 ll, Option.bind_some] at h2
    have h2' : stT F 33 x τ = some (-1, τ) := by
      rw [h2]
      split
      · split
        · split <;> rfl
        · rfl
      · rfl
    exact ST.ro hI h1 h2' hC hT
/-- 34: mark -/
theorem st_34 (hF : 1000000 ≤ F) (h : INV ad B A σ τ) (x : Nat → Int32) : ST F 34 x X ad B σ τ := by
  have hI := h
  obtain ⟨hE, hK, hC, hT⟩ := h
  have hA := hE.1
  obtain ⟨el, ll⟩ := hE.2.2.nl
  have h1 : stC F 34 (ad 0) x (cM X ad σ B) = f_X0_mark F (ad 0) (x 1) (x 2) (x 3) (cM X ad σ B) := rfl
  have h2 : stT F 34 x τ = t_X9_mark F (x 1) (x 2) (x 3) τ := rfl
  unfold f_X0_mark at h1
  unfold t_X9_mark at h2
  have v99 : ∀ y : Int32, (((0 : Int32).toInt ≤ y.toInt ∧ y.toInt ≤ (99 : Int32).toInt) ↔ inN y 100) := fun y => by
    show ((0 : Int) ≤ y.toInt ∧ y.toInt ≤ 99) ↔ (0 : Int) ≤ y.toInt ∧ y.toInt < 100
    omega
  rw [oc0 hA, Option.bind_some, hasRoom_C hA hC ll, Option.bind_some, gd, Option.bind_some, isHouse_C hE, Option.bind_some, gd, within_v _ (v99 (x 2)), Option.bind_some, gd, within_v _ (v99 (x 3)), Option.bind_some, gd] at h1
  rw [isHouse_T hE.2.2 hT, Option.bind_some, gd, isIn_v _ (v99 (x 2)), Option.bind_some, gd, isIn_v _ (v99 (x 3)), Option.bind_some, gd] at h2
  by_cases h60 : zN A 7 2 < 60
  · rw [if_pos h60] at h1
    by_cases c1 : inN (x 1) (zN A 6 0)
    · rw [if_pos c1] at h1 h2
      by_cases c2 : inN (x 2) 100
      · rw [if_pos c2] at h1 h2
        by_cases c3 : inN (x 3) 100
        · rw [if_pos c3] at h1 h2
          exact ST.log hI h60 (isN.of (k := 1) (by omega) (by omega)) (fun _ => ⟨isN_in c2 (by omega), isN_in c3 (by omega)⟩) h1 h2
        · rw [if_neg c3] at h1 h2
          exact ST.ro hI h1 h2 hC hT
      · rw [if_neg c2] at h1 h2
        exact ST.ro hI h1 h2 hC hT
    · rw [if_neg c1] at h1 h2
      exact ST.ro hI h1 h2 hC hT
  · rw [if_neg h60] at h1
    rw [log60 hT el h60 ll, Option.bind_some] at h2
    have h2' : stT F 34 x τ = some (-1, τ) := by
      rw [h2]
      split
      · split
        · split <;> rfl
        · rfl
      · rfl
    exact ST.ro hI h1 h2' hC hT
theorem LR.get {n : Nat} {e : Nat → Nat} {ob : Nat → Ob} (hA : AdOK ad B) (h : LR ad B σ 52 60 n e ob) (hn : n < 1000) {j : Nat} (hj : j < n) : f_J2_get F (ad 52) (Int32.ofNat j) (cM X ad σ B) = some (e j) := by
  obtain ⟨l1, l2, l3⟩ := h
  obtain ⟨b1, b2, b3⟩ : B.1 (ad 53) = none ∧ n ≤ (σ.1 63).toNatClampNeg ∧ (σ.1 63).toNatClampNeg < 1000 := by
    rcases l2 with l2 | ⟨l2, -⟩
    · exact l2
    · omega
  have l1 : σ.1 62 = Int32.ofNat n := l1
  unfold f_J2_get
  rw [o52_2 hA, Option.bind_some, l1]
  have hc : p_J14_checkIndex F (Int32.ofNat j) (Int32.ofNat n) = some (Int32.ofNat j) := by
    unfold p_J14_checkIndex p_J6_checkIndex
    have e1 : ¬ Int32.ofNat j < 0 := fun h => absurd ((c_lt j 0 (by omega) (by omega)).mp h) (Nat.not_lt_zero j)
    have e2 : Int32.ofNat j < Int32.ofNat n := (c_lt j n (by omega) (by omega)).mpr hj
    rw [if_neg e1, if_pos e2]
    rfl
  rw [hc, Option.bind_some, oc52 hA, Option.bind_some]
  unfold f_J2_elementData
  have hq : aR (cM X ad σ B) 6 (ad 53) (Int32.ofNat j) = some (e j) := R_aR hA (by decide) b1 (show cK σ 53 = (3, 6, (σ.1 63).toNatClampNeg) from rfl) (by omega) (by omega) (l3 j hj).1
  rw [o52_1 hA, Option.bind_some, hq]
  rfl
theorem CR.lg (hA : AdOK ad B) (hC : CR ad B A σ) (l60 : zN A 7 2 ≤ 60) {j : Nat} (hj : j < zN A 7 2) : f_J2_get F (ad 52) (Int32.ofNat j) (cM X ad σ B) = some (ad (1600 + j)) ∧ oc (cM X ad σ B) (ad (1600 + j)) 19 = some () ∧ gfI (cM X ad σ B) (ad (1600 + j)) 19 0 = some (A 7 (180 + 4 * j)) ∧ gfI (cM X ad σ B) (ad (1600 + j)) 19 1 = some (A 7 (180 + 4 * j + 1)) ∧ gfI (cM X ad σ B) (ad (1600 + j)) 19 2 = some (A 7 (180 + 4 * j + 2)) ∧ gfI (cM X ad σ B) (ad (1600 + j)) 19 3 = some (A 7 (180 + 4 * j + 3)) := by
  have h := hC.2.2.2.2.2.2.2.2.2.2.1
  have hb := (h.2.2 j hj).2
  exact ⟨h.get hA (by omega) hj, F_oc hb, F_gI (k := 0) hb rfl, F_gI (k := 1) hb rfl, F_gI (k := 2) hb rfl, F_gI (k := 3) hb rfl⟩
/-- 35: annul -/
theorem st_35 (hF : 1000000 ≤ F) (h : INV ad B A σ τ) (x : Nat → Int32) : ST F 35 x X ad B σ τ := by
  have hI := h
  obtain ⟨hE, hK, hC, hT⟩ := h
  have hA := hE.1
  obtain ⟨el, ll⟩ := hE.2.2.nl
  have h1 : stC F 35 (ad 0) x (cM X ad σ B) = f_X0_annul F (ad 0) (x 1) (cM X ad σ B) := rfl
  have h2 : stT F 35 x τ = t_X9_annul F (x 1) τ := rfl
  unfold f_X0_annul at h1
  unfold t_X9_annul at h2
  rw [oc0 hA, Option.bind_some, hasRoom_C hA hC ll, Option.bind_some, gd, o0_4 hA, Option.bind_some, o46_5 hA, Option.bind_some, oc52 hA, Option.bind_some, size52 hA, Option.bind_some, hC.nl, within_N (by omega), Option.bind_some, gd] at h1
  have e2 : taI τ 7 1260 2 = some (Int32.ofNat (zN A 7 2)) := by
    rw [show (2 : Int32) = Int32.ofNat 2 from rfl, taI_n _ _ _ _ (by omega) (by omega), hT.2 7 rfl, el]
  have v : (((0 : Int32).toInt ≤ (x 1).toInt ∧ (x 1).toInt ≤ (Int32.ofNat (zN A 7 2) - 1).toInt) ↔ inN (x 1) (zN A 7 2)) := by
    have e3 : (Int32.ofNat (zN A 7 2) - 1).toInt = (zN A 7 2 : Int) - 1 := i_m1 (by omega)
    rw [e3]
    show ((0 : Int) ≤ (x 1).toInt ∧ (x 1).toInt ≤ (zN A 7 2 : Int) - 1) ↔ (0 : Int) ≤ (x 1).toInt ∧ (x 1).toInt < (zN A 7 2 : Int)
    omega
  rw [e2, Option.bind_some, isIn_v _ v, Option.bind_some, gd] at h2
  by_cases c1 : inN (x 1) (zN A 7 2)
  · obtain ⟨j, hj, e⟩ := c1.ex
    obtain ⟨q1, q2, q3, -⟩ := hC.lg (X := X) (F := F) hA ll hj
    rw [if_pos c1] at h1 h2
    rw [e] at h1 h2
    rw [Option.bind_some, o46_5 hA, Option.bind_some, oc52 hA, Option.bind_some, q1, Option.bind_some, q2, Option.bind_some, q3, Option.bind_some] at h1
    simp (disch := omega) only [Option.bind_some, Option.bind_none, nmE, n_pp, n_pl, n_lp, n_mm, n_ml, n_lm, taI_n, taI_l, tsA_n, tsA_l, nar0, twA_1, twA_s, twA_n, twA_2, twA_twA, tsI_s, tsI_n, tsI_2, c_le, c_le_l, c_le_r, c_lt, c_lt_l, c_lt_r, c_eq, c_eq_l, c_eq_r, if_true, if_false, if_pos, if_neg, hT.2 7 rfl] at h2
    by_cases h60 : zN A 7 2 < 60
    · rw [if_pos h60] at h1
      by_cases c2 : A 7 (180 + 4 * j) = 2
      · rw [if_pos c2] at h1 h2
        exact ST.ro hI h1 h2 hC hT
      · rw [if_neg c2] at h1 h2
        exact ST.log hI h60 (isN.of (k := 2) (by omega) (by omega)) (fun h => absurd h (by decide)) h1 h2
    · rw [if_neg h60] at h1
      rw [log60 hT el h60 ll] at h2
      have h2' : stT F 35 x τ = some (-1, τ) := by
        rw [h2]
        split <;> rfl
      exact ST.ro hI h1 h2' hC hT
  · rw [if_neg c1] at h1 h2
    have h1' : stC F 35 (ad 0) x (cM X ad σ B) = some (-1, cM X ad σ B) := by
      rw [h1]
      split <;> rfl
    exact ST.ro hI h1' h2 hC hT
