set_option maxRecDepth 100000
/-! small steps, second row -/
variable {X : Nat → Option Ob} {ad : Nat → Nat} {B : Sw} {A A' : Av} {σ σ' : Cs} {τ : Tw} {F : Nat}
theorem WF.H (hW : WF A) : A 6 0 = Int32.ofNat (zN A 6 0) ∧ zN A 6 0 ≤ 16 := hW.1.1.1
theorem WF.S (hW : WF A) : A 6 3 = Int32.ofNat (zN A 6 3) ∧ zN A 6 3 ≤ 12 := hW.1.1.2.2.1
theorem WF.W (hW : WF A) : A 6 5 = Int32.ofNat (zN A 6 5) ∧ zN A 6 5 ≤ 8 := hW.1.1.2.2.2.2.1
theorem WF.O (hW : WF A) : A 6 1 = Int32.ofNat (zN A 6 1) ∧ zN A 6 1 ≤ 12 := hW.1.1.2.1
theorem WF.ht (hW : WF A) {h : Nat} (hh : h < 16) : sHt A h = Int32.ofNat (zN A 7 (10 + h)) ∧ zN A 7 (10 + h) ≤ 99 := hW.2.2.1.2.1 h hh
theorem g_lt {α : Type} {x : Int32} {N : Nat} {a b : α} (hN : N < 2147483648) : (if x < 0 then a else if x < Int32.ofNat N then b else a) = if inN x N then b else a := by
  by_cases h1 : x < 0
  · have h2 := Int32.lt_iff_toInt_lt.mp h1
    have h3 : (0 : Int32).toInt = 0 := rfl
    rw [if_pos h1, if_neg (fun z => by have := z.1; omega)]
  · have h2 := Int32.le_iff_toInt_le.mp (Int32.not_lt.mp h1)
    have h3 : (0 : Int32).toInt = 0 := rfl
    rw [if_neg h1]
    by_cases h4 : x < Int32.ofNat N
    · have h5 := Int32.lt_iff_toInt_lt.mp h4
      rw [i_tn hN] at h5
      rw [if_pos h4, if_pos ⟨by omega, h5⟩]
    · have h5 := Int32.le_iff_toInt_le.mp (Int32.not_lt.mp h4)
      rw [i_tn hN] at h5
      rw [if_neg h4, if_neg (fun z => by have := z.2; omega)]
/-- 16: wood -/
theorem st_16 (h : INV ad B A σ τ) (x : Nat → Int32) : ST F 16 x X ad B σ τ := by
  obtain ⟨hE, hK, hC, hT⟩ := h
  obtain ⟨hA, hB, hW⟩ := hE
  obtain ⟨eW, lW⟩ := hW.W
  have c : f_X0_wood F (ad 0) (x 1) (cM X ad σ B) = some (if inN (x 1) (zN A 6 5) then A 7 (50 + (x 1).toNatClampNeg) else -1) := by
    unfold f_X0_wood
    simp (disch := omega) only [Option.bind_some, Option.bind_none, nmE, n_pp, n_pl, n_lp, n_mm, n_ml, n_lm, csI_s, csI_n, csI_2, csA_1, csA_s, csA_n, csA_2, csL_1, csL_2, csL_s, csL_n, csL_3, csQ_1, csQ_2, csQ_3, csQ_s, csQ_n, nar0, c_le, c_le_l, c_le_r, c_lt, c_lt_l, c_lt_r, c_eq, c_eq_l, c_eq_r, if_true, if_false, if_pos, if_neg, o0_3 hA, hB.tw, hB.wn F]
    rw [within_N (by omega), Option.bind_some, gd]
    by_cases hh : inN (x 1) (zN A 6 5)
    · obtain ⟨k, hk, e⟩ := hh.ex
      rw [if_pos hh, if_pos hh, e, i_cl (n := 8) (by omega) (by decide)]
      simp (disch := omega) only [Option.bind_some, Option.bind_none, nmE, n_pp, n_pl, n_lp, n_mm, n_ml, n_lm, csI_s, csI_n, csI_2, csA_1, csA_s, csA_n, csA_2, csL_1, csL_2, csL_s, csL_n, csL_3, csQ_1, csQ_2, csQ_3, csQ_s, csQ_n, nar0, c_le, c_le_l, c_le_r, c_lt, c_lt_l, c_lt_r, c_eq, c_eq_l, c_eq_r, if_true, if_false, if_pos, if_neg, o0_4 hA, o46_2 hA, a49 hA, hC.2.2.2.2.2.1]
    · rw [if_neg hh, if_neg hh]
  have t : t_X9_wood F (x 1) τ = some (if inN (x 1) (zN A 6 5) then A 7 (50 + (x 1).toNatClampNeg) else -1) := by
    unfold t_X9_wood
    simp (disch := omega) only [Option.bind_some, Option.bind_none, nmE, n_pp, n_pl, n_lp, n_mm, n_ml, n_lm, taI_n, taI_l, tsA_n, tsA_l, nar0, twA_1, twA_s, twA_n, twA_2, twA_twA, tsI_s, tsI_n, tsI_2, c_le, c_le_l, c_le_r, c_lt, c_lt_l, c_lt_r, c_eq, c_eq_l, c_eq_r, if_true, if_false, if_pos, if_neg, hT.2 6 rfl]
    rw [eW, g_lt (by omega)]
    by_cases hh : inN (x 1) (zN A 6 5)
    · obtain ⟨k, hk, e⟩ := hh.ex
      rw [if_pos hh, if_pos hh, e, i_cl (n := 8) (by omega) (by decide)]
      simp (disch := omega) only [Option.bind_some, Option.bind_none, nmE, n_pp, n_pl, n_lp, n_mm, n_ml, n_lm, taI_n, taI_l, tsA_n, tsA_l, nar0, twA_1, twA_s, twA_n, twA_2, twA_twA, tsI_s, tsI_n, tsI_2, c_le, c_le_l, c_le_r, c_lt, c_lt_l, c_lt_r, c_eq, c_eq_l, c_eq_r, if_true, if_false, if_pos, if_neg, hT.2 7 rfl]
    · rw [if_neg hh, if_neg hh]
  exact ST.ro ⟨⟨hA, hB, hW⟩, hK, hC, hT⟩ (st_b c) (st_b t) hC hT
/-! who holds an office -/
def sHol (A : Av) (c : Int32) : Nat → Nat → Int32
  | _, 0 => -2
  | h, n + 1 => if A 7 (30 + h) = c then Int32.ofNat h else sHol A c (h + 1) n
theorem hol_T (hW : WF A) (hT : TR A τ) {c : Int32} : ∀ (d h n : Nat), h + d = zN A 6 0 → d < n → t_X9_holderOf_L2 F c τ n (Int32.ofNat h) = some (sHol A c h d) := by
  obtain ⟨eH, lH⟩ := hW.H
  intro d
  induction d with
  | zero =>
    intro h n hd hn
    obtain ⟨m, rfl⟩ : ∃ m, n = m + 1 := ⟨n - 1, by omega⟩
    show t_X9_holderOf_L2_b F c τ (t_X9_holderOf_L2 F c τ m) (Int32.ofNat h) = _
    unfold t_X9_holderOf_L2_b
    simp (disch := omega) only [Option.bind_some, Option.bind_none, nmE, n_pp, n_pl, n_lp, n_mm, n_ml, n_lm, taI_n, taI_l, tsA_n, tsA_l, nar0, twA_1, twA_s, twA_n, twA_2, twA_twA, tsI_s, tsI_n, tsI_2, c_le, c_le_l, c_le_r, c_lt, c_lt_l, c_lt_r, c_eq, c_eq_l, c_eq_r, if_true, if_false, if_pos, if_neg, hT.2 6 rfl, eH]
    rfl
  | succ d ih =>
    intro h n hd hn
    obtain ⟨m, rfl⟩ : ∃ m, n = m + 1 := ⟨n - 1, by omega⟩
    show t_X9_holderOf_L2_b F c τ (t_X9_holderOf_L2 F c τ m) (Int32.ofNat h) = _
    unfold t_X9_holderOf_L2_b
    simp (disch := omega) only [Option.bind_some, Option.bind_none, nmE, n_pp, n_pl, n_lp, n_mm, n_ml, n_lm, taI_n, taI_l, tsA_n, tsA_l, nar0, twA_1, twA_s, twA_n, twA_2, twA_twA, tsI_s, tsI_n, tsI_2, c_le, c_le_l, c_le_r, c_lt, c_lt_l, c_lt_r, c_eq, c_eq_l, c_eq_r, if_true, if_false, if_pos, if_neg, hT.2 6 rfl, hT.2 7 rfl, eH]
    rw [ih (h + 1) m (by omega) (by omega)]
    show _ = some (if A 7 (30 + h) = c then Int32.ofNat h else sHol A c (h + 1) d)
    by_cases e : A 7 (30 + h) = c
    · rw [if_pos e, if_pos e]
    · rw [if_neg e, if_neg e]
theorem hol_C (hE : EV ad B A) (hC : CR ad B A σ) {c : Int32} (h1 : c ≠ -1) (h2 : c ≠ -2) : ∀ (d h n : Nat), h + d = zN A 6 0 → d < n → f_X0_holderOf_L2 F (ad 0) c (cM X ad σ B) n (Int32.ofNat h) = some (sHol A c h d) := by
  have hA := hE.1
  obtain ⟨eH, lH⟩ := hE.2.2.H
  intro d
  induction d with
  | zero =>
    intro h n hd hn
    obtain ⟨m, rfl⟩ : ∃ m, n = m + 1 := ⟨n - 1, by omega⟩
    show f_X0_holderOf_L2_b F (ad 0) c (cM X ad σ B) (f_X0_holderOf_L2 F (ad 0) c (cM X ad σ B) m) (Int32.ofNat h) = _
    unfold f_X0_holderOf_L2_b
    simp (disch := omega) only [Option.bind_some, Option.bind_none, nmE, n_pp, n_pl, n_lp, n_mm, n_ml, n_lm, csI_s, csI_n, csI_2, csA_1, csA_s, csA_n, csA_2, csL_1, csL_2, csL_s, csL_n, csL_3, csQ_1, csQ_2, csQ_3, csQ_s, csQ_n, nar0, c_le, c_le_l, c_le_r, c_lt, c_lt_l, c_lt_r, c_eq, c_eq_l, c_eq_r, if_true, if_false, if_pos, if_neg, oc0 hA, houses_C hE]
    rfl
  | succ d ih =>
    intro h n hd hn
    obtain ⟨m, rfl⟩ : ∃ m, n = m + 1 := ⟨n - 1, by omega⟩
    show f_X0_holderOf_L2_b F (ad 0) c (cM X ad σ B) (f_X0_holderOf_L2 F (ad 0) c (cM X ad σ B) m) (Int32.ofNat h) = _
    unfold f_X0_holderOf_L2_b
    simp (disch := omega) only [Option.bind_some, Option.bind_none, nmE, n_pp, n_pl, n_lp, n_mm, n_ml, n_lm, csI_s, csI_n, csI_2, csA_1, csA_s, csA_n, csA_2, csL_1, csL_2, csL_s, csL_n, csL_3, csQ_1, csQ_2, csQ_3, csQ_s, csQ_n, nar0, c_le, c_le_l, c_le_r, c_lt, c_lt_l, c_lt_r, c_eq, c_eq_l, c_eq_r, if_true, if_false, if_pos, if_neg, oc0 hA, houses_C hE, o0_4 hA, o46_1 hA, a48 hA, hC.2.2.2.2.1]
    rw [ih (h + 1) m (by omega) (by omega)]
    show _ = some (if A 7 (30 + h) = c then Int32.ofNat h else sHol A c (h + 1) d)
    by_cases e : A 7 (30 + h) = -2
    · have n1 : ¬ A 7 (30 + h) = c := fun z => h2 (z.symm.trans e)
      have n2 : ¬ (-1 : Int32) = c := fun z => h1 z.symm
      rw [if_pos e, if_neg n1, if_neg n2]
    · rw [if_neg e]
      by_cases e : A 7 (30 + h) = c
      · rw [if_pos e, if_pos e]
      · rw [if_neg e, if_neg e]
theorem holderOf_T (hF : 1000 ≤ F) (hW : WF A) (hT : TR A τ) (c : Int32) : t_X9_holderOf F c τ = some (sHol A c 0 (zN A 6 0)) := hol_T hW hT _ 0 F (Nat.zero_add _) (by have := hW.H.2; omega)
theorem holderOf_C (hF : 1000 ≤ F) (hE : EV ad B A) (hC : CR ad B A σ) {c : Int32} (h1 : c ≠ -1) (h2 : c ≠ -2) : f_X0_holderOf F (ad 0) c (cM X ad σ B) = some (sHol A c 0 (zN A 6 0)) := hol_C hE hC h1 h2 _ 0 F (Nat.zero_add _) (by have := hE.2.2.H.2; omega)
/-- 6: holder -/
theorem st_6 (hF : 1000000 ≤ F) (h : INV ad B A σ τ) (x : Nat → Int32) : ST F 6 x X ad B σ τ := by
  obtain ⟨hE, hK, hC, hT⟩ := h
  have c : f_X0_holder F (ad 0) (x 1) (cM X ad σ B) = some (if inN (x 1) (zN A 6 1) then sHol A (x 1) 0 (zN A 6 0) else -1) := by
    unfold f_X0_holder
    rw [oc0 hE.1, Option.bind_some, isOffice_C hE, Option.bind_some, gd]
    by_cases hh : inN (x 1) (zN A 6 1)
    · obtain ⟨k, hk, e⟩ := hh.ex
      have lO := hE.2.2.O.2
      rw [if_pos hh, if_pos hh, Option.bind_some, holderOf_C (by omega) hE hC (by rw [e]; exact ofNat_ne_m1 (by omega)) (by rw [e]; exact ofNat_ne_m2 (by omega))]
      rfl
    · rw [if_neg hh, if_neg hh]
  have t : t_X9_holder F (x 1) τ = some (if inN (x 1) (zN A 6 1) then sHol A (x 1) 0 (zN A 6 0) else -1) := by
    unfold t_X9_holder
    rw [isOffice_T hE.2.2 hT, Option.bind_some, gd, holderOf_T (by omega) hE.2.2 hT]
    by_cases hh : inN (x 1) (zN A 6 1)
    · rw [if_pos hh, if_pos hh]
      rfl
    · rw [if_neg hh, if_neg hh]
  exact ST.ro ⟨hE, hK, hC, hT⟩ (st_b c) (st_b t) hC hT
/-! what is wet -/
def bit (k : Nat) : Int32 := (1 : Int32) <<< (Int32.ofNat k &&& 31)
def sWet (A : Av) (t : Int32) : Nat → Int32
  | 0 => 0
  | k + 1 => if t ≤ sHt A k then sWet A t k else sWet A t k ||| bit k
theorem wetBy_C (hF : 1000 ≤ F) (hE : EV ad B A) (hC : CR ad B A σ) (t : Int32) : f_X0_wetBy F (ad 0) t (cM X ad σ B) = some (sWet A t (zN A 6 0)) := by
  have hA := hE.1
  obtain ⟨eH, lH⟩ := hE.2.2.H
  unfold f_X0_wetBy
  refine for_up (L := fun n i s => f_X0_wetBy_L4 F (ad 0) t (cM X ad σ B) n s i) (N := zN A 6 0) (Inv := fun k s => s = sWet A t k) (Post := fun r => r = some (sWet A t (zN A 6 0))) ?_ ?_ (zN A 6 0) 0 F 0 (Nat.zero_add _) (by omega) rfl
  · intro n k s hk e
    subst e
    refine Or.inl ⟨_, rfl, ?_⟩
    show f_X0_wetBy_L4_b F (ad 0) t (cM X ad σ B) (f_X0_wetBy_L4 F (ad 0) t (cM X ad σ B) n) _ (Int32.ofNat k) = _
    unfold f_X0_wetBy_L4_b
    simp (disch := omega) only [Option.bind_some, Option.bind_none, nmE, n_pp, n_pl, n_lp, n_mm, n_ml, n_lm, csI_s, csI_n, csI_2, csA_1, csA_s, csA_n, csA_2, csL_1, csL_2, csL_s, csL_n, csL_3, csQ_1, csQ_2, csQ_3, csQ_s, csQ_n, nar0, c_le, c_le_l, c_le_r, c_lt, c_lt_l, c_lt_r, c_eq, c_eq_l, c_eq_r, if_true, if_false, if_pos, if_neg, oc0 hA, houses_C hE, o0_4 hA, o46_0 hA, a47 hA, hC.2.2.2.1]
    show (if t ≤ sHt A k then _ else _) = f_X0_wetBy_L4 F (ad 0) t (cM X ad σ B) n (if t ≤ sHt A k then sWet A t k else sWet A t k ||| bit k) _
    by_cases h : t ≤ sHt A k
    · rw [if_pos h, if_pos h]
    · rw [if_neg h, if_neg h]
      rfl
  · intro n s e
    subst e
    show f_X0_wetBy_L4_b F (ad 0) t (cM X ad σ B) (f_X0_wetBy_L4 F (ad 0) t (cM X ad σ B) n) _ (Int32.ofNat (zN A 6 0)) = _
    unfold f_X0_wetBy_L4_b
    simp (disch := omega) only [Option.bind_some, Option.bind_none, nmE, n_pp, n_pl, n_lp, n_mm, n_ml, n_lm, csI_s, csI_n, csI_2, csA_1, csA_s, csA_n, csA_2, csL_1, csL_2, csL_s, csL_n, csL_3, csQ_1, csQ_2, csQ_3, csQ_s, csQ_n, nar0, c_le, c_le_l, c_le_r, c_lt, c_lt_l, c_lt_r, c_eq, c_eq_l, c_eq_r, if_true, if_false, if_pos, if_neg, oc0 hA, houses_C hE]
theorem wet_T (hF : 1000 ≤ F) (hW : WF A) (hT : TR A τ) (t : Int32) : t_X9_wet_L20 F t τ F 0 0 = some (sWet A t (zN A 6 0), τ) := by
  obtain ⟨eH, lH⟩ := hW.H
  refine for_up (L := fun n i s => t_X9_wet_L20 F t τ n s i) (N := zN A 6 0) (Inv := fun k s => s = sWet A t k) (Post := fun r => r = some (sWet A t (zN A 6 0), τ)) ?_ ?_ (zN A 6 0) 0 F 0 (Nat.zero_add _) (by omega) rfl
  · intro n k s hk e
    subst e
    refine Or.inl ⟨_, rfl, ?_⟩
    show t_X9_wet_L20_b F t τ (t_X9_wet_L20 F t τ n) _ (Int32.ofNat k) = _
    unfold t_X9_wet_L20_b
    rw [heightOf_T (by omega) hT]
    simp (disch := omega) only [Option.bind_some, Option.bind_none, nmE, n_pp, n_pl, n_lp, n_mm, n_ml, n_lm, taI_n, taI_l, tsA_n, tsA_l, nar0, twA_1, twA_s, twA_n, twA_2, twA_twA, tsI_s, tsI_n, tsI_2, c_le, c_le_l, c_le_r, c_lt, c_lt_l, c_lt_r, c_eq, c_eq_l, c_eq_r, if_true, if_false, if_pos, if_neg, hT.2 6 rfl, eH]
    show (if t ≤ sHt A k then _ else _) = t_X9_wet_L20 F t τ n (if t ≤ sHt A k then sWet A t k else sWet A t k ||| bit k) _
    by_cases h : t ≤ sHt A k
    · rw [if_pos h, if_pos h]
    · rw [if_neg h, if_neg h]
      rfl
  · intro n s e
    subst e
    show t_X9_wet_L20_b F t τ (t_X9_wet_L20 F t τ n) _ (Int32.ofNat (zN A 6 0)) = _
    unfold t_X9_wet_L20_b
    simp (disch := omega) only [Option.bind_some, Option.bind_none, nmE, n_pp, n_pl, n_lp, n_mm, n_ml, n_lm, taI_n, taI_l, tsA_n, tsA_l, nar0, twA_1, twA_s, twA_n, twA_2, twA_twA, tsI_s, tsI_n, tsI_2, c_le, c_le_l, c_le_r, c_lt, c_lt_l, c_lt_r, c_eq, c_eq_l, c_eq_r, if_true, if_false, if_pos, if_neg, hT.2 6 rfl, eH]
/-- 9: wet -/
theorem st_9 (hF : 1000000 ≤ F) (h : INV ad B A σ τ) (x : Nat → Int32) : ST F 9 x X ad B σ τ := by
  obtain ⟨hE, hK, hC, hT⟩ := h
  have h1 : stC F 9 (ad 0) x (cM X ad σ B) = f_X0_wet F (ad 0) (x 1) (cM X ad σ B) := rfl
  have h2 : stT F 9 x τ = t_X9_wet F (x 1) τ := rfl
  unfold f_X0_wet at h1
  unfold t_X9_wet at h2
  rw [isHour_C, Option.bind_some, gd] at h1
  rw [isHour_T, Option.bind_some, gd] at h2
  by_cases hh : inN (x 1) 24
  · rw [if_pos hh] at h1 h2
    obtain ⟨σ', e1, g, b, e3⟩ := tideAt_C (X := X) (F := F) (hour := x 1) (by omega) hE hC
    obtain ⟨τ', e2, hT'⟩ := tideOf_T (F := F) (hour := x 1) (by omega) hE.2.1.2.2.2.2.2.2.2.2.1.c hT
    have hC' : CR ad B A σ' := by rw [e3]; exact (hC.a rfl).i rfl
    rw [oc0 hE.1, Option.bind_some, e1, Option.bind_some, oc0 hE.1, Option.bind_some, wetBy_C (by omega) hE hC'] at h1
    rw [e2, Option.bind_some, wet_T (by omega) hE.2.2 hT'] at h2
    exact ST.ro ⟨hE, hK, hC, hT⟩ h1 h2 hC' hT'
  · rw [if_neg hh] at h1 h2
    exact ST.ro ⟨hE, hK, hC, hT⟩ h1 h2 hC hT
