set_option maxRecDepth 100000
/-! the steps that ask who is reached -/
variable {X : Nat → Option Ob} {ad : Nat → Nat} {B : Sw} {A A' : Av} {σ σ' : Cs} {τ : Tw} {F : Nat}
theorem reachedAt_C (hF : 100000 ≤ F) (hE : EV ad B A) (hC : CR ad B A σ) (hour : Int32) : ∃ σ', f_X0_reachedAt F (ad 0) hour (cM X ad σ B) = some (sReach A (sTide A hour) (-1) (-1), cM X ad σ' B) ∧ CR ad B A σ' ∧ ∃ g b, σ' = csI (csA σ 11 g) 41 b := by
  obtain ⟨σ', e1, g, b, e3⟩ := tideAt_C (X := X) (F := F) (hour := hour) (by omega) hE hC
  have hC' : CR ad B A σ' := by rw [e3]; exact (hC.a rfl).i rfl
  unfold f_X0_reachedAt
  rw [oc0 hE.1, Option.bind_some, e1, Option.bind_some, oc0 hE.1, Option.bind_some, reach_C hF hE hC' (Or.inl rfl)]
  exact ⟨σ', rfl, hC', g, b, e3⟩
theorem EV.l0 (hE : EV ad B A) : LawC A 0 := hE.2.1.2.2.2.2.2.2.2.2.1.c
theorem EV.l1 (hE : EV ad B A) : LawC A 1 := hE.2.1.2.2.2.2.2.2.2.2.2.1.c
theorem EV.l2 (hE : EV ad B A) : LawC A 2 := hE.2.1.2.2.2.2.2.2.2.2.2.2.c
/-- 10: reached -/
theorem st_10 (hF : 1000000 ≤ F) (h : INV ad B A σ τ) (x : Nat → Int32) : ST F 10 x X ad B σ τ := by
  have hI := h
  obtain ⟨hE, hK, hC, hT⟩ := h
  have h1 : stC F 10 (ad 0) x (cM X ad σ B) = f_X0_reached F (ad 0) (x 1) (cM X ad σ B) := rfl
  have h2 : stT F 10 x τ = t_X9_reached F (x 1) τ := rfl
  unfold f_X0_reached at h1
  unfold t_X9_reached at h2
  rw [isHour_C, Option.bind_some, gd] at h1
  rw [isHour_T, Option.bind_some, gd] at h2
  by_cases hh : inN (x 1) 24
  · rw [if_pos hh] at h1 h2
    obtain ⟨σ', e1, hC', -⟩ := reachedAt_C (X := X) (F := F) (by omega) hE hC (x 1)
    obtain ⟨τ', e2, hT'⟩ := reach_T (F := F) (by omega) hE.2.2 hT hE.l0 (hour := x 1) (ns := -1) (nh := -1)
    rw [oc0 hE.1, Option.bind_some, e1] at h1
    rw [e2] at h2
    exact ST.ro hI h1 h2 hC' hT'
  · rw [if_neg hh] at h1 h2
    exact ST.ro hI h1 h2 hC hT
/-- in how many hours a house is reached -/
def sHrs (A : Av) (h : Nat) : Nat → Int32
  | 0 => 0
  | k + 1 => sHrs A h k + ((sReach A (sTide A (Int32.ofNat k)) (-1) (-1) >>> (Int32.ofNat h &&& 31)) &&& 1)
/-- 11: hours -/
theorem st_11 (hF : 1000000 ≤ F) (h : INV ad B A σ τ) (x : Nat → Int32) : ST F 11 x X ad B σ τ := by
  have hI := h
  obtain ⟨hE, hK, hC, hT⟩ := h
  have h1 : stC F 11 (ad 0) x (cM X ad σ B) = f_X0_hours F (ad 0) (x 1) (cM X ad σ B) := rfl
  have h2 : stT F 11 x τ = t_X9_hours F (x 1) τ := rfl
  unfold f_X0_hours at h1
  unfold t_X9_hours at h2
  rw [oc0 hE.1, Option.bind_some, isHouse_C hE, Option.bind_some, gd] at h1
  rw [isHouse_T hE.2.2 hT, Option.bind_some, gd] at h2
  by_cases hh : inN (x 1) (zN A 6 0)
  · obtain ⟨k, hk, e⟩ := hh.ex
    rw [if_pos hh, e] at h1 h2
    have c : ∃ σ', f_X0_hours_L14 F (ad 0) (Int32.ofNat k) F 0 0 (cM X ad σ B) = some (sHrs A k 24, cM X ad σ' B) ∧ CR ad B A σ' := by
      refine for_up (L := fun n i (s : Int32 × Cs) => f_X0_hours_L14 F (ad 0) (Int32.ofNat k) n s.1 i (cM X ad s.2 B)) (N := 24) (Inv := fun j s => s.1 = sHrs A k j ∧ CR ad B A s.2) (Post := fun r => ∃ σ', r = some (sHrs A k 24, cM X ad σ' B) ∧ CR ad B A σ') ?_ ?_ 24 0 F (0, σ) (Nat.zero_add _) (by omega) ⟨rfl, hC⟩
      · intro n j s hj ⟨e1, e2⟩
        obtain ⟨s1, s2⟩ := s
        have e1 : s1 = sHrs A k j := e1
        subst e1
        obtain ⟨σ', e3, hC', -⟩ := reachedAt_C (X := X) (F := F) (by omega) hE e2 (Int32.ofNat j)
        refine Or.inl ⟨(sHrs A k (j + 1), σ'), ⟨rfl, hC'⟩, ?_⟩
        show f_X0_hours_L14_b F (ad 0) (Int32.ofNat k) (f_X0_hours_L14 F (ad 0) (Int32.ofNat k) n) _ (Int32.ofNat j) _ = f_X0_hours_L14 F (ad 0) (Int32.ofNat k) n _ _ _
        unfold f_X0_hours_L14_b
        simp (disch := omega) only [Option.bind_some, Option.bind_none, nmE, n_pp, n_pl, n_lp, n_mm, n_ml, n_lm, csI_s, csI_n, csI_2, csA_1, csA_s, csA_n, csA_2, csL_1, csL_2, csL_s, csL_n, csL_3, csQ_1, csQ_2, csQ_3, csQ_s, csQ_n, nar0, c_le, c_le_l, c_le_r, c_lt, c_lt_l, c_lt_r, c_eq, c_eq_l, c_eq_r, if_true, if_false, if_pos, if_neg, oc0 hE.1, e3]
        rfl
      · intro n s ⟨e1, e2⟩
        refine ⟨s.2, ?_, e2⟩
        show f_X0_hours_L14_b F (ad 0) (Int32.ofNat k) (f_X0_hours_L14 F (ad 0) (Int32.ofNat k) n) _ (Int32.ofNat 24) _ = _
        unfold f_X0_hours_L14_b
        rw [if_pos (show (24 : Int32) ≤ Int32.ofNat 24 from Int32.le_refl _), e1]
    have t : ∃ τ', t_X9_hours_L14 F (Int32.ofNat k) F 0 0 τ = some (sHrs A k 24, τ') ∧ TR A τ' := by
      refine for_up (L := fun n i (s : Int32 × Tw) => t_X9_hours_L14 F (Int32.ofNat k) n s.1 i s.2) (N := 24) (Inv := fun j s => s.1 = sHrs A k j ∧ TR A s.2) (Post := fun r => ∃ τ', r = some (sHrs A k 24, τ') ∧ TR A τ') ?_ ?_ 24 0 F (0, τ) (Nat.zero_add _) (by omega) ⟨rfl, hT⟩
      · intro n j s hj ⟨e1, e2⟩
        obtain ⟨s1, s2⟩ := s
        have e1 : s1 = sHrs A k j := e1
        subst e1
        obtain ⟨τ', e3, hT'⟩ := reach_T (F := F) (by omega) hE.2.2 e2 hE.l0 (hour := Int32.ofNat j) (ns := -1) (nh := -1)
        refine Or.inl ⟨(sHrs A k (j + 1), τ'), ⟨rfl, hT'⟩, ?_⟩
        show t_X9_hours_L14_b F (Int32.ofNat k) (t_X9_hours_L14 F (Int32.ofNat k) n) _ (Int32.ofNat j) _ = t_X9_hours_L14 F (Int32.ofNat k) n _ _ _
        unfold t_X9_hours_L14_b
        simp (disch := omega) only [Option.bind_some, Option.bind_none, nmE, n_pp, n_pl, n_lp, n_mm, n_ml, n_lm, taI_n, taI_l, tsA_n, tsA_l, nar0, twA_1, twA_s, twA_n, twA_2, twA_twA, tsI_s, tsI_n, tsI_2, c_le, c_le_l, c_le_r, c_lt, c_lt_l, c_lt_r, c_eq, c_eq_l, c_eq_r, if_true, if_false, if_pos, if_neg, e3]
        rfl
      · intro n s ⟨e1, e2⟩
        refine ⟨s.2, ?_, e2⟩
        show t_X9_hours_L14_b F (Int32.ofNat k) (t_X9_hours_L14 F (Int32.ofNat k) n) _ (Int32.ofNat 24) _ = _
        unfold t_X9_hours_L14_b
        rw [if_pos (show (24 : Int32) ≤ Int32.ofNat 24 from Int32.le_refl _), e1]
    obtain ⟨σ', c, hC'⟩ := c
    obtain ⟨τ', t, hT'⟩ := t
    rw [c] at h1
    rw [t] at h2
    exact ST.ro hI h1 h2 hC' hT'
  · rw [if_neg hh] at h1 h2
    exact ST.ro hI h1 h2 hC hT
theorem sFx_b (hW : WF A) {t ns dry : Int32} : ∀ (n : Nat) (v : Int32), b16 v → b16 (sFx A t ns dry n v) := by
  intro n
  induction n with
  | zero => intro v hv; exact hv
  | succ n ih =>
    intro v hv
    show b16 (if sRd A t ns dry v (zN A 6 3) = v then v else sFx A t ns dry n (sRd A t ns dry v (zN A 6 3)))
    by_cases h : sRd A t ns dry v (zN A 6 3) = v
    · rw [if_pos h]; exact hv
    · rw [if_neg h]; exact ih _ (sRd_b hW hv _ (Nat.le_refl _)).1
theorem sReach_b (hW : WF A) {t ns nh : Int32} : b16 (sReach A t ns nh) := sFx_b hW _ _ (sQy_b hW _ (Nat.le_refl _))
/-- how many are cut off -/
def sCut (A : Av) (k : Nat) (st t : Int32) : Int32 := if st = 0 then pc ((sReach A t (-1) (-1) &&& (sReach A t (-1) (Int32.ofNat k) ^^^ (-1))) &&& (bit k ^^^ (-1))) else pc ((sReach A t (-1) (-1) &&& (sReach A t (Int32.ofNat k) (-1) ^^^ (-1))) &&& (-1))
theorem cut_C (hF : 100000 ≤ F) (hE : EV ad B A) (hC : CR ad B A σ) {k : Nat} {st t : Int32} (hk : st = 0 → k < zN A 6 0) : f_X0_cutBy F (ad 0) (Int32.ofNat k) st t (cM X ad σ B) = some (sCut A k st t) := by
  have hb := sReach_b hE.2.2 (t := t) (ns := -1) (nh := -1)
  unfold f_X0_cutBy
  rw [oc0 hE.1, Option.bind_some, reach_C hF hE hC (Or.inl rfl), Option.bind_some]
  unfold sCut
  by_cases h0 : st = 0
  · rw [if_pos h0, if_pos h0]
    unfold f_X0_cutBy_j20 f_X0_cutBy_j29
    rw [if_pos h0, oc0 hE.1, Option.bind_some, reach_C hF hE hC (Or.inr ⟨k, hk h0, rfl⟩), Option.bind_some, if_pos h0]
    unfold f_X0_cutBy_j45
    rw [bit_ofNat, count_C hb.an.an]
    rfl
  · rw [if_neg h0, if_neg h0]
    unfold f_X0_cutBy_j20 f_X0_cutBy_j29
    rw [if_neg h0, oc0 hE.1, Option.bind_some, reach_C hF hE hC (Or.inl rfl), Option.bind_some, if_neg h0]
    unfold f_X0_cutBy_j45
    have e : (0 : Int32) ^^^ (-1) = -1 := by decide
    rw [e, count_C hb.an.an]
    rfl
theorem cut_T (hF : 100000 ≤ F) (hW : WF A) (hL : LawC A 0) (hT : TR A τ) {k : Nat} {st hour : Int32} : ∃ τ', t_X9_cutOf F (Int32.ofNat k) st hour τ = some (sCut A k st (sTide A hour), τ') ∧ TR A τ' := by
  unfold t_X9_cutOf
  obtain ⟨τ1, e1, hT1⟩ := reach_T (F := F) hF hW hT hL (hour := hour) (ns := -1) (nh := -1)
  rw [e1, Option.bind_some]
  unfold sCut
  by_cases h0 : st = 0
  · obtain ⟨τ2, e2, hT2⟩ := reach_T (F := F) hF hW hT1 hL (hour := hour) (ns := -1) (nh := Int32.ofNat k)
    rw [if_pos h0, if_pos h0]
    unfold t_X9_cutOf_j20 t_X9_cutOf_j29
    rw [if_pos h0, e2, Option.bind_some, if_pos h0, bit_ofNat, count_T (by omega)]
    exact ⟨τ2, rfl, hT2⟩
  · obtain ⟨τ2, e2, hT2⟩ := reach_T (F := F) hF hW hT1 hL (hour := hour) (ns := Int32.ofNat k) (nh := -1)
    rw [if_neg h0, if_neg h0]
    unfold t_X9_cutOf_j20 t_X9_cutOf_j29
    rw [if_neg h0, e2, Option.bind_some, if_neg h0, count_T (by omega)]
    exact ⟨τ2, rfl, hT2⟩
