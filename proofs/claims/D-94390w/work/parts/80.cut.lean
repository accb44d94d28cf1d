set_option maxRecDepth 100000
/-! cut and worst -/
variable {X : Nat → Option Ob} {ad : Nat → Nat} {B : Sw} {A A' : Av} {σ σ' : Cs} {τ : Tw} {F : Nat}
theorem g_ge {α : Type} {x : Int32} {N : Nat} {a b : α} (hN : N < 2147483648) : (if x < 0 then a else if Int32.ofNat N ≤ x then a else b) = if inN x N then b else a := by
  by_cases h1 : x < 0
  · have h2 := Int32.lt_iff_toInt_lt.mp h1
    have h3 : (0 : Int32).toInt = 0 := rfl
    rw [if_pos h1, if_neg (fun z => by have := z.1; omega)]
  · have h2 := Int32.le_iff_toInt_le.mp (Int32.not_lt.mp h1)
    have h3 : (0 : Int32).toInt = 0 := rfl
    rw [if_neg h1]
    by_cases h4 : Int32.ofNat N ≤ x
    · have h5 := Int32.le_iff_toInt_le.mp h4
      rw [i_tn hN] at h5
      rw [if_pos h4, if_neg (fun z => by have := z.2; omega)]
    · have h5 := Int32.lt_iff_toInt_lt.mp (Int32.not_le.mp h4)
      rw [i_tn hN] at h5
      rw [if_neg h4, if_pos ⟨by omega, h5⟩]
/-- how many there are to be cut -/
def sMn (A : Av) (st : Int32) : Nat := if st = 0 then zN A 6 0 else zN A 6 3
theorem sMn_le (hW : WF A) {st : Int32} : sMn A st ≤ 16 := by
  have := hW.H.2
  have := hW.S.2
  unfold sMn
  by_cases h : st = 0
  · rw [if_pos h]; omega
  · rw [if_neg h]; omega
theorem many_T (hW : WF A) (hT : TR A τ) (st : Int32) : t_X9_manyOf F st τ = some (Int32.ofNat (sMn A st)) := by
  unfold t_X9_manyOf sMn
  by_cases h : st = 0
  · rw [if_pos h, if_pos h]
    simp (disch := omega) only [Option.bind_some, Option.bind_none, nmE, n_pp, n_pl, n_lp, n_mm, n_ml, n_lm, taI_n, taI_l, tsA_n, tsA_l, nar0, twA_1, twA_s, twA_n, twA_2, twA_twA, tsI_s, tsI_n, tsI_2, c_le, c_le_l, c_le_r, c_lt, c_lt_l, c_lt_r, c_eq, c_eq_l, c_eq_r, if_true, if_false, if_pos, if_neg, hT.2 6 rfl]
    rw [hW.H.1]
  · rw [if_neg h, if_neg h]
    simp (disch := omega) only [Option.bind_some, Option.bind_none, nmE, n_pp, n_pl, n_lp, n_mm, n_ml, n_lm, taI_n, taI_l, tsA_n, tsA_l, nar0, twA_1, twA_s, twA_n, twA_2, twA_twA, tsI_s, tsI_n, tsI_2, c_le, c_le_l, c_le_r, c_lt, c_lt_l, c_lt_r, c_eq, c_eq_l, c_eq_r, if_true, if_false, if_pos, if_neg, hT.2 6 rfl]
    rw [hW.S.1]
theorem cutN {k : Nat} {st : Int32} (h : k < sMn A st) : st = 0 → k < zN A 6 0 := fun e => by
  unfold sMn at h
  rw [if_pos e] at h
  exact h
/-- 13: cut -/
theorem cut_CT (hF : 1000000 ≤ F) (hE : EV ad B A) (hC : CR ad B A σ) (hT : TR A τ) (y st hr : Int32) : ∃ r σ' τ', f_X0_cut F (ad 0) y st hr (cM X ad σ B) = some (r, cM X ad σ' B) ∧ t_X9_cut F y st hr τ = some (r, τ') ∧ CR ad B A σ' ∧ TR A τ' := by
  have hA := hE.1
  have hB := hE.2.1
  have lM := sMn_le hE.2.2 (st := st)
  unfold f_X0_cut t_X9_cut
  rw [many_T hE.2.2 hT, Option.bind_some, g_ge (by omega), isHour_C, isHour_T, Option.bind_some, Option.bind_some, gd, gd]
  have c1 : (if st = 0 then Option.bind (oc (cM X ad σ B) (ad 0) 0) fun u7 => Option.bind (f_X0_isHouse F (ad 0) y (cM X ad σ B)) fun q5 => if q5 = 0 then some ((-1 : Int32), cM X ad σ B) else Option.bind (oc (cM X ad σ B) (ad 0) 0) fun u12 => Option.bind (f_X0_tideAt F (ad 0) hr (cM X ad σ B)) fun q10 => Option.bind (oc q10.2 (ad 0) 0) fun u16 => Option.bind (f_X0_cutBy F (ad 0) y st q10.1 q10.2) fun q14 => some (q14, q10.2)
      else Option.bind (gfR (cM X ad σ B) (ad 0) 0 3) fun x18 => Option.bind (gfR (cM X ad σ B) x18 3 1) fun x20 => Option.bind (oc (cM X ad σ B) x20 20) fun u24 => Option.bind (f_J2_size F x20 (cM X ad σ B)) fun q22 => Option.bind (p_X0_within F y 0 (q22 - 1)) fun q26 => if q26 = 0 then some ((-1 : Int32), cM X ad σ B) else Option.bind (oc (cM X ad σ B) (ad 0) 0) fun u31 => Option.bind (f_X0_tideAt F (ad 0) hr (cM X ad σ B)) fun q29 => Option.bind (oc q29.2 (ad 0) 0) fun u35 => Option.bind (f_X0_cutBy F (ad 0) y st q29.1 q29.2) fun q33 => some (q33, q29.2))
      = if inN y (sMn A st) then (Option.bind (f_X0_tideAt F (ad 0) hr (cM X ad σ B)) fun q10 => Option.bind (oc q10.2 (ad 0) 0) fun u16 => Option.bind (f_X0_cutBy F (ad 0) y st q10.1 q10.2) fun q14 => some (q14, q10.2)) else some (-1, cM X ad σ B) := by
    unfold sMn
    by_cases h : st = 0
    · rw [if_pos h, if_pos h, oc0 hA, Option.bind_some, isHouse_C hE, Option.bind_some, gd]
      rfl
    · rw [if_neg h, if_neg h, o0_3 hA, Option.bind_some, (hB.tw σ).2.1, Option.bind_some, (hB.sn F σ).1, Option.bind_some, (hB.sn F σ).2, Option.bind_some, within_N (by have := hE.2.2.S.2; omega), Option.bind_some, gd, oc0 hA]
      rfl
  rw [c1]
  by_cases hh : inN hr 24
  · rw [if_pos hh, if_pos hh]
    by_cases hy : inN y (sMn A st)
    · rw [if_pos hy, if_pos hy]
      obtain ⟨k, hk, e⟩ := hy.ex
      obtain ⟨σ1, e1, g, b, e3⟩ := tideAt_C (X := X) (F := F) (hour := hr) (by omega) hE hC
      have hC1 : CR ad B A σ1 := by rw [e3]; exact (hC.a rfl).i rfl
      obtain ⟨τ1, e2, hT1⟩ := cut_T (F := F) (k := k) (st := st) (hour := hr) (by omega) hE.2.2 hE.l0 hT
      rw [e, e1, e2, Option.bind_some, oc0 hA, Option.bind_some, cut_C (by omega) hE hC1 (cutN hk)]
      exact ⟨_, σ1, τ1, rfl, rfl, hC1, hT1⟩
    · rw [if_neg hy, if_neg hy]
      exact ⟨-1, σ, τ, rfl, rfl, hC, hT⟩
  · rw [if_neg hh, if_neg hh]
    refine ⟨-1, σ, τ, rfl, ?_, hC, hT⟩
    by_cases hy : inN y (sMn A st)
    · rw [if_pos hy]
    · rw [if_neg hy]
theorem st_13 (hF : 1000000 ≤ F) (h : INV ad B A σ τ) (x : Nat → Int32) : ST F 13 x X ad B σ τ := by
  obtain ⟨r, σ', τ', h1, h2, h3, h4⟩ := cut_CT (X := X) hF h.1 h.2.2.1 h.2.2.2 (x 1) (if x 2 = 0 then 0 else 1) (x 3)
  exact ST.ro h h1 h2 h3 h4
/-- the best one so far, and its number -/
def sWs (A : Av) (st t : Int32) : Nat → Int32 × Int32
  | 0 => (-2, -1)
  | k + 1 => if (sWs A st t k).2 < sCut A k st t then (Int32.ofNat k, sCut A k st t) else sWs A st t k
theorem sCut_n (hW : WF A) {k : Nat} {st t : Int32} : (0 : Int32) ≤ sCut A k st t := by
  have hb := sReach_b hW (t := t) (ns := -1) (nh := -1)
  unfold sCut
  by_cases h : st = 0
  · rw [if_pos h]
    obtain ⟨j, hj, e⟩ := pc_le ((hb.an (w := sReach A t (-1) (Int32.ofNat k) ^^^ (-1))).an (w := bit k ^^^ (-1)))
    rw [e]
    exact ofNat_nn (by omega)
  · rw [if_neg h]
    obtain ⟨j, hj, e⟩ := pc_le ((hb.an (w := sReach A t (Int32.ofNat k) (-1) ^^^ (-1))).an (w := -1))
    rw [e]
    exact ofNat_nn (by omega)
theorem sWs_n (hW : WF A) {st t : Int32} : ∀ k, 1 ≤ k → k ≤ 1000 → ∃ j, j < 1000 ∧ (sWs A st t k).1 = Int32.ofNat j := by
  intro k
  induction k with
  | zero => intro h; omega
  | succ k ih =>
    intro _ hk
    show ∃ j, j < 1000 ∧ (if (sWs A st t k).2 < sCut A k st t then (Int32.ofNat k, sCut A k st t) else sWs A st t k).1 = Int32.ofNat j
    by_cases h : (sWs A st t k).2 < sCut A k st t
    · rw [if_pos h]
      exact ⟨k, by omega, rfl⟩
    · rw [if_neg h]
      by_cases h0 : k = 0
      · subst h0
        refine absurd ?_ h
        show (-1 : Int32) < _
        have := sCut_n hW (k := 0) (st := st) (t := t)
        exact Int32.lt_of_lt_of_le (by decide) this
      · exact ih (by omega) (by omega)
/-- 14: worst -/
theorem worst_CT (hF : 1000000 ≤ F) (hE : EV ad B A) (hC : CR ad B A σ) (hT : TR A τ) (st hr : Int32) : ∃ r σ' τ', f_X0_worst F (ad 0) st hr (cM X ad σ B) = some (r, cM X ad σ' B) ∧ t_X9_worst F st hr τ = some (r, τ') ∧ CR ad B A σ' ∧ TR A τ' := by
  have hA := hE.1
  have hB := hE.2.1
  have lM := sMn_le hE.2.2 (st := st)
  unfold f_X0_worst t_X9_worst
  rw [isHour_C, isHour_T, Option.bind_some, Option.bind_some, gd, gd]
  by_cases hh : inN hr 24
  · rw [if_pos hh, if_pos hh]
    obtain ⟨σ1, e1, g, b, e3⟩ := tideAt_C (X := X) (F := F) (hour := hr) (by omega) hE hC
    have hC1 : CR ad B A σ1 := by rw [e3]; exact (hC.a rfl).i rfl
    rw [oc0 hA, Option.bind_some, e1, Option.bind_some]
    have c : f_X0_worst_L25 F (ad 0) st (sTide A hr) (cM X ad σ1 B) F (-2) (-1) 0 = some ((sWs A st (sTide A hr) (sMn A st)).1, cM X ad σ1 B) := by
      refine for_up (L := fun n i (s : Int32 × Int32) => f_X0_worst_L25 F (ad 0) st (sTide A hr) (cM X ad σ1 B) n s.1 s.2 i) (N := sMn A st) (Inv := fun k s => s = sWs A st (sTide A hr) k) (Post := fun r => r = some ((sWs A st (sTide A hr) (sMn A st)).1, cM X ad σ1 B)) ?_ ?_ (sMn A st) 0 F (-2, -1) (Nat.zero_add _) (by omega) rfl
      · intro n k s hk e
        subst e
        refine Or.inl ⟨_, rfl, ?_⟩
        show f_X0_worst_L25_b F (ad 0) st (sTide A hr) (cM X ad σ1 B) (f_X0_worst_L25 F (ad 0) st (sTide A hr) (cM X ad σ1 B) n) _ _ (Int32.ofNat k) = f_X0_worst_L25 F (ad 0) st (sTide A hr) (cM X ad σ1 B) n (if (sWs A st (sTide A hr) k).2 < sCut A k st (sTide A hr) then (Int32.ofNat k, sCut A k st (sTide A hr)) else sWs A st (sTide A hr) k).1 (if (sWs A st (sTide A hr) k).2 < sCut A k st (sTide A hr) then (Int32.ofNat k, sCut A k st (sTide A hr)) else sWs A st (sTide A hr) k).2 _
        have j : f_X0_worst_j48 F (f_X0_worst_L25 F (ad 0) st (sTide A hr) (cM X ad σ1 B) n) (ad 0) st (sWs A st (sTide A hr) k).1 (sWs A st (sTide A hr) k).2 (sTide A hr) (Int32.ofNat k) (Int32.ofNat k) (Int32.ofNat (sMn A st)) (cM X ad σ1 B) = f_X0_worst_L25 F (ad 0) st (sTide A hr) (cM X ad σ1 B) n (if (sWs A st (sTide A hr) k).2 < sCut A k st (sTide A hr) then (Int32.ofNat k, sCut A k st (sTide A hr)) else sWs A st (sTide A hr) k).1 (if (sWs A st (sTide A hr) k).2 < sCut A k st (sTide A hr) then (Int32.ofNat k, sCut A k st (sTide A hr)) else sWs A st (sTide A hr) k).2 (Int32.ofNat (k + 1)) := by
          have hc := cut_C (X := X) (F := F) (k := k) (st := st) (t := sTide A hr) (by omega) hE hC1 (cutN hk)
          unfold f_X0_worst_j48
          simp (disch := omega) only [Option.bind_some, Option.bind_none, nmE, n_pp, n_pl, n_lp, n_mm, n_ml, n_lm, csI_s, csI_n, csI_2, csA_1, csA_s, csA_n, csA_2, csL_1, csL_2, csL_s, csL_n, csL_3, csQ_1, csQ_2, csQ_3, csQ_s, csQ_n, nar0, c_le, c_le_l, c_le_r, c_lt, c_lt_l, c_lt_r, c_eq, c_eq_l, c_eq_r, if_true, if_false, if_pos, if_neg, oc0 hA, hc]
          by_cases h : (sWs A st (sTide A hr) k).2 < sCut A k st (sTide A hr)
          · rw [if_pos h, if_pos h]
          · rw [if_neg h, if_neg h]
        unfold f_X0_worst_L25_b
        unfold sMn at j
        by_cases h : st = 0
        · rw [if_pos h] at j
          rw [if_pos h, oc0 hA, Option.bind_some, houses_C hE, Option.bind_some]
          exact j
        · rw [if_neg h] at j
          rw [if_neg h]
          simp (disch := omega) only [Option.bind_some, Option.bind_none, nmE, n_pp, n_pl, n_lp, n_mm, n_ml, n_lm, csI_s, csI_n, csI_2, csA_1, csA_s, csA_n, csA_2, csL_1, csL_2, csL_s, csL_n, csL_3, csQ_1, csQ_2, csQ_3, csQ_s, csQ_n, nar0, c_le, c_le_l, c_le_r, c_lt, c_lt_l, c_lt_r, c_eq, c_eq_l, c_eq_r, if_true, if_false, if_pos, if_neg, o0_3 hA, hB.tw, hB.sn F]
          exact j
      · intro n s e
        subst e
        show f_X0_worst_L25_b F (ad 0) st (sTide A hr) (cM X ad σ1 B) (f_X0_worst_L25 F (ad 0) st (sTide A hr) (cM X ad σ1 B) n) _ _ (Int32.ofNat (sMn A st)) = _
        have j : f_X0_worst_j48 F (f_X0_worst_L25 F (ad 0) st (sTide A hr) (cM X ad σ1 B) n) (ad 0) st (sWs A st (sTide A hr) (sMn A st)).1 (sWs A st (sTide A hr) (sMn A st)).2 (sTide A hr) (Int32.ofNat (sMn A st)) (Int32.ofNat (sMn A st)) (Int32.ofNat (sMn A st)) (cM X ad σ1 B) = some ((sWs A st (sTide A hr) (sMn A st)).1, cM X ad σ1 B) := by
          unfold f_X0_worst_j48
          rw [if_pos (Int32.le_refl _)]
        unfold f_X0_worst_L25_b
        by_cases h : st = 0
        · have e : sMn A st = zN A 6 0 := if_pos h
          rw [if_pos h, oc0 hA, Option.bind_some, houses_C hE, Option.bind_some]
          rw [e] at j ⊢
          exact j
        · have e : sMn A st = zN A 6 3 := if_neg h
          rw [if_neg h]
          simp (disch := omega) only [Option.bind_some, Option.bind_none, nmE, n_pp, n_pl, n_lp, n_mm, n_ml, n_lm, csI_s, csI_n, csI_2, csA_1, csA_s, csA_n, csA_2, csL_1, csL_2, csL_s, csL_n, csL_3, csQ_1, csQ_2, csQ_3, csQ_s, csQ_n, nar0, c_le, c_le_l, c_le_r, c_lt, c_lt_l, c_lt_r, c_eq, c_eq_l, c_eq_r, if_true, if_false, if_pos, if_neg, o0_3 hA, hB.tw, hB.sn F]
          rw [e] at j ⊢
          exact j
    have t : ∃ τ', t_X9_worst_L18 F st hr F (-2) 0 0 τ = some ((sWs A st (sTide A hr) (sMn A st)).1, τ') ∧ TR A τ' := by
      refine for_up (L := fun n i (s : Int32 × Int32 × Tw) => t_X9_worst_L18 F st hr n s.1 s.2.1 i s.2.2) (N := sMn A st) (Inv := fun k s => TR A s.2.2 ∧ ((k = 0 ∧ s.1 = -2 ∧ s.2.1 = 0) ∨ (1 ≤ k ∧ s.1 = (sWs A st (sTide A hr) k).1 ∧ s.2.1 = (sWs A st (sTide A hr) k).2))) (Post := fun r => ∃ τ', r = some ((sWs A st (sTide A hr) (sMn A st)).1, τ') ∧ TR A τ') ?_ ?_ (sMn A st) 0 F (-2, 0, τ) (Nat.zero_add _) (by omega) ⟨hT, Or.inl ⟨rfl, rfl, rfl⟩⟩
      · intro n k s hk ⟨hT1, hs⟩
        obtain ⟨s1, s2, s3⟩ := s
        obtain ⟨τ2, e2, hT2⟩ := cut_T (F := F) (k := k) (st := st) (hour := hr) (by omega) hE.2.2 hE.l0 hT1
        have h5 : ¬ Int32.ofNat (sMn A st) ≤ Int32.ofNat k := by rw [c_le _ _ (by omega) (by omega)]; omega
        have red : t_X9_worst_L18 F st hr (n + 1) s1 s2 (Int32.ofNat k) s3 = if s1 < 0 then t_X9_worst_L18 F st hr n (Int32.ofNat k) (sCut A k st (sTide A hr)) (Int32.ofNat (k + 1)) τ2 else if s2 < sCut A k st (sTide A hr) then t_X9_worst_L18 F st hr n (Int32.ofNat k) (sCut A k st (sTide A hr)) (Int32.ofNat (k + 1)) τ2 else t_X9_worst_L18 F st hr n s1 s2 (Int32.ofNat (k + 1)) τ2 := by
          show t_X9_worst_L18_b F st hr (t_X9_worst_L18 F st hr n) s1 s2 (Int32.ofNat k) s3 = _
          unfold t_X9_worst_L18_b
          rw [many_T hE.2.2 hT1, Option.bind_some, if_neg h5]
          have e2 : t_X9_cutOf F (Int32.ofNat k) st hr s3 = _ := e2
          rw [e2, Option.bind_some]
          have i1 : Int32.ofNat k + 1 = Int32.ofNat (k + 1) := (Int32.ofNat_add k 1).symm
          simp only [nmE, i1]
        rcases hs with ⟨h0, q1, q2⟩ | ⟨h0, q1, q2⟩
        · subst h0
          have q1 : s1 = -2 := q1
          refine Or.inl ⟨(Int32.ofNat 0, sCut A 0 st (sTide A hr), τ2), ⟨hT2, Or.inr ⟨Nat.le_refl _, ?_, ?_⟩⟩, ?_⟩
          · show _ = (if (-1 : Int32) < sCut A 0 st (sTide A hr) then (Int32.ofNat 0, sCut A 0 st (sTide A hr)) else ((-2 : Int32), (-1 : Int32))).1
            rw [if_pos (Int32.lt_of_lt_of_le (by decide) (sCut_n hE.2.2))]
          · show _ = (if (-1 : Int32) < sCut A 0 st (sTide A hr) then (Int32.ofNat 0, sCut A 0 st (sTide A hr)) else ((-2 : Int32), (-1 : Int32))).2
            rw [if_pos (Int32.lt_of_lt_of_le (by decide) (sCut_n hE.2.2))]
          · show t_X9_worst_L18 F st hr (n + 1) s1 s2 (Int32.ofNat 0) s3 = _
            rw [red, q1, if_pos (by decide)]
        · have q1 : s1 = (sWs A st (sTide A hr) k).1 := q1
          have q2 : s2 = (sWs A st (sTide A hr) k).2 := q2
          obtain ⟨j, hj, ej⟩ := sWs_n hE.2.2 (st := st) (t := sTide A hr) k h0 (by omega)
          have n0 : ¬ s1 < 0 := by rw [q1, ej]; exact Int32.not_lt.mpr (ofNat_nn (by omega))
          rw [if_neg n0] at red
          refine Or.inl ⟨((sWs A st (sTide A hr) (k + 1)).1, (sWs A st (sTide A hr) (k + 1)).2, τ2), ⟨hT2, Or.inr ⟨by omega, rfl, rfl⟩⟩, ?_⟩
          show t_X9_worst_L18 F st hr (n + 1) s1 s2 (Int32.ofNat k) s3 = t_X9_worst_L18 F st hr n (if (sWs A st (sTide A hr) k).2 < sCut A k st (sTide A hr) then (Int32.ofNat k, sCut A k st (sTide A hr)) else sWs A st (sTide A hr) k).1 (if (sWs A st (sTide A hr) k).2 < sCut A k st (sTide A hr) then (Int32.ofNat k, sCut A k st (sTide A hr)) else sWs A st (sTide A hr) k).2 _ _
          rw [red, q1, q2]
          by_cases h : (sWs A st (sTide A hr) k).2 < sCut A k st (sTide A hr)
          · rw [if_pos h, if_pos h]
          · rw [if_neg h, if_neg h]
      · intro n s ⟨hT1, hs⟩
        obtain ⟨s1, s2, s3⟩ := s
        refine ⟨s3, ?_, hT1⟩
        show t_X9_worst_L18_b F st hr (t_X9_worst_L18 F st hr n) s1 s2 (Int32.ofNat (sMn A st)) s3 = _
        unfold t_X9_worst_L18_b
        rw [many_T hE.2.2 hT1, Option.bind_some, if_pos (Int32.le_refl _)]
        rcases hs with ⟨h0, q1, q2⟩ | ⟨h0, q1, q2⟩
        · have q1 : s1 = -2 := q1
          rw [q1, h0]
          rfl
        · have q1 : s1 = _ := q1
          rw [q1]
    obtain ⟨τ', t, hT'⟩ := t
    rw [c, t]
    exact ⟨_, σ1, τ', rfl, rfl, hC1, hT'⟩
  · rw [if_neg hh, if_neg hh]
    exact ⟨-1, σ, τ, rfl, rfl, hC, hT⟩
theorem st_14 (hF : 1000000 ≤ F) (h : INV ad B A σ τ) (x : Nat → Int32) : ST F 14 x X ad B σ τ := by
  obtain ⟨r, σ', τ', h1, h2, h3, h4⟩ := worst_CT (X := X) hF h.1 h.2.2.1 h.2.2.2 (if x 1 = 0 then 0 else 1) (x 2)
  exact ST.ro h h1 h2 h3 h4
