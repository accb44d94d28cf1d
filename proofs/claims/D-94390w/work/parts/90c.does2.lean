set_option maxRecDepth 100000
/-! 20 .. 22: a work is done, both sides -/
variable {X : Nat → Option Ob} {ad ad' : Nat → Nat} {B B' : Sw} {A A' : Av} {σ σ' : Cs} {τ : Tw} {F : Nat}
/-- inches below nought: a wood gets a piece -/
theorem sawn_CT (hF : 1000 ≤ F) (hE : EV ad B A) (hC : CR ad B A σ) (hT : TR A τ) {v : Int32} {h : Nat} (hh : h < 16) : ∃ (L g : Nat → Int32) (τ' : Tw), f_X0_saws F (ad 0) (-v) (cM X ad σ B) = some (cM X ad (csA σ 49 g) B) ∧ (∀ q, q < 50 ∨ 58 ≤ q → L q = A 7 q) ∧ (∀ i, i < 8 → g i = L (50 + i)) ∧ (∀ i, i < 8 → isN (L (50 + i)) 99) ∧ TR (aw A 7 L) τ' ∧ t_X9_makes_L162 F (fun w10 =>
            Option.bind (taI τ 7 1260 (50 + w10)) fun x11 =>
            if 99 ≤ x11 then
              t_X9_makes_j233 F (Int32.ofNat h) v τ
            else
              nm (50 + w10) fun x14 =>
              Option.bind (taI τ 7 1260 x14) fun x16 =>
              Option.bind (tsA τ 7 0 1260 x14 (x16 + 1)) fun τ19 =>
              t_X9_makes_j233 F (Int32.ofNat h) v τ19) (Int32.ofNat h) v τ F 0 = t_X9_makes_j233 F (Int32.ofNat h) v τ' := by
  have hA := hE.1
  have hW := hE.2.2
  obtain ⟨eW, lW⟩ := hW.W
  have wN := hW.2.2.1.2.2.2.2.1
  have same : f_X0_saws F (ad 0) (-v) (cM X ad σ B) = some (cM X ad σ B) → ∃ g, f_X0_saws F (ad 0) (-v) (cM X ad σ B) = some (cM X ad (csA σ 49 g) B) ∧ ∀ i, i < 8 → g i = A 7 (50 + i) := fun q => ⟨σ.2.1 49, by rw [csA_id]; exact q, hC.2.2.2.2.2.1⟩
  have hTs : TR (aw A 7 (A 7)) τ := by rw [aw_id]; exact hT
  rcases saws_CT (X := X) (F := F) (σ := σ) hE hT (v := v) (h := Int32.ofNat h) (KC := fun w1 =>
      Option.bind (gfR (cM X ad σ B) (ad 0) 0 4) fun x2 =>
      Option.bind (gfR (cM X ad σ B) x2 6 2) fun x4 =>
      Option.bind (aI (cM X ad σ B) 0 x4 w1) fun x6 =>
      if 99 ≤ x6 then
        some (cM X ad σ B)
      else
        Option.bind (gfR (cM X ad σ B) (ad 0) 0 4) fun x9 =>
        Option.bind (gfR (cM X ad σ B) x9 6 2) fun x11 =>
        Option.bind (aI (cM X ad σ B) 0 x11 w1) fun x13 =>
        Option.bind (sI (cM X ad σ B) 0 x11 w1 (x13 + 1)) fun μ16 =>
        some μ16) (KT := fun w10 =>
            Option.bind (taI τ 7 1260 (50 + w10)) fun x11 =>
            if 99 ≤ x11 then
              t_X9_makes_j233 F (Int32.ofNat h) v τ
            else
              nm (50 + w10) fun x14 =>
              Option.bind (taI τ 7 1260 x14) fun x16 =>
              Option.bind (tsA τ 7 0 1260 x14 (x16 + 1)) fun τ19 =>
              t_X9_makes_j233 F (Int32.ofNat h) v τ19) (zN A 6 5) 0 F F (Nat.zero_add _) (by omega) (by omega) with ⟨k, hk, e1, e2⟩ | ⟨e1, e2⟩
  · have k8 : k < 8 := by omega
    have fk : σ.2.1 49 k = A 7 (50 + k) := hC.2.2.2.2.2.1 k k8
    obtain ⟨ek, lk⟩ := wN k k8
    have ek : A 7 (50 + k) = Int32.ofNat (zN A 7 (50 + k)) := ek
    have lk : zN A 7 (50 + k) ≤ 99 := lk
    have e1 : f_X0_saws F (ad 0) (-v) (cM X ad σ B) = _ := e1
    simp (disch := omega) only [Option.bind_some, Option.bind_none, nmE, n_pp, n_pl, n_lp, n_mm, n_ml, n_lm, csI_s, csI_n, csI_2, csA_1, csA_s, csA_n, csA_2, csL_1, csL_2, csL_s, csL_n, csL_3, csQ_1, csQ_2, csQ_3, csQ_s, csQ_n, nar0, c_le, c_le_l, c_le_r, c_lt, c_lt_l, c_lt_r, c_eq, c_eq_l, c_eq_r, if_true, if_false, if_pos, if_neg, o0_4 hA, o46_2 hA, a49 hA, s49 hA, fk, ek] at e1
    generalize t_X9_makes_L162 F _ (Int32.ofNat h) v τ F (Int32.ofNat 0) = tt at e2 ⊢
    simp (disch := omega) only [Option.bind_some, Option.bind_none, nmE, n_pp, n_pl, n_lp, n_mm, n_ml, n_lm, taI_n, taI_l, tsA_n, tsA_l, nar0, twA_1, twA_s, twA_n, twA_2, twA_twA, tsI_s, tsI_n, tsI_2, c_le, c_le_l, c_le_r, c_lt, c_lt_l, c_lt_r, c_eq, c_eq_l, c_eq_r, if_true, if_false, if_pos, if_neg, hT.2 7 rfl, ek] at e2
    by_cases c : 99 ≤ zN A 7 (50 + k)
    · rw [if_pos c] at e1 e2
      obtain ⟨g, g1, g2⟩ := same e1
      exact ⟨A 7, g, τ, g1, fun _ _ => rfl, g2, wN, hTs, e2⟩
    · rw [if_neg c] at e1 e2
      refine ⟨upd (A 7) (50 + k) (Int32.ofNat (zN A 7 (50 + k) + 1)), upd (σ.2.1 49) k (Int32.ofNat (zN A 7 (50 + k) + 1)), twA τ 7 (upd (A 7) (50 + k) (Int32.ofNat (zN A 7 (50 + k) + 1))), e1, fun q hq => up_n _ _ _ _ (by omega), fun i hi => ?_, fun i hi => ?_, hT.W (by decide), e2⟩
      · by_cases q : i = k
        · rw [q, up_s, up_s]
        · rw [up_n _ _ _ _ q, up_n _ _ _ _ (by omega)]; exact hC.2.2.2.2.2.1 i hi
      · by_cases q : i = k
        · rw [q, up_s]; exact isN.of (by omega) (by omega)
        · rw [up_n _ _ _ _ (by omega)]; exact wN i hi
  · obtain ⟨g, g1, g2⟩ := same e1
    exact ⟨A 7, g, τ, g1, fun _ _ => rfl, g2, wN, hTs, e2⟩
theorem does_CT (hF : 1000 ≤ F) (hE : EV ad B A) (hC : CR ad B A σ) (hT : TR A τ) (h13 : σ.1 13 = A 0 41) {k n : Nat} (hk : k < zN A 7 1) : ∃ (r : Nat) (σ' : Cs) (A' : Av) (τ' : Tw), r ≤ 4 ∧ f_X0_does F (ad 0) (ad (1500 + k)) (Int32.ofNat n) (cM X ad σ B) = some (Int32.ofNat r, cM X ad σ' B) ∧ t_X9_makes F (Int32.ofNat k) (Int32.ofNat n) τ = some (Int32.ofNat r, τ') ∧ EV ad B A' ∧ CR ad B A' σ' ∧ TR A' τ' ∧ WK A A' σ σ' ∧ (r = 0 → n ≠ zN A 6 6) := by
  have hA := hE.1
  have hW := hE.2.2
  obtain ⟨eW, lW⟩ := hW.W
  obtain ⟨eH, lH⟩ := hW.H
  obtain ⟨eCr, lCr⟩ : A 6 6 = Int32.ofNat (zN A 6 6) ∧ zN A 6 6 ≤ 9 := hW.1.1.2.2.2.2.2.1
  obtain ⟨eJ, lJ⟩ : A 6 7 = Int32.ofNat (zN A 6 7) ∧ zN A 6 7 ≤ 99 := hW.1.1.2.2.2.2.2.2.1
  have l40 : zN A 7 1 ≤ 40 := hW.2.2.1.1.2.1.2
  obtain ⟨x1, x2, x3, x4, x5, x6⟩ := hW.2.2.1.2.2.2.2.2.1 k hk
  obtain ⟨hs, lhs, ehs⟩ := x2.ex
  have ehs : A 7 (60 + 3 * k + 1) = Int32.ofNat hs := ehs
  have lhH : hs < zN A 6 0 := by
    rw [ehs, i_cl (n := 1000) (by omega) (by omega)] at x3
    exact x3
  obtain ⟨v, hv⟩ : ∃ v, v = A 7 (60 + 3 * k + 2) := ⟨_, rfl⟩
  rw [← hv] at x4 x5 x6
  obtain ⟨q0, q1, q2⟩ := hC.wf (X := X) (σ2 := σ) hk
  have c47 : σ.2.1 47 hs = A 7 (10 + hs) := hC.2.2.2.1 hs (by omega)
  generalize hc : f_X0_does F (ad 0) (ad (1500 + k)) (Int32.ofNat n) (cM X ad σ B) = c
  generalize ht : t_X9_makes F (Int32.ofNat k) (Int32.ofNat n) τ = t
  unfold f_X0_does at hc
  unfold t_X9_makes at ht
  rw [o0_4 hA, Option.bind_some, o46_0 hA, Option.bind_some, q1, Option.bind_some, ehs, a47 hA _ _ (by omega), Option.bind_some, q2, Option.bind_some, nmE, o0_3 hA, Option.bind_some, (hE.2.1.tw σ).2.2.2.2.2.2.2.2.2.1, Option.bind_some, c47, ← hv] at hc
  rw [show ((60 : Int32) + 3 * Int32.ofNat k) + 1 = Int32.ofNat (60 + 3 * k + 1) by simp (disch := omega) only [Option.bind_some, Option.bind_none, nmE, n_pp, n_pl, n_lp, n_mm, n_ml, n_lm, taI_n, taI_l, tsA_n, tsA_l, nar0, twA_1, twA_s, twA_n, twA_2, twA_twA, tsI_s, tsI_n, tsI_2, c_le, c_le_l, c_le_r, c_lt, c_lt_l, c_lt_r, c_eq, c_eq_l, c_eq_r, if_true, if_false, if_pos, if_neg], show ((60 : Int32) + 3 * Int32.ofNat k) + 2 = Int32.ofNat (60 + 3 * k + 2) by simp (disch := omega) only [Option.bind_some, Option.bind_none, nmE, n_pp, n_pl, n_lp, n_mm, n_ml, n_lm, taI_n, taI_l, tsA_n, tsA_l, nar0, twA_1, twA_s, twA_n, twA_2, twA_twA, tsI_s, tsI_n, tsI_2, c_le, c_le_l, c_le_r, c_lt, c_lt_l, c_lt_r, c_eq, c_eq_l, c_eq_r, if_true, if_false, if_pos, if_neg], taI_n _ _ _ _ (by omega) (by omega), Option.bind_some, taI_n _ _ _ _ (by omega) (by omega), Option.bind_some, taI_l _ _ _ _ (by omega) (by omega), Option.bind_some, hT.2 7 rfl, hT.2 6 rfl, ehs, ← hv] at ht
  by_cases c1 : Int32.ofNat n = A 6 6
  · rw [if_pos c1] at hc ht
    exact ⟨1, σ, A, τ, by omega, hc.symm, ht.symm, hE, hC, hT, WK.rf h13, fun h => absurd h (by omega)⟩
  have nC : n ≠ zN A 6 6 := fun q => c1 (by rw [q]; exact eCr.symm)
  rw [if_neg c1] at hc ht
  have ht2 : t_X9_makes_j55 F (Int32.ofNat hs) v (ab v) τ = t := by
    rw [ab_or]
    by_cases z : 0 ≤ v
    · rw [if_pos z] at ht ⊢; exact ht
    · rw [if_neg z] at ht ⊢; exact ht
  clear ht
  unfold t_X9_makes_j55 at ht2
  rw [taI_l _ _ _ _ (by omega) (by omega), Option.bind_some, hT.2 6 rfl, heightOf_T (h := hs) (by omega) hT, Option.bind_some] at ht2
  rw [Option.bind_some, Option.bind_some, (hE.2.1.tw σ).2.2.2.2.2.2.2.2.2.2.1, Option.bind_some] at hc
  by_cases c2 : ab v ≤ A 6 7
  · have in99 : ((0 : Int32).toInt ≤ (A 7 (10 + hs) + v).toInt ∧ (A 7 (10 + hs) + v).toInt ≤ (99 : Int32).toInt) ↔ inN (A 7 (10 + hs) + v) 100 := by
      show ((0 : Int) ≤ (A 7 (10 + hs) + v).toInt ∧ (A 7 (10 + hs) + v).toInt ≤ 99) ↔ (0 : Int) ≤ (A 7 (10 + hs) + v).toInt ∧ (A 7 (10 + hs) + v).toInt < 100
      omega
    rw [if_pos c2, within_v _ in99, Option.bind_some, gd] at hc
    rw [if_pos c2, isIn_v _ (show ((0 : Int32).toInt ≤ (sHt A hs + v).toInt ∧ (sHt A hs + v).toInt ≤ (99 : Int32).toInt) ↔ inN (A 7 (10 + hs) + v) 100 from in99), Option.bind_some, gd] at ht2
    by_cases c3 : inN (A 7 (10 + hs) + v) 100
    · rw [if_pos c3] at hc ht2
      obtain ⟨m, hm, em⟩ := c3.ex
      rw [Option.bind_some] at hc
      by_cases c4 : v ≤ 0
      · rw [if_pos c4] at hc ht2
        obtain ⟨L, g, τ', s1, s2, s3, s4, s5, s6⟩ := sawn_CT (X := X) (F := F) (v := v) hF hE hC hT (show hs < 16 by omega)
        rw [s6, j233_T (by omega), s5.2 7 rfl, aw_s, s2 (10 + hs) (by omega), em] at ht2
        rw [Option.bind_some, oc0 hA, Option.bind_some, s1, Option.bind_some, o0_4 hA, Option.bind_some, o46_0 hA, Option.bind_some, (hC.wf hk).2.1, Option.bind_some, ehs, s47 hA _ _ _ (by omega), Option.bind_some, csA_n _ _ _ _ (show (47 : Nat) ≠ 49 by decide), em] at hc
        obtain ⟨d1, d2, d3⟩ := done_rel hE hC h13 (show hs < 16 by omega) (show m ≤ 99 by omega) rfl s2 s3 s4
        refine ⟨0, _, _, _, by omega, hc.symm, ht2.symm, d1, d2, ?_, d3, fun _ => nC⟩
        have := s5.W (j := 7) (f := upd L (10 + hs) (Int32.ofNat m)) (by decide)
        rw [aw_aw] at this
        exact this
      · rw [if_neg c4] at hc ht2
        have vpos : 0 < v.toInt := by
          have := Int32.not_le.1 c4
          exact Int32.lt_iff_toInt_lt.1 this
        obtain ⟨p, hp99, ep⟩ := i_nat (x := v) (m := 99) (by omega) (by omega)
        have hp : p < 100 := by omega
        have hp1 : 1 ≤ p := by
          rw [ep, i_tn (by omega)] at vpos
          omega
        obtain ⟨σ1, hC1, hFJ, f1, f2, f3, f4⟩ := fewest_C (X := X) (F := F) hF hE hC hp
        obtain ⟨gj, sj, hsj, t1⟩ := jacks_T (F := F) hF hW hT hp
        have hrel := jP_rel hW (show 1000 ≤ 1000000000 by omega) (show 1000 ≤ 1000000 by omega) 8 p (by omega)
        have hle := jP_le A 1000000 8 p
        have hle9 := jP_le A 1000000000 8 p
        unfold jR at hrel
        have hr : irr A (aw (aw A 25 gj) 26 sj) := (irr.w (j := 25) (f := gj) (by omega)).tr (irr.w (j := 26) (f := sj) (by omega))
        have hT2 : TR (aw (aw A 25 gj) 26 sj) (twA (twA τ 25 gj) 26 sj) := (hT.W (by decide)).W (by decide)
        rw [ep, t1, Option.bind_some] at ht2
        rw [Option.bind_some, oc0 hA, Option.bind_some, ep, f1, Option.bind_some] at hc
        by_cases cv : jP A 1000000000 8 p < 1000000000
        · have c6 : jP A 1000000 8 p < 1000000 := by omega
          have ceq : jP A 1000000 8 p = jP A 1000000000 8 p := by omega
          have eall : ∃ all, all = jP A 1000000000 8 p := ⟨_, rfl⟩
          obtain ⟨all, eall⟩ := eall
          rw [ceq] at ht2
          rw [← eall] at ht2 hc cv
          rw [ceq, ← eall] at c6
          dsimp only at hc ht2
          rw [if_pos (show Int32.ofNat all < 1000000 from (c_lt _ 1000000 (by omega) (by omega)).2 c6), nmE] at ht2
          rw [if_pos (show Int32.ofNat all < 1000000000 from (c_lt _ 1000000000 (by omega) (by omega)).2 cv), o0_13 hA, Option.bind_some, p0_13 hA, Option.bind_some, (hC.wf hk).2.2, Option.bind_some, ← hv, ep] at hc
          obtain ⟨z, ez⟩ : ∃ z, z = A 0 41 + Int32.ofNat all := ⟨_, rfl⟩
          have e13 : σ1.1 13 + Int32.ofNat all = z := by rw [f2, h13, ez]
          have e41 : (twA (twA τ 25 gj) 26 sj).1 41 + Int32.ofNat all = z := by
            rw [twA_1, twA_1, hT.1 41 rfl, ez]
          rw [e13] at hc
          rw [e41] at ht2
          obtain ⟨A2, eA2⟩ : ∃ A2, A2 = aw (aw (aw A 25 gj) 26 sj) 0 (upd (A 0) 41 z) := ⟨_, rfl⟩
          have e00 : aw (aw A 25 gj) 26 sj 0 = A 0 := by rw [aw_n _ _ _ _ (by decide), aw_n _ _ _ _ (by decide)]
          have hr2 : irr A A2 := by
            have := hr.tr (irr.i (A := aw (aw A 25 gj) 26 sj) (z := 41) (v := z) (by decide))
            rw [e00] at this
            rw [eA2]
            exact this
          have hT3 : TR A2 (tsI (twA (twA τ 25 gj) 26 sj) 41 z) := by
            have := hT2.I (k := 41) (v := z)
            rw [e00] at this
            rw [eA2]
            exact this
          have hE2 : EV ad B A2 := hr2.ev hE
          have e7 : A2 7 = A 7 := hr2.1 7 (by omega)
          have e041 : A2 0 41 = z := by rw [eA2, aw_s, up_s]
          have hC2 : CR ad B A2 (csI σ1 13 z) := hr2.cr (hC1.i rfl)
          have hC1' : CR ad B A (csI σ1 13 z) := hC1.i rfl
          have hFJ2 : FJ A p (csI σ1 13 z) 0 := hFJ
          rw [eall] at cv
          obtain ⟨g, g1, g2⟩ := give_C (X := X) (F := F) hF hE hC1' hp hFJ2 cv hk ehs (by omega) (y := A 7 (10 + hs) + v) (zN A 6 5) 0 F ((csI σ1 13 z).2.1 49) (Nat.zero_add _) (by omega) (fun j hj => absurd hj (Nat.not_lt_zero j)) (fun j _ hj => hC1'.2.2.2.2.2.1 j hj)
          rw [csA_id] at g2
          have h26 : (tsI (twA (twA τ 25 gj) 26 sj) 41 z).2.1 26 = sj := twA_s _ _ _
          have h7t : (tsI (twA (twA τ 25 gj) 26 sj) 41 z).2.1 7 = A 7 := by rw [hT3.2 7 rfl, e7]
          obtain ⟨L, L1, L2, L3⟩ := give_T (F := F) hW hp cv (hsj cv) h26 (h := Int32.ofNat hs) (v := v) 8 0 F ((tsI (twA (twA τ 25 gj) 26 sj) 41 z).2.1 7) (by omega) (by omega) (fun j hj => absurd hj (Nat.not_lt_zero j)) (fun q _ => by rw [h7t])
          rw [twA_id, j233_T (by omega), twA_s, twA_twA, L2 (10 + hs) (by omega), em] at L3
          rw [← ep] at hc ht2
          rw [em] at hc g2
          have hc2 : some ((0 : Int32), cM X ad (csA (csA (csI σ1 13 z) 49 g) 47 (upd ((csI σ1 13 z).2.1 47) hs (Int32.ofNat m))) B) = c := by
            rw [← hc, ← g2, ep]
            rfl
          have ht3 : some ((0 : Int32), twA (tsI (twA (twA τ 25 gj) 26 sj) 41 z) 7 (upd L (10 + hs) (Int32.ofNat m))) = t := by
            rw [← ht2, ← L3]
            rfl
          have wN : ∀ i, i < 8 → isN (L (50 + i)) 99 := fun i hi => by
            rw [L1 i hi]
            have := (hW.2.2.1.2.2.2.2.1 i hi).2
            have : zN A 7 (50 + i) ≤ 99 := this
            exact isN.of (by omega) (by omega)
          obtain ⟨d1, d2, d3⟩ := done_rel (L := L) (g := g) hE2 hC2 (show (csI σ1 13 z).1 13 = A2 0 41 by rw [csI_s, e041]) (show hs < 16 by omega) (show m ≤ 99 by omega) rfl (fun q hq => by rw [e7]; exact L2 q hq) (fun i hi => by rw [g1 i hi, L1 i hi]) wN
          have wk1 : WK A A2 σ (csI σ1 13 z) := by
            refine hr2.wk e7 (fun j a b c d => ?_) (fun q hq => ?_) ?_ ?_ (by rw [csI_s, e041])
            · rw [eA2, aw_n _ _ _ _ a, aw_n _ _ _ _ d, aw_n _ _ _ _ c]
            · rw [eA2, aw_s, up_n _ _ _ _ hq]
            · exact f3 13 (by omega)
            · exact f3 14 (by omega)
          refine ⟨0, _, _, _, by omega, hc2.symm, ht3.symm, d1, d2, hT3.W (by decide), wk1.tr d3, fun _ => nC⟩
        · have c6 : ¬ jP A 1000000 8 p < 1000000 := by omega
          dsimp only at hc ht2
          rw [if_neg (show ¬ Int32.ofNat (jP A 1000000 8 p) < 1000000 from fun q => c6 ((c_lt _ 1000000 (by omega) (by omega)).1 q))] at ht2
          rw [if_neg (show ¬ Int32.ofNat (jP A 1000000000 8 p) < 1000000000 from fun q => cv ((c_lt _ 1000000000 (by omega) (by omega)).1 q))] at hc
          refine ⟨4, σ1, _, _, by omega, hc.symm, ht2.symm, hr.ev hE, hr.cr hC1, hT2, ?_, fun h => absurd h (by omega)⟩
          refine hr.wk ?_ (fun j a b c d => ?_) (fun q hq => ?_) (f3 13 (by omega)) (f3 14 (by omega)) ?_
          · rw [aw_n _ _ _ _ (by decide), aw_n _ _ _ _ (by decide)]
          · rw [aw_n _ _ _ _ d, aw_n _ _ _ _ c]
          · rw [aw_n _ _ _ _ (by decide), aw_n _ _ _ _ (by decide)]
          · rw [aw_n _ _ _ _ (by decide), aw_n _ _ _ _ (by decide), f2]; exact h13
    · rw [if_neg c3] at hc ht2
      exact ⟨3, σ, A, τ, by omega, hc.symm, ht2.symm, hE, hC, hT, WK.rf h13, fun h => absurd h (by omega)⟩
  · rw [if_neg c2] at hc ht2
    exact ⟨2, σ, A, τ, by omega, hc.symm, ht2.symm, hE, hC, hT, WK.rf h13, fun h => absurd h (by omega)⟩
