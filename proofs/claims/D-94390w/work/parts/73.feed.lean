set_option maxRecDepth 100000
/-! the tape is fed -/
variable {X : Nat → Option Ob} {ad : Nat → Nat} {B : Sw} {A A' : Av} {σ σ' : Cs} {τ : Tw} {F : Nat}
theorem bv8 (b : BitVec 32) (n : Nat) (hn : n ≤ 24) : (b >>> n).setWidth 8 = (b.sshiftRight n &&& 255#32).setWidth 8 := by
  apply BitVec.eq_of_getLsbD_eq
  intro i hi
  have h255 : (255#32).getLsbD i = true := by
    have : ∀ j, j < 8 → (255#32).getLsbD j = true := by decide
    exact this i hi
  simp only [BitVec.getLsbD_setWidth, BitVec.getLsbD_ushiftRight, BitVec.getLsbD_and, h255, BitVec.getLsbD_sshiftRight]
  have h1 : ¬ 32 ≤ i := by omega
  have h2 : n + i < 32 := by omega
  simp [h1, h2]
theorem sx8 (b : BitVec 32) : b.signExtend 8 = b.setWidth 8 := BitVec.signExtend_eq_setWidth_of_le b (by decide)
theorem byte_24 (v : Int32) : nar 2 (((v.toUInt32 >>> ((24 : Int32).toUInt32 &&& Int32.toUInt32 31)).toInt32).toInt8.toInt32) = ((v >>> ((24 - 8 * 0 : Int32) &&& 31)) &&& 255).toInt8.toInt32 := by
  show (((v.toUInt32 >>> ((24 : Int32).toUInt32 &&& Int32.toUInt32 31)).toInt32).toInt8.toInt32).toInt8.toInt32 = _
  rw [Int8.toInt8_toInt32]
  refine congrArg Int8.toInt32 (Int8.toBitVec_inj.1 ?_)
  show ((v.toBitVec >>> (24 : Nat)).signExtend 8) = ((v.toBitVec.sshiftRight 24 &&& 255#32).signExtend 8)
  rw [sx8, sx8, bv8 _ _ (by decide)]
theorem byte_16 (v : Int32) : nar 2 (((v.toUInt32 >>> ((16 : Int32).toUInt32 &&& Int32.toUInt32 31)).toInt32).toInt8.toInt32) = ((v >>> ((24 - 8 * 1 : Int32) &&& 31)) &&& 255).toInt8.toInt32 := by
  show (((v.toUInt32 >>> ((16 : Int32).toUInt32 &&& Int32.toUInt32 31)).toInt32).toInt8.toInt32).toInt8.toInt32 = _
  rw [Int8.toInt8_toInt32]
  refine congrArg Int8.toInt32 (Int8.toBitVec_inj.1 ?_)
  show ((v.toBitVec >>> (16 : Nat)).signExtend 8) = ((v.toBitVec.sshiftRight 16 &&& 255#32).signExtend 8)
  rw [sx8, sx8, bv8 _ _ (by decide)]
theorem byte_8 (v : Int32) : nar 2 (((v.toUInt32 >>> ((8 : Int32).toUInt32 &&& Int32.toUInt32 31)).toInt32).toInt8.toInt32) = ((v >>> ((24 - 8 * 2 : Int32) &&& 31)) &&& 255).toInt8.toInt32 := by
  show (((v.toUInt32 >>> ((8 : Int32).toUInt32 &&& Int32.toUInt32 31)).toInt32).toInt8.toInt32).toInt8.toInt32 = _
  rw [Int8.toInt8_toInt32]
  refine congrArg Int8.toInt32 (Int8.toBitVec_inj.1 ?_)
  show ((v.toBitVec >>> (8 : Nat)).signExtend 8) = ((v.toBitVec.sshiftRight 8 &&& 255#32).signExtend 8)
  rw [sx8, sx8, bv8 _ _ (by decide)]
theorem byte_0 (v : Int32) : nar 2 (((v.toUInt32 >>> ((0 : Int32).toUInt32 &&& Int32.toUInt32 31)).toInt32).toInt8.toInt32) = ((v >>> ((24 - 8 * 3 : Int32) &&& 31)) &&& 255).toInt8.toInt32 := by
  show (((v.toUInt32 >>> ((0 : Int32).toUInt32 &&& Int32.toUInt32 31)).toInt32).toInt8.toInt32).toInt8.toInt32 = _
  rw [Int8.toInt8_toInt32]
  refine congrArg Int8.toInt32 (Int8.toBitVec_inj.1 ?_)
  show ((v.toBitVec >>> (0 : Nat)).signExtend 8) = ((v.toBitVec.sshiftRight 0 &&& 255#32).signExtend 8)
  rw [sx8, sx8, bv8 _ _ (by decide)]
theorem and_255 (x : Int32) : isN (x &&& 255) 255 := by
  have h1 : (x &&& 255).toBitVec.toNat ≤ 255 := by
    rw [Int32.toBitVec_and, BitVec.toNat_and]
    exact Nat.and_le_right
  have h0 : (x &&& 255).toInt = ((x &&& 255).toBitVec.toNat : Int) := by
    show (x &&& 255).toBitVec.toInt = _
    rw [BitVec.toInt_eq_toNat_of_lt (by omega)]
  obtain ⟨k, hk, e⟩ := i_nat (x := x &&& 255) (m := 255) (by omega) (by omega)
  rw [e]
  exact isN.of hk (by decide)
theorem one_CT {t : Nat} {bc bt : Int32} (hE : EV ad B A) (hC : CR ad B A σ) (hT : TR A τ) (et : A 0 0 = Int32.ofNat t) (lt : t < 2000) (eb : bc = bt.toInt8.toInt32) (hb : isN bt 255) : ∃ A', EV ad B A' ∧ CR ad B A' (csI (csA σ 2 (upd (σ.2.1 2) t bc)) 21 (Int32.ofNat (t + 1))) ∧ TR A' (tsI (twA τ 1 (upd (τ.2.1 1) t bt)) 0 (Int32.ofNat (t + 1))) ∧ A' 0 0 = Int32.ofNat (t + 1) := by
  obtain ⟨n1, n2, n3, n4, n5, n6⟩ := hE.2.2.2.1
  have e1 : τ.2.1 1 = A 1 := hT.2 1 rfl
  have e : ∀ j, j ≠ 0 → j ≠ 33 → j ≠ 1 → aw (aw A 1 (upd (τ.2.1 1) t bt)) 0 (upd (aw A 1 (upd (τ.2.1 1) t bt) 0) 0 (Int32.ofNat (t + 1))) j = A j := fun j hj _ h1 => by rw [aw_n _ _ _ _ hj, aw_n _ _ _ _ h1]
  have z0 : zN (aw (aw A 1 (upd (τ.2.1 1) t bt)) 0 (upd (aw A 1 (upd (τ.2.1 1) t bt) 0) 0 (Int32.ofNat (t + 1)))) 0 0 = t + 1 := by unfold zN; rw [aw_s, up_s, i_cl (n := 2001) (by omega) (by decide)]
  have hz : zN A 0 0 = t := by unfold zN; rw [et, i_cl (n := 2001) (by omega) (by decide)]
  refine ⟨aw (aw A 1 (upd (τ.2.1 1) t bt)) 0 (upd (aw A 1 (upd (τ.2.1 1) t bt) 0) 0 (Int32.ofNat (t + 1))), ⟨hE.1, hE.2.1.n e, hE.2.2.n e ?_ ?_ ?_ ?_ ?_⟩, hC.n e ?_ ?_ ?_ ?_ ?_ ?_ ?_, TR.I (hT.W (by decide)), ?_⟩
  · exact rfl
  · rw [aw_s, up_s]; exact isN.of (by omega) (by decide)
  · exact n3
  · exact n4
  · intro k hk
    show isN (upd (τ.2.1 1) t bt k) 255
    by_cases h : k = t
    · rw [h, up_s]; exact hb
    · rw [up_n _ _ _ _ h, e1]; exact n5 k hk
  · exact rfl
  · exact ⟨fun i _ h _ _ => csI_n _ _ _ _ h, fun r _ h _ => csA_n _ _ _ _ h, rfl⟩
  · exact rfl
  · exact hC.1.2.1
  · exact hC.1.2.2.2.1
  · intro k hk
    rw [z0] at hk
    show upd (σ.2.1 2) t bc k = (upd (τ.2.1 1) t bt k).toInt8.toInt32
    by_cases h : k = t
    · rw [h, up_s, up_s]; exact eb
    · rw [up_n _ _ _ _ h, up_n _ _ _ _ h, e1]
      exact hC.2.1 k (by omega)
  · exact hC.2.2.1
  · rw [aw_s, up_s]
theorem putL_C {n t : Nat} {c v2 : Int32} (hA : AdOK ad B) (h0 : ¬ v2 < 0) (ht : σ.1 21 = Int32.ofNat t) (lt : t < 2000) : f_X1_put_L3 F (ad 1) c (n + 1) v2 (cM X ad σ B) = f_X1_put_L3 F (ad 1) c n (v2 + (-8)) (cM X ad (csI (csA σ 2 (upd (σ.2.1 2) t (nar 2 (((c.toUInt32 >>> (v2.toUInt32 &&& Int32.toUInt32 31)).toInt32).toInt8.toInt32)))) 21 (Int32.ofNat (t + 1))) B) := by
  show f_X1_put_L3_b F (ad 1) c (f_X1_put_L3 F (ad 1) c n) v2 _ = _
  unfold f_X1_put_L3_b
  rw [if_neg h0]
  simp (disch := omega) only [Option.bind_some, Option.bind_none, nmE, n_pp, n_pl, n_lp, n_mm, n_ml, n_lm, csI_s, csI_n, csI_2, csA_1, csA_s, csA_n, csA_2, csL_1, csL_2, csL_s, csL_n, csL_3, csQ_1, csQ_2, csQ_3, csQ_s, csQ_n, nar0, c_le, c_le_l, c_le_r, c_lt, c_lt_l, c_lt_r, c_eq, c_eq_l, c_eq_r, if_true, if_false, if_pos, if_neg, o1_0 hA, o1_1 hA, ht, s2 hA, p1_1 hA]
theorem typL_T {n t k : Nat} {c : Int32} (kk : Int32) (ek : Int32.ofNat k = kk) (hk : k < 4) (ht : τ.1 0 = Int32.ofNat t) (lt : t < 2000) : t_X9_typed_L2 F c (n + 1) (Int32.ofNat k) τ = t_X9_typed_L2 F c n (Int32.ofNat (k + 1)) (tsI (twA τ 1 (upd (τ.2.1 1) t ((c >>> ((24 - 8 * kk) &&& 31)) &&& 255))) 0 (Int32.ofNat (t + 1))) := by
  subst ek
  show t_X9_typed_L2_b F c (t_X9_typed_L2 F c n) (Int32.ofNat k) _ = _
  unfold t_X9_typed_L2_b
  have h4 : ¬ (4 : Int32) ≤ Int32.ofNat k := by rw [show (4 : Int32) = Int32.ofNat 4 from rfl, c_le _ _ (by omega) (by omega)]; omega
  have i1 : Int32.ofNat k + 1 = Int32.ofNat (k + 1) := (Int32.ofNat_add k 1).symm
  have i2 : Int32.ofNat t + 1 = Int32.ofNat (t + 1) := (Int32.ofNat_add t 1).symm
  rw [if_neg h4, ht, tsA_n _ _ _ _ _ _ lt (by decide), Option.bind_some]
  show t_X9_typed_L2 F c n (Int32.ofNat k + 1) (tsI (twA τ 1 _) 0 (τ.1 0 + 1)) = _
  rw [ht, i1, i2]
  rfl
theorem put_CT {t : Nat} {v : Int32} (hF : 1000 ≤ F) (hE : EV ad B A) (hC : CR ad B A σ) (hT : TR A τ) (et : A 0 0 = Int32.ofNat t) (lt : t + 4 ≤ 2000) : ∃ A' σ' τ', f_X1_put F (ad 1) v (cM X ad σ B) = some (cM X ad σ' B) ∧ t_X9_typed F v τ = some τ' ∧ EV ad B A' ∧ CR ad B A' σ' ∧ TR A' τ' ∧ A' 0 0 = Int32.ofNat (t + 4) := by
  obtain ⟨m, rfl⟩ : ∃ m, F = m + 1 + 1 + 1 + 1 + 1 := ⟨F - 5, by omega⟩
  have hA := hE.1
  have c0 := hC.1.1
  obtain ⟨A1, E1, C1, T1, t1⟩ := one_CT hE hC hT et (by omega) (byte_24 v) (and_255 _)
  obtain ⟨A2, E2, C2, T2, t2⟩ := one_CT E1 C1 T1 t1 (by omega) (byte_16 v) (and_255 _)
  obtain ⟨A3, E3, C3, T3, t3⟩ := one_CT E2 C2 T2 t2 (by omega) (byte_8 v) (and_255 _)
  obtain ⟨A4, E4, C4, T4, t4⟩ := one_CT E3 C3 T3 t3 (by omega) (byte_0 v) (and_255 _)
  refine ⟨A4, _, _, ?_, ?_, E4, C4, T4, t4⟩
  · unfold f_X1_put
    rw [putL_C hA (by decide) (c0.trans et) (by omega)]
    rw [show (24 : Int32) + (-8) = 16 from by decide, putL_C hA (by decide) (C1.1.1.trans t1) (by omega)]
    rw [show (16 : Int32) + (-8) = 8 from by decide, putL_C hA (by decide) (C2.1.1.trans t2) (by omega)]
    rw [show (8 : Int32) + (-8) = 0 from by decide, putL_C hA (by decide) (C3.1.1.trans t3) (by omega)]
    show f_X1_put_L3_b (m + 1 + 1 + 1 + 1 + 1) (ad 1) v (f_X1_put_L3 (m + 1 + 1 + 1 + 1 + 1) (ad 1) v m) (0 + (-8)) _ = _
    unfold f_X1_put_L3_b
    rw [if_pos (by decide)]
  · unfold t_X9_typed
    show t_X9_typed_L2 _ v _ (Int32.ofNat 0) τ = _
    have q0 : τ.1 0 = _ := (hT.1 0 rfl).trans et
    have q1 := (T1.1 0 rfl).trans t1
    have q2 := (T2.1 0 rfl).trans t2
    have q3 := (T3.1 0 rfl).trans t3
    rw [typL_T (k := 0) 0 rfl (by decide) q0 (by omega)]
    rw [typL_T (k := 0 + 1) 1 rfl (by omega) q1 (by omega)]
    rw [typL_T (k := 0 + 1 + 1) 2 rfl (by omega) q2 (by omega)]
    rw [typL_T (k := 0 + 1 + 1 + 1) 3 rfl (by omega) q3 (by omega)]
    rfl
/-- 0: feed -/
theorem st_0 (hF : 1000000 ≤ F) (h : INV ad B A σ τ) (x : Nat → Int32) : ST F 0 x X ad B σ τ := by
  have hI := h
  obtain ⟨hE, hK, hC, hT⟩ := h
  have hA := hE.1
  have h1 : stC F 0 (ad 0) x (cM X ad σ B) = f_X0_feed F (ad 0) (x 1) (x 2) (x 3) (x 4) (x 5) (cM X ad σ B) := rfl
  have h2 : stT F 0 x τ = t_X9_feed F (x 1) (x 2) (x 3) (x 4) (x 5) τ := rfl
  obtain ⟨t, lt, et⟩ := hE.2.2.2.1.1.ex
  unfold f_X0_feed f_X1_feed at h1
  unfold t_X9_feed at h2
  simp (disch := omega) only [Option.bind_some, Option.bind_none, nmE, n_pp, n_pl, n_lp, n_mm, n_ml, n_lm, csI_s, csI_n, csI_2, csA_1, csA_s, csA_n, csA_2, csL_1, csL_2, csL_s, csL_n, csL_3, csQ_1, csQ_2, csQ_3, csQ_s, csQ_n, nar0, c_le, c_le_l, c_le_r, c_lt, c_lt_l, c_lt_r, c_eq, c_eq_l, c_eq_r, if_true, if_false, if_pos, if_neg, o0_0 hA, oc1 hA, o1_1 hA, hC.1.1, et] at h1
  simp (disch := omega) only [Option.bind_some, Option.bind_none, nmE, n_pp, n_pl, n_lp, n_mm, n_ml, n_lm, taI_n, taI_l, tsA_n, tsA_l, nar0, twA_1, twA_s, twA_n, twA_2, twA_twA, tsI_s, tsI_n, tsI_2, c_le, c_le_l, c_le_r, c_lt, c_lt_l, c_lt_r, c_eq, c_eq_l, c_eq_r, if_true, if_false, if_pos, if_neg, hT.1 0 rfl, et] at h2
  by_cases hl : t + 20 ≤ 2000
  · rw [if_pos hl] at h1 h2
    obtain ⟨A1, σ1, τ1, c1, t1, E1, C1, T1, q1⟩ := put_CT (X := X) (v := x 1) (F := F) (by omega) hE hC hT et (by omega)
    obtain ⟨A2, σ2, τ2, c2, t2, E2, C2, T2, q2⟩ := put_CT (X := X) (v := x 2) (F := F) (by omega) E1 C1 T1 q1 (by omega)
    obtain ⟨A3, σ3, τ3, c3, t3, E3, C3, T3, q3⟩ := put_CT (X := X) (v := x 3) (F := F) (by omega) E2 C2 T2 q2 (by omega)
    obtain ⟨A4, σ4, τ4, c4, t4, E4, C4, T4, q4⟩ := put_CT (X := X) (v := x 4) (F := F) (by omega) E3 C3 T3 q3 (by omega)
    obtain ⟨A5, σ5, τ5, c5, t5, E5, C5, T5, q5⟩ := put_CT (X := X) (v := x 5) (F := F) (by omega) E4 C4 T4 q4 (by omega)
    simp (disch := omega) only [Option.bind_some, Option.bind_none, nmE, n_pp, n_pl, n_lp, n_mm, n_ml, n_lm, csI_s, csI_n, csI_2, csA_1, csA_s, csA_n, csA_2, csL_1, csL_2, csL_s, csL_n, csL_3, csQ_1, csQ_2, csQ_3, csQ_s, csQ_n, nar0, c_le, c_le_l, c_le_r, c_lt, c_lt_l, c_lt_r, c_eq, c_eq_l, c_eq_r, if_true, if_false, if_pos, if_neg, c1, oc1 hA, c2, c3, c4, c5, o1_1 hA, C5.1.1, q5] at h1
    simp (disch := omega) only [Option.bind_some, Option.bind_none, nmE, n_pp, n_pl, n_lp, n_mm, n_ml, n_lm, taI_n, taI_l, tsA_n, tsA_l, nar0, twA_1, twA_s, twA_n, twA_2, twA_twA, tsI_s, tsI_n, tsI_2, c_le, c_le_l, c_le_r, c_lt, c_lt_l, c_lt_r, c_eq, c_eq_l, c_eq_r, if_true, if_false, if_pos, if_neg, t1, t2, t3, t4, t5, T5.1 0 rfl, q5] at h2
    exact ⟨_, ad, B, A5, σ5, τ5, h1, h2, ⟨E5, hK, C5, T5⟩, XT.rf⟩
  · rw [if_neg hl] at h1 h2
    exact ST.ro hI h1 h2 hC hT
