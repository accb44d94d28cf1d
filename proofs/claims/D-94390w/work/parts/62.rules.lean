set_option maxRecDepth 100000
/-! the rows at each role, gathered -/
section RULES
variable {X : Nat → Option Ob} {ad : Nat → Nat} {B : Sw}
theorem cK_I {σ : Cs} {z i : Nat} {v : Int32} (h1 : z ≠ 53) (h2 : z ≠ 63) : cK (csI σ z v) i = cK σ i := by
  have e1 : (csI σ z v).1 53 = σ.1 53 := csI_n _ _ _ _ (Ne.symm h1)
  have e2 : (csI σ z v).1 63 = σ.1 63 := csI_n _ _ _ _ (Ne.symm h2)
  unfold cK
  rw [e1, e2]
theorem oc0 (hA : AdOK ad B) (σ : Cs) : oc (cM X ad σ B) (ad 0) 0 = some () := R_oc hA (by decide) (by decide) (by decide) rfl rfl
theorem o0_0 (hA : AdOK ad B) (σ : Cs) : gfR (cM X ad σ B) (ad 0) 0 0 = some (ad 1) := R_gR hA (by decide) (by decide) (by decide) rfl rfl rfl
theorem o0_1 (hA : AdOK ad B) (σ : Cs) : gfR (cM X ad σ B) (ad 0) 0 1 = some (ad 6) := R_gR hA (by decide) (by decide) (by decide) rfl rfl rfl
theorem o0_2 (hA : AdOK ad B) (σ : Cs) : gfI (cM X ad σ B) (ad 0) 0 2 = some (σ.1 2) := R_gI hA (by decide) (by decide) (by decide) rfl rfl rfl
theorem p0_2 (hA : AdOK ad B) (σ : Cs) (v : Int32) : pf (cM X ad σ B) (ad 0) 0 2 (.int v) = some (cM X ad (csI σ 2 v) B) := R_pf hA (by decide) (by decide) (by decide) rfl rfl (Nat.le_of_ble_eq_true rfl) (by simp [cO, csI]) (fun _ => cK_I (by decide) (by decide)) (fun i _ hne => by unfold cO; split <;> simp_all [csI])
theorem o0_3 (hA : AdOK ad B) (σ : Cs) : gfR (cM X ad σ B) (ad 0) 0 3 = some (ad 114) := R_gR hA (by decide) (by decide) (by decide) rfl rfl rfl
theorem o0_4 (hA : AdOK ad B) (σ : Cs) : gfR (cM X ad σ B) (ad 0) 0 4 = some (ad 46) := R_gR hA (by decide) (by decide) (by decide) rfl rfl rfl
theorem o0_5 (hA : AdOK ad B) (σ : Cs) : gfR (cM X ad σ B) (ad 0) 0 5 = some (ad 9) := R_gR hA (by decide) (by decide) (by decide) rfl rfl rfl
theorem o0_6 (hA : AdOK ad B) (σ : Cs) : gfR (cM X ad σ B) (ad 0) 0 6 = some (ad 10) := R_gR hA (by decide) (by decide) (by decide) rfl rfl rfl
theorem o0_7 (hA : AdOK ad B) (σ : Cs) : gfR (cM X ad σ B) (ad 0) 0 7 = some (ad 12) := R_gR hA (by decide) (by decide) (by decide) rfl rfl rfl
theorem o0_8 (hA : AdOK ad B) (σ : Cs) : gfR (cM X ad σ B) (ad 0) 0 8 = some (ad 15) := R_gR hA (by decide) (by decide) (by decide) rfl rfl rfl
theorem o0_9 (hA : AdOK ad B) (σ : Cs) : gfI (cM X ad σ B) (ad 0) 0 9 = some (σ.1 9) := R_gI hA (by decide) (by decide) (by decide) rfl rfl rfl
theorem p0_9 (hA : AdOK ad B) (σ : Cs) (v : Int32) : pf (cM X ad σ B) (ad 0) 0 9 (.int v) = some (cM X ad (csI σ 9 v) B) := R_pf hA (by decide) (by decide) (by decide) rfl rfl (Nat.le_of_ble_eq_true rfl) (by simp [cO, csI]) (fun _ => cK_I (by decide) (by decide)) (fun i _ hne => by unfold cO; split <;> simp_all [csI])
theorem o0_10 (hA : AdOK ad B) (σ : Cs) : gfR (cM X ad σ B) (ad 0) 0 10 = some (ad 16) := R_gR hA (by decide) (by decide) (by decide) rfl rfl rfl
theorem o0_11 (hA : AdOK ad B) (σ : Cs) : gfI (cM X ad σ B) (ad 0) 0 11 = some (σ.1 11) := R_gI hA (by decide) (by decide) (by decide) rfl rfl rfl
theorem p0_11 (hA : AdOK ad B) (σ : Cs) (v : Int32) : pf (cM X ad σ B) (ad 0) 0 11 (.int v) = some (cM X ad (csI σ 11 v) B) := R_pf hA (by decide) (by decide) (by decide) rfl rfl (Nat.le_of_ble_eq_true rfl) (by simp [cO, csI]) (fun _ => cK_I (by decide) (by decide)) (fun i _ hne => by unfold cO; split <;> simp_all [csI])
theorem o0_12 (hA : AdOK ad B) (σ : Cs) : gfR (cM X ad σ B) (ad 0) 0 12 = some (ad 17) := R_gR hA (by decide) (by decide) (by decide) rfl rfl rfl
theorem o0_13 (hA : AdOK ad B) (σ : Cs) : gfI (cM X ad σ B) (ad 0) 0 13 = some (σ.1 13) := R_gI hA (by decide) (by decide) (by decide) rfl rfl rfl
theorem p0_13 (hA : AdOK ad B) (σ : Cs) (v : Int32) : pf (cM X ad σ B) (ad 0) 0 13 (.int v) = some (cM X ad (csI σ 13 v) B) := R_pf hA (by decide) (by decide) (by decide) rfl rfl (Nat.le_of_ble_eq_true rfl) (by simp [cO, csI]) (fun _ => cK_I (by decide) (by decide)) (fun i _ hne => by unfold cO; split <;> simp_all [csI])
theorem o0_14 (hA : AdOK ad B) (σ : Cs) : gfR (cM X ad σ B) (ad 0) 0 14 = some (ad 27) := R_gR hA (by decide) (by decide) (by decide) rfl rfl rfl
theorem o0_15 (hA : AdOK ad B) (σ : Cs) : gfR (cM X ad σ B) (ad 0) 0 15 = some (ad 28) := R_gR hA (by decide) (by decide) (by decide) rfl rfl rfl
theorem o0_16 (hA : AdOK ad B) (σ : Cs) : gfR (cM X ad σ B) (ad 0) 0 16 = some (ad 29) := R_gR hA (by decide) (by decide) (by decide) rfl rfl rfl
theorem o0_17 (hA : AdOK ad B) (σ : Cs) : gfR (cM X ad σ B) (ad 0) 0 17 = some (ad 30) := R_gR hA (by decide) (by decide) (by decide) rfl rfl rfl
theorem o0_18 (hA : AdOK ad B) (σ : Cs) : gfR (cM X ad σ B) (ad 0) 0 18 = some (ad 31) := R_gR hA (by decide) (by decide) (by decide) rfl rfl rfl
theorem o0_19 (hA : AdOK ad B) (σ : Cs) : gfR (cM X ad σ B) (ad 0) 0 19 = some (ad 32) := R_gR hA (by decide) (by decide) (by decide) rfl rfl rfl
theorem oc1 (hA : AdOK ad B) (σ : Cs) : oc (cM X ad σ B) (ad 1) 1 = some () := R_oc hA (by decide) (by decide) (by decide) rfl rfl
theorem o1_0 (hA : AdOK ad B) (σ : Cs) : gfR (cM X ad σ B) (ad 1) 1 0 = some (ad 2) := R_gR hA (by decide) (by decide) (by decide) rfl rfl rfl
theorem o1_1 (hA : AdOK ad B) (σ : Cs) : gfI (cM X ad σ B) (ad 1) 1 1 = some (σ.1 21) := R_gI hA (by decide) (by decide) (by decide) rfl rfl rfl
theorem p1_1 (hA : AdOK ad B) (σ : Cs) (v : Int32) : pf (cM X ad σ B) (ad 1) 1 1 (.int v) = some (cM X ad (csI σ 21 v) B) := R_pf hA (by decide) (by decide) (by decide) rfl rfl (Nat.le_of_ble_eq_true rfl) (by simp [cO, csI]) (fun _ => cK_I (by decide) (by decide)) (fun i _ hne => by unfold cO; split <;> simp_all [csI])
theorem o1_2 (hA : AdOK ad B) (σ : Cs) : gfR (cM X ad σ B) (ad 1) 1 2 = some (ad 3) := R_gR hA (by decide) (by decide) (by decide) rfl rfl rfl
theorem o1_3 (hA : AdOK ad B) (σ : Cs) : gfR (cM X ad σ B) (ad 1) 1 3 = some (ad 4) := R_gR hA (by decide) (by decide) (by decide) rfl rfl rfl
theorem o1_4 (hA : AdOK ad B) (σ : Cs) : gfR (cM X ad σ B) (ad 1) 1 4 = some (ad 5) := R_gR hA (by decide) (by decide) (by decide) rfl rfl rfl
theorem o1_5 (hA : AdOK ad B) (σ : Cs) : gfI (cM X ad σ B) (ad 1) 1 5 = some (σ.1 25) := R_gI hA (by decide) (by decide) (by decide) rfl rfl rfl
theorem p1_5 (hA : AdOK ad B) (σ : Cs) (v : Int32) : pf (cM X ad σ B) (ad 1) 1 5 (.int v) = some (cM X ad (csI σ 25 v) B) := R_pf hA (by decide) (by decide) (by decide) rfl rfl (Nat.le_of_ble_eq_true rfl) (by simp [cO, csI]) (fun _ => cK_I (by decide) (by decide)) (fun i _ hne => by unfold cO; split <;> simp_all [csI])
theorem oc6 (hA : AdOK ad B) (σ : Cs) : oc (cM X ad σ B) (ad 6) 2 = some () := R_oc hA (by decide) (by decide) (by decide) rfl rfl
theorem o6_0 (hA : AdOK ad B) (σ : Cs) : gfR (cM X ad σ B) (ad 6) 2 0 = some (ad 1) := R_gR hA (by decide) (by decide) (by decide) rfl rfl rfl
theorem o6_1 (hA : AdOK ad B) (σ : Cs) : gfI (cM X ad σ B) (ad 6) 2 1 = some (σ.1 31) := R_gI hA (by decide) (by decide) (by decide) rfl rfl rfl
theorem p6_1 (hA : AdOK ad B) (σ : Cs) (v : Int32) : pf (cM X ad σ B) (ad 6) 2 1 (.int v) = some (cM X ad (csI σ 31 v) B) := R_pf hA (by decide) (by decide) (by decide) rfl rfl (Nat.le_of_ble_eq_true rfl) (by simp [cO, csI]) (fun _ => cK_I (by decide) (by decide)) (fun i _ hne => by unfold cO; split <;> simp_all [csI])
theorem o6_2 (hA : AdOK ad B) (σ : Cs) : gfI (cM X ad σ B) (ad 6) 2 2 = some (σ.1 32) := R_gI hA (by decide) (by decide) (by decide) rfl rfl rfl
theorem p6_2 (hA : AdOK ad B) (σ : Cs) (v : Int32) : pf (cM X ad σ B) (ad 6) 2 2 (.int v) = some (cM X ad (csI σ 32 v) B) := R_pf hA (by decide) (by decide) (by decide) rfl rfl (Nat.le_of_ble_eq_true rfl) (by simp [cO, csI]) (fun _ => cK_I (by decide) (by decide)) (fun i _ hne => by unfold cO; split <;> simp_all [csI])
theorem o6_3 (hA : AdOK ad B) (σ : Cs) : gfI (cM X ad σ B) (ad 6) 2 3 = some (σ.1 33) := R_gI hA (by decide) (by decide) (by decide) rfl rfl rfl
theorem p6_3 (hA : AdOK ad B) (σ : Cs) (v : Int32) : pf (cM X ad σ B) (ad 6) 2 3 (.int v) = some (cM X ad (csI σ 33 v) B) := R_pf hA (by decide) (by decide) (by decide) rfl rfl (Nat.le_of_ble_eq_true rfl) (by simp [cO, csI]) (fun _ => cK_I (by decide) (by decide)) (fun i _ hne => by unfold cO; split <;> simp_all [csI])
theorem o6_4 (hA : AdOK ad B) (σ : Cs) : gfI (cM X ad σ B) (ad 6) 2 4 = some (σ.1 34) := R_gI hA (by decide) (by decide) (by decide) rfl rfl rfl
theorem p6_4 (hA : AdOK ad B) (σ : Cs) (v : Int32) : pf (cM X ad σ B) (ad 6) 2 4 (.int v) = some (cM X ad (csI σ 34 v) B) := R_pf hA (by decide) (by decide) (by decide) rfl rfl (Nat.le_of_ble_eq_true rfl) (by simp [cO, csI]) (fun _ => cK_I (by decide) (by decide)) (fun i _ hne => by unfold cO; split <;> simp_all [csI])
theorem o6_6 (hA : AdOK ad B) (σ : Cs) : gfR (cM X ad σ B) (ad 6) 2 6 = some (ad 7) := R_gR hA (by decide) (by decide) (by decide) rfl rfl rfl
theorem o6_7 (hA : AdOK ad B) (σ : Cs) : gfR (cM X ad σ B) (ad 6) 2 7 = some (ad 8) := R_gR hA (by decide) (by decide) (by decide) rfl rfl rfl
theorem o6_8 (hA : AdOK ad B) (σ : Cs) : gfI (cM X ad σ B) (ad 6) 2 8 = some (σ.1 38) := R_gI hA (by decide) (by decide) (by decide) rfl rfl rfl
theorem p6_8 (hA : AdOK ad B) (σ : Cs) (v : Int32) : pf (cM X ad σ B) (ad 6) 2 8 (.int v) = some (cM X ad (csI σ 38 v) B) := R_pf hA (by decide) (by decide) (by decide) rfl rfl (Nat.le_of_ble_eq_true rfl) (by simp [cO, csI]) (fun _ => cK_I (by decide) (by decide)) (fun i _ hne => by unfold cO; split <;> simp_all [csI])
theorem oc10 (hA : AdOK ad B) (σ : Cs) : oc (cM X ad σ B) (ad 10) 7 = some () := R_oc hA (by decide) (by decide) (by decide) rfl rfl
theorem o10_0 (hA : AdOK ad B) (σ : Cs) : gfR (cM X ad σ B) (ad 10) 7 0 = some (ad 11) := R_gR hA (by decide) (by decide) (by decide) rfl rfl rfl
theorem o10_1 (hA : AdOK ad B) (σ : Cs) : gfI (cM X ad σ B) (ad 10) 7 1 = some (σ.1 41) := R_gI hA (by decide) (by decide) (by decide) rfl rfl rfl
theorem p10_1 (hA : AdOK ad B) (σ : Cs) (v : Int32) : pf (cM X ad σ B) (ad 10) 7 1 (.int v) = some (cM X ad (csI σ 41 v) B) := R_pf hA (by decide) (by decide) (by decide) rfl rfl (Nat.le_of_ble_eq_true rfl) (by simp [cO, csI]) (fun _ => cK_I (by decide) (by decide)) (fun i _ hne => by unfold cO; split <;> simp_all [csI])
theorem oc12 (hA : AdOK ad B) (σ : Cs) : oc (cM X ad σ B) (ad 12) 8 = some () := R_oc hA (by decide) (by decide) (by decide) rfl rfl
theorem o12_0 (hA : AdOK ad B) (σ : Cs) : gfR (cM X ad σ B) (ad 12) 8 0 = some (ad 13) := R_gR hA (by decide) (by decide) (by decide) rfl rfl rfl
theorem o12_1 (hA : AdOK ad B) (σ : Cs) : gfR (cM X ad σ B) (ad 12) 8 1 = some (ad 14) := R_gR hA (by decide) (by decide) (by decide) rfl rfl rfl
theorem oc46 (hA : AdOK ad B) (σ : Cs) : oc (cM X ad σ B) (ad 46) 6 = some () := R_oc hA (by decide) (by decide) (by decide) rfl rfl
theorem o46_0 (hA : AdOK ad B) (σ : Cs) : gfR (cM X ad σ B) (ad 46) 6 0 = some (ad 47) := R_gR hA (by decide) (by decide) (by decide) rfl rfl rfl
theorem o46_1 (hA : AdOK ad B) (σ : Cs) : gfR (cM X ad σ B) (ad 46) 6 1 = some (ad 48) := R_gR hA (by decide) (by decide) (by decide) rfl rfl rfl
theorem o46_2 (hA : AdOK ad B) (σ : Cs) : gfR (cM X ad σ B) (ad 46) 6 2 = some (ad 49) := R_gR hA (by decide) (by decide) (by decide) rfl rfl rfl
theorem o46_3 (hA : AdOK ad B) (σ : Cs) : gfI (cM X ad σ B) (ad 46) 6 3 = some (σ.1 43) := R_gI hA (by decide) (by decide) (by decide) rfl rfl rfl
theorem p46_3 (hA : AdOK ad B) (σ : Cs) (v : Int32) : pf (cM X ad σ B) (ad 46) 6 3 (.int v) = some (cM X ad (csI σ 43 v) B) := R_pf hA (by decide) (by decide) (by decide) rfl rfl (Nat.le_of_ble_eq_true rfl) (by simp [cO, csI]) (fun _ => cK_I (by decide) (by decide)) (fun i _ hne => by unfold cO; split <;> simp_all [csI])
theorem o46_4 (hA : AdOK ad B) (σ : Cs) : gfR (cM X ad σ B) (ad 46) 6 4 = some (ad 50) := R_gR hA (by decide) (by decide) (by decide) rfl rfl rfl
theorem o46_5 (hA : AdOK ad B) (σ : Cs) : gfR (cM X ad σ B) (ad 46) 6 5 = some (ad 52) := R_gR hA (by decide) (by decide) (by decide) rfl rfl rfl
theorem oc50 (hA : AdOK ad B) (σ : Cs) : oc (cM X ad σ B) (ad 50) 20 = some () := R_oc hA (by decide) (by decide) (by decide) rfl rfl
theorem o50_0 (hA : AdOK ad B) (σ : Cs) : gfI (cM X ad σ B) (ad 50) 20 0 = some (σ.1 50) := R_gI hA (by decide) (by decide) (by decide) rfl rfl rfl
theorem p50_0 (hA : AdOK ad B) (σ : Cs) (v : Int32) : pf (cM X ad σ B) (ad 50) 20 0 (.int v) = some (cM X ad (csI σ 50 v) B) := R_pf hA (by decide) (by decide) (by decide) rfl rfl (Nat.le_of_ble_eq_true rfl) (by simp [cO, csI]) (fun _ => cK_I (by decide) (by decide)) (fun i _ hne => by unfold cO; split <;> simp_all [csI])
theorem o50_1 (hA : AdOK ad B) (σ : Cs) : gfR (cM X ad σ B) (ad 50) 20 1 = some (ad 51) := R_gR hA (by decide) (by decide) (by decide) rfl rfl rfl
theorem o50_2 (hA : AdOK ad B) (σ : Cs) : gfI (cM X ad σ B) (ad 50) 20 2 = some (σ.1 52) := R_gI hA (by decide) (by decide) (by decide) rfl rfl rfl
theorem p50_2 (hA : AdOK ad B) (σ : Cs) (v : Int32) : pf (cM X ad σ B) (ad 50) 20 2 (.int v) = some (cM X ad (csI σ 52 v) B) := R_pf hA (by decide) (by decide) (by decide) rfl rfl (Nat.le_of_ble_eq_true rfl) (by simp [cO, csI]) (fun _ => cK_I (by decide) (by decide)) (fun i _ hne => by unfold cO; split <;> simp_all [csI])
theorem oc52 (hA : AdOK ad B) (σ : Cs) : oc (cM X ad σ B) (ad 52) 20 = some () := R_oc hA (by decide) (by decide) (by decide) rfl rfl
theorem o52_0 (hA : AdOK ad B) (σ : Cs) : gfI (cM X ad σ B) (ad 52) 20 0 = some (σ.1 60) := R_gI hA (by decide) (by decide) (by decide) rfl rfl rfl
theorem p52_0 (hA : AdOK ad B) (σ : Cs) (v : Int32) : pf (cM X ad σ B) (ad 52) 20 0 (.int v) = some (cM X ad (csI σ 60 v) B) := R_pf hA (by decide) (by decide) (by decide) rfl rfl (Nat.le_of_ble_eq_true rfl) (by simp [cO, csI]) (fun _ => cK_I (by decide) (by decide)) (fun i _ hne => by unfold cO; split <;> simp_all [csI])
theorem o52_1 (hA : AdOK ad B) (σ : Cs) : gfR (cM X ad σ B) (ad 52) 20 1 = some (ad 53) := R_gR hA (by decide) (by decide) (by decide) rfl rfl rfl
theorem o52_2 (hA : AdOK ad B) (σ : Cs) : gfI (cM X ad σ B) (ad 52) 20 2 = some (σ.1 62) := R_gI hA (by decide) (by decide) (by decide) rfl rfl rfl
theorem p52_2 (hA : AdOK ad B) (σ : Cs) (v : Int32) : pf (cM X ad σ B) (ad 52) 20 2 (.int v) = some (cM X ad (csI σ 62 v) B) := R_pf hA (by decide) (by decide) (by decide) rfl rfl (Nat.le_of_ble_eq_true rfl) (by simp [cO, csI]) (fun _ => cK_I (by decide) (by decide)) (fun i _ hne => by unfold cO; split <;> simp_all [csI])
theorem a2 (hA : AdOK ad B) (σ : Cs) (k : Nat) (hk : k < 2000) : aI (cM X ad σ B) 2 (ad 2) (Int32.ofNat k) = some (σ.2.1 2 k) := R_aI hA (by decide) (by decide) (by decide) rfl hk (by decide)
theorem al2 (hA : AdOK ad B) (σ : Cs) (k : Nat) (hk : (OfNat.ofNat k : Nat) < 2000) : aI (cM X ad σ B) 2 (ad 2) (no_index (OfNat.ofNat k)) = some (σ.2.1 2 (OfNat.ofNat k)) := a2 hA σ k hk
theorem s2 (hA : AdOK ad B) (σ : Cs) (k : Nat) (x : Int32) (hk : k < 2000) : sI (cM X ad σ B) 2 (ad 2) (Int32.ofNat k) x = some (cM X ad (csA σ 2 (upd (σ.2.1 2) k (nar 2 x))) B) := R_sI hA (by decide) (by decide) (by decide) rfl hk (by decide)
theorem sl2 (hA : AdOK ad B) (σ : Cs) (k : Nat) (x : Int32) (hk : (OfNat.ofNat k : Nat) < 2000) : sI (cM X ad σ B) 2 (ad 2) (no_index (OfNat.ofNat k)) x = some (cM X ad (csA σ 2 (upd (σ.2.1 2) (OfNat.ofNat k) (nar 2 x))) B) := s2 hA σ k x hk
theorem a3 (hA : AdOK ad B) (σ : Cs) (k : Nat) (hk : k < 402) : aI (cM X ad σ B) 3 (ad 3) (Int32.ofNat k) = some (σ.2.1 3 k) := R_aI hA (by decide) (by decide) (by decide) rfl hk (by decide)
theorem al3 (hA : AdOK ad B) (σ : Cs) (k : Nat) (hk : (OfNat.ofNat k : Nat) < 402) : aI (cM X ad σ B) 3 (ad 3) (no_index (OfNat.ofNat k)) = some (σ.2.1 3 (OfNat.ofNat k)) := a3 hA σ k hk
theorem s3 (hA : AdOK ad B) (σ : Cs) (k : Nat) (x : Int32) (hk : k < 402) : sI (cM X ad σ B) 3 (ad 3) (Int32.ofNat k) x = some (cM X ad (csA σ 3 (upd (σ.2.1 3) k (nar 3 x))) B) := R_sI hA (by decide) (by decide) (by decide) rfl hk (by decide)
theorem sl3 (hA : AdOK ad B) (σ : Cs) (k : Nat) (x : Int32) (hk : (OfNat.ofNat k : Nat) < 402) : sI (cM X ad σ B) 3 (ad 3) (no_index (OfNat.ofNat k)) x = some (cM X ad (csA σ 3 (upd (σ.2.1 3) (OfNat.ofNat k) (nar 3 x))) B) := s3 hA σ k x hk
theorem a4 (hA : AdOK ad B) (σ : Cs) (k : Nat) (hk : k < 402) : aI (cM X ad σ B) 3 (ad 4) (Int32.ofNat k) = some (σ.2.1 4 k) := R_aI hA (by decide) (by decide) (by decide) rfl hk (by decide)
theorem al4 (hA : AdOK ad B) (σ : Cs) (k : Nat) (hk : (OfNat.ofNat k : Nat) < 402) : aI (cM X ad σ B) 3 (ad 4) (no_index (OfNat.ofNat k)) = some (σ.2.1 4 (OfNat.ofNat k)) := a4 hA σ k hk
theorem s4 (hA : AdOK ad B) (σ : Cs) (k : Nat) (x : Int32) (hk : k < 402) : sI (cM X ad σ B) 3 (ad 4) (Int32.ofNat k) x = some (cM X ad (csA σ 4 (upd (σ.2.1 4) k (nar 3 x))) B) := R_sI hA (by decide) (by decide) (by decide) rfl hk (by decide)
theorem sl4 (hA : AdOK ad B) (σ : Cs) (k : Nat) (x : Int32) (hk : (OfNat.ofNat k : Nat) < 402) : sI (cM X ad σ B) 3 (ad 4) (no_index (OfNat.ofNat k)) x = some (cM X ad (csA σ 4 (upd (σ.2.1 4) (OfNat.ofNat k) (nar 3 x))) B) := s4 hA σ k x hk
theorem a8 (hA : AdOK ad B) (σ : Cs) (k : Nat) (hk : k < 28) : aI (cM X ad σ B) 0 (ad 8) (Int32.ofNat k) = some (σ.2.1 8 k) := R_aI hA (by decide) (by decide) (by decide) rfl hk (by decide)
theorem al8 (hA : AdOK ad B) (σ : Cs) (k : Nat) (hk : (OfNat.ofNat k : Nat) < 28) : aI (cM X ad σ B) 0 (ad 8) (no_index (OfNat.ofNat k)) = some (σ.2.1 8 (OfNat.ofNat k)) := a8 hA σ k hk
theorem s8 (hA : AdOK ad B) (σ : Cs) (k : Nat) (x : Int32) (hk : k < 28) : sI (cM X ad σ B) 0 (ad 8) (Int32.ofNat k) x = some (cM X ad (csA σ 8 (upd (σ.2.1 8) k (nar 0 x))) B) := R_sI hA (by decide) (by decide) (by decide) rfl hk (by decide)
theorem sl8 (hA : AdOK ad B) (σ : Cs) (k : Nat) (x : Int32) (hk : (OfNat.ofNat k : Nat) < 28) : sI (cM X ad σ B) 0 (ad 8) (no_index (OfNat.ofNat k)) x = some (cM X ad (csA σ 8 (upd (σ.2.1 8) (OfNat.ofNat k) (nar 0 x))) B) := s8 hA σ k x hk
theorem a11 (hA : AdOK ad B) (σ : Cs) (k : Nat) (hk : k < 9) : aI (cM X ad σ B) 0 (ad 11) (Int32.ofNat k) = some (σ.2.1 11 k) := R_aI hA (by decide) (by decide) (by decide) rfl hk (by decide)
theorem al11 (hA : AdOK ad B) (σ : Cs) (k : Nat) (hk : (OfNat.ofNat k : Nat) < 9) : aI (cM X ad σ B) 0 (ad 11) (no_index (OfNat.ofNat k)) = some (σ.2.1 11 (OfNat.ofNat k)) := a11 hA σ k hk
theorem s11 (hA : AdOK ad B) (σ : Cs) (k : Nat) (x : Int32) (hk : k < 9) : sI (cM X ad σ B) 0 (ad 11) (Int32.ofNat k) x = some (cM X ad (csA σ 11 (upd (σ.2.1 11) k (nar 0 x))) B) := R_sI hA (by decide) (by decide) (by decide) rfl hk (by decide)
theorem sl11 (hA : AdOK ad B) (σ : Cs) (k : Nat) (x : Int32) (hk : (OfNat.ofNat k : Nat) < 9) : sI (cM X ad σ B) 0 (ad 11) (no_index (OfNat.ofNat k)) x = some (cM X ad (csA σ 11 (upd (σ.2.1 11) (OfNat.ofNat k) (nar 0 x))) B) := s11 hA σ k x hk
theorem a13 (hA : AdOK ad B) (σ : Cs) (k : Nat) (hk : k < 16) : aI (cM X ad σ B) 0 (ad 13) (Int32.ofNat k) = some (σ.2.1 13 k) := R_aI hA (by decide) (by decide) (by decide) rfl hk (by decide)
theorem al13 (hA : AdOK ad B) (σ : Cs) (k : Nat) (hk : (OfNat.ofNat k : Nat) < 16) : aI (cM X ad σ B) 0 (ad 13) (no_index (OfNat.ofNat k)) = some (σ.2.1 13 (OfNat.ofNat k)) := a13 hA σ k hk
theorem s13 (hA : AdOK ad B) (σ : Cs) (k : Nat) (x : Int32) (hk : k < 16) : sI (cM X ad σ B) 0 (ad 13) (Int32.ofNat k) x = some (cM X ad (csA σ 13 (upd (σ.2.1 13) k (nar 0 x))) B) := R_sI hA (by decide) (by decide) (by decide) rfl hk (by decide)
theorem sl13 (hA : AdOK ad B) (σ : Cs) (k : Nat) (x : Int32) (hk : (OfNat.ofNat k : Nat) < 16) : sI (cM X ad σ B) 0 (ad 13) (no_index (OfNat.ofNat k)) x = some (cM X ad (csA σ 13 (upd (σ.2.1 13) (OfNat.ofNat k) (nar 0 x))) B) := s13 hA σ k x hk
theorem a14 (hA : AdOK ad B) (σ : Cs) (k : Nat) (hk : k < 8) : aI (cM X ad σ B) 0 (ad 14) (Int32.ofNat k) = some (σ.2.1 14 k) := R_aI hA (by decide) (by decide) (by decide) rfl hk (by decide)
theorem al14 (hA : AdOK ad B) (σ : Cs) (k : Nat) (hk : (OfNat.ofNat k : Nat) < 8) : aI (cM X ad σ B) 0 (ad 14) (no_index (OfNat.ofNat k)) = some (σ.2.1 14 (OfNat.ofNat k)) := a14 hA σ k hk
theorem s14 (hA : AdOK ad B) (σ : Cs) (k : Nat) (x : Int32) (hk : k < 8) : sI (cM X ad σ B) 0 (ad 14) (Int32.ofNat k) x = some (cM X ad (csA σ 14 (upd (σ.2.1 14) k (nar 0 x))) B) := R_sI hA (by decide) (by decide) (by decide) rfl hk (by decide)
theorem sl14 (hA : AdOK ad B) (σ : Cs) (k : Nat) (x : Int32) (hk : (OfNat.ofNat k : Nat) < 8) : sI (cM X ad σ B) 0 (ad 14) (no_index (OfNat.ofNat k)) x = some (cM X ad (csA σ 14 (upd (σ.2.1 14) (OfNat.ofNat k) (nar 0 x))) B) := s14 hA σ k x hk
theorem a16 (hA : AdOK ad B) (σ : Cs) (k : Nat) (hk : k < 12) : aI (cM X ad σ B) 0 (ad 16) (Int32.ofNat k) = some (σ.2.1 16 k) := R_aI hA (by decide) (by decide) (by decide) rfl hk (by decide)
theorem al16 (hA : AdOK ad B) (σ : Cs) (k : Nat) (hk : (OfNat.ofNat k : Nat) < 12) : aI (cM X ad σ B) 0 (ad 16) (no_index (OfNat.ofNat k)) = some (σ.2.1 16 (OfNat.ofNat k)) := a16 hA σ k hk
theorem s16 (hA : AdOK ad B) (σ : Cs) (k : Nat) (x : Int32) (hk : k < 12) : sI (cM X ad σ B) 0 (ad 16) (Int32.ofNat k) x = some (cM X ad (csA σ 16 (upd (σ.2.1 16) k (nar 0 x))) B) := R_sI hA (by decide) (by decide) (by decide) rfl hk (by decide)
theorem sl16 (hA : AdOK ad B) (σ : Cs) (k : Nat) (x : Int32) (hk : (OfNat.ofNat k : Nat) < 12) : sI (cM X ad σ B) 0 (ad 16) (no_index (OfNat.ofNat k)) x = some (cM X ad (csA σ 16 (upd (σ.2.1 16) (OfNat.ofNat k) (nar 0 x))) B) := s16 hA σ k x hk
theorem a27 (hA : AdOK ad B) (σ : Cs) (k : Nat) (hk : k < 8) : aI (cM X ad σ B) 0 (ad 27) (Int32.ofNat k) = some (σ.2.1 27 k) := R_aI hA (by decide) (by decide) (by decide) rfl hk (by decide)
theorem al27 (hA : AdOK ad B) (σ : Cs) (k : Nat) (hk : (OfNat.ofNat k : Nat) < 8) : aI (cM X ad σ B) 0 (ad 27) (no_index (OfNat.ofNat k)) = some (σ.2.1 27 (OfNat.ofNat k)) := a27 hA σ k hk
theorem s27 (hA : AdOK ad B) (σ : Cs) (k : Nat) (x : Int32) (hk : k < 8) : sI (cM X ad σ B) 0 (ad 27) (Int32.ofNat k) x = some (cM X ad (csA σ 27 (upd (σ.2.1 27) k (nar 0 x))) B) := R_sI hA (by decide) (by decide) (by decide) rfl hk (by decide)
theorem sl27 (hA : AdOK ad B) (σ : Cs) (k : Nat) (x : Int32) (hk : (OfNat.ofNat k : Nat) < 8) : sI (cM X ad σ B) 0 (ad 27) (no_index (OfNat.ofNat k)) x = some (cM X ad (csA σ 27 (upd (σ.2.1 27) (OfNat.ofNat k) (nar 0 x))) B) := s27 hA σ k x hk
theorem a28 (hA : AdOK ad B) (σ : Cs) (k : Nat) (hk : k < 8) : aI (cM X ad σ B) 0 (ad 28) (Int32.ofNat k) = some (σ.2.1 28 k) := R_aI hA (by decide) (by decide) (by decide) rfl hk (by decide)
theorem al28 (hA : AdOK ad B) (σ : Cs) (k : Nat) (hk : (OfNat.ofNat k : Nat) < 8) : aI (cM X ad σ B) 0 (ad 28) (no_index (OfNat.ofNat k)) = some (σ.2.1 28 (OfNat.ofNat k)) := a28 hA σ k hk
theorem s28 (hA : AdOK ad B) (σ : Cs) (k : Nat) (x : Int32) (hk : k < 8) : sI (cM X ad σ B) 0 (ad 28) (Int32.ofNat k) x = some (cM X ad (csA σ 28 (upd (σ.2.1 28) k (nar 0 x))) B) := R_sI hA (by decide) (by decide) (by decide) rfl hk (by decide)
theorem sl28 (hA : AdOK ad B) (σ : Cs) (k : Nat) (x : Int32) (hk : (OfNat.ofNat k : Nat) < 8) : sI (cM X ad σ B) 0 (ad 28) (no_index (OfNat.ofNat k)) x = some (cM X ad (csA σ 28 (upd (σ.2.1 28) (OfNat.ofNat k) (nar 0 x))) B) := s28 hA σ k x hk
theorem a29 (hA : AdOK ad B) (σ : Cs) (k : Nat) (hk : k < 256) : aI (cM X ad σ B) 2 (ad 29) (Int32.ofNat k) = some (σ.2.1 29 k) := R_aI hA (by decide) (by decide) (by decide) rfl hk (by decide)
theorem al29 (hA : AdOK ad B) (σ : Cs) (k : Nat) (hk : (OfNat.ofNat k : Nat) < 256) : aI (cM X ad σ B) 2 (ad 29) (no_index (OfNat.ofNat k)) = some (σ.2.1 29 (OfNat.ofNat k)) := a29 hA σ k hk
theorem s29 (hA : AdOK ad B) (σ : Cs) (k : Nat) (x : Int32) (hk : k < 256) : sI (cM X ad σ B) 2 (ad 29) (Int32.ofNat k) x = some (cM X ad (csA σ 29 (upd (σ.2.1 29) k (nar 2 x))) B) := R_sI hA (by decide) (by decide) (by decide) rfl hk (by decide)
theorem sl29 (hA : AdOK ad B) (σ : Cs) (k : Nat) (x : Int32) (hk : (OfNat.ofNat k : Nat) < 256) : sI (cM X ad σ B) 2 (ad 29) (no_index (OfNat.ofNat k)) x = some (cM X ad (csA σ 29 (upd (σ.2.1 29) (OfNat.ofNat k) (nar 2 x))) B) := s29 hA σ k x hk
theorem a30 (hA : AdOK ad B) (σ : Cs) (k : Nat) (hk : k < 256) : aI (cM X ad σ B) 4 (ad 30) (Int32.ofNat k) = some (σ.2.1 30 k) := R_aI hA (by decide) (by decide) (by decide) rfl hk (by decide)
theorem al30 (hA : AdOK ad B) (σ : Cs) (k : Nat) (hk : (OfNat.ofNat k : Nat) < 256) : aI (cM X ad σ B) 4 (ad 30) (no_index (OfNat.ofNat k)) = some (σ.2.1 30 (OfNat.ofNat k)) := a30 hA σ k hk
theorem s30 (hA : AdOK ad B) (σ : Cs) (k : Nat) (x : Int32) (hk : k < 256) : sI (cM X ad σ B) 4 (ad 30) (Int32.ofNat k) x = some (cM X ad (csA σ 30 (upd (σ.2.1 30) k (nar 4 x))) B) := R_sI hA (by decide) (by decide) (by decide) rfl hk (by decide)
theorem sl30 (hA : AdOK ad B) (σ : Cs) (k : Nat) (x : Int32) (hk : (OfNat.ofNat k : Nat) < 256) : sI (cM X ad σ B) 4 (ad 30) (no_index (OfNat.ofNat k)) x = some (cM X ad (csA σ 30 (upd (σ.2.1 30) (OfNat.ofNat k) (nar 4 x))) B) := s30 hA σ k x hk
theorem a31 (hA : AdOK ad B) (σ : Cs) (k : Nat) (hk : k < 16) : aI (cM X ad σ B) 0 (ad 31) (Int32.ofNat k) = some (σ.2.1 31 k) := R_aI hA (by decide) (by decide) (by decide) rfl hk (by decide)
theorem al31 (hA : AdOK ad B) (σ : Cs) (k : Nat) (hk : (OfNat.ofNat k : Nat) < 16) : aI (cM X ad σ B) 0 (ad 31) (no_index (OfNat.ofNat k)) = some (σ.2.1 31 (OfNat.ofNat k)) := a31 hA σ k hk
theorem s31 (hA : AdOK ad B) (σ : Cs) (k : Nat) (x : Int32) (hk : k < 16) : sI (cM X ad σ B) 0 (ad 31) (Int32.ofNat k) x = some (cM X ad (csA σ 31 (upd (σ.2.1 31) k (nar 0 x))) B) := R_sI hA (by decide) (by decide) (by decide) rfl hk (by decide)
theorem sl31 (hA : AdOK ad B) (σ : Cs) (k : Nat) (x : Int32) (hk : (OfNat.ofNat k : Nat) < 16) : sI (cM X ad σ B) 0 (ad 31) (no_index (OfNat.ofNat k)) x = some (cM X ad (csA σ 31 (upd (σ.2.1 31) (OfNat.ofNat k) (nar 0 x))) B) := s31 hA σ k x hk
theorem a47 (hA : AdOK ad B) (σ : Cs) (k : Nat) (hk : k < 16) : aI (cM X ad σ B) 0 (ad 47) (Int32.ofNat k) = some (σ.2.1 47 k) := R_aI hA (by decide) (by decide) (by decide) rfl hk (by decide)
theorem al47 (hA : AdOK ad B) (σ : Cs) (k : Nat) (hk : (OfNat.ofNat k : Nat) < 16) : aI (cM X ad σ B) 0 (ad 47) (no_index (OfNat.ofNat k)) = some (σ.2.1 47 (OfNat.ofNat k)) := a47 hA σ k hk
theorem s47 (hA : AdOK ad B) (σ : Cs) (k : Nat) (x : Int32) (hk : k < 16) : sI (cM X ad σ B) 0 (ad 47) (Int32.ofNat k) x = some (cM X ad (csA σ 47 (upd (σ.2.1 47) k (nar 0 x))) B) := R_sI hA (by decide) (by decide) (by decide) rfl hk (by decide)
theorem sl47 (hA : AdOK ad B) (σ : Cs) (k : Nat) (x : Int32) (hk : (OfNat.ofNat k : Nat) < 16) : sI (cM X ad σ B) 0 (ad 47) (no_index (OfNat.ofNat k)) x = some (cM X ad (csA σ 47 (upd (σ.2.1 47) (OfNat.ofNat k) (nar 0 x))) B) := s47 hA σ k x hk
theorem a48 (hA : AdOK ad B) (σ : Cs) (k : Nat) (hk : k < 16) : aI (cM X ad σ B) 0 (ad 48) (Int32.ofNat k) = some (σ.2.1 48 k) := R_aI hA (by decide) (by decide) (by decide) rfl hk (by decide)
theorem al48 (hA : AdOK ad B) (σ : Cs) (k : Nat) (hk : (OfNat.ofNat k : Nat) < 16) : aI (cM X ad σ B) 0 (ad 48) (no_index (OfNat.ofNat k)) = some (σ.2.1 48 (OfNat.ofNat k)) := a48 hA σ k hk
theorem s48 (hA : AdOK ad B) (σ : Cs) (k : Nat) (x : Int32) (hk : k < 16) : sI (cM X ad σ B) 0 (ad 48) (Int32.ofNat k) x = some (cM X ad (csA σ 48 (upd (σ.2.1 48) k (nar 0 x))) B) := R_sI hA (by decide) (by decide) (by decide) rfl hk (by decide)
theorem sl48 (hA : AdOK ad B) (σ : Cs) (k : Nat) (x : Int32) (hk : (OfNat.ofNat k : Nat) < 16) : sI (cM X ad σ B) 0 (ad 48) (no_index (OfNat.ofNat k)) x = some (cM X ad (csA σ 48 (upd (σ.2.1 48) (OfNat.ofNat k) (nar 0 x))) B) := s48 hA σ k x hk
theorem a49 (hA : AdOK ad B) (σ : Cs) (k : Nat) (hk : k < 8) : aI (cM X ad σ B) 0 (ad 49) (Int32.ofNat k) = some (σ.2.1 49 k) := R_aI hA (by decide) (by decide) (by decide) rfl hk (by decide)
theorem al49 (hA : AdOK ad B) (σ : Cs) (k : Nat) (hk : (OfNat.ofNat k : Nat) < 8) : aI (cM X ad σ B) 0 (ad 49) (no_index (OfNat.ofNat k)) = some (σ.2.1 49 (OfNat.ofNat k)) := a49 hA σ k hk
theorem s49 (hA : AdOK ad B) (σ : Cs) (k : Nat) (x : Int32) (hk : k < 8) : sI (cM X ad σ B) 0 (ad 49) (Int32.ofNat k) x = some (cM X ad (csA σ 49 (upd (σ.2.1 49) k (nar 0 x))) B) := R_sI hA (by decide) (by decide) (by decide) rfl hk (by decide)
theorem sl49 (hA : AdOK ad B) (σ : Cs) (k : Nat) (x : Int32) (hk : (OfNat.ofNat k : Nat) < 8) : sI (cM X ad σ B) 0 (ad 49) (no_index (OfNat.ofNat k)) x = some (cM X ad (csA σ 49 (upd (σ.2.1 49) (OfNat.ofNat k) (nar 0 x))) B) := s49 hA σ k x hk
theorem aL5 (hA : AdOK ad B) (σ : Cs) (k : Nat) (hk : k < 402) : aL (cM X ad σ B) 1 (ad 5) (Int32.ofNat k) = some (σ.2.2.1 5 k) := R_aL hA (by decide) (by decide) (by decide) rfl hk (by decide)
theorem sL5 (hA : AdOK ad B) (σ : Cs) (k : Nat) (x : Int64) (hk : k < 402) : sL (cM X ad σ B) 1 (ad 5) (Int32.ofNat k) x = some (cM X ad (csL σ 5 (vp_updL (σ.2.2.1 5) k x)) B) := R_sL hA (by decide) (by decide) (by decide) rfl hk (by decide)
theorem aL7 (hA : AdOK ad B) (σ : Cs) (k : Nat) (hk : k < 28) : aL (cM X ad σ B) 1 (ad 7) (Int32.ofNat k) = some (σ.2.2.1 7 k) := R_aL hA (by decide) (by decide) (by decide) rfl hk (by decide)
theorem sL7 (hA : AdOK ad B) (σ : Cs) (k : Nat) (x : Int64) (hk : k < 28) : sL (cM X ad σ B) 1 (ad 7) (Int32.ofNat k) x = some (cM X ad (csL σ 7 (vp_updL (σ.2.2.1 7) k x)) B) := R_sL hA (by decide) (by decide) (by decide) rfl hk (by decide)
theorem navO (hA : AdOK ad B) : (∀ σ : Cs, oc (cM X ad σ B) (ad 0) 0 = some ()) ∧ (∀ σ : Cs, gfR (cM X ad σ B) (ad 0) 0 0 = some (ad 1)) ∧ (∀ σ : Cs, gfR (cM X ad σ B) (ad 0) 0 1 = some (ad 6)) ∧ (∀ σ : Cs, gfI (cM X ad σ B) (ad 0) 0 2 = some (σ.1 2)) ∧ (∀ σ : Cs, gfR (cM X ad σ B) (ad 0) 0 3 = some (ad 114)) ∧ (∀ σ : Cs, gfR (cM X ad σ B) (ad 0) 0 4 = some (ad 46)) ∧ (∀ σ : Cs, gfR (cM X ad σ B) (ad 0) 0 5 = some (ad 9)) ∧ (∀ σ : Cs, gfR (cM X ad σ B) (ad 0) 0 6 = some (ad 10)) ∧ (∀ σ : Cs, gfR (cM X ad σ B) (ad 0) 0 7 = some (ad 12)) ∧ (∀ σ : Cs, gfR (cM X ad σ B) (ad 0) 0 8 = some (ad 15)) ∧ (∀ σ : Cs, gfI (cM X ad σ B) (ad 0) 0 9 = some (σ.1 9)) ∧ (∀ σ : Cs, gfR (cM X ad σ B) (ad 0) 0 10 = some (ad 16)) ∧ (∀ σ : Cs, gfI (cM X ad σ B) (ad 0) 0 11 = some (σ.1 11)) ∧ (∀ σ : Cs, gfR (cM X ad σ B) (ad 0) 0 12 = some (ad 17)) ∧ (∀ σ : Cs, gfI (cM X ad σ B) (ad 0) 0 13 = some (σ.1 13)) ∧ (∀ σ : Cs, gfR (cM X ad σ B) (ad 0) 0 14 = some (ad 27)) ∧ (∀ σ : Cs, gfR (cM X ad σ B) (ad 0) 0 15 = some (ad 28)) ∧ (∀ σ : Cs, gfR (cM X ad σ B) (ad 0) 0 16 = some (ad 29)) ∧ (∀ σ : Cs, gfR (cM X ad σ B) (ad 0) 0 17 = some (ad 30)) ∧ (∀ σ : Cs, gfR (cM X ad σ B) (ad 0) 0 18 = some (ad 31)) ∧ (∀ σ : Cs, gfR (cM X ad σ B) (ad 0) 0 19 = some (ad 32)) ∧ (∀ σ : Cs, oc (cM X ad σ B) (ad 1) 1 = some ()) ∧ (∀ σ : Cs, gfR (cM X ad σ B) (ad 1) 1 0 = some (ad 2)) ∧ (∀ σ : Cs, gfI (cM X ad σ B) (ad 1) 1 1 = some (σ.1 21)) ∧ (∀ σ : Cs, gfR (cM X ad σ B) (ad 1) 1 2 = some (ad 3)) ∧ (∀ σ : Cs, gfR (cM X ad σ B) (ad 1) 1 3 = some (ad 4)) ∧ (∀ σ : Cs, gfR (cM X ad σ B) (ad 1) 1 4 = some (ad 5)) ∧ (∀ σ : Cs, gfI (cM X ad σ B) (ad 1) 1 5 = some (σ.1 25)) ∧ (∀ σ : Cs, oc (cM X ad σ B) (ad 6) 2 = some ()) ∧ (∀ σ : Cs, gfR (cM X ad σ B) (ad 6) 2 0 = some (ad 1)) ∧ (∀ σ : Cs, gfI (cM X ad σ B) (ad 6) 2 1 = some (σ.1 31)) ∧ (∀ σ : Cs, gfI (cM X ad σ B) (ad 6) 2 2 = some (σ.1 32)) ∧ (∀ σ : Cs, gfI (cM X ad σ B) (ad 6) 2 3 = some (σ.1 33)) ∧ (∀ σ : Cs, gfI (cM X ad σ B) (ad 6) 2 4 = some (σ.1 34)) ∧ (∀ σ : Cs, gfR (cM X ad σ B) (ad 6) 2 6 = some (ad 7)) ∧ (∀ σ : Cs, gfR (cM X ad σ B) (ad 6) 2 7 = some (ad 8)) ∧ (∀ σ : Cs, gfI (cM X ad σ B) (ad 6) 2 8 = some (σ.1 38)) ∧ (∀ σ : Cs, oc (cM X ad σ B) (ad 10) 7 = some ()) ∧ (∀ σ : Cs, gfR (cM X ad σ B) (ad 10) 7 0 = some (ad 11)) ∧ (∀ σ : Cs, gfI (cM X ad σ B) (ad 10) 7 1 = some (σ.1 41)) ∧ (∀ σ : Cs, oc (cM X ad σ B) (ad 12) 8 = some ()) ∧ (∀ σ : Cs, gfR (cM X ad σ B) (ad 12) 8 0 = some (ad 13)) ∧ (∀ σ : Cs, gfR (cM X ad σ B) (ad 12) 8 1 = some (ad 14)) ∧ (∀ σ : Cs, oc (cM X ad σ B) (ad 46) 6 = some ()) ∧ (∀ σ : Cs, gfR (cM X ad σ B) (ad 46) 6 0 = some (ad 47)) ∧ (∀ σ : Cs, gfR (cM X ad σ B) (ad 46) 6 1 = some (ad 48)) ∧ (∀ σ : Cs, gfR (cM X ad σ B) (ad 46) 6 2 = some (ad 49)) ∧ (∀ σ : Cs, gfI (cM X ad σ B) (ad 46) 6 3 = some (σ.1 43)) ∧ (∀ σ : Cs, gfR (cM X ad σ B) (ad 46) 6 4 = some (ad 50)) ∧ (∀ σ : Cs, gfR (cM X ad σ B) (ad 46) 6 5 = some (ad 52)) ∧ (∀ σ : Cs, oc (cM X ad σ B) (ad 50) 20 = some ()) ∧ (∀ σ : Cs, gfI (cM X ad σ B) (ad 50) 20 0 = some (σ.1 50)) ∧ (∀ σ : Cs, gfR (cM X ad σ B) (ad 50) 20 1 = some (ad 51)) ∧ (∀ σ : Cs, gfI (cM X ad σ B) (ad 50) 20 2 = some (σ.1 52)) ∧ (∀ σ : Cs, oc (cM X ad σ B) (ad 52) 20 = some ()) ∧ (∀ σ : Cs, gfI (cM X ad σ B) (ad 52) 20 0 = some (σ.1 60)) ∧ (∀ σ : Cs, gfR (cM X ad σ B) (ad 52) 20 1 = some (ad 53)) ∧ (∀ σ : Cs, gfI (cM X ad σ B) (ad 52) 20 2 = some (σ.1 62)) := ⟨oc0 hA, o0_0 hA, o0_1 hA, o0_2 hA, o0_3 hA, o0_4 hA, o0_5 hA, o0_6 hA, o0_7 hA, o0_8 hA, o0_9 hA, o0_10 hA, o0_11 hA, o0_12 hA, o0_13 hA, o0_14 hA, o0_15 hA, o0_16 hA, o0_17 hA, o0_18 hA, o0_19 hA, oc1 hA, o1_0 hA, o1_1 hA, o1_2 hA, o1_3 hA, o1_4 hA, o1_5 hA, oc6 hA, o6_0 hA, o6_1 hA, o6_2 hA, o6_3 hA, o6_4 hA, o6_6 hA, o6_7 hA, o6_8 hA, oc10 hA, o10_0 hA, o10_1 hA, oc12 hA, o12_0 hA, o12_1 hA, oc46 hA, o46_0 hA, o46_1 hA, o46_2 hA, o46_3 hA, o46_4 hA, o46_5 hA, oc50 hA, o50_0 hA, o50_1 hA, o50_2 hA, oc52 hA, o52_0 hA, o52_1 hA, o52_2 hA⟩
theorem navP (hA : AdOK ad B) : (∀ (σ : Cs) (v : Int32), pf (cM X ad σ B) (ad 0) 0 2 (.int v) = some (cM X ad (csI σ 2 v) B)) ∧ (∀ (σ : Cs) (v : Int32), pf (cM X ad σ B) (ad 0) 0 9 (.int v) = some (cM X ad (csI σ 9 v) B)) ∧ (∀ (σ : Cs) (v : Int32), pf (cM X ad σ B) (ad 0) 0 11 (.int v) = some (cM X ad (csI σ 11 v) B)) ∧ (∀ (σ : Cs) (v : Int32), pf (cM X ad σ B) (ad 0) 0 13 (.int v) = some (cM X ad (csI σ 13 v) B)) ∧ (∀ (σ : Cs) (v : Int32), pf (cM X ad σ B) (ad 1) 1 1 (.int v) = some (cM X ad (csI σ 21 v) B)) ∧ (∀ (σ : Cs) (v : Int32), pf (cM X ad σ B) (ad 1) 1 5 (.int v) = some (cM X ad (csI σ 25 v) B)) ∧ (∀ (σ : Cs) (v : Int32), pf (cM X ad σ B) (ad 6) 2 1 (.int v) = some (cM X ad (csI σ 31 v) B)) ∧ (∀ (σ : Cs) (v : Int32), pf (cM X ad σ B) (ad 6) 2 2 (.int v) = some (cM X ad (csI σ 32 v) B)) ∧ (∀ (σ : Cs) (v : Int32), pf (cM X ad σ B) (ad 6) 2 3 (.int v) = some (cM X ad (csI σ 33 v) B)) ∧ (∀ (σ : Cs) (v : Int32), pf (cM X ad σ B) (ad 6) 2 4 (.int v) = some (cM X ad (csI σ 34 v) B)) ∧ (∀ (σ : Cs) (v : Int32), pf (cM X ad σ B) (ad 6) 2 8 (.int v) = some (cM X ad (csI σ 38 v) B)) ∧ (∀ (σ : Cs) (v : Int32), pf (cM X ad σ B) (ad 10) 7 1 (.int v) = some (cM X ad (csI σ 41 v) B)) ∧ (∀ (σ : Cs) (v : Int32), pf (cM X ad σ B) (ad 46) 6 3 (.int v) = some (cM X ad (csI σ 43 v) B)) ∧ (∀ (σ : Cs) (v : Int32), pf (cM X ad σ B) (ad 50) 20 0 (.int v) = some (cM X ad (csI σ 50 v) B)) ∧ (∀ (σ : Cs) (v : Int32), pf (cM X ad σ B) (ad 50) 20 2 (.int v) = some (cM X ad (csI σ 52 v) B)) ∧ (∀ (σ : Cs) (v : Int32), pf (cM X ad σ B) (ad 52) 20 0 (.int v) = some (cM X ad (csI σ 60 v) B)) ∧ (∀ (σ : Cs) (v : Int32), pf (cM X ad σ B) (ad 52) 20 2 (.int v) = some (cM X ad (csI σ 62 v) B)) := ⟨p0_2 hA, p0_9 hA, p0_11 hA, p0_13 hA, p1_1 hA, p1_5 hA, p6_1 hA, p6_2 hA, p6_3 hA, p6_4 hA, p6_8 hA, p10_1 hA, p46_3 hA, p50_0 hA, p50_2 hA, p52_0 hA, p52_2 hA⟩
theorem navA (hA : AdOK ad B) : (∀ (σ : Cs) (k : Nat), k < 2000 → aI (cM X ad σ B) 2 (ad 2) (Int32.ofNat k) = some (σ.2.1 2 k)) ∧ (∀ (σ : Cs) (k : Nat), (OfNat.ofNat k : Nat) < 2000 → aI (cM X ad σ B) 2 (ad 2) (no_index (OfNat.ofNat k)) = some (σ.2.1 2 (OfNat.ofNat k))) ∧ (∀ (σ : Cs) (k : Nat), k < 402 → aI (cM X ad σ B) 3 (ad 3) (Int32.ofNat k) = some (σ.2.1 3 k)) ∧ (∀ (σ : Cs) (k : Nat), (OfNat.ofNat k : Nat) < 402 → aI (cM X ad σ B) 3 (ad 3) (no_index (OfNat.ofNat k)) = some (σ.2.1 3 (OfNat.ofNat k))) ∧ (∀ (σ : Cs) (k : Nat), k < 402 → aI (cM X ad σ B) 3 (ad 4) (Int32.ofNat k) = some (σ.2.1 4 k)) ∧ (∀ (σ : Cs) (k : Nat), (OfNat.ofNat k : Nat) < 402 → aI (cM X ad σ B) 3 (ad 4) (no_index (OfNat.ofNat k)) = some (σ.2.1 4 (OfNat.ofNat k))) ∧ (∀ (σ : Cs) (k : Nat), k < 28 → aI (cM X ad σ B) 0 (ad 8) (Int32.ofNat k) = some (σ.2.1 8 k)) ∧ (∀ (σ : Cs) (k : Nat), (OfNat.ofNat k : Nat) < 28 → aI (cM X ad σ B) 0 (ad 8) (no_index (OfNat.ofNat k)) = some (σ.2.1 8 (OfNat.ofNat k))) ∧ (∀ (σ : Cs) (k : Nat), k < 9 → aI (cM X ad σ B) 0 (ad 11) (Int32.ofNat k) = some (σ.2.1 11 k)) ∧ (∀ (σ : Cs) (k : Nat), (OfNat.ofNat k : Nat) < 9 → aI (cM X ad σ B) 0 (ad 11) (no_index (OfNat.ofNat k)) = some (σ.2.1 11 (OfNat.ofNat k))) ∧ (∀ (σ : Cs) (k : Nat), k < 16 → aI (cM X ad σ B) 0 (ad 13) (Int32.ofNat k) = some (σ.2.1 13 k)) ∧ (∀ (σ : Cs) (k : Nat), (OfNat.ofNat k : Nat) < 16 → aI (cM X ad σ B) 0 (ad 13) (no_index (OfNat.ofNat k)) = some (σ.2.1 13 (OfNat.ofNat k))) ∧ (∀ (σ : Cs) (k : Nat), k < 8 → aI (cM X ad σ B) 0 (ad 14) (Int32.ofNat k) = some (σ.2.1 14 k)) ∧ (∀ (σ : Cs) (k : Nat), (OfNat.ofNat k : Nat) < 8 → aI (cM X ad σ B) 0 (ad 14) (no_index (OfNat.ofNat k)) = some (σ.2.1 14 (OfNat.ofNat k))) ∧ (∀ (σ : Cs) (k : Nat), k < 12 → aI (cM X ad σ B) 0 (ad 16) (Int32.ofNat k) = some (σ.2.1 16 k)) ∧ (∀ (σ : Cs) (k : Nat), (OfNat.ofNat k : Nat) < 12 → aI (cM X ad σ B) 0 (ad 16) (no_index (OfNat.ofNat k)) = some (σ.2.1 16 (OfNat.ofNat k))) ∧ (∀ (σ : Cs) (k : Nat), k < 8 → aI (cM X ad σ B) 0 (ad 27) (Int32.ofNat k) = some (σ.2.1 27 k)) ∧ (∀ (σ : Cs) (k : Nat), (OfNat.ofNat k : Nat) < 8 → aI (cM X ad σ B) 0 (ad 27) (no_index (OfNat.ofNat k)) = some (σ.2.1 27 (OfNat.ofNat k))) ∧ (∀ (σ : Cs) (k : Nat), k < 8 → aI (cM X ad σ B) 0 (ad 28) (Int32.ofNat k) = some (σ.2.1 28 k)) ∧ (∀ (σ : Cs) (k : Nat), (OfNat.ofNat k : Nat) < 8 → aI (cM X ad σ B) 0 (ad 28) (no_index (OfNat.ofNat k)) = some (σ.2.1 28 (OfNat.ofNat k))) ∧ (∀ (σ : Cs) (k : Nat), k < 256 → aI (cM X ad σ B) 2 (ad 29) (Int32.ofNat k) = some (σ.2.1 29 k)) ∧ (∀ (σ : Cs) (k : Nat), (OfNat.ofNat k : Nat) < 256 → aI (cM X ad σ B) 2 (ad 29) (no_index (OfNat.ofNat k)) = some (σ.2.1 29 (OfNat.ofNat k))) ∧ (∀ (σ : Cs) (k : Nat), k < 256 → aI (cM X ad σ B) 4 (ad 30) (Int32.ofNat k) = some (σ.2.1 30 k)) ∧ (∀ (σ : Cs) (k : Nat), (OfNat.ofNat k : Nat) < 256 → aI (cM X ad σ B) 4 (ad 30) (no_index (OfNat.ofNat k)) = some (σ.2.1 30 (OfNat.ofNat k))) ∧ (∀ (σ : Cs) (k : Nat), k < 16 → aI (cM X ad σ B) 0 (ad 31) (Int32.ofNat k) = some (σ.2.1 31 k)) ∧ (∀ (σ : Cs) (k : Nat), (OfNat.ofNat k : Nat) < 16 → aI (cM X ad σ B) 0 (ad 31) (no_index (OfNat.ofNat k)) = some (σ.2.1 31 (OfNat.ofNat k))) ∧ (∀ (σ : Cs) (k : Nat), k < 16 → aI (cM X ad σ B) 0 (ad 47) (Int32.ofNat k) = some (σ.2.1 47 k)) ∧ (∀ (σ : Cs) (k : Nat), (OfNat.ofNat k : Nat) < 16 → aI (cM X ad σ B) 0 (ad 47) (no_index (OfNat.ofNat k)) = some (σ.2.1 47 (OfNat.ofNat k))) ∧ (∀ (σ : Cs) (k : Nat), k < 16 → aI (cM X ad σ B) 0 (ad 48) (Int32.ofNat k) = some (σ.2.1 48 k)) ∧ (∀ (σ : Cs) (k : Nat), (OfNat.ofNat k : Nat) < 16 → aI (cM X ad σ B) 0 (ad 48) (no_index (OfNat.ofNat k)) = some (σ.2.1 48 (OfNat.ofNat k))) ∧ (∀ (σ : Cs) (k : Nat), k < 8 → aI (cM X ad σ B) 0 (ad 49) (Int32.ofNat k) = some (σ.2.1 49 k)) ∧ (∀ (σ : Cs) (k : Nat), (OfNat.ofNat k : Nat) < 8 → aI (cM X ad σ B) 0 (ad 49) (no_index (OfNat.ofNat k)) = some (σ.2.1 49 (OfNat.ofNat k))) ∧ (∀ (σ : Cs) (k : Nat), k < 402 → aL (cM X ad σ B) 1 (ad 5) (Int32.ofNat k) = some (σ.2.2.1 5 k)) ∧ (∀ (σ : Cs) (k : Nat), k < 28 → aL (cM X ad σ B) 1 (ad 7) (Int32.ofNat k) = some (σ.2.2.1 7 k)) := ⟨a2 hA, al2 hA, a3 hA, al3 hA, a4 hA, al4 hA, a8 hA, al8 hA, a11 hA, al11 hA, a13 hA, al13 hA, a14 hA, al14 hA, a16 hA, al16 hA, a27 hA, al27 hA, a28 hA, al28 hA, a29 hA, al29 hA, a30 hA, al30 hA, a31 hA, al31 hA, a47 hA, al47 hA, a48 hA, al48 hA, a49 hA, al49 hA, aL5 hA, aL7 hA⟩
theorem navS (hA : AdOK ad B) : (∀ (σ : Cs) (k : Nat) (x : Int32), k < 2000 → sI (cM X ad σ B) 2 (ad 2) (Int32.ofNat k) x = some (cM X ad (csA σ 2 (upd (σ.2.1 2) k (nar 2 x))) B)) ∧ (∀ (σ : Cs) (k : Nat) (x : Int32), (OfNat.ofNat k : Nat) < 2000 → sI (cM X ad σ B) 2 (ad 2) (no_index (OfNat.ofNat k)) x = some (cM X ad (csA σ 2 (upd (σ.2.1 2) (OfNat.ofNat k) (nar 2 x))) B)) ∧ (∀ (σ : Cs) (k : Nat) (x : Int32), k < 402 → sI (cM X ad σ B) 3 (ad 3) (Int32.ofNat k) x = some (cM X ad (csA σ 3 (upd (σ.2.1 3) k (nar 3 x))) B)) ∧ (∀ (σ : Cs) (k : Nat) (x : Int32), (OfNat.ofNat k : Nat) < 402 → sI (cM X ad σ B) 3 (ad 3) (no_index (OfNat.ofNat k)) x = some (cM X ad (csA σ 3 (upd (σ.2.1 3) (OfNat.ofNat k) (nar 3 x))) B)) ∧ (∀ (σ : Cs) (k : Nat) (x : Int32), k < 402 → sI (cM X ad σ B) 3 (ad 4) (Int32.ofNat k) x = some (cM X ad (csA σ 4 (upd (σ.2.1 4) k (nar 3 x))) B)) ∧ (∀ (σ : Cs) (k : Nat) (x : Int32), (OfNat.ofNat k : Nat) < 402 → sI (cM X ad σ B) 3 (ad 4) (no_index (OfNat.ofNat k)) x = some (cM X ad (csA σ 4 (upd (σ.2.1 4) (OfNat.ofNat k) (nar 3 x))) B)) ∧ (∀ (σ : Cs) (k : Nat) (x : Int32), k < 28 → sI (cM X ad σ B) 0 (ad 8) (Int32.ofNat k) x = some (cM X ad (csA σ 8 (upd (σ.2.1 8) k (nar 0 x))) B)) ∧ (∀ (σ : Cs) (k : Nat) (x : Int32), (OfNat.ofNat k : Nat) < 28 → sI (cM X ad σ B) 0 (ad 8) (no_index (OfNat.ofNat k)) x = some (cM X ad (csA σ 8 (upd (σ.2.1 8) (OfNat.ofNat k) (nar 0 x))) B)) ∧ (∀ (σ : Cs) (k : Nat) (x : Int32), k < 9 → sI (cM X ad σ B) 0 (ad 11) (Int32.ofNat k) x = some (cM X ad (csA σ 11 (upd (σ.2.1 11) k (nar 0 x))) B)) ∧ (∀ (σ : Cs) (k : Nat) (x : Int32), (OfNat.ofNat k : Nat) < 9 → sI (cM X ad σ B) 0 (ad 11) (no_index (OfNat.ofNat k)) x = some (cM X ad (csA σ 11 (upd (σ.2.1 11) (OfNat.ofNat k) (nar 0 x))) B)) ∧ (∀ (σ : Cs) (k : Nat) (x : Int32), k < 16 → sI (cM X ad σ B) 0 (ad 13) (Int32.ofNat k) x = some (cM X ad (csA σ 13 (upd (σ.2.1 13) k (nar 0 x))) B)) ∧ (∀ (σ : Cs) (k : Nat) (x : Int32), (OfNat.ofNat k : Nat) < 16 → sI (cM X ad σ B) 0 (ad 13) (no_index (OfNat.ofNat k)) x = some (cM X ad (csA σ 13 (upd (σ.2.1 13) (OfNat.ofNat k) (nar 0 x))) B)) ∧ (∀ (σ : Cs) (k : Nat) (x : Int32), k < 8 → sI (cM X ad σ B) 0 (ad 14) (Int32.ofNat k) x = some (cM X ad (csA σ 14 (upd (σ.2.1 14) k (nar 0 x))) B)) ∧ (∀ (σ : Cs) (k : Nat) (x : Int32), (OfNat.ofNat k : Nat) < 8 → sI (cM X ad σ B) 0 (ad 14) (no_index (OfNat.ofNat k)) x = some (cM X ad (csA σ 14 (upd (σ.2.1 14) (OfNat.ofNat k) (nar 0 x))) B)) ∧ (∀ (σ : Cs) (k : Nat) (x : Int32), k < 12 → sI (cM X ad σ B) 0 (ad 16) (Int32.ofNat k) x = some (cM X ad (csA σ 16 (upd (σ.2.1 16) k (nar 0 x))) B)) ∧ (∀ (σ : Cs) (k : Nat) (x : Int32), (OfNat.ofNat k : Nat) < 12 → sI (cM X ad σ B) 0 (ad 16) (no_index (OfNat.ofNat k)) x = some (cM X ad (csA σ 16 (upd (σ.2.1 16) (OfNat.ofNat k) (nar 0 x))) B)) ∧ (∀ (σ : Cs) (k : Nat) (x : Int32), k < 8 → sI (cM X ad σ B) 0 (ad 27) (Int32.ofNat k) x = some (cM X ad (csA σ 27 (upd (σ.2.1 27) k (nar 0 x))) B)) ∧ (∀ (σ : Cs) (k : Nat) (x : Int32), (OfNat.ofNat k : Nat) < 8 → sI (cM X ad σ B) 0 (ad 27) (no_index (OfNat.ofNat k)) x = some (cM X ad (csA σ 27 (upd (σ.2.1 27) (OfNat.ofNat k) (nar 0 x))) B)) ∧ (∀ (σ : Cs) (k : Nat) (x : Int32), k < 8 → sI (cM X ad σ B) 0 (ad 28) (Int32.ofNat k) x = some (cM X ad (csA σ 28 (upd (σ.2.1 28) k (nar 0 x))) B)) ∧ (∀ (σ : Cs) (k : Nat) (x : Int32), (OfNat.ofNat k : Nat) < 8 → sI (cM X ad σ B) 0 (ad 28) (no_index (OfNat.ofNat k)) x = some (cM X ad (csA σ 28 (upd (σ.2.1 28) (OfNat.ofNat k) (nar 0 x))) B)) ∧ (∀ (σ : Cs) (k : Nat) (x : Int32), k < 256 → sI (cM X ad σ B) 2 (ad 29) (Int32.ofNat k) x = some (cM X ad (csA σ 29 (upd (σ.2.1 29) k (nar 2 x))) B)) ∧ (∀ (σ : Cs) (k : Nat) (x : Int32), (OfNat.ofNat k : Nat) < 256 → sI (cM X ad σ B) 2 (ad 29) (no_index (OfNat.ofNat k)) x = some (cM X ad (csA σ 29 (upd (σ.2.1 29) (OfNat.ofNat k) (nar 2 x))) B)) ∧ (∀ (σ : Cs) (k : Nat) (x : Int32), k < 256 → sI (cM X ad σ B) 4 (ad 30) (Int32.ofNat k) x = some (cM X ad (csA σ 30 (upd (σ.2.1 30) k (nar 4 x))) B)) ∧ (∀ (σ : Cs) (k : Nat) (x : Int32), (OfNat.ofNat k : Nat) < 256 → sI (cM X ad σ B) 4 (ad 30) (no_index (OfNat.ofNat k)) x = some (cM X ad (csA σ 30 (upd (σ.2.1 30) (OfNat.ofNat k) (nar 4 x))) B)) ∧ (∀ (σ : Cs) (k : Nat) (x : Int32), k < 16 → sI (cM X ad σ B) 0 (ad 31) (Int32.ofNat k) x = some (cM X ad (csA σ 31 (upd (σ.2.1 31) k (nar 0 x))) B)) ∧ (∀ (σ : Cs) (k : Nat) (x : Int32), (OfNat.ofNat k : Nat) < 16 → sI (cM X ad σ B) 0 (ad 31) (no_index (OfNat.ofNat k)) x = some (cM X ad (csA σ 31 (upd (σ.2.1 31) (OfNat.ofNat k) (nar 0 x))) B)) ∧ (∀ (σ : Cs) (k : Nat) (x : Int32), k < 16 → sI (cM X ad σ B) 0 (ad 47) (Int32.ofNat k) x = some (cM X ad (csA σ 47 (upd (σ.2.1 47) k (nar 0 x))) B)) ∧ (∀ (σ : Cs) (k : Nat) (x : Int32), (OfNat.ofNat k : Nat) < 16 → sI (cM X ad σ B) 0 (ad 47) (no_index (OfNat.ofNat k)) x = some (cM X ad (csA σ 47 (upd (σ.2.1 47) (OfNat.ofNat k) (nar 0 x))) B)) ∧ (∀ (σ : Cs) (k : Nat) (x : Int32), k < 16 → sI (cM X ad σ B) 0 (ad 48) (Int32.ofNat k) x = some (cM X ad (csA σ 48 (upd (σ.2.1 48) k (nar 0 x))) B)) ∧ (∀ (σ : Cs) (k : Nat) (x : Int32), (OfNat.ofNat k : Nat) < 16 → sI (cM X ad σ B) 0 (ad 48) (no_index (OfNat.ofNat k)) x = some (cM X ad (csA σ 48 (upd (σ.2.1 48) (OfNat.ofNat k) (nar 0 x))) B)) ∧ (∀ (σ : Cs) (k : Nat) (x : Int32), k < 8 → sI (cM X ad σ B) 0 (ad 49) (Int32.ofNat k) x = some (cM X ad (csA σ 49 (upd (σ.2.1 49) k (nar 0 x))) B)) ∧ (∀ (σ : Cs) (k : Nat) (x : Int32), (OfNat.ofNat k : Nat) < 8 → sI (cM X ad σ B) 0 (ad 49) (no_index (OfNat.ofNat k)) x = some (cM X ad (csA σ 49 (upd (σ.2.1 49) (OfNat.ofNat k) (nar 0 x))) B)) ∧ (∀ (σ : Cs) (k : Nat) (x : Int64), k < 402 → sL (cM X ad σ B) 1 (ad 5) (Int32.ofNat k) x = some (cM X ad (csL σ 5 (vp_updL (σ.2.2.1 5) k x)) B)) ∧ (∀ (σ : Cs) (k : Nat) (x : Int64), k < 28 → sL (cM X ad σ B) 1 (ad 7) (Int32.ofNat k) x = some (cM X ad (csL σ 7 (vp_updL (σ.2.2.1 7) k x)) B)) := ⟨s2 hA, sl2 hA, s3 hA, sl3 hA, s4 hA, sl4 hA, s8 hA, sl8 hA, s11 hA, sl11 hA, s13 hA, sl13 hA, s14 hA, sl14 hA, s16 hA, sl16 hA, s27 hA, sl27 hA, s28 hA, sl28 hA, s29 hA, sl29 hA, s30 hA, sl30 hA, s31 hA, sl31 hA, s47 hA, sl47 hA, s48 hA, sl48 hA, s49 hA, sl49 hA, sL5 hA, sL7 hA⟩
theorem cK_pc {σ : Cs} : ∀ k : Nat, k < 9 → cK σ (18 + k) = (1, 0, 100)
  | 0, _ => rfl
  | 1, _ => rfl
  | 2, _ => rfl
  | 3, _ => rfl
  | 4, _ => rfl
  | 5, _ => rfl
  | 6, _ => rfl
  | 7, _ => rfl
  | 8, _ => rfl
  | k + 9, h => absurd h (by omega)
theorem cK_ps {σ : Cs} : ∀ k : Nat, k < 13 → cK σ (33 + k) = (1, 0, 100)
  | 0, _ => rfl
  | 1, _ => rfl
  | 2, _ => rfl
  | 3, _ => rfl
  | 4, _ => rfl
  | 5, _ => rfl
  | 6, _ => rfl
  | 7, _ => rfl
  | 8, _ => rfl
  | 9, _ => rfl
  | 10, _ => rfl
  | 11, _ => rfl
  | 12, _ => rfl
  | k + 13, h => absurd h (by omega)
theorem cK_lt {σ : Cs} : ∀ k : Nat, k < 20 → cK σ (54 + k) = (0, 0, 0)
  | 0, _ => rfl
  | 1, _ => rfl
  | 2, _ => rfl
  | 3, _ => rfl
  | 4, _ => rfl
  | 5, _ => rfl
  | 6, _ => rfl
  | 7, _ => rfl
  | 8, _ => rfl
  | 9, _ => rfl
  | 10, _ => rfl
  | 11, _ => rfl
  | 12, _ => rfl
  | 13, _ => rfl
  | 14, _ => rfl
  | 15, _ => rfl
  | 16, _ => rfl
  | 17, _ => rfl
  | 18, _ => rfl
  | 19, _ => rfl
  | k + 20, h => absurd h (by omega)
theorem cK_lh {σ : Cs} : ∀ k : Nat, k < 20 → cK σ (74 + k) = (1, 0, 16)
  | 0, _ => rfl
  | 1, _ => rfl
  | 2, _ => rfl
  | 3, _ => rfl
  | 4, _ => rfl
  | 5, _ => rfl
  | 6, _ => rfl
  | 7, _ => rfl
  | 8, _ => rfl
  | 9, _ => rfl
  | 10, _ => rfl
  | 11, _ => rfl
  | 12, _ => rfl
  | 13, _ => rfl
  | 14, _ => rfl
  | 15, _ => rfl
  | 16, _ => rfl
  | 17, _ => rfl
  | 18, _ => rfl
  | 19, _ => rfl
  | k + 20, h => absurd h (by omega)
theorem cK_lw {σ : Cs} : ∀ k : Nat, k < 20 → cK σ (94 + k) = (1, 0, 8)
  | 0, _ => rfl
  | 1, _ => rfl
  | 2, _ => rfl
  | 3, _ => rfl
  | 4, _ => rfl
  | 5, _ => rfl
  | 6, _ => rfl
  | 7, _ => rfl
  | 8, _ => rfl
  | 9, _ => rfl
  | 10, _ => rfl
  | 11, _ => rfl
  | 12, _ => rfl
  | 13, _ => rfl
  | 14, _ => rfl
  | 15, _ => rfl
  | 16, _ => rfl
  | 17, _ => rfl
  | 18, _ => rfl
  | 19, _ => rfl
  | k + 20, h => absurd h (by omega)
theorem cO_lt {σ : Cs} : ∀ k : Nat, k < 20 → cO ad σ (54 + k) = (8, [.ref (ad (74 + k)), .ref (ad (94 + k))])
  | 0, _ => rfl
  | 1, _ => rfl
  | 2, _ => rfl
  | 3, _ => rfl
  | 4, _ => rfl
  | 5, _ => rfl
  | 6, _ => rfl
  | 7, _ => rfl
  | 8, _ => rfl
  | 9, _ => rfl
  | 10, _ => rfl
  | 11, _ => rfl
  | 12, _ => rfl
  | 13, _ => rfl
  | 14, _ => rfl
  | 15, _ => rfl
  | 16, _ => rfl
  | 17, _ => rfl
  | 18, _ => rfl
  | 19, _ => rfl
  | k + 20, h => absurd h (by omega)
theorem a_pc (hA : AdOK ad B) (σ : Cs) (j k : Nat) (hj : j < 9) (hk : k < 100) : aI (cM X ad σ B) 0 (ad (18 + j)) (Int32.ofNat k) = some (σ.2.1 (18 + j) k) := R_aI hA (by omega) (by omega) (by omega) (cK_pc j hj) hk (by decide)
theorem s_pc (hA : AdOK ad B) (σ : Cs) (j k : Nat) (x : Int32) (hj : j < 9) (hk : k < 100) : sI (cM X ad σ B) 0 (ad (18 + j)) (Int32.ofNat k) x = some (cM X ad (csA σ (18 + j) (upd (σ.2.1 (18 + j)) k x)) B) := R_sI hA (by omega) (by omega) (by omega) (cK_pc j hj) hk (by decide)
theorem a_ps (hA : AdOK ad B) (σ : Cs) (j k : Nat) (hj : j < 13) (hk : k < 100) : aI (cM X ad σ B) 0 (ad (33 + j)) (Int32.ofNat k) = some (σ.2.1 (33 + j) k) := R_aI hA (by omega) (by omega) (by omega) (cK_ps j hj) hk (by decide)
theorem s_ps (hA : AdOK ad B) (σ : Cs) (j k : Nat) (x : Int32) (hj : j < 13) (hk : k < 100) : sI (cM X ad σ B) 0 (ad (33 + j)) (Int32.ofNat k) x = some (cM X ad (csA σ (33 + j) (upd (σ.2.1 (33 + j)) k x)) B) := R_sI hA (by omega) (by omega) (by omega) (cK_ps j hj) hk (by decide)
theorem a_lh (hA : AdOK ad B) (σ : Cs) (j k : Nat) (hj : j < 20) (hk : k < 16) : aI (cM X ad σ B) 0 (ad (74 + j)) (Int32.ofNat k) = some (σ.2.1 (74 + j) k) := R_aI hA (by omega) (by omega) (by omega) (cK_lh j hj) hk (by decide)
theorem s_lh (hA : AdOK ad B) (σ : Cs) (j k : Nat) (x : Int32) (hj : j < 20) (hk : k < 16) : sI (cM X ad σ B) 0 (ad (74 + j)) (Int32.ofNat k) x = some (cM X ad (csA σ (74 + j) (upd (σ.2.1 (74 + j)) k x)) B) := R_sI hA (by omega) (by omega) (by omega) (cK_lh j hj) hk (by decide)
theorem a_lw (hA : AdOK ad B) (σ : Cs) (j k : Nat) (hj : j < 20) (hk : k < 8) : aI (cM X ad σ B) 0 (ad (94 + j)) (Int32.ofNat k) = some (σ.2.1 (94 + j) k) := R_aI hA (by omega) (by omega) (by omega) (cK_lw j hj) hk (by decide)
theorem s_lw (hA : AdOK ad B) (σ : Cs) (j k : Nat) (x : Int32) (hj : j < 20) (hk : k < 8) : sI (cM X ad σ B) 0 (ad (94 + j)) (Int32.ofNat k) x = some (cM X ad (csA σ (94 + j) (upd (σ.2.1 (94 + j)) k x)) B) := R_sI hA (by omega) (by omega) (by omega) (cK_lw j hj) hk (by decide)
theorem oc_lt (hA : AdOK ad B) (σ : Cs) (j : Nat) (hj : j < 20) : oc (cM X ad σ B) (ad (54 + j)) 8 = some () := R_oc hA (by omega) (by omega) (by omega) (by rw [cK_lt j hj]) (cO_lt j hj)
theorem o_lt0 (hA : AdOK ad B) (σ : Cs) (j : Nat) (hj : j < 20) : gfR (cM X ad σ B) (ad (54 + j)) 8 0 = some (ad (74 + j)) := R_gR hA (by omega) (by omega) (by omega) (by rw [cK_lt j hj]) (cO_lt j hj) rfl
theorem o_lt1 (hA : AdOK ad B) (σ : Cs) (j : Nat) (hj : j < 20) : gfR (cM X ad σ B) (ad (54 + j)) 8 1 = some (ad (94 + j)) := R_gR hA (by omega) (by omega) (by omega) (by rw [cK_lt j hj]) (cO_lt j hj) rfl
theorem q9r (hA : AdOK ad B) (σ : Cs) (k x : Nat) (hk : k < 2) (hx : σ.2.2.2 9 k = some x) : aR (cM X ad σ B) 7 (ad 9) (Int32.ofNat k) = some x := R_aR hA (by decide) (hA.2.1 9 (by decide) (by decide) (by decide)) rfl hk (by decide) hx
theorem q9q (hA : AdOK ad B) (σ : Cs) (k : Nat) (hk : k < 2) : aQ (cM X ad σ B) 7 (ad 9) (Int32.ofNat k) = some (σ.2.2.2 9 k) := R_aQ hA (by decide) (hA.2.1 9 (by decide) (by decide) (by decide)) rfl hk (by decide)
theorem q9s (hA : AdOK ad B) (σ : Cs) (k : Nat) (x : Option Nat) (hk : k < 2) : sQ (cM X ad σ B) 7 (ad 9) (Int32.ofNat k) x = some (cM X ad (csQ σ 9 (va_up (σ.2.2.2 9) k x)) B) := R_sQ hA (by decide) (hA.2.1 9 (by decide) (by decide) (by decide)) rfl hk (by decide)
theorem q15r (hA : AdOK ad B) (σ : Cs) (k x : Nat) (hk : k < 20) (hx : σ.2.2.2 15 k = some x) : aR (cM X ad σ B) 8 (ad 15) (Int32.ofNat k) = some x := R_aR hA (by decide) (hA.2.1 15 (by decide) (by decide) (by decide)) rfl hk (by decide) hx
theorem q15q (hA : AdOK ad B) (σ : Cs) (k : Nat) (hk : k < 20) : aQ (cM X ad σ B) 8 (ad 15) (Int32.ofNat k) = some (σ.2.2.2 15 k) := R_aQ hA (by decide) (hA.2.1 15 (by decide) (by decide) (by decide)) rfl hk (by decide)
theorem q15s (hA : AdOK ad B) (σ : Cs) (k : Nat) (x : Option Nat) (hk : k < 20) : sQ (cM X ad σ B) 8 (ad 15) (Int32.ofNat k) x = some (cM X ad (csQ σ 15 (va_up (σ.2.2.2 15) k x)) B) := R_sQ hA (by decide) (hA.2.1 15 (by decide) (by decide) (by decide)) rfl hk (by decide)
theorem q17r (hA : AdOK ad B) (σ : Cs) (k x : Nat) (hk : k < 9) (hx : σ.2.2.2 17 k = some x) : aR (cM X ad σ B) 5 (ad 17) (Int32.ofNat k) = some x := R_aR hA (by decide) (hA.2.1 17 (by decide) (by decide) (by decide)) rfl hk (by decide) hx
theorem q17q (hA : AdOK ad B) (σ : Cs) (k : Nat) (hk : k < 9) : aQ (cM X ad σ B) 5 (ad 17) (Int32.ofNat k) = some (σ.2.2.2 17 k) := R_aQ hA (by decide) (hA.2.1 17 (by decide) (by decide) (by decide)) rfl hk (by decide)
theorem q17s (hA : AdOK ad B) (σ : Cs) (k : Nat) (x : Option Nat) (hk : k < 9) : sQ (cM X ad σ B) 5 (ad 17) (Int32.ofNat k) x = some (cM X ad (csQ σ 17 (va_up (σ.2.2.2 17) k x)) B) := R_sQ hA (by decide) (hA.2.1 17 (by decide) (by decide) (by decide)) rfl hk (by decide)
theorem q32r (hA : AdOK ad B) (σ : Cs) (k x : Nat) (hk : k < 13) (hx : σ.2.2.2 32 k = some x) : aR (cM X ad σ B) 5 (ad 32) (Int32.ofNat k) = some x := R_aR hA (by decide) (hA.2.1 32 (by decide) (by decide) (by decide)) rfl hk (by decide) hx
theorem q32q (hA : AdOK ad B) (σ : Cs) (k : Nat) (hk : k < 13) : aQ (cM X ad σ B) 5 (ad 32) (Int32.ofNat k) = some (σ.2.2.2 32 k) := R_aQ hA (by decide) (hA.2.1 32 (by decide) (by decide) (by decide)) rfl hk (by decide)
theorem q32s (hA : AdOK ad B) (σ : Cs) (k : Nat) (x : Option Nat) (hk : k < 13) : sQ (cM X ad σ B) 5 (ad 32) (Int32.ofNat k) x = some (cM X ad (csQ σ 32 (va_up (σ.2.2.2 32) k x)) B) := R_sQ hA (by decide) (hA.2.1 32 (by decide) (by decide) (by decide)) rfl hk (by decide)
theorem n11 (hA : AdOK ad B) (σ : Cs) : aN (cM X ad σ B) (ad 11) = some (Int32.ofNat 9) := R_aN hA (by decide) (hA.2.1 11 (by decide) (by decide) (by decide)) (show (1 : Nat) ≠ 0 by decide)
theorem n16 (hA : AdOK ad B) (σ : Cs) : aN (cM X ad σ B) (ad 16) = some (Int32.ofNat 12) := R_aN hA (by decide) (hA.2.1 16 (by decide) (by decide) (by decide)) (show (1 : Nat) ≠ 0 by decide)
end RULES
