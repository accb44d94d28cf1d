set_option maxRecDepth 100000
/-! one step of either side, by its case -/
noncomputable def stC (F : Nat) (k : Nat) (cw : Nat) (x : Nat → Int32) (μ : Sw) : Option (Int32 × Sw) := match k with
  | 0 => f_X0_feed F cw (x 1) (x 2) (x 3) (x 4) (x 5) μ
  | 1 => f_X0_back F cw (x 1) μ
  | 2 => f_X0_read F cw μ
  | 3 => Option.bind (f_X0_place F cw μ) fun r => some (r, μ)
  | 4 => f_X0_house F cw (x 1) (x 2) μ
  | 5 => f_X0_give F cw (x 1) (x 2) μ
  | 6 => Option.bind (f_X0_holder F cw (x 1) μ) fun r => some (r, μ)
  | 7 => f_X0_months F cw (x 1) μ
  | 8 => f_X0_tide F cw (x 1) μ
  | 9 => f_X0_wet F cw (x 1) μ
  | 10 => f_X0_reached F cw (x 1) μ
  | 11 => f_X0_hours F cw (x 1) μ
  | 12 => Option.bind (f_X0_meets F cw (x 1) μ) fun r => some (r, μ)
  | 13 => f_X0_cut F cw (x 1) (if x 2 = 0 then 0 else 1) (x 3) μ
  | 14 => f_X0_worst F cw (if x 1 = 0 then 0 else 1) (x 2) μ
  | 15 => f_X0_law F cw (x 1) μ
  | 16 => Option.bind (f_X0_wood F cw (x 1) μ) fun r => some (r, μ)
  | 17 => f_X0_jack F cw (x 1) (x 2) μ
  | 18 => f_X0_work F cw (x 1) (x 2) (x 3) μ
  | 19 => f_X0_forget F cw μ
  | 20 => f_X0_judge F cw μ
  | 21 => f_X0_done F cw μ
  | 22 => f_X0_undo F cw μ
  | 23 => f_X0_nights F cw (x 1) μ
  | 24 => Option.bind (f_X0_looks F cw (x 1) (x 2) μ) fun r => some (r, μ)
  | 25 => Option.bind (f_X0_light F cw (x 1) μ) fun r => some (r, μ)
  | 26 => f_X0_sway F cw (x 1) (x 2) μ
  | 27 => f_X0_chain F cw (x 1) (x 2) (x 3) μ
  | 28 => f_X0_dread F cw (x 1) μ
  | 29 => f_X0_year F cw (x 1) μ
  | 30 => f_X0_clear F cw μ
  | 31 => f_X0_posts F cw (x 1) (x 2) (x 3) (x 4) (x 5) μ
  | 32 => f_X0_postAt F cw (x 1) (x 2) (x 3) (x 4) (x 5) (x 6) μ
  | 33 => f_X0_vote F cw (x 1) (x 2) (x 3) μ
  | 34 => f_X0_mark F cw (x 1) (x 2) (x 3) μ
  | 35 => f_X0_annul F cw (x 1) μ
  | 36 => Option.bind (f_X0_votes F cw (x 1) (x 2) (x 3) μ) fun r => some (r, μ)
  | 37 => Option.bind (f_X0_winner F cw (x 1) (x 2) μ) fun r => some (r, μ)
  | 38 => Option.bind (f_X0_ends F cw (x 1) (x 2) (x 3) (x 4) μ) fun r => some (r, μ)
  | 39 => f_X0_years F cw (x 1) (x 2) μ
  | 40 => f_X0_hold F cw (x 1) μ
  | 41 => f_X0_restore F cw (x 1) μ
  | 42 => Option.bind (f_X0_count F cw (x 1) μ) fun r => some (r, μ)
  | _ => some (0, μ)
noncomputable def stT (F : Nat) (k : Nat) (x : Nat → Int32) (τ : Tw) : Option (Int32 × Tw) := match k with
  | 0 => t_X9_feed F (x 1) (x 2) (x 3) (x 4) (x 5) τ
  | 1 => t_X9_back F (x 1) τ
  | 2 => t_X9_read F τ
  | 3 => Option.bind (t_X9_place F τ) fun r => some (r, τ)
  | 4 => t_X9_house F (x 1) (x 2) τ
  | 5 => t_X9_give F (x 1) (x 2) τ
  | 6 => Option.bind (t_X9_holder F (x 1) τ) fun r => some (r, τ)
  | 7 => t_X9_months F (x 1) τ
  | 8 => t_X9_tide F (x 1) τ
  | 9 => t_X9_wet F (x 1) τ
  | 10 => t_X9_reached F (x 1) τ
  | 11 => t_X9_hours F (x 1) τ
  | 12 => Option.bind (t_X9_meets F (x 1) τ) fun r => some (r, τ)
  | 13 => t_X9_cut F (x 1) (if x 2 = 0 then 0 else 1) (x 3) τ
  | 14 => t_X9_worst F (if x 1 = 0 then 0 else 1) (x 2) τ
  | 15 => t_X9_law F (x 1) τ
  | 16 => Option.bind (t_X9_wood F (x 1) τ) fun r => some (r, τ)
  | 17 => t_X9_jack F (x 1) (x 2) τ
  | 18 => t_X9_work F (x 1) (x 2) (x 3) τ
  | 19 => t_X9_forget F τ
  | 20 => t_X9_judge F τ
  | 21 => t_X9_done F τ
  | 22 => t_X9_undo F τ
  | 23 => t_X9_nights F (x 1) τ
  | 24 => Option.bind (t_X9_looks F (x 1) (x 2) τ) fun r => some (r, τ)
  | 25 => Option.bind (t_X9_light F (x 1) τ) fun r => some (r, τ)
  | 26 => t_X9_sway F (x 1) (x 2) τ
  | 27 => t_X9_chain F (x 1) (x 2) (x 3) τ
  | 28 => t_X9_dread F (x 1) τ
  | 29 => t_X9_year F (x 1) τ
  | 30 => t_X9_clear F τ
  | 31 => t_X9_posts F (x 1) (x 2) (x 3) (x 4) (x 5) τ
  | 32 => t_X9_postAt F (x 1) (x 2) (x 3) (x 4) (x 5) (x 6) τ
  | 33 => t_X9_vote F (x 1) (x 2) (x 3) τ
  | 34 => t_X9_mark F (x 1) (x 2) (x 3) τ
  | 35 => t_X9_annul F (x 1) τ
  | 36 => Option.bind (t_X9_votes F (x 1) (x 2) (x 3) τ) fun r => some (r, τ)
  | 37 => Option.bind (t_X9_winner F (x 1) (x 2) τ) fun r => some (r, τ)
  | 38 => Option.bind (t_X9_ends F (x 1) (x 2) (x 3) (x 4) τ) fun r => some (r, τ)
  | 39 => t_X9_years F (x 1) (x 2) τ
  | 40 => t_X9_hold F (x 1) τ
  | 41 => t_X9_restore F (x 1) τ
  | 42 => Option.bind (t_X9_count F (x 1) τ) fun r => some (r, τ)
  | _ => some (0, τ)
section LAWC
variable {g : Gx} {μ0 μF : Sw} {Qk : List Frame → Array Value → State → State → Prop}
theorem L_st0 {F cw tw b : Nat} {i r : Int32} {x : Nat → Int32} {M M1 : Sw} {τ τ' : Tw} (hx : ∀ j : Nat, 1 ≤ j → j ≤ 6 → aI M 10 b (i + Int32.ofNat j) = some (x j)) (hx1 : ∀ j : Nat, 1 ≤ j → j ≤ 6 → aI M1 10 b (i + Int32.ofNat j) = some (x j)) (hc : oc M cw 0 = some ()) (hM : M1 = mT tw τ M1) (hC : stC F 0 cw x M = some (r, M1)) (hT : stT F 0 x τ = some (r, τ')) (kk : PW g mL 1562 μ0 μF Qk 1533 [(3, .int i), (2, .ref tw), (1, .ref cw), (0, .ref b)] [] (mT tw τ' M1)) : PW g mL 1562 μ0 μF Qk 220 [(3, .int i), (2, .ref tw), (1, .ref cw), (0, .ref b)] [] M := by
  have h1 : f_X0_feed F cw (x 1) (x 2) (x 3) (x 4) (x 5) M = some (r, M1) := hC
  have h3 : t_X9_feed F (x 1) (x 2) (x 3) (x 4) (x 5) τ = some (_, τ') := hT
  have ht : oc M1 tw 9 = some () := by rw [hM]; exact T_oc
  have hT9 := ok_X9_feed (g := g) F (x 1) (x 2) (x 3) (x 4) (x 5) tw M1 τ h3
  rw [← hM] at hT9
  exact L_case0 (hx 1 (by decide) (by decide)) (hx1 1 (by decide) (by decide)) (hx 2 (by decide) (by decide)) (hx1 2 (by decide) (by decide)) (hx 3 (by decide) (by decide)) (hx1 3 (by decide) (by decide)) (hx 4 (by decide) (by decide)) (hx1 4 (by decide) (by decide)) (hx 5 (by decide) (by decide)) (hx1 5 (by decide) (by decide)) hc ht (ok_X0_feed F cw (x 1) (x 2) (x 3) (x 4) (x 5) M h1) hT9 kk
theorem L_st1 {F cw tw b : Nat} {i r : Int32} {x : Nat → Int32} {M M1 : Sw} {τ τ' : Tw} (hx : ∀ j : Nat, 1 ≤ j → j ≤ 6 → aI M 10 b (i + Int32.ofNat j) = some (x j)) (hx1 : ∀ j : Nat, 1 ≤ j → j ≤ 6 → aI M1 10 b (i + Int32.ofNat j) = some (x j)) (hc : oc M cw 0 = some ()) (hM : M1 = mT tw τ M1) (hC : stC F 1 cw x M = some (r, M1)) (hT : stT F 1 x τ = some (r, τ')) (kk : PW g mL 1562 μ0 μF Qk 1533 [(3, .int i), (2, .ref tw), (1, .ref cw), (0, .ref b)] [] (mT tw τ' M1)) : PW g mL 1562 μ0 μF Qk 283 [(3, .int i), (2, .ref tw), (1, .ref cw), (0, .ref b)] [] M := by
  have h1 : f_X0_back F cw (x 1) M = some (r, M1) := hC
  have h3 : t_X9_back F (x 1) τ = some (_, τ') := hT
  have ht : oc M1 tw 9 = some () := by rw [hM]; exact T_oc
  have hT9 := ok_X9_back (g := g) F (x 1) tw M1 τ h3
  rw [← hM] at hT9
  exact L_case1 (hx 1 (by decide) (by decide)) (hx1 1 (by decide) (by decide)) hc ht (ok_X0_back F cw (x 1) M h1) hT9 kk
theorem L_st2 {F cw tw b : Nat} {i r : Int32} {x : Nat → Int32} {M M1 : Sw} {τ τ' : Tw} (hx : ∀ j : Nat, 1 ≤ j → j ≤ 6 → aI M 10 b (i + Int32.ofNat j) = some (x j)) (hx1 : ∀ j : Nat, 1 ≤ j → j ≤ 6 → aI M1 10 b (i + Int32.ofNat j) = some (x j)) (hc : oc M cw 0 = some ()) (hM : M1 = mT tw τ M1) (hC : stC F 2 cw x M = some (r, M1)) (hT : stT F 2 x τ = some (r, τ')) (kk : PW g mL 1562 μ0 μF Qk 1533 [(3, .int i), (2, .ref tw), (1, .ref cw), (0, .ref b)] [] (mT tw τ' M1)) : PW g mL 1562 μ0 μF Qk 306 [(3, .int i), (2, .ref tw), (1, .ref cw), (0, .ref b)] [] M := by
  have h1 : f_X0_read F cw M = some (r, M1) := hC
  have h3 : t_X9_read F τ = some (_, τ') := hT
  have ht : oc M1 tw 9 = some () := by rw [hM]; exact T_oc
  have hT9 := ok_X9_read (g := g) F tw M1 τ h3
  rw [← hM] at hT9
  exact L_case2 hc ht (ok_X0_read F cw M h1) hT9 kk
theorem L_st3 {F cw tw b : Nat} {i r : Int32} {x : Nat → Int32} {M M1 : Sw} {τ τ' : Tw} (hx : ∀ j : Nat, 1 ≤ j → j ≤ 6 → aI M 10 b (i + Int32.ofNat j) = some (x j)) (hx1 : ∀ j : Nat, 1 ≤ j → j ≤ 6 → aI M1 10 b (i + Int32.ofNat j) = some (x j)) (hc : oc M cw 0 = some ()) (hM : M1 = mT tw τ M1) (hC : stC F 3 cw x M = some (r, M1)) (hT : stT F 3 x τ = some (r, τ')) (kk : PW g mL 1562 μ0 μF Qk 1533 [(3, .int i), (2, .ref tw), (1, .ref cw), (0, .ref b)] [] (mT tw τ' M1)) : PW g mL 1562 μ0 μF Qk 319 [(3, .int i), (2, .ref tw), (1, .ref cw), (0, .ref b)] [] M := by
  obtain ⟨r1, h1, h2⟩ := ob (show (Option.bind (f_X0_place F cw M) fun r => some (r, M)) = some (r, M1) from hC)
  cases h2
  obtain ⟨r2, h3, h4⟩ := ob (show (Option.bind (t_X9_place F τ) fun r => some (r, τ)) = some (_, τ') from hT)
  cases h4
  have ht : oc M tw 9 = some () := by rw [hM]; exact T_oc
  have hT9 := ok_X9_place (g := g) F tw M τ h3
  rw [← hM] at hT9
  rw [← hM] at kk
  exact L_case3 hc ht (ok_X0_place F cw M h1) hT9 kk
theorem L_st4 {F cw tw b : Nat} {i r : Int32} {x : Nat → Int32} {M M1 : Sw} {τ τ' : Tw} (hx : ∀ j : Nat, 1 ≤ j → j ≤ 6 → aI M 10 b (i + Int32.ofNat j) = some (x j)) (hx1 : ∀ j : Nat, 1 ≤ j → j ≤ 6 → aI M1 10 b (i + Int32.ofNat j) = some (x j)) (hc : oc M cw 0 = some ()) (hM : M1 = mT tw τ M1) (hC : stC F 4 cw x M = some (r, M1)) (hT : stT F 4 x τ = some (r, τ')) (kk : PW g mL 1562 μ0 μF Qk 1533 [(3, .int i), (2, .ref tw), (1, .ref cw), (0, .ref b)] [] (mT tw τ' M1)) : PW g mL 1562 μ0 μF Qk 332 [(3, .int i), (2, .ref tw), (1, .ref cw), (0, .ref b)] [] M := by
  have h1 : f_X0_house F cw (x 1) (x 2) M = some (r, M1) := hC
  have h3 : t_X9_house F (x 1) (x 2) τ = some (_, τ') := hT
  have ht : oc M1 tw 9 = some () := by rw [hM]; exact T_oc
  have hT9 := ok_X9_house (g := g) F (x 1) (x 2) tw M1 τ h3
  rw [← hM] at hT9
  exact L_case4 (hx 1 (by decide) (by decide)) (hx1 1 (by decide) (by decide)) (hx 2 (by decide) (by decide)) (hx1 2 (by decide) (by decide)) hc ht (ok_X0_house F cw (x 1) (x 2) M h1) hT9 kk
theorem L_st5 {F cw tw b : Nat} {i r : Int32} {x : Nat → Int32} {M M1 : Sw} {τ τ' : Tw} (hx : ∀ j : Nat, 1 ≤ j → j ≤ 6 → aI M 10 b (i + Int32.ofNat j) = some (x j)) (hx1 : ∀ j : Nat, 1 ≤ j → j ≤ 6 → aI M1 10 b (i + Int32.ofNat j) = some (x j)) (hc : oc M cw 0 = some ()) (hM : M1 = mT tw τ M1) (hC : stC F 5 cw x M = some (r, M1)) (hT : stT F 5 x τ = some (r, τ')) (kk : PW g mL 1562 μ0 μF Qk 1533 [(3, .int i), (2, .ref tw), (1, .ref cw), (0, .ref b)] [] (mT tw τ' M1)) : PW g mL 1562 μ0 μF Qk 365 [(3, .int i), (2, .ref tw), (1, .ref cw), (0, .ref b)] [] M := by
  have h1 : f_X0_give F cw (x 1) (x 2) M = some (r, M1) := hC
  have h3 : t_X9_give F (x 1) (x 2) τ = some (_, τ') := hT
  have ht : oc M1 tw 9 = some () := by rw [hM]; exact T_oc
  have hT9 := ok_X9_give (g := g) F (x 1) (x 2) tw M1 τ h3
  rw [← hM] at hT9
  exact L_case5 (hx 1 (by decide) (by decide)) (hx1 1 (by decide) (by decide)) (hx 2 (by decide) (by decide)) (hx1 2 (by decide) (by decide)) hc ht (ok_X0_give F cw (x 1) (x 2) M h1) hT9 kk
theorem L_st6 {F cw tw b : Nat} {i r : Int32} {x : Nat → Int32} {M M1 : Sw} {τ τ' : Tw} (hx : ∀ j : Nat, 1 ≤ j → j ≤ 6 → aI M 10 b (i + Int32.ofNat j) = some (x j)) (hx1 : ∀ j : Nat, 1 ≤ j → j ≤ 6 → aI M1 10 b (i + Int32.ofNat j) = some (x j)) (hc : oc M cw 0 = some ()) (hM : M1 = mT tw τ M1) (hC : stC F 6 cw x M = some (r, M1)) (hT : stT F 6 x τ = some (r, τ')) (kk : PW g mL 1562 μ0 μF Qk 1533 [(3, .int i), (2, .ref tw), (1, .ref cw), (0, .ref b)] [] (mT tw τ' M1)) : PW g mL 1562 μ0 μF Qk 398 [(3, .int i), (2, .ref tw), (1, .ref cw), (0, .ref b)] [] M := by
  obtain ⟨r1, h1, h2⟩ := ob (show (Option.bind (f_X0_holder F cw (x 1) M) fun r => some (r, M)) = some (r, M1) from hC)
  cases h2
  obtain ⟨r2, h3, h4⟩ := ob (show (Option.bind (t_X9_holder F (x 1) τ) fun r => some (r, τ)) = some (_, τ') from hT)
  cases h4
  have ht : oc M tw 9 = some () := by rw [hM]; exact T_oc
  have hT9 := ok_X9_holder (g := g) F (x 1) tw M τ h3
  rw [← hM] at hT9
  rw [← hM] at kk
  exact L_case6 (hx 1 (by decide) (by decide)) (hx1 1 (by decide) (by decide)) hc ht (ok_X0_holder F cw (x 1) M h1) hT9 kk
theorem L_st7 {F cw tw b : Nat} {i r : Int32} {x : Nat → Int32} {M M1 : Sw} {τ τ' : Tw} (hx : ∀ j : Nat, 1 ≤ j → j ≤ 6 → aI M 10 b (i + Int32.ofNat j) = some (x j)) (hx1 : ∀ j : Nat, 1 ≤ j → j ≤ 6 → aI M1 10 b (i + Int32.ofNat j) = some (x j)) (hc : oc M cw 0 = some ()) (hM : M1 = mT tw τ M1) (hC : stC F 7 cw x M = some (r, M1)) (hT : stT F 7 x τ = some (r, τ')) (kk : PW g mL 1562 μ0 μF Qk 1533 [(3, .int i), (2, .ref tw), (1, .ref cw), (0, .ref b)] [] (mT tw τ' M1)) : PW g mL 1562 μ0 μF Qk 421 [(3, .int i), (2, .ref tw), (1, .ref cw), (0, .ref b)] [] M := by
  have h1 : f_X0_months F cw (x 1) M = some (r, M1) := hC
  have h3 : t_X9_months F (x 1) τ = some (_, τ') := hT
  have ht : oc M1 tw 9 = some () := by rw [hM]; exact T_oc
  have hT9 := ok_X9_months (g := g) F (x 1) tw M1 τ h3
  rw [← hM] at hT9
  exact L_case7 (hx 1 (by decide) (by decide)) (hx1 1 (by decide) (by decide)) hc ht (ok_X0_months F cw (x 1) M h1) hT9 kk
theorem L_st8 {F cw tw b : Nat} {i r : Int32} {x : Nat → Int32} {M M1 : Sw} {τ τ' : Tw} (hx : ∀ j : Nat, 1 ≤ j → j ≤ 6 → aI M 10 b (i + Int32.ofNat j) = some (x j)) (hx1 : ∀ j : Nat, 1 ≤ j → j ≤ 6 → aI M1 10 b (i + Int32.ofNat j) = some (x j)) (hc : oc M cw 0 = some ()) (hM : M1 = mT tw τ M1) (hC : stC F 8 cw x M = some (r, M1)) (hT : stT F 8 x τ = some (r, τ')) (kk : PW g mL 1562 μ0 μF Qk 1533 [(3, .int i), (2, .ref tw), (1, .ref cw), (0, .ref b)] [] (mT tw τ' M1)) : PW g mL 1562 μ0 μF Qk 444 [(3, .int i), (2, .ref tw), (1, .ref cw), (0, .ref b)] [] M := by
  have h1 : f_X0_tide F cw (x 1) M = some (r, M1) := hC
  have h3 : t_X9_tide F (x 1) τ = some (_, τ') := hT
  have ht : oc M1 tw 9 = some () := by rw [hM]; exact T_oc
  have hT9 := ok_X9_tide (g := g) F (x 1) tw M1 τ h3
  rw [← hM] at hT9
  exact L_case8 (hx 1 (by decide) (by decide)) (hx1 1 (by decide) (by decide)) hc ht (ok_X0_tide F cw (x 1) M h1) hT9 kk
theorem L_st9 {F cw tw b : Nat} {i r : Int32} {x : Nat → Int32} {M M1 : Sw} {τ τ' : Tw} (hx : ∀ j : Nat, 1 ≤ j → j ≤ 6 → aI M 10 b (i + Int32.ofNat j) = some (x j)) (hx1 : ∀ j : Nat, 1 ≤ j → j ≤ 6 → aI M1 10 b (i + Int32.ofNat j) = some (x j)) (hc : oc M cw 0 = some ()) (hM : M1 = mT tw τ M1) (hC : stC F 9 cw x M = some (r, M1)) (hT : stT F 9 x τ = some (r, τ')) (kk : PW g mL 1562 μ0 μF Qk 1533 [(3, .int i), (2, .ref tw), (1, .ref cw), (0, .ref b)] [] (mT tw τ' M1)) : PW g mL 1562 μ0 μF Qk 467 [(3, .int i), (2, .ref tw), (1, .ref cw), (0, .ref b)] [] M := by
  have h1 : f_X0_wet F cw (x 1) M = some (r, M1) := hC
  have h3 : t_X9_wet F (x 1) τ = some (_, τ') := hT
  have ht : oc M1 tw 9 = some () := by rw [hM]; exact T_oc
  have hT9 := ok_X9_wet (g := g) F (x 1) tw M1 τ h3
  rw [← hM] at hT9
  exact L_case9 (hx 1 (by decide) (by decide)) (hx1 1 (by decide) (by decide)) hc ht (ok_X0_wet F cw (x 1) M h1) hT9 kk
theorem L_st10 {F cw tw b : Nat} {i r : Int32} {x : Nat → Int32} {M M1 : Sw} {τ τ' : Tw} (hx : ∀ j : Nat, 1 ≤ j → j ≤ 6 → aI M 10 b (i + Int32.ofNat j) = some (x j)) (hx1 : ∀ j : Nat, 1 ≤ j → j ≤ 6 → aI M1 10 b (i + Int32.ofNat j) = some (x j)) (hc : oc M cw 0 = some ()) (hM : M1 = mT tw τ M1) (hC : stC F 10 cw x M = some (r, M1)) (hT : stT F 10 x τ = some (r, τ')) (kk : PW g mL 1562 μ0 μF Qk 1533 [(3, .int i), (2, .ref tw), (1, .ref cw), (0, .ref b)] [] (mT tw τ' M1)) : PW g mL 1562 μ0 μF Qk 490 [(3, .int i), (2, .ref tw), (1, .ref cw), (0, .ref b)] [] M := by
  have h1 : f_X0_reached F cw (x 1) M = some (r, M1) := hC
  have h3 : t_X9_reached F (x 1) τ = some (_, τ') := hT
  have ht : oc M1 tw 9 = some () := by rw [hM]; exact T_oc
  have hT9 := ok_X9_reached (g := g) F (x 1) tw M1 τ h3
  rw [← hM] at hT9
  exact L_case10 (hx 1 (by decide) (by decide)) (hx1 1 (by decide) (by decide)) hc ht (ok_X0_reached F cw (x 1) M h1) hT9 kk
theorem L_st11 {F cw tw b : Nat} {i r : Int32} {x : Nat → Int32} {M M1 : Sw} {τ τ' : Tw} (hx : ∀ j : Nat, 1 ≤ j → j ≤ 6 → aI M 10 b (i + Int32.ofNat j) = some (x j)) (hx1 : ∀ j : Nat, 1 ≤ j → j ≤ 6 → aI M1 10 b (i + Int32.ofNat j) = some (x j)) (hc : oc M cw 0 = some ()) (hM : M1 = mT tw τ M1) (hC : stC F 11 cw x M = some (r, M1)) (hT : stT F 11 x τ = some (r, τ')) (kk : PW g mL 1562 μ0 μF Qk 1533 [(3, .int i), (2, .ref tw), (1, .ref cw), (0, .ref b)] [] (mT tw τ' M1)) : PW g mL 1562 μ0 μF Qk 513 [(3, .int i), (2, .ref tw), (1, .ref cw), (0, .ref b)] [] M := by
  have h1 : f_X0_hours F cw (x 1) M = some (r, M1) := hC
  have h3 : t_X9_hours F (x 1) τ = some (_, τ') := hT
  have ht : oc M1 tw 9 = some () := by rw [hM]; exact T_oc
  have hT9 := ok_X9_hours (g := g) F (x 1) tw M1 τ h3
  rw [← hM] at hT9
  exact L_case11 (hx 1 (by decide) (by decide)) (hx1 1 (by decide) (by decide)) hc ht (ok_X0_hours F cw (x 1) M h1) hT9 kk
theorem L_st12 {F cw tw b : Nat} {i r : Int32} {x : Nat → Int32} {M M1 : Sw} {τ τ' : Tw} (hx : ∀ j : Nat, 1 ≤ j → j ≤ 6 → aI M 10 b (i + Int32.ofNat j) = some (x j)) (hx1 : ∀ j : Nat, 1 ≤ j → j ≤ 6 → aI M1 10 b (i + Int32.ofNat j) = some (x j)) (hc : oc M cw 0 = some ()) (hM : M1 = mT tw τ M1) (hC : stC F 12 cw x M = some (r, M1)) (hT : stT F 12 x τ = some (r, τ')) (kk : PW g mL 1562 μ0 μF Qk 1533 [(3, .int i), (2, .ref tw), (1, .ref cw), (0, .ref b)] [] (mT tw τ' M1)) : PW g mL 1562 μ0 μF Qk 536 [(3, .int i), (2, .ref tw), (1, .ref cw), (0, .ref b)] [] M := by
  obtain ⟨r1, h1, h2⟩ := ob (show (Option.bind (f_X0_meets F cw (x 1) M) fun r => some (r, M)) = some (r, M1) from hC)
  cases h2
  obtain ⟨r2, h3, h4⟩ := ob (show (Option.bind (t_X9_meets F (x 1) τ) fun r => some (r, τ)) = some (_, τ') from hT)
  cases h4
  have ht : oc M tw 9 = some () := by rw [hM]; exact T_oc
  have hT9 := ok_X9_meets (g := g) F (x 1) tw M τ h3
  rw [← hM] at hT9
  rw [← hM] at kk
  exact L_case12 (hx 1 (by decide) (by decide)) (hx1 1 (by decide) (by decide)) hc ht (ok_X0_meets F cw (x 1) M h1) hT9 kk
theorem L_st13 {F cw tw b : Nat} {i r : Int32} {x : Nat → Int32} {M M1 : Sw} {τ τ' : Tw} (hx : ∀ j : Nat, 1 ≤ j → j ≤ 6 → aI M 10 b (i + Int32.ofNat j) = some (x j)) (hx1 : ∀ j : Nat, 1 ≤ j → j ≤ 6 → aI M1 10 b (i + Int32.ofNat j) = some (x j)) (hc : oc M cw 0 = some ()) (hM : M1 = mT tw τ M1) (hC : stC F 13 cw x M = some (r, M1)) (hT : stT F 13 x τ = some (r, τ')) (kk : PW g mL 1562 μ0 μF Qk 1533 [(3, .int i), (2, .ref tw), (1, .ref cw), (0, .ref b)] [] (mT tw τ' M1)) : PW g mL 1562 μ0 μF Qk 559 [(3, .int i), (2, .ref tw), (1, .ref cw), (0, .ref b)] [] M := by
  have h1 : f_X0_cut F cw (x 1) (if x 2 = 0 then 0 else 1) (x 3) M = some (r, M1) := hC
  have h3 : t_X9_cut F (x 1) (if x 2 = 0 then 0 else 1) (x 3) τ = some (_, τ') := hT
  have ht : oc M1 tw 9 = some () := by rw [hM]; exact T_oc
  have hT9 := ok_X9_cut (g := g) F (x 1) (if x 2 = 0 then 0 else 1) (x 3) tw M1 τ h3
  rw [← hM] at hT9
  exact L_case13 (hx 1 (by decide) (by decide)) (hx1 1 (by decide) (by decide)) (hx 2 (by decide) (by decide)) (hx1 2 (by decide) (by decide)) (hx 3 (by decide) (by decide)) (hx1 3 (by decide) (by decide)) hc ht (ok_X0_cut F cw (x 1) (if x 2 = 0 then 0 else 1) (x 3) M h1) hT9 kk
theorem L_st14 {F cw tw b : Nat} {i r : Int32} {x : Nat → Int32} {M M1 : Sw} {τ τ' : Tw} (hx : ∀ j : Nat, 1 ≤ j → j ≤ 6 → aI M 10 b (i + Int32.ofNat j) = some (x j)) (hx1 : ∀ j : Nat, 1 ≤ j → j ≤ 6 → aI M1 10 b (i + Int32.ofNat j) = some (x j)) (hc : oc M cw 0 = some ()) (hM : M1 = mT tw τ M1) (hC : stC F 14 cw x M = some (r, M1)) (hT : stT F 14 x τ = some (r, τ')) (kk : PW g mL 1562 μ0 μF Qk 1533 [(3, .int i), (2, .ref tw), (1, .ref cw), (0, .ref b)] [] (mT tw τ' M1)) : PW g mL 1562 μ0 μF Qk 618 [(3, .int i), (2, .ref tw), (1, .ref cw), (0, .ref b)] [] M := by
  have h1 : f_X0_worst F cw (if x 1 = 0 then 0 else 1) (x 2) M = some (r, M1) := hC
  have h3 : t_X9_worst F (if x 1 = 0 then 0 else 1) (x 2) τ = some (_, τ') := hT
  have ht : oc M1 tw 9 = some () := by rw [hM]; exact T_oc
  have hT9 := ok_X9_worst (g := g) F (if x 1 = 0 then 0 else 1) (x 2) tw M1 τ h3
  rw [← hM] at hT9
  exact L_case14 (hx 1 (by decide) (by decide)) (hx1 1 (by decide) (by decide)) (hx 2 (by decide) (by decide)) (hx1 2 (by decide) (by decide)) hc ht (ok_X0_worst F cw (if x 1 = 0 then 0 else 1) (x 2) M h1) hT9 kk
theorem L_st15 {F cw tw b : Nat} {i r : Int32} {x : Nat → Int32} {M M1 : Sw} {τ τ' : Tw} (hx : ∀ j : Nat, 1 ≤ j → j ≤ 6 → aI M 10 b (i + Int32.ofNat j) = some (x j)) (hx1 : ∀ j : Nat, 1 ≤ j → j ≤ 6 → aI M1 10 b (i + Int32.ofNat j) = some (x j)) (hc : oc M cw 0 = some ()) (hM : M1 = mT tw τ M1) (hC : stC F 15 cw x M = some (r, M1)) (hT : stT F 15 x τ = some (r, τ')) (kk : PW g mL 1562 μ0 μF Qk 1533 [(3, .int i), (2, .ref tw), (1, .ref cw), (0, .ref b)] [] (mT tw τ' M1)) : PW g mL 1562 μ0 μF Qk 667 [(3, .int i), (2, .ref tw), (1, .ref cw), (0, .ref b)] [] M := by
  have h1 : f_X0_law F cw (x 1) M = some (r, M1) := hC
  have h3 : t_X9_law F (x 1) τ = some (_, τ') := hT
  have ht : oc M1 tw 9 = some () := by rw [hM]; exact T_oc
  have hT9 := ok_X9_law (g := g) F (x 1) tw M1 τ h3
  rw [← hM] at hT9
  exact L_case15 (hx 1 (by decide) (by decide)) (hx1 1 (by decide) (by decide)) hc ht (ok_X0_law F cw (x 1) M h1) hT9 kk
theorem L_st16 {F cw tw b : Nat} {i r : Int32} {x : Nat → Int32} {M M1 : Sw} {τ τ' : Tw} (hx : ∀ j : Nat, 1 ≤ j → j ≤ 6 → aI M 10 b (i + Int32.ofNat j) = some (x j)) (hx1 : ∀ j : Nat, 1 ≤ j → j ≤ 6 → aI M1 10 b (i + Int32.ofNat j) = some (x j)) (hc : oc M cw 0 = some ()) (hM : M1 = mT tw τ M1) (hC : stC F 16 cw x M = some (r, M1)) (hT : stT F 16 x τ = some (r, τ')) (kk : PW g mL 1562 μ0 μF Qk 1533 [(3, .int i), (2, .ref tw), (1, .ref cw), (0, .ref b)] [] (mT tw τ' M1)) : PW g mL 1562 μ0 μF Qk 690 [(3, .int i), (2, .ref tw), (1, .ref cw), (0, .ref b)] [] M := by
  obtain ⟨r1, h1, h2⟩ := ob (show (Option.bind (f_X0_wood F cw (x 1) M) fun r => some (r, M)) = some (r, M1) from hC)
  cases h2
  obtain ⟨r2, h3, h4⟩ := ob (show (Option.bind (t_X9_wood F (x 1) τ) fun r => some (r, τ)) = some (_, τ') from hT)
  cases h4
  have ht : oc M tw 9 = some () := by rw [hM]; exact T_oc
  have hT9 := ok_X9_wood (g := g) F (x 1) tw M τ h3
  rw [← hM] at hT9
  rw [← hM] at kk
  exact L_case16 (hx 1 (by decide) (by decide)) (hx1 1 (by decide) (by decide)) hc ht (ok_X0_wood F cw (x 1) M h1) hT9 kk
theorem L_st17 {F cw tw b : Nat} {i r : Int32} {x : Nat → Int32} {M M1 : Sw} {τ τ' : Tw} (hx : ∀ j : Nat, 1 ≤ j → j ≤ 6 → aI M 10 b (i + Int32.ofNat j) = some (x j)) (hx1 : ∀ j : Nat, 1 ≤ j → j ≤ 6 → aI M1 10 b (i + Int32.ofNat j) = some (x j)) (hc : oc M cw 0 = some ()) (hM : M1 = mT tw τ M1) (hC : stC F 17 cw x M = some (r, M1)) (hT : stT F 17 x τ = some (r, τ')) (kk : PW g mL 1562 μ0 μF Qk 1533 [(3, .int i), (2, .ref tw), (1, .ref cw), (0, .ref b)] [] (mT tw τ' M1)) : PW g mL 1562 μ0 μF Qk 713 [(3, .int i), (2, .ref tw), (1, .ref cw), (0, .ref b)] [] M := by
  have h1 : f_X0_jack F cw (x 1) (x 2) M = some (r, M1) := hC
  have h3 : t_X9_jack F (x 1) (x 2) τ = some (_, τ') := hT
  have ht : oc M1 tw 9 = some () := by rw [hM]; exact T_oc
  have hT9 := ok_X9_jack (g := g) F (x 1) (x 2) tw M1 τ h3
  rw [← hM] at hT9
  exact L_case17 (hx 1 (by decide) (by decide)) (hx1 1 (by decide) (by decide)) (hx 2 (by decide) (by decide)) (hx1 2 (by decide) (by decide)) hc ht (ok_X0_jack F cw (x 1) (x 2) M h1) hT9 kk
theorem L_st18 {F cw tw b : Nat} {i r : Int32} {x : Nat → Int32} {M M1 : Sw} {τ τ' : Tw} (hx : ∀ j : Nat, 1 ≤ j → j ≤ 6 → aI M 10 b (i + Int32.ofNat j) = some (x j)) (hx1 : ∀ j : Nat, 1 ≤ j → j ≤ 6 → aI M1 10 b (i + Int32.ofNat j) = some (x j)) (hc : oc M cw 0 = some ()) (hM : M1 = mT tw τ M1) (hC : stC F 18 cw x M = some (r, M1)) (hT : stT F 18 x τ = some (r, τ')) (kk : PW g mL 1562 μ0 μF Qk 1533 [(3, .int i), (2, .ref tw), (1, .ref cw), (0, .ref b)] [] (mT tw τ' M1)) : PW g mL 1562 μ0 μF Qk 746 [(3, .int i), (2, .ref tw), (1, .ref cw), (0, .ref b)] [] M := by
  have h1 : f_X0_work F cw (x 1) (x 2) (x 3) M = some (r, M1) := hC
  have h3 : t_X9_work F (x 1) (x 2) (x 3) τ = some (_, τ') := hT
  have ht : oc M1 tw 9 = some () := by rw [hM]; exact T_oc
  have hT9 := ok_X9_work (g := g) F (x 1) (x 2) (x 3) tw M1 τ h3
  rw [← hM] at hT9
  exact L_case18 (hx 1 (by decide) (by decide)) (hx1 1 (by decide) (by decide)) (hx 2 (by decide) (by decide)) (hx1 2 (by decide) (by decide)) (hx 3 (by decide) (by decide)) (hx1 3 (by decide) (by decide)) hc ht (ok_X0_work F cw (x 1) (x 2) (x 3) M h1) hT9 kk
theorem L_st19 {F cw tw b : Nat} {i r : Int32} {x : Nat → Int32} {M M1 : Sw} {τ τ' : Tw} (hx : ∀ j : Nat, 1 ≤ j → j ≤ 6 → aI M 10 b (i + Int32.ofNat j) = some (x j)) (hx1 : ∀ j : Nat, 1 ≤ j → j ≤ 6 → aI M1 10 b (i + Int32.ofNat j) = some (x j)) (hc : oc M cw 0 = some ()) (hM : M1 = mT tw τ M1) (hC : stC F 19 cw x M = some (r, M1)) (hT : stT F 19 x τ = some (r, τ')) (kk : PW g mL 1562 μ0 μF Qk 1533 [(3, .int i), (2, .ref tw), (1, .ref cw), (0, .ref b)] [] (mT tw τ' M1)) : PW g mL 1562 μ0 μF Qk 789 [(3, .int i), (2, .ref tw), (1, .ref cw), (0, .ref b)] [] M := by
  have h1 : f_X0_forget F cw M = some (r, M1) := hC
  have h3 : t_X9_forget F τ = some (_, τ') := hT
  have ht : oc M1 tw 9 = some () := by rw [hM]; exact T_oc
  have hT9 := ok_X9_forget (g := g) F tw M1 τ h3
  rw [← hM] at hT9
  exact L_case19 hc ht (ok_X0_forget F cw M h1) hT9 kk
theorem L_st20 {F cw tw b : Nat} {i r : Int32} {x : Nat → Int32} {M M1 : Sw} {τ τ' : Tw} (hx : ∀ j : Nat, 1 ≤ j → j ≤ 6 → aI M 10 b (i + Int32.ofNat j) = some (x j)) (hx1 : ∀ j : Nat, 1 ≤ j → j ≤ 6 → aI M1 10 b (i + Int32.ofNat j) = some (x j)) (hc : oc M cw 0 = some ()) (hM : M1 = mT tw τ M1) (hC : stC F 20 cw x M = some (r, M1)) (hT : stT F 20 x τ = some (r, τ')) (kk : PW g mL 1562 μ0 μF Qk 1533 [(3, .int i), (2, .ref tw), (1, .ref cw), (0, .ref b)] [] (mT tw τ' M1)) : PW g mL 1562 μ0 μF Qk 802 [(3, .int i), (2, .ref tw), (1, .ref cw), (0, .ref b)] [] M := by
  have h1 : f_X0_judge F cw M = some (r, M1) := hC
  have h3 : t_X9_judge F τ = some (_, τ') := hT
  have ht : oc M1 tw 9 = some () := by rw [hM]; exact T_oc
  have hT9 := ok_X9_judge (g := g) F tw M1 τ h3
  rw [← hM] at hT9
  exact L_case20 hc ht (ok_X0_judge F cw M h1) hT9 kk
theorem L_st21 {F cw tw b : Nat} {i r : Int32} {x : Nat → Int32} {M M1 : Sw} {τ τ' : Tw} (hx : ∀ j : Nat, 1 ≤ j → j ≤ 6 → aI M 10 b (i + Int32.ofNat j) = some (x j)) (hx1 : ∀ j : Nat, 1 ≤ j → j ≤ 6 → aI M1 10 b (i + Int32.ofNat j) = some (x j)) (hc : oc M cw 0 = some ()) (hM : M1 = mT tw τ M1) (hC : stC F 21 cw x M = some (r, M1)) (hT : stT F 21 x τ = some (r, τ')) (kk : PW g mL 1562 μ0 μF Qk 1533 [(3, .int i), (2, .ref tw), (1, .ref cw), (0, .ref b)] [] (mT tw τ' M1)) : PW g mL 1562 μ0 μF Qk 815 [(3, .int i), (2, .ref tw), (1, .ref cw), (0, .ref b)] [] M := by
  have h1 : f_X0_done F cw M = some (r, M1) := hC
  have h3 : t_X9_done F τ = some (_, τ') := hT
  have ht : oc M1 tw 9 = some () := by rw [hM]; exact T_oc
  have hT9 := ok_X9_done (g := g) F tw M1 τ h3
  rw [← hM] at hT9
  exact L_case21 hc ht (ok_X0_done F cw M h1) hT9 kk
theorem L_st22 {F cw tw b : Nat} {i r : Int32} {x : Nat → Int32} {M M1 : Sw} {τ τ' : Tw} (hx : ∀ j : Nat, 1 ≤ j → j ≤ 6 → aI M 10 b (i + Int32.ofNat j) = some (x j)) (hx1 : ∀ j : Nat, 1 ≤ j → j ≤ 6 → aI M1 10 b (i + Int32.ofNat j) = some (x j)) (hc : oc M cw 0 = some ()) (hM : M1 = mT tw τ M1) (hC : stC F 22 cw x M = some (r, M1)) (hT : stT F 22 x τ = some (r, τ')) (kk : PW g mL 1562 μ0 μF Qk 1533 [(3, .int i), (2, .ref tw), (1, .ref cw), (0, .ref b)] [] (mT tw τ' M1)) : PW g mL 1562 μ0 μF Qk 828 [(3, .int i), (2, .ref tw), (1, .ref cw), (0, .ref b)] [] M := by
  have h1 : f_X0_undo F cw M = some (r, M1) := hC
  have h3 : t_X9_undo F τ = some (_, τ') := hT
  have ht : oc M1 tw 9 = some () := by rw [hM]; exact T_oc
  have hT9 := ok_X9_undo (g := g) F tw M1 τ h3
  rw [← hM] at hT9
  exact L_case22 hc ht (ok_X0_undo F cw M h1) hT9 kk
theorem L_st23 {F cw tw b : Nat} {i r : Int32} {x : Nat → Int32} {M M1 : Sw} {τ τ' : Tw} (hx : ∀ j : Nat, 1 ≤ j → j ≤ 6 → aI M 10 b (i + Int32.ofNat j) = some (x j)) (hx1 : ∀ j : Nat, 1 ≤ j → j ≤ 6 → aI M1 10 b (i + Int32.ofNat j) = some (x j)) (hc : oc M cw 0 = some ()) (hM : M1 = mT tw τ M1) (hC : stC F 23 cw x M = some (r, M1)) (hT : stT F 23 x τ = some (r, τ')) (kk : PW g mL 1562 μ0 μF Qk 1533 [(3, .int i), (2, .ref tw), (1, .ref cw), (0, .ref b)] [] (mT tw τ' M1)) : PW g mL 1562 μ0 μF Qk 841 [(3, .int i), (2, .ref tw), (1, .ref cw), (0, .ref b)] [] M := by
  have h1 : f_X0_nights F cw (x 1) M = some (r, M1) := hC
  have h3 : t_X9_nights F (x 1) τ = some (_, τ') := hT
  have ht : oc M1 tw 9 = some () := by rw [hM]; exact T_oc
  have hT9 := ok_X9_nights (g := g) F (x 1) tw M1 τ h3
  rw [← hM] at hT9
  exact L_case23 (hx 1 (by decide) (by decide)) (hx1 1 (by decide) (by decide)) hc ht (ok_X0_nights F cw (x 1) M h1) hT9 kk
theorem L_st24 {F cw tw b : Nat} {i r : Int32} {x : Nat → Int32} {M M1 : Sw} {τ τ' : Tw} (hx : ∀ j : Nat, 1 ≤ j → j ≤ 6 → aI M 10 b (i + Int32.ofNat j) = some (x j)) (hx1 : ∀ j : Nat, 1 ≤ j → j ≤ 6 → aI M1 10 b (i + Int32.ofNat j) = some (x j)) (hc : oc M cw 0 = some ()) (hM : M1 = mT tw τ M1) (hC : stC F 24 cw x M = some (r, M1)) (hT : stT F 24 x τ = some (r, τ')) (kk : PW g mL 1562 μ0 μF Qk 1533 [(3, .int i), (2, .ref tw), (1, .ref cw), (0, .ref b)] [] (mT tw τ' M1)) : PW g mL 1562 μ0 μF Qk 864 [(3, .int i), (2, .ref tw), (1, .ref cw), (0, .ref b)] [] M := by
  obtain ⟨r1, h1, h2⟩ := ob (show (Option.bind (f_X0_looks F cw (x 1) (x 2) M) fun r => some (r, M)) = some (r, M1) from hC)
  cases h2
  obtain ⟨r2, h3, h4⟩ := ob (show (Option.bind (t_X9_looks F (x 1) (x 2) τ) fun r => some (r, τ)) = some (_, τ') from hT)
  cases h4
  have ht : oc M tw 9 = some () := by rw [hM]; exact T_oc
  have hT9 := ok_X9_looks (g := g) F (x 1) (x 2) tw M τ h3
  rw [← hM] at hT9
  rw [← hM] at kk
  exact L_case24 (hx 1 (by decide) (by decide)) (hx1 1 (by decide) (by decide)) (hx 2 (by decide) (by decide)) (hx1 2 (by decide) (by decide)) hc ht (ok_X0_looks F cw (x 1) (x 2) M h1) hT9 kk
theorem L_st25 {F cw tw b : Nat} {i r : Int32} {x : Nat → Int32} {M M1 : Sw} {τ τ' : Tw} (hx : ∀ j : Nat, 1 ≤ j → j ≤ 6 → aI M 10 b (i + Int32.ofNat j) = some (x j)) (hx1 : ∀ j : Nat, 1 ≤ j → j ≤ 6 → aI M1 10 b (i + Int32.ofNat j) = some (x j)) (hc : oc M cw 0 = some ()) (hM : M1 = mT tw τ M1) (hC : stC F 25 cw x M = some (r, M1)) (hT : stT F 25 x τ = some (r, τ')) (kk : PW g mL 1562 μ0 μF Qk 1533 [(3, .int i), (2, .ref tw), (1, .ref cw), (0, .ref b)] [] (mT tw τ' M1)) : PW g mL 1562 μ0 μF Qk 897 [(3, .int i), (2, .ref tw), (1, .ref cw), (0, .ref b)] [] M := by
  obtain ⟨r1, h1, h2⟩ := ob (show (Option.bind (f_X0_light F cw (x 1) M) fun r => some (r, M)) = some (r, M1) from hC)
  cases h2
  obtain ⟨r2, h3, h4⟩ := ob (show (Option.bind (t_X9_light F (x 1) τ) fun r => some (r, τ)) = some (_, τ') from hT)
  cases h4
  have ht : oc M tw 9 = some () := by rw [hM]; exact T_oc
  have hT9 := ok_X9_light (g := g) F (x 1) tw M τ h3
  rw [← hM] at hT9
  rw [← hM] at kk
  exact L_case25 (hx 1 (by decide) (by decide)) (hx1 1 (by decide) (by decide)) hc ht (ok_X0_light F cw (x 1) M h1) hT9 kk
theorem L_st26 {F cw tw b : Nat} {i r : Int32} {x : Nat → Int32} {M M1 : Sw} {τ τ' : Tw} (hx : ∀ j : Nat, 1 ≤ j → j ≤ 6 → aI M 10 b (i + Int32.ofNat j) = some (x j)) (hx1 : ∀ j : Nat, 1 ≤ j → j ≤ 6 → aI M1 10 b (i + Int32.ofNat j) = some (x j)) (hc : oc M cw 0 = some ()) (hM : M1 = mT tw τ M1) (hC : stC F 26 cw x M = some (r, M1)) (hT : stT F 26 x τ = some (r, τ')) (kk : PW g mL 1562 μ0 μF Qk 1533 [(3, .int i), (2, .ref tw), (1, .ref cw), (0, .ref b)] [] (mT tw τ' M1)) : PW g mL 1562 μ0 μF Qk 920 [(3, .int i), (2, .ref tw), (1, .ref cw), (0, .ref b)] [] M := by
  have h1 : f_X0_sway F cw (x 1) (x 2) M = some (r, M1) := hC
  have h3 : t_X9_sway F (x 1) (x 2) τ = some (_, τ') := hT
  have ht : oc M1 tw 9 = some () := by rw [hM]; exact T_oc
  have hT9 := ok_X9_sway (g := g) F (x 1) (x 2) tw M1 τ h3
  rw [← hM] at hT9
  exact L_case26 (hx 1 (by decide) (by decide)) (hx1 1 (by decide) (by decide)) (hx 2 (by decide) (by decide)) (hx1 2 (by decide) (by decide)) hc ht (ok_X0_sway F cw (x 1) (x 2) M h1) hT9 kk
theorem L_st27 {F cw tw b : Nat} {i r : Int32} {x : Nat → Int32} {M M1 : Sw} {τ τ' : Tw} (hx : ∀ j : Nat, 1 ≤ j → j ≤ 6 → aI M 10 b (i + Int32.ofNat j) = some (x j)) (hx1 : ∀ j : Nat, 1 ≤ j → j ≤ 6 → aI M1 10 b (i + Int32.ofNat j) = some (x j)) (hc : oc M cw 0 = some ()) (hM : M1 = mT tw τ M1) (hC : stC F 27 cw x M = some (r, M1)) (hT : stT F 27 x τ = some (r, τ')) (kk : PW g mL 1562 μ0 μF Qk 1533 [(3, .int i), (2, .ref tw), (1, .ref cw), (0, .ref b)] [] (mT tw τ' M1)) : PW g mL 1562 μ0 μF Qk 953 [(3, .int i), (2, .ref tw), (1, .ref cw), (0, .ref b)] [] M := by
  have h1 : f_X0_chain F cw (x 1) (x 2) (x 3) M = some (r, M1) := hC
  have h3 : t_X9_chain F (x 1) (x 2) (x 3) τ = some (_, τ') := hT
  have ht : oc M1 tw 9 = some () := by rw [hM]; exact T_oc
  have hT9 := ok_X9_chain (g := g) F (x 1) (x 2) (x 3) tw M1 τ h3
  rw [← hM] at hT9
  exact L_case27 (hx 1 (by decide) (by decide)) (hx1 1 (by decide) (by decide)) (hx 2 (by decide) (by decide)) (hx1 2 (by decide) (by decide)) (hx 3 (by decide) (by decide)) (hx1 3 (by decide) (by decide)) hc ht (ok_X0_chain F cw (x 1) (x 2) (x 3) M h1) hT9 kk
theorem L_st28 {F cw tw b : Nat} {i r : Int32} {x : Nat → Int32} {M M1 : Sw} {τ τ' : Tw} (hx : ∀ j : Nat, 1 ≤ j → j ≤ 6 → aI M 10 b (i + Int32.ofNat j) = some (x j)) (hx1 : ∀ j : Nat, 1 ≤ j → j ≤ 6 → aI M1 10 b (i + Int32.ofNat j) = some (x j)) (hc : oc M cw 0 = some ()) (hM : M1 = mT tw τ M1) (hC : stC F 28 cw x M = some (r, M1)) (hT : stT F 28 x τ = some (r, τ')) (kk : PW g mL 1562 μ0 μF Qk 1533 [(3, .int i), (2, .ref tw), (1, .ref cw), (0, .ref b)] [] (mT tw τ' M1)) : PW g mL 1562 μ0 μF Qk 996 [(3, .int i), (2, .ref tw), (1, .ref cw), (0, .ref b)] [] M := by
  have h1 : f_X0_dread F cw (x 1) M = some (r, M1) := hC
  have h3 : t_X9_dread F (x 1) τ = some (_, τ') := hT
  have ht : oc M1 tw 9 = some () := by rw [hM]; exact T_oc
  have hT9 := ok_X9_dread (g := g) F (x 1) tw M1 τ h3
  rw [← hM] at hT9
  exact L_case28 (hx 1 (by decide) (by decide)) (hx1 1 (by decide) (by decide)) hc ht (ok_X0_dread F cw (x 1) M h1) hT9 kk
theorem L_st29 {F cw tw b : Nat} {i r : Int32} {x : Nat → Int32} {M M1 : Sw} {τ τ' : Tw} (hx : ∀ j : Nat, 1 ≤ j → j ≤ 6 → aI M 10 b (i + Int32.ofNat j) = some (x j)) (hx1 : ∀ j : Nat, 1 ≤ j → j ≤ 6 → aI M1 10 b (i + Int32.ofNat j) = some (x j)) (hc : oc M cw 0 = some ()) (hM : M1 = mT tw τ M1) (hC : stC F 29 cw x M = some (r, M1)) (hT : stT F 29 x τ = some (r, τ')) (kk : PW g mL 1562 μ0 μF Qk 1533 [(3, .int i), (2, .ref tw), (1, .ref cw), (0, .ref b)] [] (mT tw τ' M1)) : PW g mL 1562 μ0 μF Qk 1019 [(3, .int i), (2, .ref tw), (1, .ref cw), (0, .ref b)] [] M := by
  have h1 : f_X0_year F cw (x 1) M = some (r, M1) := hC
  have h3 : t_X9_year F (x 1) τ = some (_, τ') := hT
  have ht : oc M1 tw 9 = some () := by rw [hM]; exact T_oc
  have hT9 := ok_X9_year (g := g) F (x 1) tw M1 τ h3
  rw [← hM] at hT9
  exact L_case29 (hx 1 (by decide) (by decide)) (hx1 1 (by decide) (by decide)) hc ht (ok_X0_year F cw (x 1) M h1) hT9 kk
theorem L_st30 {F cw tw b : Nat} {i r : Int32} {x : Nat → Int32} {M M1 : Sw} {τ τ' : Tw} (hx : ∀ j : Nat, 1 ≤ j → j ≤ 6 → aI M 10 b (i + Int32.ofNat j) = some (x j)) (hx1 : ∀ j : Nat, 1 ≤ j → j ≤ 6 → aI M1 10 b (i + Int32.ofNat j) = some (x j)) (hc : oc M cw 0 = some ()) (hM : M1 = mT tw τ M1) (hC : stC F 30 cw x M = some (r, M1)) (hT : stT F 30 x τ = some (r, τ')) (kk : PW g mL 1562 μ0 μF Qk 1533 [(3, .int i), (2, .ref tw), (1, .ref cw), (0, .ref b)] [] (mT tw τ' M1)) : PW g mL 1562 μ0 μF Qk 1042 [(3, .int i), (2, .ref tw), (1, .ref cw), (0, .ref b)] [] M := by
  have h1 : f_X0_clear F cw M = some (r, M1) := hC
  have h3 : t_X9_clear F τ = some (_, τ') := hT
  have ht : oc M1 tw 9 = some () := by rw [hM]; exact T_oc
  have hT9 := ok_X9_clear (g := g) F tw M1 τ h3
  rw [← hM] at hT9
  exact L_case30 hc ht (ok_X0_clear F cw M h1) hT9 kk
theorem L_st31 {F cw tw b : Nat} {i r : Int32} {x : Nat → Int32} {M M1 : Sw} {τ τ' : Tw} (hx : ∀ j : Nat, 1 ≤ j → j ≤ 6 → aI M 10 b (i + Int32.ofNat j) = some (x j)) (hx1 : ∀ j : Nat, 1 ≤ j → j ≤ 6 → aI M1 10 b (i + Int32.ofNat j) = some (x j)) (hc : oc M cw 0 = some ()) (hM : M1 = mT tw τ M1) (hC : stC F 31 cw x M = some (r, M1)) (hT : stT F 31 x τ = some (r, τ')) (kk : PW g mL 1562 μ0 μF Qk 1533 [(3, .int i), (2, .ref tw), (1, .ref cw), (0, .ref b)] [] (mT tw τ' M1)) : PW g mL 1562 μ0 μF Qk 1055 [(3, .int i), (2, .ref tw), (1, .ref cw), (0, .ref b)] [] M := by
  have h1 : f_X0_posts F cw (x 1) (x 2) (x 3) (x 4) (x 5) M = some (r, M1) := hC
  have h3 : t_X9_posts F (x 1) (x 2) (x 3) (x 4) (x 5) τ = some (_, τ') := hT
  have ht : oc M1 tw 9 = some () := by rw [hM]; exact T_oc
  have hT9 := ok_X9_posts (g := g) F (x 1) (x 2) (x 3) (x 4) (x 5) tw M1 τ h3
  rw [← hM] at hT9
  exact L_case31 (hx 1 (by decide) (by decide)) (hx1 1 (by decide) (by decide)) (hx 2 (by decide) (by decide)) (hx1 2 (by decide) (by decide)) (hx 3 (by decide) (by decide)) (hx1 3 (by decide) (by decide)) (hx 4 (by decide) (by decide)) (hx1 4 (by decide) (by decide)) (hx 5 (by decide) (by decide)) (hx1 5 (by decide) (by decide)) hc ht (ok_X0_posts F cw (x 1) (x 2) (x 3) (x 4) (x 5) M h1) hT9 kk
theorem L_st32 {F cw tw b : Nat} {i r : Int32} {x : Nat → Int32} {M M1 : Sw} {τ τ' : Tw} (hx : ∀ j : Nat, 1 ≤ j → j ≤ 6 → aI M 10 b (i + Int32.ofNat j) = some (x j)) (hx1 : ∀ j : Nat, 1 ≤ j → j ≤ 6 → aI M1 10 b (i + Int32.ofNat j) = some (x j)) (hc : oc M cw 0 = some ()) (hM : M1 = mT tw τ M1) (hC : stC F 32 cw x M = some (r, M1)) (hT : stT F 32 x τ = some (r, τ')) (kk : PW g mL 1562 μ0 μF Qk 1533 [(3, .int i), (2, .ref tw), (1, .ref cw), (0, .ref b)] [] (mT tw τ' M1)) : PW g mL 1562 μ0 μF Qk 1118 [(3, .int i), (2, .ref tw), (1, .ref cw), (0, .ref b)] [] M := by
  have h1 : f_X0_postAt F cw (x 1) (x 2) (x 3) (x 4) (x 5) (x 6) M = some (r, M1) := hC
  have h3 : t_X9_postAt F (x 1) (x 2) (x 3) (x 4) (x 5) (x 6) τ = some (_, τ') := hT
  have ht : oc M1 tw 9 = some () := by rw [hM]; exact T_oc
  have hT9 := ok_X9_postAt (g := g) F (x 1) (x 2) (x 3) (x 4) (x 5) (x 6) tw M1 τ h3
  rw [← hM] at hT9
  exact L_case32 (hx 1 (by decide) (by decide)) (hx1 1 (by decide) (by decide)) (hx 2 (by decide) (by decide)) (hx1 2 (by decide) (by decide)) (hx 3 (by decide) (by decide)) (hx1 3 (by decide) (by decide)) (hx 4 (by decide) (by decide)) (hx1 4 (by decide) (by decide)) (hx 5 (by decide) (by decide)) (hx1 5 (by decide) (by decide)) (hx 6 (by decide) (by decide)) (hx1 6 (by decide) (by decide)) hc ht (ok_X0_postAt F cw (x 1) (x 2) (x 3) (x 4) (x 5) (x 6) M h1) hT9 kk
theorem L_st33 {F cw tw b : Nat} {i r : Int32} {x : Nat → Int32} {M M1 : Sw} {τ τ' : Tw} (hx : ∀ j : Nat, 1 ≤ j → j ≤ 6 → aI M 10 b (i + Int32.ofNat j) = some (x j)) (hx1 : ∀ j : Nat, 1 ≤ j → j ≤ 6 → aI M1 10 b (i + Int32.ofNat j) = some (x j)) (hc : oc M cw 0 = some ()) (hM : M1 = mT tw τ M1) (hC : stC F 33 cw x M = some (r, M1)) (hT : stT F 33 x τ = some (r, τ')) (kk : PW g mL 1562 μ0 μF Qk 1533 [(3, .int i), (2, .ref tw), (1, .ref cw), (0, .ref b)] [] (mT tw τ' M1)) : PW g mL 1562 μ0 μF Qk 1193 [(3, .int i), (2, .ref tw), (1, .ref cw), (0, .ref b)] [] M := by
  have h1 : f_X0_vote F cw (x 1) (x 2) (x 3) M = some (r, M1) := hC
  have h3 : t_X9_vote F (x 1) (x 2) (x 3) τ = some (_, τ') := hT
  have ht : oc M1 tw 9 = some () := by rw [hM]; exact T_oc
  have hT9 := ok_X9_vote (g := g) F (x 1) (x 2) (x 3) tw M1 τ h3
  rw [← hM] at hT9
  exact L_case33 (hx 1 (by decide) (by decide)) (hx1 1 (by decide) (by decide)) (hx 2 (by decide) (by decide)) (hx1 2 (by decide) (by decide)) (hx 3 (by decide) (by decide)) (hx1 3 (by decide) (by decide)) hc ht (ok_X0_vote F cw (x 1) (x 2) (x 3) M h1) hT9 kk
theorem L_st34 {F cw tw b : Nat} {i r : Int32} {x : Nat → Int32} {M M1 : Sw} {τ τ' : Tw} (hx : ∀ j : Nat, 1 ≤ j → j ≤ 6 → aI M 10 b (i + Int32.ofNat j) = some (x j)) (hx1 : ∀ j : Nat, 1 ≤ j → j ≤ 6 → aI M1 10 b (i + Int32.ofNat j) = some (x j)) (hc : oc M cw 0 = some ()) (hM : M1 = mT tw τ M1) (hC : stC F 34 cw x M = some (r, M1)) (hT : stT F 34 x τ = some (r, τ')) (kk : PW g mL 1562 μ0 μF Qk 1533 [(3, .int i), (2, .ref tw), (1, .ref cw), (0, .ref b)] [] (mT tw τ' M1)) : PW g mL 1562 μ0 μF Qk 1236 [(3, .int i), (2, .ref tw), (1, .ref cw), (0, .ref b)] [] M := by
  have h1 : f_X0_mark F cw (x 1) (x 2) (x 3) M = some (r, M1) := hC
  have h3 : t_X9_mark F (x 1) (x 2) (x 3) τ = some (_, τ') := hT
  have ht : oc M1 tw 9 = some () := by rw [hM]; exact T_oc
  have hT9 := ok_X9_mark (g := g) F (x 1) (x 2) (x 3) tw M1 τ h3
  rw [← hM] at hT9
  exact L_case34 (hx 1 (by decide) (by decide)) (hx1 1 (by decide) (by decide)) (hx 2 (by decide) (by decide)) (hx1 2 (by decide) (by decide)) (hx 3 (by decide) (by decide)) (hx1 3 (by decide) (by decide)) hc ht (ok_X0_mark F cw (x 1) (x 2) (x 3) M h1) hT9 kk
theorem L_st35 {F cw tw b : Nat} {i r : Int32} {x : Nat → Int32} {M M1 : Sw} {τ τ' : Tw} (hx : ∀ j : Nat, 1 ≤ j → j ≤ 6 → aI M 10 b (i + Int32.ofNat j) = some (x j)) (hx1 : ∀ j : Nat, 1 ≤ j → j ≤ 6 → aI M1 10 b (i + Int32.ofNat j) = some (x j)) (hc : oc M cw 0 = some ()) (hM : M1 = mT tw τ M1) (hC : stC F 35 cw x M = some (r, M1)) (hT : stT F 35 x τ = some (r, τ')) (kk : PW g mL 1562 μ0 μF Qk 1533 [(3, .int i), (2, .ref tw), (1, .ref cw), (0, .ref b)] [] (mT tw τ' M1)) : PW g mL 1562 μ0 μF Qk 1279 [(3, .int i), (2, .ref tw), (1, .ref cw), (0, .ref b)] [] M := by
  have h1 : f_X0_annul F cw (x 1) M = some (r, M1) := hC
  have h3 : t_X9_annul F (x 1) τ = some (_, τ') := hT
  have ht : oc M1 tw 9 = some () := by rw [hM]; exact T_oc
  have hT9 := ok_X9_annul (g := g) F (x 1) tw M1 τ h3
  rw [← hM] at hT9
  exact L_case35 (hx 1 (by decide) (by decide)) (hx1 1 (by decide) (by decide)) hc ht (ok_X0_annul F cw (x 1) M h1) hT9 kk
theorem L_st36 {F cw tw b : Nat} {i r : Int32} {x : Nat → Int32} {M M1 : Sw} {τ τ' : Tw} (hx : ∀ j : Nat, 1 ≤ j → j ≤ 6 → aI M 10 b (i + Int32.ofNat j) = some (x j)) (hx1 : ∀ j : Nat, 1 ≤ j → j ≤ 6 → aI M1 10 b (i + Int32.ofNat j) = some (x j)) (hc : oc M cw 0 = some ()) (hM : M1 = mT tw τ M1) (hC : stC F 36 cw x M = some (r, M1)) (hT : stT F 36 x τ = some (r, τ')) (kk : PW g mL 1562 μ0 μF Qk 1533 [(3, .int i), (2, .ref tw), (1, .ref cw), (0, .ref b)] [] (mT tw τ' M1)) : PW g mL 1562 μ0 μF Qk 1302 [(3, .int i), (2, .ref tw), (1, .ref cw), (0, .ref b)] [] M := by
  obtain ⟨r1, h1, h2⟩ := ob (show (Option.bind (f_X0_votes F cw (x 1) (x 2) (x 3) M) fun r => some (r, M)) = some (r, M1) from hC)
  cases h2
  obtain ⟨r2, h3, h4⟩ := ob (show (Option.bind (t_X9_votes F (x 1) (x 2) (x 3) τ) fun r => some (r, τ)) = some (_, τ') from hT)
  cases h4
  have ht : oc M tw 9 = some () := by rw [hM]; exact T_oc
  have hT9 := ok_X9_votes (g := g) F (x 1) (x 2) (x 3) tw M τ h3
  rw [← hM] at hT9
  rw [← hM] at kk
  exact L_case36 (hx 1 (by decide) (by decide)) (hx1 1 (by decide) (by decide)) (hx 2 (by decide) (by decide)) (hx1 2 (by decide) (by decide)) (hx 3 (by decide) (by decide)) (hx1 3 (by decide) (by decide)) hc ht (ok_X0_votes F cw (x 1) (x 2) (x 3) M h1) hT9 kk
theorem L_st37 {F cw tw b : Nat} {i r : Int32} {x : Nat → Int32} {M M1 : Sw} {τ τ' : Tw} (hx : ∀ j : Nat, 1 ≤ j → j ≤ 6 → aI M 10 b (i + Int32.ofNat j) = some (x j)) (hx1 : ∀ j : Nat, 1 ≤ j → j ≤ 6 → aI M1 10 b (i + Int32.ofNat j) = some (x j)) (hc : oc M cw 0 = some ()) (hM : M1 = mT tw τ M1) (hC : stC F 37 cw x M = some (r, M1)) (hT : stT F 37 x τ = some (r, τ')) (kk : PW g mL 1562 μ0 μF Qk 1533 [(3, .int i), (2, .ref tw), (1, .ref cw), (0, .ref b)] [] (mT tw τ' M1)) : PW g mL 1562 μ0 μF Qk 1345 [(3, .int i), (2, .ref tw), (1, .ref cw), (0, .ref b)] [] M := by
  obtain ⟨r1, h1, h2⟩ := ob (show (Option.bind (f_X0_winner F cw (x 1) (x 2) M) fun r => some (r, M)) = some (r, M1) from hC)
  cases h2
  obtain ⟨r2, h3, h4⟩ := ob (show (Option.bind (t_X9_winner F (x 1) (x 2) τ) fun r => some (r, τ)) = some (_, τ') from hT)
  cases h4
  have ht : oc M tw 9 = some () := by rw [hM]; exact T_oc
  have hT9 := ok_X9_winner (g := g) F (x 1) (x 2) tw M τ h3
  rw [← hM] at hT9
  rw [← hM] at kk
  exact L_case37 (hx 1 (by decide) (by decide)) (hx1 1 (by decide) (by decide)) (hx 2 (by decide) (by decide)) (hx1 2 (by decide) (by decide)) hc ht (ok_X0_winner F cw (x 1) (x 2) M h1) hT9 kk
theorem L_st38 {F cw tw b : Nat} {i r : Int32} {x : Nat → Int32} {M M1 : Sw} {τ τ' : Tw} (hx : ∀ j : Nat, 1 ≤ j → j ≤ 6 → aI M 10 b (i + Int32.ofNat j) = some (x j)) (hx1 : ∀ j : Nat, 1 ≤ j → j ≤ 6 → aI M1 10 b (i + Int32.ofNat j) = some (x j)) (hc : oc M cw 0 = some ()) (hM : M1 = mT tw τ M1) (hC : stC F 38 cw x M = some (r, M1)) (hT : stT F 38 x τ = some (r, τ')) (kk : PW g mL 1562 μ0 μF Qk 1533 [(3, .int i), (2, .ref tw), (1, .ref cw), (0, .ref b)] [] (mT tw τ' M1)) : PW g mL 1562 μ0 μF Qk 1378 [(3, .int i), (2, .ref tw), (1, .ref cw), (0, .ref b)] [] M := by
  obtain ⟨r1, h1, h2⟩ := ob (show (Option.bind (f_X0_ends F cw (x 1) (x 2) (x 3) (x 4) M) fun r => some (r, M)) = some (r, M1) from hC)
  cases h2
  obtain ⟨r2, h3, h4⟩ := ob (show (Option.bind (t_X9_ends F (x 1) (x 2) (x 3) (x 4) τ) fun r => some (r, τ)) = some (_, τ') from hT)
  cases h4
  have ht : oc M tw 9 = some () := by rw [hM]; exact T_oc
  have hT9 := ok_X9_ends (g := g) F (x 1) (x 2) (x 3) (x 4) tw M τ h3
  rw [← hM] at hT9
  rw [← hM] at kk
  exact L_case38 (hx 1 (by decide) (by decide)) (hx1 1 (by decide) (by decide)) (hx 2 (by decide) (by decide)) (hx1 2 (by decide) (by decide)) (hx 3 (by decide) (by decide)) (hx1 3 (by decide) (by decide)) (hx 4 (by decide) (by decide)) (hx1 4 (by decide) (by decide)) hc ht (ok_X0_ends F cw (x 1) (x 2) (x 3) (x 4) M h1) hT9 kk
theorem L_st39 {F cw tw b : Nat} {i r : Int32} {x : Nat → Int32} {M M1 : Sw} {τ τ' : Tw} (hx : ∀ j : Nat, 1 ≤ j → j ≤ 6 → aI M 10 b (i + Int32.ofNat j) = some (x j)) (hx1 : ∀ j : Nat, 1 ≤ j → j ≤ 6 → aI M1 10 b (i + Int32.ofNat j) = some (x j)) (hc : oc M cw 0 = some ()) (hM : M1 = mT tw τ M1) (hC : stC F 39 cw x M = some (r, M1)) (hT : stT F 39 x τ = some (r, τ')) (kk : PW g mL 1562 μ0 μF Qk 1533 [(3, .int i), (2, .ref tw), (1, .ref cw), (0, .ref b)] [] (mT tw τ' M1)) : PW g mL 1562 μ0 μF Qk 1431 [(3, .int i), (2, .ref tw), (1, .ref cw), (0, .ref b)] [] M := by
  have h1 : f_X0_years F cw (x 1) (x 2) M = some (r, M1) := hC
  have h3 : t_X9_years F (x 1) (x 2) τ = some (_, τ') := hT
  have ht : oc M1 tw 9 = some () := by rw [hM]; exact T_oc
  have hT9 := ok_X9_years (g := g) F (x 1) (x 2) tw M1 τ h3
  rw [← hM] at hT9
  exact L_case39 (hx 1 (by decide) (by decide)) (hx1 1 (by decide) (by decide)) (hx 2 (by decide) (by decide)) (hx1 2 (by decide) (by decide)) hc ht (ok_X0_years F cw (x 1) (x 2) M h1) hT9 kk
theorem L_st40 {F cw tw b : Nat} {i r : Int32} {x : Nat → Int32} {M M1 : Sw} {τ τ' : Tw} (hx : ∀ j : Nat, 1 ≤ j → j ≤ 6 → aI M 10 b (i + Int32.ofNat j) = some (x j)) (hx1 : ∀ j : Nat, 1 ≤ j → j ≤ 6 → aI M1 10 b (i + Int32.ofNat j) = some (x j)) (hc : oc M cw 0 = some ()) (hM : M1 = mT tw τ M1) (hC : stC F 40 cw x M = some (r, M1)) (hT : stT F 40 x τ = some (r, τ')) (kk : PW g mL 1562 μ0 μF Qk 1533 [(3, .int i), (2, .ref tw), (1, .ref cw), (0, .ref b)] [] (mT tw τ' M1)) : PW g mL 1562 μ0 μF Qk 1464 [(3, .int i), (2, .ref tw), (1, .ref cw), (0, .ref b)] [] M := by
  have h1 : f_X0_hold F cw (x 1) M = some (r, M1) := hC
  have h3 : t_X9_hold F (x 1) τ = some (_, τ') := hT
  have ht : oc M1 tw 9 = some () := by rw [hM]; exact T_oc
  have hT9 := ok_X9_hold (g := g) F (x 1) tw M1 τ h3
  rw [← hM] at hT9
  exact L_case40 (hx 1 (by decide) (by decide)) (hx1 1 (by decide) (by decide)) hc ht (ok_X0_hold F cw (x 1) M h1) hT9 kk
theorem L_st41 {F cw tw b : Nat} {i r : Int32} {x : Nat → Int32} {M M1 : Sw} {τ τ' : Tw} (hx : ∀ j : Nat, 1 ≤ j → j ≤ 6 → aI M 10 b (i + Int32.ofNat j) = some (x j)) (hx1 : ∀ j : Nat, 1 ≤ j → j ≤ 6 → aI M1 10 b (i + Int32.ofNat j) = some (x j)) (hc : oc M cw 0 = some ()) (hM : M1 = mT tw τ M1) (hC : stC F 41 cw x M = some (r, M1)) (hT : stT F 41 x τ = some (r, τ')) (kk : PW g mL 1562 μ0 μF Qk 1533 [(3, .int i), (2, .ref tw), (1, .ref cw), (0, .ref b)] [] (mT tw τ' M1)) : PW g mL 1562 μ0 μF Qk 1487 [(3, .int i), (2, .ref tw), (1, .ref cw), (0, .ref b)] [] M := by
  have h1 : f_X0_restore F cw (x 1) M = some (r, M1) := hC
  have h3 : t_X9_restore F (x 1) τ = some (_, τ') := hT
  have ht : oc M1 tw 9 = some () := by rw [hM]; exact T_oc
  have hT9 := ok_X9_restore (g := g) F (x 1) tw M1 τ h3
  rw [← hM] at hT9
  exact L_case41 (hx 1 (by decide) (by decide)) (hx1 1 (by decide) (by decide)) hc ht (ok_X0_restore F cw (x 1) M h1) hT9 kk
theorem L_st42 {F cw tw b : Nat} {i r : Int32} {x : Nat → Int32} {M M1 : Sw} {τ τ' : Tw} (hx : ∀ j : Nat, 1 ≤ j → j ≤ 6 → aI M 10 b (i + Int32.ofNat j) = some (x j)) (hx1 : ∀ j : Nat, 1 ≤ j → j ≤ 6 → aI M1 10 b (i + Int32.ofNat j) = some (x j)) (hc : oc M cw 0 = some ()) (hM : M1 = mT tw τ M1) (hC : stC F 42 cw x M = some (r, M1)) (hT : stT F 42 x τ = some (r, τ')) (kk : PW g mL 1562 μ0 μF Qk 1533 [(3, .int i), (2, .ref tw), (1, .ref cw), (0, .ref b)] [] (mT tw τ' M1)) : PW g mL 1562 μ0 μF Qk 1510 [(3, .int i), (2, .ref tw), (1, .ref cw), (0, .ref b)] [] M := by
  obtain ⟨r1, h1, h2⟩ := ob (show (Option.bind (f_X0_count F cw (x 1) M) fun r => some (r, M)) = some (r, M1) from hC)
  cases h2
  obtain ⟨r2, h3, h4⟩ := ob (show (Option.bind (t_X9_count F (x 1) τ) fun r => some (r, τ)) = some (_, τ') from hT)
  cases h4
  have ht : oc M tw 9 = some () := by rw [hM]; exact T_oc
  have hT9 := ok_X9_count (g := g) F (x 1) tw M τ h3
  rw [← hM] at hT9
  rw [← hM] at kk
  exact L_case42 (hx 1 (by decide) (by decide)) (hx1 1 (by decide) (by decide)) hc ht (ok_X0_count F cw (x 1) M h1) hT9 kk
end LAWC
