set_option maxRecDepth 100000
/-! posts: the rows -/
variable {X : Nat → Option Ob} {ad ad' : Nat → Nat} {B B' : Sw} {A A' : Av} {σ σ' : Cs} {τ : Tw} {F : Nat}
theorem pP_row {y : Nat → Nat} {up e f h n r v : Nat} (hr : r < n) : pP y up e f h n (n - r) v = fin (fun w => chg e f h v w + pP y up e f h n (n - (r + 1)) w) (min 99 (y r + up) - y r) (chg e f h v (y r) + pP y up e f h n (n - (r + 1)) (y r)) (y r + 1) := by
  have e1 : n - r = (n - (r + 1)) + 1 := by omega
  have e2 : n - 1 - (n - (r + 1)) = r := by omega
  rw [e1]
  show fin _ (min 99 (y (n - 1 - (n - (r + 1))) + up) - y (n - 1 - (n - (r + 1)))) (chg e f h v (y (n - 1 - (n - (r + 1)))) + pP y up e f h n (n - (r + 1)) (y (n - 1 - (n - (r + 1))))) (y (n - 1 - (n - (r + 1))) + 1) = _
  rw [e2]
theorem fin_0 {g : Nat → Nat} {d acc w : Nat} (h : g w ≤ acc) : fin g (d + 1) acc w = fin g d (g w) (w + 1) := by
  show fin g d (min acc (g w)) (w + 1) = _
  rw [Nat.min_eq_right h]
section ROWS
variable {up e f h : Nat}
theorem row_C (hF : 1000 ≤ F) (hup : up < 100) (he : e < 100) (hf : f < 100) (hh : h < 100) (hE : EV ad B A) {r : Nat} (hr : r < zN A 0 50) (hC : CR ad B A σ) (hFC : FC A up e f h σ (r + 1)) {K : Sw → Option Sw} : ∃ g, f_X0_fillPosts_L45 F K (ad 0) (Int32.ofNat up) (Int32.ofNat e) (Int32.ofNat f) (Int32.ofNat h) (Int32.ofNat r) F 0 (cM X ad σ B) = K (cM X ad (csA σ (33 + r) g) B) ∧ ∀ u, u < 100 → g u = Int32.ofNat (pP (yL A) up e f h (zN A 0 50) (zN A 0 50 - r) u) := by
  have hA := hE.1
  obtain ⟨e50, l50, hy⟩ := hE.2.2.yr
  obtain ⟨eyr, lyr⟩ := hy r hr
  have sc : scA (33 + r) = true := by unfold scA; simp; omega
  refine for_up (L := fun n i (s : Nat → Int32) => f_X0_fillPosts_L45 F K (ad 0) (Int32.ofNat up) (Int32.ofNat e) (Int32.ofNat f) (Int32.ofNat h) (Int32.ofNat r) n i (cM X ad (csA σ (33 + r) s) B)) (N := 100) (Inv := fun k s => ∀ u, u < k → s u = Int32.ofNat (pP (yL A) up e f h (zN A 0 50) (zN A 0 50 - r) u)) (Post := fun q => ∃ g, q = K (cM X ad (csA σ (33 + r) g) B) ∧ ∀ u, u < 100 → g u = Int32.ofNat (pP (yL A) up e f h (zN A 0 50) (zN A 0 50 - r) u)) ?_ ?_ 100 0 F (σ.2.1 (33 + r)) (Nat.zero_add _) (by omega) (fun i hi => absurd hi (Nat.not_lt_zero i)) |> fun h => by
    rw [csA_id] at h
    exact h
  · intro n k s hk hI
    have hC1 : CR ad B A (csA σ (33 + r) (upd s k 1000000000)) := hC.a sc
    have hpb := pP_b (y := yL A) (up := up) he hf hh (fun i hi => (hy i hi).2) (zN A 0 50 - (r + 1)) (yL A r) (by omega) lyr
    have hcb := chg_b he hf hh hk lyr
    obtain ⟨g, c1, c2, c3⟩ := cell_C (X := X) (F := F) (r := r) (v := k) hup he hf hh hE hr hk (K := fun μ12 => nm (Int32.ofNat k + 1) fun x13 => f_X0_fillPosts_L45 F K (ad 0) (Int32.ofNat up) (Int32.ofNat e) (Int32.ofNat f) (Int32.ofNat h) (Int32.ofNat r) n x13 μ12) (min 99 (yL A r + up) - yL A r + 1) (yL A r) F 1000000000 (csA σ (33 + r) (upd s k 1000000000)) (by omega) (by omega) (Nat.le_refl _) hC1 (hFC.a (by omega)) (by rw [csA_s, up_s]; rfl) (Nat.le_refl _)
    rw [csA_csA] at c1
    refine Or.inl ⟨g, fun u hu => ?_, ?_⟩
    · by_cases eu : u = k
      · rw [eu, c3, pP_row hr]
        exact congrArg Int32.ofNat (fin_0 (g := fun w => chg e f h k w + pP (yL A) up e f h (zN A 0 50) (zN A 0 50 - (r + 1)) w) (show chg e f h k (yL A r) + pP (yL A) up e f h (zN A 0 50) (zN A 0 50 - (r + 1)) (yL A r) ≤ 1000000000 by omega))
      · rw [c2 u eu, csA_s, up_n _ _ _ _ eu]
        exact hI u (by omega)
    · show f_X0_fillPosts_L45_b F K (ad 0) (Int32.ofNat up) (Int32.ofNat e) (Int32.ofNat f) (Int32.ofNat h) (Int32.ofNat r) (f_X0_fillPosts_L45 F K (ad 0) (Int32.ofNat up) (Int32.ofNat e) (Int32.ofNat f) (Int32.ofNat h) (Int32.ofNat r) n) (Int32.ofNat k) _ = _
      unfold f_X0_fillPosts_L45_b
      have n1 : ¬ (99 : Int32) < Int32.ofNat k := fun q => by
        have := (c_lt 99 k (by omega) (by omega)).1 q
        omega
      have qr : ∀ s, (csA σ (33 + r) s).2.2.2 32 r = some (ad (33 + r)) := fun s => hC.2.2.2.2.2.2.2.2.1.2.2 r (by omega)
      have e16 : ∀ s, (csA σ (33 + r) s).2.1 16 r = Int32.ofNat (yL A r) := fun s => by
        rw [csA_n _ _ _ _ (by omega), hC.2.2.1 r hr]; exact eyr
      rw [if_neg n1, o0_19 hA, Option.bind_some, q32r hA _ _ _ (by omega) (qr s), Option.bind_some, s_ps hA _ _ _ _ (by omega) (by omega), Option.bind_some, csA_s, csA_csA, o0_10 hA, Option.bind_some, a16 hA _ _ (by omega), Option.bind_some, e16]
      refine c1.trans ?_
      simp (disch := omega) only [Option.bind_some, Option.bind_none, nmE, n_pp, n_pl, n_lp, n_mm, n_ml, n_lm, csI_s, csI_n, csI_2, csA_1, csA_s, csA_n, csA_2, csL_1, csL_2, csL_s, csL_n, csL_3, csQ_1, csQ_2, csQ_3, csQ_s, csQ_n, nar0, c_le, c_le_l, c_le_r, c_lt, c_lt_l, c_lt_r, c_eq, c_eq_l, c_eq_r, if_true, if_false, if_pos, if_neg]
  · intro n s hI
    refine ⟨s, ?_, hI⟩
    show f_X0_fillPosts_L45_b F K (ad 0) (Int32.ofNat up) (Int32.ofNat e) (Int32.ofNat f) (Int32.ofNat h) (Int32.ofNat r) (f_X0_fillPosts_L45 F K (ad 0) (Int32.ofNat up) (Int32.ofNat e) (Int32.ofNat f) (Int32.ofNat h) (Int32.ofNat r) n) (Int32.ofNat 100) _ = _
    unfold f_X0_fillPosts_L45_b
    rw [if_pos (by decide)]
theorem rows_C (hF : 1000 ≤ F) (hup : up < 100) (he : e < 100) (hf : f < 100) (hh : h < 100) (hE : EV ad B A) : ∀ (r fc : Nat) (σ : Cs), r ≤ zN A 0 50 → r < fc → CR ad B A σ → FC A up e f h σ r → ∃ σ', CR ad B A σ' ∧ FC A up e f h σ' 0 ∧ f_X0_fillPosts_L37 F (ad 0) (Int32.ofNat up) (Int32.ofNat e) (Int32.ofNat f) (Int32.ofNat h) fc (Int32.ofNat r + (-1)) (cM X ad σ B) = some (cM X ad σ' B) := by
  intro r
  induction r with
  | zero =>
    intro fc σ hr hfc hC hFC
    obtain ⟨fc, rfl⟩ : ∃ m, fc = m + 1 := ⟨fc - 1, by omega⟩
    refine ⟨σ, hC, hFC, ?_⟩
    show f_X0_fillPosts_L37_b F (ad 0) (Int32.ofNat up) (Int32.ofNat e) (Int32.ofNat f) (Int32.ofNat h) (f_X0_fillPosts_L37 F (ad 0) (Int32.ofNat up) (Int32.ofNat e) (Int32.ofNat f) (Int32.ofNat h) fc) (Int32.ofNat 0 + (-1)) _ = _
    unfold f_X0_fillPosts_L37_b
    rw [if_pos (by decide)]
  | succ r ih =>
    intro fc σ hr hfc hC hFC
    obtain ⟨fc, rfl⟩ : ∃ m, fc = m + 1 := ⟨fc - 1, by omega⟩
    have l50 : zN A 0 50 ≤ 12 := hE.2.2.yr.2.1
    have er : Int32.ofNat (r + 1) + (-1) = Int32.ofNat r := by
      have e1 : Int32.ofNat 1 + (-1) = (0 : Int32) := by decide
      rw [Int32.ofNat_add, Int32.add_assoc, e1, Int32.add_zero]
    rw [er]
    obtain ⟨g, c1, c2⟩ := row_C (X := X) (F := F) hF hup he hf hh hE (show r < zN A 0 50 by omega) hC hFC (K := fun μ2 => nm (Int32.ofNat r + (-1)) fun x3 => f_X0_fillPosts_L37 F (ad 0) (Int32.ofNat up) (Int32.ofNat e) (Int32.ofNat f) (Int32.ofNat h) fc x3 μ2)
    have hC1 : CR ad B A (csA σ (33 + r) g) := hC.a (by unfold scA; simp; omega)
    have hF1 : FC A up e f h (csA σ (33 + r) g) r := fun q h1 h2 v hv => by
      by_cases eq : q = r
      · rw [eq, csA_s]; exact c2 v hv
      · rw [csA_n _ _ _ _ (by omega)]; exact hFC q (by omega) h2 v hv
    obtain ⟨σ', p1, p2, p3⟩ := ih fc _ (by omega) (by omega) hC1 hF1
    refine ⟨σ', p1, p2, ?_⟩
    rw [← p3]
    show f_X0_fillPosts_L37_b F (ad 0) (Int32.ofNat up) (Int32.ofNat e) (Int32.ofNat f) (Int32.ofNat h) (f_X0_fillPosts_L37 F (ad 0) (Int32.ofNat up) (Int32.ofNat e) (Int32.ofNat f) (Int32.ofNat h) fc) (Int32.ofNat r) _ = _
    unfold f_X0_fillPosts_L37_b
    rw [if_neg (Int32.not_lt.2 (ofNat_nn (by omega)))]
    exact c1
theorem fill_C (hF : 1000 ≤ F) (hup : up < 100) (he : e < 100) (hf : f < 100) (hh : h < 100) (hE : EV ad B A) (hC : CR ad B A σ) : ∃ σ', CR ad B A σ' ∧ FC A up e f h σ' 0 ∧ f_X0_fillPosts F (ad 0) (Int32.ofNat up) (Int32.ofNat e) (Int32.ofNat f) (Int32.ofNat h) (cM X ad σ B) = some (cM X ad σ' B) := by
  have hA := hE.1
  obtain ⟨e50, l50, hy⟩ := hE.2.2.yr
  have e11 : σ.1 11 = Int32.ofNat (zN A 0 50) := hC.1.2.2.2.1.trans e50
  obtain ⟨K, hK⟩ : ∃ K : Sw → Option Sw, K = fun μ1 => Option.bind (gfI μ1 (ad 0) 0 11) fun x2 => nm (x2 - 1) fun x4 => f_X0_fillPosts_L37 F (ad 0) (Int32.ofNat up) (Int32.ofNat e) (Int32.ofNat f) (Int32.ofNat h) F x4 μ1 := ⟨_, rfl⟩
  have hz : ∃ g, f_X0_fillPosts_L3 F K (ad 0) (Int32.ofNat up) (Int32.ofNat e) (Int32.ofNat f) (Int32.ofNat h) F 0 (cM X ad σ B) = K (cM X ad (csA σ (33 + zN A 0 50) g) B) ∧ ∀ u, u < 100 → g u = 0 := by
    refine for_up (L := fun n i (s : Nat → Int32) => f_X0_fillPosts_L3 F K (ad 0) (Int32.ofNat up) (Int32.ofNat e) (Int32.ofNat f) (Int32.ofNat h) n i (cM X ad (csA σ (33 + zN A 0 50) s) B)) (N := 100) (Inv := fun k s => ∀ u, u < k → s u = 0) (Post := fun q => ∃ g, q = K (cM X ad (csA σ (33 + zN A 0 50) g) B) ∧ ∀ u, u < 100 → g u = 0) ?_ ?_ 100 0 F (σ.2.1 (33 + zN A 0 50)) (Nat.zero_add _) (by omega) (fun i hi => absurd hi (Nat.not_lt_zero i)) |> fun h => by
      rw [csA_id] at h
      exact h
    · intro n k s hk hI
      refine Or.inl ⟨upd s k 0, fun u hu => ?_, ?_⟩
      · by_cases eu : u = k
        · rw [eu, up_s]
        · rw [up_n _ _ _ _ eu]; exact hI u (by omega)
      · show f_X0_fillPosts_L3_b F K (ad 0) (Int32.ofNat up) (Int32.ofNat e) (Int32.ofNat f) (Int32.ofNat h) (f_X0_fillPosts_L3 F K (ad 0) (Int32.ofNat up) (Int32.ofNat e) (Int32.ofNat f) (Int32.ofNat h) n) (Int32.ofNat k) _ = _
        unfold f_X0_fillPosts_L3_b
        have n1 : ¬ (99 : Int32) < Int32.ofNat k := fun q => by
          have := (c_lt 99 k (by omega) (by omega)).1 q
          omega
        have qr : (csA σ (33 + zN A 0 50) s).2.2.2 32 (zN A 0 50) = some (ad (33 + zN A 0 50)) := hC.2.2.2.2.2.2.2.2.1.2.2 _ (by omega)
        have i11 : (csA σ (33 + zN A 0 50) s).1 11 = Int32.ofNat (zN A 0 50) := e11
        rw [if_neg n1, o0_19 hA, Option.bind_some, o0_11 hA, Option.bind_some, i11, q32r hA _ _ _ (by omega) qr, Option.bind_some, s_ps hA _ _ _ _ (by omega) (by omega), Option.bind_some, csA_s, csA_csA]
        simp (disch := omega) only [Option.bind_some, Option.bind_none, nmE, n_pp, n_pl, n_lp, n_mm, n_ml, n_lm, csI_s, csI_n, csI_2, csA_1, csA_s, csA_n, csA_2, csL_1, csL_2, csL_s, csL_n, csL_3, csQ_1, csQ_2, csQ_3, csQ_s, csQ_n, nar0, c_le, c_le_l, c_le_r, c_lt, c_lt_l, c_lt_r, c_eq, c_eq_l, c_eq_r, if_true, if_false, if_pos, if_neg]
    · intro n s hI
      refine ⟨s, ?_, hI⟩
      show f_X0_fillPosts_L3_b F K (ad 0) (Int32.ofNat up) (Int32.ofNat e) (Int32.ofNat f) (Int32.ofNat h) (f_X0_fillPosts_L3 F K (ad 0) (Int32.ofNat up) (Int32.ofNat e) (Int32.ofNat f) (Int32.ofNat h) n) (Int32.ofNat 100) _ = _
      unfold f_X0_fillPosts_L3_b
      rw [if_pos (by decide)]
  obtain ⟨g, c1, c2⟩ := hz
  have hC1 : CR ad B A (csA σ (33 + zN A 0 50) g) := hC.a (by unfold scA; simp; omega)
  obtain ⟨σ', p1, p2, p3⟩ := rows_C (X := X) (F := F) hF hup he hf hh hE (zN A 0 50) F (csA σ (33 + zN A 0 50) g) (Nat.le_refl _) (by omega) hC1 (fun q h1 h2 v hv => by
    have : q = zN A 0 50 := by omega
    rw [this, csA_s, c2 v hv, Nat.sub_self]
    rfl)
  refine ⟨σ', p1, p2, ?_⟩
  unfold f_X0_fillPosts
  rw [← hK, c1, hK]
  have i11 : (csA σ (33 + zN A 0 50) g).1 11 = Int32.ofNat (zN A 0 50) := e11
  show Option.bind (gfI (cM X ad (csA σ (33 + zN A 0 50) g) B) (ad 0) 0 11) _ = _
  rw [o0_11 hA, Option.bind_some, i11, nmE, Int32.sub_eq_add_neg]
  exact p3
end ROWS
