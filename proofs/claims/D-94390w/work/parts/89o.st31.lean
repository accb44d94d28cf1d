set_option maxRecDepth 100000
/-! 31, 32: posts -/
variable {X : Nat → Option Ob} {ad ad' : Nat → Nat} {B B' : Sw} {A A' : Av} {σ σ' : Cs} {τ : Tw} {F : Nat}
theorem posts_g (a b c d e : Int32) : p_X0_arePosts F a b c d e = some (if inN a 100 ∧ inN b 100 ∧ inN c 100 ∧ inN d 100 ∧ inN e 100 then 1 else 0) := by
  have v99 : ∀ y : Int32, (((0 : Int32).toInt ≤ y.toInt ∧ y.toInt ≤ (99 : Int32).toInt) ↔ inN y 100) := fun y => by
    show ((0 : Int) ≤ y.toInt ∧ y.toInt ≤ 99) ↔ (0 : Int) ≤ y.toInt ∧ y.toInt < 100
    omega
  unfold p_X0_arePosts
  rw [within_v _ (v99 a), Option.bind_some, gd, within_v _ (v99 b), Option.bind_some, gd, within_v _ (v99 c), Option.bind_some, gd, within_v _ (v99 d), Option.bind_some, gd, within_v _ (v99 e), Option.bind_some, gd]
  by_cases h1 : inN a 100
  · by_cases h2 : inN b 100
    · by_cases h3 : inN c 100
      · by_cases h4 : inN d 100
        · by_cases h5 : inN e 100
          · rw [if_pos h1, if_pos h2, if_pos h3, if_pos h4, if_pos h5, if_pos ⟨h1, h2, h3, h4, h5⟩]
          · rw [if_pos h1, if_pos h2, if_pos h3, if_pos h4, if_neg h5, if_neg (fun q => h5 q.2.2.2.2)]
        · rw [if_pos h1, if_pos h2, if_pos h3, if_neg h4, if_neg (fun q => h4 q.2.2.2.1)]
      · rw [if_pos h1, if_pos h2, if_neg h3, if_neg (fun q => h3 q.2.2.1)]
    · rw [if_pos h1, if_neg h2, if_neg (fun q => h2 q.2.1)]
  · rw [if_neg h1, if_neg (fun q => h1 q.1)]
theorem posts_t (a b c d e : Int32) : p_X9_isPosts F a b c d e = some (if inN a 100 ∧ inN b 100 ∧ inN c 100 ∧ inN d 100 ∧ inN e 100 then 1 else 0) := posts_g (F := F) a b c d e
theorem fin_at (g : Nat → Nat) : ∀ d acc w, fin g d acc w = acc ∨ ∃ k, w ≤ k ∧ k < w + d ∧ fin g d acc w = g k := by
  intro d
  induction d with
  | zero => intro acc w; exact Or.inl rfl
  | succ d ih =>
    intro acc w
    show fin g d (min acc (g w)) (w + 1) = acc ∨ ∃ k, w ≤ k ∧ k < w + (d + 1) ∧ fin g d (min acc (g w)) (w + 1) = g k
    rcases ih (min acc (g w)) (w + 1) with h | ⟨k, h1, h2, h3⟩
    · rw [h]
      by_cases e : acc ≤ g w
      · exact Or.inl (Nat.min_eq_left e)
      · exact Or.inr ⟨w, Nat.le_refl _, by omega, Nat.min_eq_right (by omega)⟩
    · exact Or.inr ⟨k, by omega, by omega, h3⟩
theorem pP_at {y : Nat → Nat} {up e f h n r v : Nat} (hr : r < n) : ∃ k, y r ≤ k ∧ (k ≤ 99 ∨ k = y r) ∧ pP y up e f h n (n - r) v = chg e f h v k + pP y up e f h n (n - (r + 1)) k := by
  rw [pP_row hr]
  rcases fin_at (fun w => chg e f h v w + pP y up e f h n (n - (r + 1)) w) (min 99 (y r + up) - y r) (chg e f h v (y r) + pP y up e f h n (n - (r + 1)) (y r)) (y r + 1) with q | ⟨k, h1, h2, h3⟩
  · exact ⟨y r, Nat.le_refl _, Or.inr rfl, q⟩
  · exact ⟨k, by omega, Or.inl (by omega), h3⟩
theorem post_CT (hF : 1000 ≤ F) {up e f h : Nat} (hup : up < 100) (he : e < 100) (hf : f < 100) (hh : h < 100) (hE : EV ad B A) (hC : CR ad B A σ) (hT : TR A τ) (hFC : FC A up e f h σ 0) {g : Nat → Int32} (hFT : FT A up e f h g 0) {s : Nat} (hs : s < zN A 0 50) : ∀ (d i fc ft v : Nat), i + d = s + 1 → d < fc → d < ft → v < 100 → ∃ r, f_X0_postAt_L46 F (ad 0) (Int32.ofNat e) (Int32.ofNat f) (Int32.ofNat h) (Int32.ofNat s) (cM X ad σ B) fc (Int32.ofNat v) (Int32.ofNat i) = some (r, cM X ad σ B) ∧ t_X9_postAt_L45 F (Int32.ofNat e) (Int32.ofNat f) (Int32.ofNat h) (Int32.ofNat s) (twA τ 34 g) ft (Int32.ofNat v) (Int32.ofNat i) = some (r, twA τ 34 g) := by
  have hA := hE.1
  obtain ⟨e50, l50, hy⟩ := hE.2.2.yr
  intro d
  induction d with
  | zero =>
    intro i fc ft v hi hfc hft hv
    obtain ⟨fc, rfl⟩ : ∃ m, fc = m + 1 := ⟨fc - 1, by omega⟩
    obtain ⟨ft, rfl⟩ : ∃ m, ft = m + 1 := ⟨ft - 1, by omega⟩
    have c : Int32.ofNat s < Int32.ofNat i := (c_lt s i (by omega) (by omega)).2 (by omega)
    refine ⟨Int32.ofNat v, ?_, ?_⟩
    · show f_X0_postAt_L46_b F (ad 0) (Int32.ofNat e) (Int32.ofNat f) (Int32.ofNat h) (Int32.ofNat s) (cM X ad σ B) (f_X0_postAt_L46 F (ad 0) (Int32.ofNat e) (Int32.ofNat f) (Int32.ofNat h) (Int32.ofNat s) (cM X ad σ B) fc) (Int32.ofNat v) (Int32.ofNat i) = _
      unfold f_X0_postAt_L46_b
      rw [if_pos c]
    · show t_X9_postAt_L45_b F (Int32.ofNat e) (Int32.ofNat f) (Int32.ofNat h) (Int32.ofNat s) (twA τ 34 g) (t_X9_postAt_L45 F (Int32.ofNat e) (Int32.ofNat f) (Int32.ofNat h) (Int32.ofNat s) (twA τ 34 g) ft) (Int32.ofNat v) (Int32.ofNat i) = _
      unfold t_X9_postAt_L45_b
      rw [if_pos c]
  | succ d ih =>
    intro i fc ft v hi hfc hft hv
    obtain ⟨fc, rfl⟩ : ∃ m, fc = m + 1 := ⟨fc - 1, by omega⟩
    obtain ⟨ft, rfl⟩ : ∃ m, ft = m + 1 := ⟨ft - 1, by omega⟩
    have c : ¬ Int32.ofNat s < Int32.ofNat i := fun q => by
      have := (c_lt s i (by omega) (by omega)).1 q
      omega
    have hin : i < zN A 0 50 := by omega
    obtain ⟨eyr, lyr⟩ := hy i hin
    have e16 : σ.2.1 16 i = Int32.ofNat (yL A i) := by rw [hC.2.2.1 i hin]; exact eyr
    have e33 : (twA τ 34 g).2.1 33 i = Int32.ofNat (yL A i) := by
      rw [twA_n _ _ _ _ (by omega), hT.2 33 rfl]; exact eyr
    have e34 : (twA τ 34 g).2.1 34 = g := twA_s _ _ _
    have qr : σ.2.2.2 32 i = some (ad (33 + i)) := hC.2.2.2.2.2.2.2.2.1.2.2 i (by omega)
    have qr1 : σ.2.2.2 32 (i + 1) = some (ad (33 + (i + 1))) := hC.2.2.2.2.2.2.2.2.1.2.2 (i + 1) (by omega)
    obtain ⟨kk, k1, k2, k3⟩ := pP_at (y := yL A) (up := up) (e := e) (f := f) (h := h) (v := v) hin
    obtain ⟨KC, hKC⟩ : ∃ K : Int32 → Option (Int32 × Sw), K = fun w6 => nm (Int32.ofNat i + 1) fun x7 => f_X0_postAt_L46 F (ad 0) (Int32.ofNat e) (Int32.ofNat f) (Int32.ofNat h) (Int32.ofNat s) (cM X ad σ B) fc w6 x7 := ⟨_, rfl⟩
    obtain ⟨KT, hKT⟩ : ∃ K : Int32 → Option (Int32 × Tw), K = fun w4 => nm (Int32.ofNat i + 1) fun x5 => t_X9_postAt_L45 F (Int32.ofNat e) (Int32.ofNat f) (Int32.ofNat h) (Int32.ofNat s) (twA τ 34 g) ft w4 x5 := ⟨_, rfl⟩
    have inner : ∀ (d2 w f1 f2 : Nat), w + d2 = kk → d2 < f1 → d2 < f2 → w < 100 → ∃ u, u < 100 ∧ f_X0_postAt_L62 F KC (ad 0) (Int32.ofNat e) (Int32.ofNat f) (Int32.ofNat h) (Int32.ofNat s) (Int32.ofNat v) (Int32.ofNat i) (cM X ad σ B) f1 (Int32.ofNat w) = KC (Int32.ofNat u) ∧ t_X9_postAt_L61 F KT (Int32.ofNat e) (Int32.ofNat f) (Int32.ofNat h) (Int32.ofNat s) (Int32.ofNat v) (Int32.ofNat i) (twA τ 34 g) f2 (Int32.ofNat w) = KT (Int32.ofNat u) := by
      have hyb : ∀ i, i < zN A 0 50 → yL A i < 100 := fun i hi => (hy i hi).2
      have hpv := pP_b (y := yL A) (up := up) he hf hh hyb (zN A 0 50 - i) v (by omega) hv
      have hrow0 := hFC i (Nat.zero_le _) (by omega) v hv
      have hg0 := hFT i (Nat.zero_le _) (by omega) v hv
      have stC' : ∀ w f1, w < 100 → f_X0_postAt_L62 F KC (ad 0) (Int32.ofNat e) (Int32.ofNat f) (Int32.ofNat h) (Int32.ofNat s) (Int32.ofNat v) (Int32.ofNat i) (cM X ad σ B) (f1 + 1) (Int32.ofNat w) = if chg e f h v w + pP (yL A) up e f h (zN A 0 50) (zN A 0 50 - (i + 1)) w = pP (yL A) up e f h (zN A 0 50) (zN A 0 50 - i) v then KC (Int32.ofNat w) else f_X0_postAt_L62 F KC (ad 0) (Int32.ofNat e) (Int32.ofNat f) (Int32.ofNat h) (Int32.ofNat s) (Int32.ofNat v) (Int32.ofNat i) (cM X ad σ B) f1 (Int32.ofNat (w + 1)) := fun w f1 hw => by
        have hcb := chg_b he hf hh hv hw
        have hpb := pP_b (y := yL A) (up := up) he hf hh hyb (zN A 0 50 - (i + 1)) w (by omega) hw
        have hrow1 := hFC (i + 1) (Nat.zero_le _) (by omega) w hw
        show f_X0_postAt_L62_b F KC (ad 0) (Int32.ofNat e) (Int32.ofNat f) (Int32.ofNat h) (Int32.ofNat s) (Int32.ofNat v) (Int32.ofNat i) (cM X ad σ B) (f_X0_postAt_L62 F KC (ad 0) (Int32.ofNat e) (Int32.ofNat f) (Int32.ofNat h) (Int32.ofNat s) (Int32.ofNat v) (Int32.ofNat i) (cM X ad σ B) f1) (Int32.ofNat w) = _
        unfold f_X0_postAt_L62_b
        rw [change_n he hf hh hv hw, Option.bind_some]
        simp (disch := omega) only [Option.bind_some, Option.bind_none, nmE, n_pp, n_pl, n_lp, n_mm, n_ml, n_lm, csI_s, csI_n, csI_2, csA_1, csA_s, csA_n, csA_2, csL_1, csL_2, csL_s, csL_n, csL_3, csQ_1, csQ_2, csQ_3, csQ_s, csQ_n, nar0, c_le, c_le_l, c_le_r, c_lt, c_lt_l, c_lt_r, c_eq, c_eq_l, c_eq_r, if_true, if_false, if_pos, if_neg, o0_19 hA, q32r hA, qr, qr1, a_ps hA, hrow1, hrow0]
      have stT' : ∀ w f1, w < 100 → t_X9_postAt_L61 F KT (Int32.ofNat e) (Int32.ofNat f) (Int32.ofNat h) (Int32.ofNat s) (Int32.ofNat v) (Int32.ofNat i) (twA τ 34 g) (f1 + 1) (Int32.ofNat w) = if chg e f h v w + pP (yL A) up e f h (zN A 0 50) (zN A 0 50 - (i + 1)) w = pP (yL A) up e f h (zN A 0 50) (zN A 0 50 - i) v then KT (Int32.ofNat w) else t_X9_postAt_L61 F KT (Int32.ofNat e) (Int32.ofNat f) (Int32.ofNat h) (Int32.ofNat s) (Int32.ofNat v) (Int32.ofNat i) (twA τ 34 g) f1 (Int32.ofNat (w + 1)) := fun w f1 hw => by
        have hcb := chg_b he hf hh hv hw
        have hpb := pP_b (y := yL A) (up := up) he hf hh hyb (zN A 0 50 - (i + 1)) w (by omega) hw
        have hg1 := hFT (i + 1) (Nat.zero_le _) (by omega) w hw
        have ix : 100 * i + 100 + w = 100 * (i + 1) + w := by omega
        show t_X9_postAt_L61_b F KT (Int32.ofNat e) (Int32.ofNat f) (Int32.ofNat h) (Int32.ofNat s) (Int32.ofNat v) (Int32.ofNat i) (twA τ 34 g) (t_X9_postAt_L61 F KT (Int32.ofNat e) (Int32.ofNat f) (Int32.ofNat h) (Int32.ofNat s) (Int32.ofNat v) (Int32.ofNat i) (twA τ 34 g) f1) (Int32.ofNat w) = _
        unfold t_X9_postAt_L61_b
        rw [stepCost_n he hf hh hv hw, Option.bind_some]
        simp (disch := omega) only [Option.bind_some, Option.bind_none, nmE, n_pp, n_pl, n_lp, n_mm, n_ml, n_lm, taI_n, taI_l, tsA_n, tsA_l, nar0, twA_1, twA_s, twA_n, twA_2, twA_twA, tsI_s, tsI_n, tsI_2, c_le, c_le_l, c_le_r, c_lt, c_lt_l, c_lt_r, c_eq, c_eq_l, c_eq_r, if_true, if_false, if_pos, if_neg, ix, hg1, hg0]
      intro d2
      induction d2 with
      | zero =>
        intro w f1 f2 hw h1 h2 hw100
        obtain ⟨f1, rfl⟩ : ∃ m, f1 = m + 1 := ⟨f1 - 1, by omega⟩
        obtain ⟨f2, rfl⟩ : ∃ m, f2 = m + 1 := ⟨f2 - 1, by omega⟩
        have ew : w = kk := by omega
        refine ⟨w, hw100, ?_, ?_⟩
        · rw [stC' w f1 hw100, ew, if_pos k3.symm]
        · rw [stT' w f2 hw100, ew, if_pos k3.symm]
      | succ d2 ih2 =>
        intro w f1 f2 hw h1 h2 hw100
        obtain ⟨f1, rfl⟩ : ∃ m, f1 = m + 1 := ⟨f1 - 1, by omega⟩
        obtain ⟨f2, rfl⟩ : ∃ m, f2 = m + 1 := ⟨f2 - 1, by omega⟩
        rw [stC' w f1 hw100, stT' w f2 hw100]
        split
        · exact ⟨w, hw100, rfl, rfl⟩
        · exact ih2 (w + 1) f1 f2 (by omega) (by omega) (by omega) (by omega)
    obtain ⟨u, hu, c1, t1⟩ := inner (kk - yL A i) (yL A i) F F (by omega) (by omega) (by omega) lyr
    obtain ⟨r, p1, p2⟩ := ih (i + 1) fc ft u (by omega) (by omega) (by omega) hu
    refine ⟨r, ?_, ?_⟩
    · rw [← p1]
      show f_X0_postAt_L46_b F (ad 0) (Int32.ofNat e) (Int32.ofNat f) (Int32.ofNat h) (Int32.ofNat s) (cM X ad σ B) (f_X0_postAt_L46 F (ad 0) (Int32.ofNat e) (Int32.ofNat f) (Int32.ofNat h) (Int32.ofNat s) (cM X ad σ B) fc) (Int32.ofNat v) (Int32.ofNat i) = _
      unfold f_X0_postAt_L46_b
      rw [if_neg c, o0_10 hA, Option.bind_some, a16 hA _ _ (by omega), Option.bind_some, e16, ← hKC, c1, hKC]
      simp (disch := omega) only [Option.bind_some, Option.bind_none, nmE, n_pp, n_pl, n_lp, n_mm, n_ml, n_lm, csI_s, csI_n, csI_2, csA_1, csA_s, csA_n, csA_2, csL_1, csL_2, csL_s, csL_n, csL_3, csQ_1, csQ_2, csQ_3, csQ_s, csQ_n, nar0, c_le, c_le_l, c_le_r, c_lt, c_lt_l, c_lt_r, c_eq, c_eq_l, c_eq_r, if_true, if_false, if_pos, if_neg]
    · rw [← p2]
      show t_X9_postAt_L45_b F (Int32.ofNat e) (Int32.ofNat f) (Int32.ofNat h) (Int32.ofNat s) (twA τ 34 g) (t_X9_postAt_L45 F (Int32.ofNat e) (Int32.ofNat f) (Int32.ofNat h) (Int32.ofNat s) (twA τ 34 g) ft) (Int32.ofNat v) (Int32.ofNat i) = _
      unfold t_X9_postAt_L45_b
      rw [if_neg c, taI_n _ _ _ _ (by omega) (by omega), Option.bind_some, e33, ← hKT, t1, hKT]
      simp (disch := omega) only [Option.bind_some, Option.bind_none, nmE, n_pp, n_pl, n_lp, n_mm, n_ml, n_lm, taI_n, taI_l, tsA_n, tsA_l, nar0, twA_1, twA_s, twA_n, twA_2, twA_twA, tsI_s, tsI_n, tsI_2, c_le, c_le_l, c_le_r, c_lt, c_lt_l, c_lt_r, c_eq, c_eq_l, c_eq_r, if_true, if_false, if_pos, if_neg]
theorem st_31 (hF : 1000000 ≤ F) (h : INV ad B A σ τ) (x : Nat → Int32) : ST F 31 x X ad B σ τ := by
  have hI := h
  obtain ⟨hE, hK, hC, hT⟩ := h
  have hA := hE.1
  obtain ⟨e50, l50, hy⟩ := hE.2.2.yr
  have h1 : stC F 31 (ad 0) x (cM X ad σ B) = f_X0_posts F (ad 0) (x 1) (x 2) (x 3) (x 4) (x 5) (cM X ad σ B) := rfl
  have h2 : stT F 31 x τ = t_X9_posts F (x 1) (x 2) (x 3) (x 4) (x 5) τ := rfl
  unfold f_X0_posts at h1
  unfold t_X9_posts at h2
  rw [posts_g, Option.bind_some, gd] at h1
  rw [posts_t, Option.bind_some, gd] at h2
  by_cases hg : inN (x 1) 100 ∧ inN (x 2) 100 ∧ inN (x 3) 100 ∧ inN (x 4) 100 ∧ inN (x 5) 100
  · rw [if_pos hg] at h1 h2
    obtain ⟨g1, g2, g3, g4, g5⟩ := hg
    obtain ⟨v, hv, ev⟩ := g1.ex
    obtain ⟨up, hup, eu⟩ := g2.ex
    obtain ⟨e, he, ee⟩ := g3.ex
    obtain ⟨f, hf, ef⟩ := g4.ex
    obtain ⟨w, hw, ew⟩ := g5.ex
    rw [ev, eu, ee, ef, ew] at h1 h2
    obtain ⟨σ', hC', hFC, c1⟩ := fill_C (X := X) (F := F) (by omega) hup he hf hw hE hC
    obtain ⟨g, hFT, t1⟩ := lay_T (F := F) (by omega) hup he hf hw hE.2.2 hT
    have qr : σ'.2.2.2 32 0 = some (ad 33) := hC'.2.2.2.2.2.2.2.2.1.2.2 0 (by omega)
    have a0 := a_ps (X := X) hA σ' 0 v (by omega) hv
    have hv0 := hFC 0 (Nat.le_refl _) (Nat.zero_le _) v hv
    have hg0 := hFT 0 (Nat.le_refl _) (Nat.zero_le _) v hv
    have z : (0 : Int32) = Int32.ofNat 0 := rfl
    have a0' : aI (cM X ad σ' B) 0 (ad 33) (Int32.ofNat v) = some (Int32.ofNat (pP (yL A) up e f w (zN A 0 50) (zN A 0 50 - 0) v)) := a0.trans (congrArg some hv0)
    have g0' : (twA τ 34 g).2.1 34 v = Int32.ofNat (pP (yL A) up e f w (zN A 0 50) (zN A 0 50 - 0) v) := by
      rw [twA_s, ← hg0]
      congr 1
      omega
    rw [oc0 hA, Option.bind_some, c1, Option.bind_some, o0_19 hA, Option.bind_some, z, q32r hA _ _ _ (by omega) qr, Option.bind_some, a0', Option.bind_some] at h1
    rw [t1, Option.bind_some, taI_n _ _ _ _ (by omega) (by omega), Option.bind_some, g0'] at h2
    exact ST.ir hI h1 h2 (irr.w (j := 34) (f := g) (by omega)) ((irr.w (j := 34) (f := g) (by omega)).cr hC') (hT.W (by decide))
  · rw [if_neg hg] at h1 h2
    exact ST.ro hI h1 h2 hC hT
theorem st_32 (hF : 1000000 ≤ F) (h : INV ad B A σ τ) (x : Nat → Int32) : ST F 32 x X ad B σ τ := by
  have hI := h
  obtain ⟨hE, hK, hC, hT⟩ := h
  have hA := hE.1
  obtain ⟨e50, l50, hy⟩ := hE.2.2.yr
  have h1 : stC F 32 (ad 0) x (cM X ad σ B) = f_X0_postAt F (ad 0) (x 1) (x 2) (x 3) (x 4) (x 5) (x 6) (cM X ad σ B) := rfl
  have h2 : stT F 32 x τ = t_X9_postAt F (x 1) (x 2) (x 3) (x 4) (x 5) (x 6) τ := rfl
  unfold f_X0_postAt at h1
  unfold t_X9_postAt at h2
  have e11 : σ.1 11 = Int32.ofNat (zN A 0 50) := hC.1.2.2.2.1.trans e50
  have et : τ.1 50 = Int32.ofNat (zN A 0 50) := (hT.1 50 rfl).trans e50
  rw [posts_g, Option.bind_some, gd, o0_11 hA, Option.bind_some, e11, within_N (by omega), Option.bind_some, gd] at h1
  rw [posts_t, Option.bind_some, gd, et] at h2
  by_cases hg : inN (x 1) 100 ∧ inN (x 2) 100 ∧ inN (x 3) 100 ∧ inN (x 4) 100 ∧ inN (x 5) 100
  · rw [if_pos hg] at h1 h2
    by_cases h6 : inN (x 6) (zN A 0 50)
    · obtain ⟨g1, g2, g3, g4, g5⟩ := hg
      obtain ⟨v, hv, ev⟩ := g1.ex
      obtain ⟨up, hup, eu⟩ := g2.ex
      obtain ⟨e, he, ee⟩ := g3.ex
      obtain ⟨f, hf, ef⟩ := g4.ex
      obtain ⟨w, hw, ew⟩ := g5.ex
      obtain ⟨s, hs, es⟩ := h6.ex
      rw [if_pos h6, ev, eu, ee, ef, ew, es] at h1
      rw [ev, eu, ee, ef, ew, es, if_neg (Int32.not_lt.2 (ofNat_nn (by omega))), if_pos ((c_lt s (zN A 0 50) (by omega) (by omega)).2 hs)] at h2
      obtain ⟨σ', hC', hFC, c1⟩ := fill_C (X := X) (F := F) (by omega) hup he hf hw hE hC
      obtain ⟨g, hFT, t1⟩ := lay_T (F := F) (by omega) hup he hf hw hE.2.2 hT
      obtain ⟨r, p1, p2⟩ := post_CT (X := X) (F := F) (by omega) hup he hf hw hE hC' hT hFC hFT hs (s + 1) 0 F F v (Nat.zero_add _) (by omega) (by omega) hv
      rw [oc0 hA, Option.bind_some, c1, Option.bind_some] at h1
      rw [t1, Option.bind_some] at h2
      exact ST.ir hI (h1.trans p1) (h2.trans p2) (irr.w (j := 34) (f := g) (by omega)) ((irr.w (j := 34) (f := g) (by omega)).cr hC') (hT.W (by decide))
    · rw [if_neg h6] at h1
      have h2' : stT F 32 x τ = some (-1, τ) := by
        rw [h2]
        by_cases a : x 6 < 0
        · rw [if_pos a]
        · rw [if_neg a, if_neg]
          intro b
          apply h6
          have a1 := Int32.le_iff_toInt_le.1 (Int32.not_lt.1 a)
          have b1 := Int32.lt_iff_toInt_lt.1 b
          rw [i_tn (by omega)] at b1
          have z : (0 : Int32).toInt = 0 := rfl
          exact ⟨by omega, b1⟩
      exact ST.ro hI h1 h2' hC hT
  · rw [if_neg hg] at h1 h2
    exact ST.ro hI h1 h2 hC hT
