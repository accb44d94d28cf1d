set_option maxRecDepth 100000
/-! 25: light -/
variable {X : Nat → Option Ob} {ad ad' : Nat → Nat} {B B' : Sw} {A A' : Av} {σ σ' : Cs} {τ : Tw} {F : Nat}
theorem x_C (hE : EV ad B A) (σ : Cs) {h : Nat} (hh : h < zN A 6 0) : f_X0_x F (ad 0) (Int32.ofNat h) (cM X ad σ B) = some (sX A h) := by
  have hA := hE.1
  have q := hE.2.1.hs F hh (X := X) σ
  unfold f_X0_x
  simp (disch := omega) only [Option.bind_some, Option.bind_none, nmE, n_pp, n_pl, n_lp, n_mm, n_ml, n_lm, csI_s, csI_n, csI_2, csA_1, csA_s, csA_n, csA_2, csL_1, csL_2, csL_s, csL_n, csL_3, csQ_1, csQ_2, csQ_3, csQ_s, csQ_n, nar0, c_le, c_le_l, c_le_r, c_lt, c_lt_l, c_lt_r, c_eq, c_eq_l, c_eq_r, if_true, if_false, if_pos, if_neg, o0_3 hA, hE.2.1.tw, hE.2.1.hn F, q]
theorem WF.x (hW : WF A) {h : Nat} (hh : h < zN A 6 0) : sX A h = Int32.ofNat (zN A 6 (20 + 3 * h)) ∧ zN A 6 (20 + 3 * h) ≤ 40 := (hW.1.2.1 h hh).1
theorem le_sub {d a b : Nat} (hd : d < 100000) (ha : a < 100000) (hb : b < 100000) : (Int32.ofNat d ≤ Int32.ofNat a - Int32.ofNat b) ↔ d + b ≤ a := by
  rw [Int32.le_iff_toInt_le, i_tn (by omega)]
  by_cases h : b ≤ a
  · rw [n_ss _ _ h, i_tn (by omega)]
    omega
  · have e : Int32.ofNat a - Int32.ofNat b = -(Int32.ofNat (b - a)) := by
      rw [← n_ss a b (by omega), Int32.neg_sub]
    rw [e, Int32.toInt_neg, i_tn (by omega)]
    have : (-((b - a : Nat) : Int)).bmod (2 ^ 32) = -((b - a : Nat) : Int) := by
      apply Int.bmod_eq_of_le <;> omega
    rw [this]
    omega
theorem light_CT (hF : 1000 ≤ F) (hE : EV ad B A) (hC : CR ad B A σ) (hT : TR A τ) {c : Nat} (hc : c < zN A 6 0) : ∀ (d i fc ft : Nat) (a b : Int32), i + d = zN A 6 0 → d < fc → d < ft → (a = 0 ∨ a = 1) → (b = 0 ∨ b = 1) → ∃ r, f_X0_light_L14 F (ad 0) (Int32.ofNat c) (cM X ad σ B) fc (a + 2 * b) (Int32.ofNat i) = some r ∧ t_X9_light_L17 F (Int32.ofNat c) τ ft a b (Int32.ofNat i) = some r := by
  have hA := hE.1
  have hW := hE.2.2
  obtain ⟨eH, lH⟩ := hW.H
  have h47 := hC.2.2.2.1
  obtain ⟨exc, lxc⟩ := hW.x hc
  obtain ⟨ehc, lhc⟩ := hW.ht (show c < 16 by omega)
  intro d
  induction d with
  | zero =>
    intro i fc ft a b hi hfc hft ha hb
    obtain ⟨fc, rfl⟩ : ∃ m, fc = m + 1 := ⟨fc - 1, by omega⟩
    obtain ⟨ft, rfl⟩ : ∃ m, ft = m + 1 := ⟨ft - 1, by omega⟩
    have e0 : i = zN A 6 0 := by omega
    rw [e0]
    refine ⟨a + 2 * b, ?_, ?_⟩
    · show f_X0_light_L14_b F (ad 0) (Int32.ofNat c) (cM X ad σ B) (f_X0_light_L14 F (ad 0) (Int32.ofNat c) (cM X ad σ B) fc) (a + 2 * b) (Int32.ofNat (zN A 6 0)) = _
      unfold f_X0_light_L14_b
      simp (disch := omega) only [Option.bind_some, Option.bind_none, nmE, n_pp, n_pl, n_lp, n_mm, n_ml, n_lm, csI_s, csI_n, csI_2, csA_1, csA_s, csA_n, csA_2, csL_1, csL_2, csL_s, csL_n, csL_3, csQ_1, csQ_2, csQ_3, csQ_s, csQ_n, nar0, c_le, c_le_l, c_le_r, c_lt, c_lt_l, c_lt_r, c_eq, c_eq_l, c_eq_r, if_true, if_false, if_pos, if_neg, oc0 hA, houses_C hE]
    · show t_X9_light_L17_b F (Int32.ofNat c) τ (t_X9_light_L17 F (Int32.ofNat c) τ ft) a b (Int32.ofNat (zN A 6 0)) = _
      unfold t_X9_light_L17_b
      simp (disch := omega) only [Option.bind_some, Option.bind_none, nmE, n_pp, n_pl, n_lp, n_mm, n_ml, n_lm, taI_n, taI_l, tsA_n, tsA_l, nar0, twA_1, twA_s, twA_n, twA_2, twA_twA, tsI_s, tsI_n, tsI_2, c_le, c_le_l, c_le_r, c_lt, c_lt_l, c_lt_r, c_eq, c_eq_l, c_eq_r, if_true, if_false, if_pos, if_neg, hT.2 6 rfl, eH]
      rcases ha with rfl | rfl <;> rcases hb with rfl | rfl <;> rfl
  | succ d ih =>
    intro i fc ft a b hi hfc hft ha hb
    obtain ⟨fc, rfl⟩ : ∃ m, fc = m + 1 := ⟨fc - 1, by omega⟩
    obtain ⟨ft, rfl⟩ : ∃ m, ft = m + 1 := ⟨ft - 1, by omega⟩
    have i16 : i < 16 := by omega
    obtain ⟨exi, lxi⟩ := hW.x (show i < zN A 6 0 by omega)
    obtain ⟨ehi, lhi⟩ := hW.ht i16
    have sC : f_X0_light_L14 F (ad 0) (Int32.ofNat c) (cM X ad σ B) (fc + 1) (a + 2 * b) (Int32.ofNat i) = f_X0_light_L14_b F (ad 0) (Int32.ofNat c) (cM X ad σ B) (f_X0_light_L14 F (ad 0) (Int32.ofNat c) (cM X ad σ B) fc) (a + 2 * b) (Int32.ofNat i) := rfl
    have sT : t_X9_light_L17 F (Int32.ofNat c) τ (ft + 1) a b (Int32.ofNat i) = t_X9_light_L17_b F (Int32.ofNat c) τ (t_X9_light_L17 F (Int32.ofNat c) τ ft) a b (Int32.ofNat i) := rfl
    unfold f_X0_light_L14_b at sC
    unfold t_X9_light_L17_b at sT
    have hhi : t_X9_heightOf F (Int32.ofNat i) τ = some (sHt A i) := heightOf_T i16 hT
    have hhc : t_X9_heightOf F (Int32.ofNat c) τ = some (sHt A c) := heightOf_T (by omega) hT
    have hxi : t_X9_xOf F (Int32.ofNat i) τ = some (sX A i) := xOf_T i16 hT
    have hxc : t_X9_xOf F (Int32.ofNat c) τ = some (sX A c) := xOf_T (by omega) hT
    have c47i : σ.2.1 47 i = sHt A i := h47 i i16
    have c47c : σ.2.1 47 c = sHt A c := h47 c (by omega)
    obtain ⟨xi, hxi'⟩ : ∃ v, v = zN A 6 (20 + 3 * i) := ⟨_, rfl⟩
    obtain ⟨xc, hxc'⟩ : ∃ v, v = zN A 6 (20 + 3 * c) := ⟨_, rfl⟩
    obtain ⟨yi, hyi⟩ : ∃ v, v = zN A 7 (10 + i) := ⟨_, rfl⟩
    obtain ⟨yc, hyc⟩ : ∃ v, v = zN A 7 (10 + c) := ⟨_, rfl⟩
    rw [exi, ← hxi'] at hxi
    rw [exc, ← hxc'] at hxc
    rw [ehi, ← hyi] at hhi c47i
    rw [ehc, ← hyc] at hhc c47c
    have xCi := x_C (X := X) (F := F) hE σ (show i < zN A 6 0 by omega)
    have xCc := x_C (X := X) (F := F) hE σ hc
    rw [exi, ← hxi'] at xCi
    rw [exc, ← hxc'] at xCc
    simp (disch := omega) only [Option.bind_some, Option.bind_none, nmE, n_pp, n_pl, n_lp, n_mm, n_ml, n_lm, csI_s, csI_n, csI_2, csA_1, csA_s, csA_n, csA_2, csL_1, csL_2, csL_s, csL_n, csL_3, csQ_1, csQ_2, csQ_3, csQ_s, csQ_n, nar0, c_le, c_le_l, c_le_r, c_lt, c_lt_l, c_lt_r, c_eq, c_eq_l, c_eq_r, if_true, if_false, if_pos, if_neg, oc0 hA, houses_C hE, xCi, xCc, o0_4 hA, o46_0 hA, a47 hA, c47i, c47c] at sC
    simp (disch := omega) only [Option.bind_some, Option.bind_none, nmE, n_pp, n_pl, n_lp, n_mm, n_ml, n_lm, taI_n, taI_l, tsA_n, tsA_l, nar0, twA_1, twA_s, twA_n, twA_2, twA_twA, tsI_s, tsI_n, tsI_2, c_le, c_le_l, c_le_r, c_lt, c_lt_l, c_lt_r, c_eq, c_eq_l, c_eq_r, if_true, if_false, if_pos, if_neg, hT.2 6 rfl, eH, hhi, hhc, hxi, hxc] at sT
    have keep := ih (i + 1) fc ft a b (by omega) (by omega) (by omega) ha hb
    have noA := ih (i + 1) fc ft 0 b (by omega) (by omega) (by omega) (Or.inl rfl) hb
    have noB := ih (i + 1) fc ft a 0 (by omega) (by omega) (by omega) ha (Or.inl rfl)
    have eA : (a + 2 * b) &&& (-2) = 0 + 2 * b := by
      rcases ha with rfl | rfl <;> rcases hb with rfl | rfl <;> rfl
    have eB : (a + 2 * b) &&& (-3) = a + 2 * 0 := by
      rcases ha with rfl | rfl <;> rcases hb with rfl | rfl <;> rfl
    have z0 : (0 : Int32) = Int32.ofNat 0 := rfl
    have nn : ((0 : Int32) ≤ Int32.ofNat xi - Int32.ofNat xc) ↔ 0 + xc ≤ xi := by
      rw [z0]; exact le_sub (by omega) (by omega) (by omega)
    have np : (Int32.ofNat xi - Int32.ofNat xc ≤ (0 : Int32)) ↔ xi ≤ 0 + xc := by
      rw [z0]; exact sub_le (by omega) (by omega) (by omega)
    have ez : (Int32.ofNat xi - Int32.ofNat xc = 0) ↔ xi = xc := by
      constructor
      · intro q
        have h1 := nn.1 (by rw [q]; exact Int32.le_refl _)
        have h2 := np.1 (by rw [q]; exact Int32.le_refl _)
        omega
      · intro q
        rw [q, Int32.sub_self]
    have db : dst xi xc < 1000 := by unfold dst; omega
    have cC : (ab (Int32.ofNat xi - Int32.ofNat xc) ≤ Int32.ofNat yi - Int32.ofNat yc) ↔ dst xi xc + yc ≤ yi := by
      rw [ab_n (by omega) (by omega)]
      exact le_sub (by omega) (by omega) (by omega)
    rcases Nat.lt_trichotomy xi xc with h | h | h
    · have ed : dst xi xc = xc - xi := by unfold dst; omega
      have cT : (Int32.ofNat yi - Int32.ofNat yc < -(Int32.ofNat xi - Int32.ofNat xc)) ↔ ¬ dst xi xc + yc ≤ yi := by
        rw [Int32.neg_sub, n_ss xi xc (by omega), ← Int32.not_le, le_sub (by omega) (by omega) (by omega), ed]
      rw [if_neg (fun q => by have := ez.1 q; omega)] at sC
      rw [if_neg (fun q => by have := nn.1 q; omega), if_pos (np.2 (by omega))] at sT
      by_cases g : dst xi xc + yc ≤ yi
      · rw [if_pos (cC.2 g), if_neg (fun q => by have := nn.1 q; omega), eA] at sC
        rw [if_neg (fun q => cT.1 q g), if_pos (np.2 (by omega))] at sT
        rw [sC, sT]
        exact noA
      · rw [if_neg (fun q => g (cC.1 q))] at sC
        rw [if_pos (cT.2 g)] at sT
        rw [sC, sT]
        exact keep
    · rw [if_pos (ez.2 h)] at sC
      rw [if_pos (nn.2 (by omega)), if_pos (np.2 (by omega))] at sT
      rw [sC, sT]
      exact keep
    · have ed : dst xi xc = xi - xc := by unfold dst; omega
      have cT : (Int32.ofNat yi - Int32.ofNat yc < Int32.ofNat xi - Int32.ofNat xc) ↔ ¬ dst xi xc + yc ≤ yi := by
        rw [n_ss xc xi (by omega), ← Int32.not_le, le_sub (by omega) (by omega) (by omega), ed]
      rw [if_neg (fun q => by have := ez.1 q; omega)] at sC
      rw [if_pos (nn.2 (by omega)), if_neg (fun q => by have := np.1 q; omega)] at sT
      by_cases g : dst xi xc + yc ≤ yi
      · rw [if_pos (cC.2 g), if_pos (nn.2 (by omega)), eB] at sC
        rw [if_neg (fun q => cT.1 q g)] at sT
        rw [sC, sT]
        exact noB
      · rw [if_neg (fun q => g (cC.1 q))] at sC
        rw [if_pos (cT.2 g)] at sT
        rw [sC, sT]
        exact keep
theorem st_25 (hF : 1000000 ≤ F) (h : INV ad B A σ τ) (x : Nat → Int32) : ST F 25 x X ad B σ τ := by
  have hI := h
  obtain ⟨hE, hK, hC, hT⟩ := h
  have hA := hE.1
  have lH := hE.2.2.H.2
  have e1 : ∃ r, f_X0_light F (ad 0) (x 1) (cM X ad σ B) = some r ∧ t_X9_light F (x 1) τ = some r := by
    unfold f_X0_light t_X9_light
    rw [oc0 hA, Option.bind_some, isHouse_C hE, Option.bind_some, gd, isHouse_T hE.2.2 hT, Option.bind_some, gd]
    by_cases c1 : inN (x 1) (zN A 6 0)
    · rw [if_pos c1, if_pos c1]
      obtain ⟨c, hc, e⟩ := c1.ex
      rw [e]
      exact light_CT (by omega) hE hC hT hc (zN A 6 0) 0 F F 1 1 (Nat.zero_add _) (by omega) (by omega) (Or.inr rfl) (Or.inr rfl)
    · rw [if_neg c1, if_neg c1]; exact ⟨_, rfl, rfl⟩
  obtain ⟨r, e1, e2⟩ := e1
  exact ST.ro hI (show (Option.bind (f_X0_light F (ad 0) (x 1) (cM X ad σ B)) fun r => some (r, cM X ad σ B)) = some (r, cM X ad σ B) by rw [e1]; rfl) (show (Option.bind (t_X9_light F (x 1) τ) fun r => some (r, τ)) = some (r, τ) by rw [e2]; rfl) hC hT
