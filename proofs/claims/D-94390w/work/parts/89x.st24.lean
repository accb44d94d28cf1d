set_option maxRecDepth 100000
/-! 24: looks, the loop -/
variable {X : Nat → Option Ob} {ad ad' : Nat → Nat} {B B' : Sw} {A A' : Av} {σ σ' : Cs} {τ : Tw} {F : Nat}
theorem sight_C {hk ha hb xk xa xb : Nat} (b1 : hk < 100) (b2 : ha < 100) (b3 : hb < 100) (b4 : xk < 100) (b5 : xa < 100) (b6 : xb < 100) : ((Int32.ofNat hk - Int32.ofNat ha) * Int32.ofNat (dst xb xa) < (Int32.ofNat hb - Int32.ofNat ha) * Int32.ofNat (dst xk xa)) ↔ ((hk : Int) - ha) * (dst xb xa : Nat) < ((hb : Int) - ha) * (dst xk xa : Nat) := by
  have d1 := dst_b b6 b5
  have d2 := dst_b b4 b5
  have s1 := sub_int (a := hk) (b := ha) (by omega) (by omega)
  have s2 := sub_int (a := hb) (b := ha) (by omega) (by omega)
  rw [lt_int, mul_int (by rw [s1]; omega) (by rw [i_tn (by omega)]; omega), mul_int (by rw [s2]; omega) (by rw [i_tn (by omega)]; omega), s1, s2, i_tn (by omega), i_tn (by omega)]
/-- between, as the component asks it -/
theorem side_C {xk xa xb : Nat} (b4 : xk < 100) (b5 : xa < 100) (b6 : xb < 100) : ((Int32.ofNat xk - Int32.ofNat xa) * (Int32.ofNat xb - Int32.ofNat xa) ≤ 0) ↔ ¬ ((xa < xk ∧ xa < xb) ∨ (xk < xa ∧ xb < xa)) := by
  have s1 := sub_int (a := xk) (b := xa) (by omega) (by omega)
  have s2 := sub_int (a := xb) (b := xa) (by omega) (by omega)
  rw [le_int, mul_int (by rw [s1]; omega) (by rw [s2]; omega), s1, s2]
  show ((xk : Int) - xa) * ((xb : Int) - xa) ≤ 0 ↔ _
  constructor
  · intro h q
    rcases q with ⟨q1, q2⟩ | ⟨q1, q2⟩
    · have := Int.mul_pos (show (0 : Int) < (xk : Int) - xa by omega) (show (0 : Int) < (xb : Int) - xa by omega)
      omega
    · have := Int.mul_pos_of_neg_of_neg (show (xk : Int) - xa < 0 by omega) (show (xb : Int) - xa < 0 by omega)
      omega
  · intro h
    by_cases h1 : xk ≤ xa
    · by_cases h2 : xa ≤ xb
      · exact Int.mul_nonpos_of_nonpos_of_nonneg (by omega) (by omega)
      · have : xk = xa := by omega
        rw [this, Int.sub_self, Int.zero_mul]
        exact Int.le_refl _
    · have : xb ≤ xa := by omega
      exact Int.mul_nonpos_of_nonneg_of_nonpos (by omega) (by omega)
theorem looks_CT (hF : 1000 ≤ F) (hE : EV ad B A) (hC : CR ad B A σ) (hT : TR A τ) {a b : Nat} (ha : a < zN A 6 0) (hb : b < zN A 6 0) (hx : zN A 6 (20 + 3 * a) ≠ zN A 6 (20 + 3 * b)) : ∀ (d i fc ft : Nat), i + d = zN A 6 0 → d < fc → d < ft → ∃ r : Int32, (r = 0 ∨ r = 1) ∧ f_X0_looksInto_L42 F (ad 0) (Int32.ofNat a) (Int32.ofNat b) (Int32.ofNat (zN A 6 (20 + 3 * b)) - Int32.ofNat (zN A 6 (20 + 3 * a))) (cM X ad σ B) fc (Int32.ofNat i) = some r ∧ t_X9_looks_L53 F (Int32.ofNat a) (Int32.ofNat b) τ ft (Int32.ofNat i) = some r := by
  have hA := hE.1
  have hW := hE.2.2
  obtain ⟨eH, lH⟩ := hW.H
  have h47 := hC.2.2.2.1
  obtain ⟨exa, lxa⟩ := hW.x ha
  obtain ⟨exb, lxb⟩ := hW.x hb
  obtain ⟨eha, lha⟩ := hW.ht (show a < 16 by omega)
  obtain ⟨ehb, lhb⟩ := hW.ht (show b < 16 by omega)
  intro d
  induction d with
  | zero =>
    intro i fc ft hi hfc hft
    obtain ⟨fc, rfl⟩ : ∃ m, fc = m + 1 := ⟨fc - 1, by omega⟩
    obtain ⟨ft, rfl⟩ : ∃ m, ft = m + 1 := ⟨ft - 1, by omega⟩
    have e0 : i = zN A 6 0 := by omega
    rw [e0]
    refine ⟨1, Or.inr rfl, ?_, ?_⟩
    · show f_X0_looksInto_L42_b F (ad 0) (Int32.ofNat a) (Int32.ofNat b) _ (cM X ad σ B) (f_X0_looksInto_L42 F (ad 0) (Int32.ofNat a) (Int32.ofNat b) _ (cM X ad σ B) fc) (Int32.ofNat (zN A 6 0)) = _
      unfold f_X0_looksInto_L42_b
      simp (disch := omega) only [Option.bind_some, Option.bind_none, nmE, n_pp, n_pl, n_lp, n_mm, n_ml, n_lm, csI_s, csI_n, csI_2, csA_1, csA_s, csA_n, csA_2, csL_1, csL_2, csL_s, csL_n, csL_3, csQ_1, csQ_2, csQ_3, csQ_s, csQ_n, nar0, c_le, c_le_l, c_le_r, c_lt, c_lt_l, c_lt_r, c_eq, c_eq_l, c_eq_r, if_true, if_false, if_pos, if_neg, oc0 hA, houses_C hE]
    · show t_X9_looks_L53_b F (Int32.ofNat a) (Int32.ofNat b) τ (t_X9_looks_L53 F (Int32.ofNat a) (Int32.ofNat b) τ ft) (Int32.ofNat (zN A 6 0)) = _
      unfold t_X9_looks_L53_b
      simp (disch := omega) only [Option.bind_some, Option.bind_none, nmE, n_pp, n_pl, n_lp, n_mm, n_ml, n_lm, taI_n, taI_l, tsA_n, tsA_l, nar0, twA_1, twA_s, twA_n, twA_2, twA_twA, tsI_s, tsI_n, tsI_2, c_le, c_le_l, c_le_r, c_lt, c_lt_l, c_lt_r, c_eq, c_eq_l, c_eq_r, if_true, if_false, if_pos, if_neg, hT.2 6 rfl, eH]
  | succ d ih =>
    intro i fc ft hi hfc hft
    obtain ⟨fc, rfl⟩ : ∃ m, fc = m + 1 := ⟨fc - 1, by omega⟩
    obtain ⟨ft, rfl⟩ : ∃ m, ft = m + 1 := ⟨ft - 1, by omega⟩
    have hiH : i < zN A 6 0 := by omega
    obtain ⟨exi, lxi⟩ := hW.x hiH
    obtain ⟨ehi, lhi⟩ := hW.ht (show i < 16 by omega)
    have nx := ih (i + 1) fc ft (by omega) (by omega) (by omega)
    have xCi := x_C (X := X) (F := F) hE σ hiH
    have xCa := x_C (X := X) (F := F) hE σ ha
    rw [exi] at xCi
    rw [exa] at xCa
    have c47i : σ.2.1 47 i = sHt A i := h47 i (by omega)
    have c47a : σ.2.1 47 a = sHt A a := h47 a (by omega)
    have c47b : σ.2.1 47 b = sHt A b := h47 b (by omega)
    rw [ehi] at c47i
    rw [eha] at c47a
    rw [ehb] at c47b
    obtain ⟨P, dP, t1, t2, t3⟩ := below_T (F := F) hW hT hiH ha hb
    have sC : f_X0_looksInto_L42 F (ad 0) (Int32.ofNat a) (Int32.ofNat b) (Int32.ofNat (zN A 6 (20 + 3 * b)) - Int32.ofNat (zN A 6 (20 + 3 * a))) (cM X ad σ B) (fc + 1) (Int32.ofNat i) = f_X0_looksInto_L42_b F (ad 0) (Int32.ofNat a) (Int32.ofNat b) (Int32.ofNat (zN A 6 (20 + 3 * b)) - Int32.ofNat (zN A 6 (20 + 3 * a))) (cM X ad σ B) (f_X0_looksInto_L42 F (ad 0) (Int32.ofNat a) (Int32.ofNat b) (Int32.ofNat (zN A 6 (20 + 3 * b)) - Int32.ofNat (zN A 6 (20 + 3 * a))) (cM X ad σ B) fc) (Int32.ofNat i) := rfl
    have sT : t_X9_looks_L53 F (Int32.ofNat a) (Int32.ofNat b) τ (ft + 1) (Int32.ofNat i) = t_X9_looks_L53_b F (Int32.ofNat a) (Int32.ofNat b) τ (t_X9_looks_L53 F (Int32.ofNat a) (Int32.ofNat b) τ ft) (Int32.ofNat i) := rfl
    unfold f_X0_looksInto_L42_b at sC
    unfold t_X9_looks_L53_b at sT
    simp (disch := omega) only [Option.bind_some, Option.bind_none, nmE, n_pp, n_pl, n_lp, n_mm, n_ml, n_lm, csI_s, csI_n, csI_2, csA_1, csA_s, csA_n, csA_2, csL_1, csL_2, csL_s, csL_n, csL_3, csQ_1, csQ_2, csQ_3, csQ_s, csQ_n, nar0, c_le, c_le_l, c_le_r, c_lt, c_lt_l, c_lt_r, c_eq, c_eq_l, c_eq_r, if_true, if_false, if_pos, if_neg, oc0 hA, houses_C hE, xCi, xCa, o0_4 hA, o46_0 hA, a47 hA, c47i, c47a, c47b, ab_n] at sC
    simp (disch := omega) only [Option.bind_some, Option.bind_none, nmE, n_pp, n_pl, n_lp, n_mm, n_ml, n_lm, taI_n, taI_l, tsA_n, tsA_l, nar0, twA_1, twA_s, twA_n, twA_2, twA_twA, tsI_s, tsI_n, tsI_2, c_le, c_le_l, c_le_r, c_lt, c_lt_l, c_lt_r, c_eq, c_eq_l, c_eq_r, if_true, if_false, if_pos, if_neg, hT.2 6 rfl, eH, xOf_T, hT, exi, exa, exb, between_n, t1] at sT
    rw [gd, gd] at sT
    obtain ⟨r, hr, n1, n2⟩ := nx
    have dI := dst_b (show zN A 6 (20 + 3 * i) < 100 by omega) (show zN A 6 (20 + 3 * a) < 100 by omega)
    have dB := dst_b (show zN A 6 (20 + 3 * b) < 100 by omega) (show zN A 6 (20 + 3 * a) < 100 by omega)
    have side := side_C (xk := zN A 6 (20 + 3 * i)) (xa := zN A 6 (20 + 3 * a)) (xb := zN A 6 (20 + 3 * b)) (by omega) (by omega) (by omega)
    have sg := sight_C (hk := zN A 7 (10 + i)) (ha := zN A 7 (10 + a)) (hb := zN A 7 (10 + b)) (xk := zN A 6 (20 + 3 * i)) (xa := zN A 6 (20 + 3 * a)) (xb := zN A 6 (20 + 3 * b)) (by omega) (by omega) (by omega) (by omega) (by omega) (by omega)
    have cd : (Int32.ofNat (dst (zN A 6 (20 + 3 * i)) (zN A 6 (20 + 3 * a))) < Int32.ofNat (dst (zN A 6 (20 + 3 * b)) (zN A 6 (20 + 3 * a)))) ↔ dst (zN A 6 (20 + 3 * i)) (zN A 6 (20 + 3 * a)) < dst (zN A 6 (20 + 3 * b)) (zN A 6 (20 + 3 * a)) := c_lt _ _ (by omega) (by omega)
    by_cases hbt : (zN A 6 (20 + 3 * a) < zN A 6 (20 + 3 * i) ∧ zN A 6 (20 + 3 * i) < zN A 6 (20 + 3 * b)) ∨ (zN A 6 (20 + 3 * b) < zN A 6 (20 + 3 * i) ∧ zN A 6 (20 + 3 * i) < zN A 6 (20 + 3 * a))
    · have hd : dst (zN A 6 (20 + 3 * i)) (zN A 6 (20 + 3 * a)) < dst (zN A 6 (20 + 3 * b)) (zN A 6 (20 + 3 * a)) := by unfold dst; omega
      have hP : P ↔ ((zN A 7 (10 + i) : Int) - zN A 7 (10 + a)) * (dst (zN A 6 (20 + 3 * b)) (zN A 6 (20 + 3 * a)) : Nat) < ((zN A 7 (10 + b) : Int) - zN A 7 (10 + a)) * (dst (zN A 6 (20 + 3 * i)) (zN A 6 (20 + 3 * a)) : Nat) := by
        rcases hbt with ⟨q1, q2⟩ | ⟨q1, q2⟩
        · have e1 : ((dst (zN A 6 (20 + 3 * b)) (zN A 6 (20 + 3 * a)) : Nat) : Int) = (zN A 6 (20 + 3 * b) : Int) - zN A 6 (20 + 3 * a) := by unfold dst; omega
          have e2 : ((dst (zN A 6 (20 + 3 * i)) (zN A 6 (20 + 3 * a)) : Nat) : Int) = (zN A 6 (20 + 3 * i) : Int) - zN A 6 (20 + 3 * a) := by unfold dst; omega
          rw [e1, e2]
          exact t2 (by omega)
        · have e1 : ((dst (zN A 6 (20 + 3 * b)) (zN A 6 (20 + 3 * a)) : Nat) : Int) = (zN A 6 (20 + 3 * a) : Int) - zN A 6 (20 + 3 * b) := by unfold dst; omega
          have e2 : ((dst (zN A 6 (20 + 3 * i)) (zN A 6 (20 + 3 * a)) : Nat) : Int) = (zN A 6 (20 + 3 * a) : Int) - zN A 6 (20 + 3 * i) := by unfold dst; omega
          rw [e1, e2, sight]
          exact t3 (by omega)
      rw [if_pos hbt] at sT
      rw [if_neg (fun q => side.1 q (by omega))] at sC
      first | rw [if_pos (cd.2 hd)] at sC | rw [if_pos hd] at sC
      by_cases hp : P
      · rw [if_pos hp] at sT
        rw [if_pos (sg.2 (hP.1 hp))] at sC
        exact ⟨r, hr, sC.trans n1, sT.trans n2⟩
      · rw [if_neg hp] at sT
        rw [if_neg (fun q => hp (hP.2 (sg.1 q)))] at sC
        exact ⟨0, Or.inl rfl, sC, sT⟩
    · rw [if_neg hbt] at sT
      refine ⟨r, hr, ?_, sT.trans n2⟩
      rw [sC]
      by_cases hs : (Int32.ofNat (zN A 6 (20 + 3 * i)) - Int32.ofNat (zN A 6 (20 + 3 * a))) * (Int32.ofNat (zN A 6 (20 + 3 * b)) - Int32.ofNat (zN A 6 (20 + 3 * a))) ≤ 0
      · rw [if_pos hs]; exact n1
      · have hs2 : (zN A 6 (20 + 3 * a) < zN A 6 (20 + 3 * i) ∧ zN A 6 (20 + 3 * a) < zN A 6 (20 + 3 * b)) ∨ (zN A 6 (20 + 3 * i) < zN A 6 (20 + 3 * a) ∧ zN A 6 (20 + 3 * b) < zN A 6 (20 + 3 * a)) := Classical.byContradiction fun q => hs (side.2 q)
        have hd : ¬ dst (zN A 6 (20 + 3 * i)) (zN A 6 (20 + 3 * a)) < dst (zN A 6 (20 + 3 * b)) (zN A 6 (20 + 3 * a)) := by unfold dst; omega
        rw [if_neg hs]
        first | rw [if_neg (fun q => hd (cd.1 q))] | rw [if_neg hd]
        exact n1
theorem ST.ro1 {k : Nat} {x : Nat → Int32} {r : Int32} {fc ft : Option Int32} (h : INV ad B A σ τ) (h1 : stC F k (ad 0) x (cM X ad σ B) = Option.bind fc fun r => some (r, cM X ad σ B)) (h2 : stT F k x τ = Option.bind ft fun r => some (r, τ)) (e1 : fc = some r) (e2 : ft = some r) : ST F k x X ad B σ τ := ST.ro h (h1.trans (st_b e1)) (h2.trans (st_b e2)) h.2.2.1 h.2.2.2
/-- 24: looks -/
theorem st_24 (hF : 1000000 ≤ F) (h : INV ad B A σ τ) (x : Nat → Int32) : ST F 24 x X ad B σ τ := by
  have hI := h
  obtain ⟨hE, hK, hC, hT⟩ := h
  have hA := hE.1
  have hW := hE.2.2
  obtain ⟨eH, lH⟩ := hW.H
  have main : ∃ r, f_X0_looks F (ad 0) (x 1) (x 2) (cM X ad σ B) = some r ∧ t_X9_looks F (x 1) (x 2) τ = some r := by
    unfold f_X0_looks t_X9_looks
    rw [oc0 hA, Option.bind_some, isHouse_C hE, Option.bind_some, gd, Option.bind_some, isHouse_C hE, Option.bind_some, gd, Option.bind_some, isHouse_T hW hT, Option.bind_some, gd, isHouse_T hW hT, Option.bind_some, gd]
    by_cases c1 : inN (x 1) (zN A 6 0)
    · rw [if_pos c1, if_pos c1]
      by_cases c2 : inN (x 2) (zN A 6 0)
      · rw [if_pos c2, if_pos c2]
        by_cases c3 : x 1 = x 2
        · rw [if_pos c3, if_pos c3]
          exact ⟨_, rfl, rfl⟩
        · rw [if_neg c3, if_neg c3]
          obtain ⟨a, la, ea⟩ := c1.ex
          obtain ⟨b, lb, eb⟩ := c2.ex
          rw [ea, eb]
          obtain ⟨exa, lxa⟩ := hW.x la
          obtain ⟨exb, lxb⟩ := hW.x lb
          obtain ⟨eha, lha⟩ := hW.ht (show a < 16 by omega)
          obtain ⟨ehb, lhb⟩ := hW.ht (show b < 16 by omega)
          have c47a : σ.2.1 47 a = sHt A a := hC.2.2.2.1 a (by omega)
          have c47b : σ.2.1 47 b = sHt A b := hC.2.2.2.1 b (by omega)
          unfold f_X0_looksInto
          simp (disch := omega) only [Option.bind_some, Option.bind_none, nmE, n_pp, n_pl, n_lp, n_mm, n_ml, n_lm, csI_s, csI_n, csI_2, csA_1, csA_s, csA_n, csA_2, csL_1, csL_2, csL_s, csL_n, csL_3, csQ_1, csQ_2, csQ_3, csQ_s, csQ_n, nar0, c_le, c_le_l, c_le_r, c_lt, c_lt_l, c_lt_r, c_eq, c_eq_l, c_eq_r, if_true, if_false, if_pos, if_neg, oc0 hA, x_C hE σ lb, x_C hE σ la, o0_4 hA, o46_0 hA, a47 hA, c47a, c47b]
          rw [eha, ehb, exa, exb]
          rw [heightOf_T (h := a) (by omega) hT, Option.bind_some, heightOf_T (h := b) (by omega) hT, Option.bind_some, xOf_T (h := a) (by omega) hT, Option.bind_some, xOf_T (h := b) (by omega) hT, Option.bind_some, eha, ehb, exa, exb]
          by_cases c4 : Int32.ofNat (zN A 7 (10 + a)) ≤ Int32.ofNat (zN A 7 (10 + b))
          · rw [if_pos c4, if_pos c4]
            exact ⟨0, rfl, rfl⟩
          · rw [if_neg c4, if_neg c4]
            by_cases c5 : zN A 6 (20 + 3 * a) = zN A 6 (20 + 3 * b)
            · rw [if_pos (show Int32.ofNat (zN A 6 (20 + 3 * b)) - Int32.ofNat (zN A 6 (20 + 3 * a)) = 0 by rw [c5]; exact Int32.sub_self _), if_pos (by rw [c5])]
              exact ⟨0, rfl, rfl⟩
            · have s1 := sub_int (a := zN A 6 (20 + 3 * b)) (b := zN A 6 (20 + 3 * a)) (by omega) (by omega)
              rw [if_neg (fun q => by rw [q] at s1; have : (0 : Int32).toInt = 0 := rfl; omega), if_neg (fun q => c5 ((c_eq _ _ (by omega) (by omega)).1 q))]
              obtain ⟨r, hr, e1, e2⟩ := looks_CT (X := X) (F := F) (by omega) hE hC hT la lb c5 (zN A 6 0) 0 F F (Nat.zero_add _) (by omega) (by omega)
              have e1' : f_X0_looksInto_L42 F (ad 0) (Int32.ofNat a) (Int32.ofNat b) (Int32.ofNat (zN A 6 (20 + 3 * b)) - Int32.ofNat (zN A 6 (20 + 3 * a))) (cM X ad σ B) F 0 = some r := e1
              have e2' : t_X9_looks_L53 F (Int32.ofNat a) (Int32.ofNat b) τ F 0 = some r := e2
              rw [e1', e2', Option.bind_some]
              rcases hr with rfl | rfl
              · exact ⟨0, rfl, rfl⟩
              · exact ⟨1, rfl, rfl⟩
      · rw [if_neg c2, if_neg c2]
        exact ⟨_, rfl, rfl⟩
    · rw [if_neg c1, if_neg c1]
      exact ⟨_, rfl, rfl⟩
  obtain ⟨r, e1, e2⟩ := main
  exact ST.ro hI (st_b e1) (st_b e2) hC hT
