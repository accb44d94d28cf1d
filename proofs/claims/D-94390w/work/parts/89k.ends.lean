set_option maxRecDepth 100000
/-! 38: ends -/
variable {X : Nat → Option Ob} {ad ad' : Nat → Nat} {B B' : Sw} {A A' : Av} {σ σ' : Cs} {τ : Tw} {F : Nat}
def dst (a b : Nat) : Nat := (a - b) + (b - a)
theorem dst_s (a b : Nat) : dst a b = dst b a := by unfold dst; omega
theorem apart_n {a b : Nat} (ha : a < 1000000) (hb : b < 1000000) : p_X9_apart F (Int32.ofNat a) (Int32.ofNat b) = some (Int32.ofNat (dst a b)) := by
  unfold p_X9_apart dst
  by_cases h : a ≤ b
  · rw [if_pos ((c_le a b (by omega) (by omega)).2 h), n_ss _ _ h, show a - b + (b - a) = b - a by omega]
  · rw [if_neg (fun q => h ((c_le a b (by omega) (by omega)).1 q)), n_ss _ _ (by omega), show a - b + (b - a) = a - b by omega]
theorem ab_n {a b : Nat} (ha : a < 1000000) (hb : b < 1000000) : ab (Int32.ofNat a - Int32.ofNat b) = Int32.ofNat (dst a b) := by
  rw [ab_d ha hb]
  unfold dst
  by_cases h : a ≤ b
  · rw [if_pos ((c_le a b (by omega) (by omega)).2 h), n_ss _ _ h, show a - b + (b - a) = b - a by omega]
  · rw [if_neg (fun q => h ((c_le a b (by omega) (by omega)).1 q)), n_ss _ _ (by omega), show a - b + (b - a) = a - b by omega]
theorem sub_le {w d l : Nat} (hw : w < 100000) (hd : d < 100000) (hl : l < 100000) : (Int32.ofNat w - Int32.ofNat d ≤ Int32.ofNat l) ↔ w ≤ l + d := by
  rw [Int32.le_iff_toInt_le, i_tn (by omega)]
  by_cases h : d ≤ w
  · rw [n_ss _ _ h, i_tn (by omega)]
    omega
  · have e : Int32.ofNat w - Int32.ofNat d = -(Int32.ofNat (d - w)) := by
      rw [← n_ss w d (by omega), Int32.neg_sub]
    rw [e, Int32.toInt_neg, i_tn (by omega)]
    have : (-((d - w : Nat) : Int)).bmod (2 ^ 32) = -((d - w : Nat) : Int) := by
      apply Int.bmod_eq_of_le <;> omega
    rw [this]
    omega
theorem mx_sub {w d l : Nat} (hw : w < 100000) (hd : d < 100000) (hl : l < 100000) : mx (Int32.ofNat l) (Int32.ofNat w - Int32.ofNat d) = Int32.ofNat (max l (w - d)) := by
  unfold mx
  by_cases h : w ≤ l + d
  · rw [if_neg (Int32.not_lt.2 ((sub_le hw hd hl).2 h)), Nat.max_eq_left (by omega)]
  · rw [if_pos (Int32.not_le.1 (fun q => h ((sub_le hw hd hl).1 q))), n_ss _ _ (by omega), Nat.max_eq_right (by omega)]
theorem tri {s p a b : Nat} : s * dst a b ≤ s * dst p a + s * dst p b := by
  rw [← Nat.mul_add]
  apply Nat.mul_le_mul_left
  unfold dst
  omega
theorem mul_b {s a : Nat} (hs : s < 100) (ha : a < 100) : s * a < 10000 := by
  have := Nat.mul_le_mul (show s ≤ 99 by omega) (show a ≤ 99 by omega)
  omega
theorem dst_b {a b : Nat} (ha : a < 100) (hb : b < 100) : dst a b < 100 := by unfold dst; omega
theorem ends_CT (hF : 1000 ≤ F) (hE : EV ad B A) (hC : CR ad B A σ) (hT : TR A τ) {m : Nat} (hm : m ≤ zN A 7 2) {a : Int32} {p s : Nat} (hp : p < 100) (hs : s < 100) : ∃ r, f_X0_ends_L49 F (ad 0) a (Int32.ofNat p) (Int32.ofNat s) (Int32.ofNat m) (cM X ad σ B) F 0 99 0 = some r ∧ t_X9_ends_L49 F a (Int32.ofNat p) (Int32.ofNat s) (Int32.ofNat m) τ F 0 99 0 = some r := by
  have hA := hE.1
  obtain ⟨el, ll⟩ := hE.2.2.nl
  have w6 := hE.2.2.2.2.1.2.2.2.2.2.2
  obtain ⟨lv, hlv⟩ : ∃ lv : Nat → Int32, ∀ i, i < m → (lv i = 0 ∨ lv i = 1) ∧ f_X0_counts F (ad 0) (Int32.ofNat i) (Int32.ofNat m) (cM X ad σ B) = some (lv i) ∧ t_X9_isLive F (Int32.ofNat i) (Int32.ofNat m) τ = some (lv i) := by
    have h : ∀ i, ∃ v : Int32, i < m → (v = 0 ∨ v = 1) ∧ f_X0_counts F (ad 0) (Int32.ofNat i) (Int32.ofNat m) (cM X ad σ B) = some v ∧ t_X9_isLive F (Int32.ofNat i) (Int32.ofNat m) τ = some v := fun i => by
      by_cases h : i < m
      · obtain ⟨r, hr⟩ := live_CT (X := X) (F := F) hF hE hC hT hm h
        exact ⟨r, fun _ => hr⟩
      · exact ⟨0, fun q => absurd q h⟩
    exact ⟨fun i => (h i).choose, fun i => (h i).choose_spec⟩
  let mk : Nat → Prop := fun i => A 7 (180 + 4 * i) = 1 ∧ A 7 (180 + 4 * i + 1) = a ∧ lv i ≠ 0
  have hwq : ∀ i, i < m → mk i → A 7 (180 + 4 * i + 2) = Int32.ofNat (zN A 7 (180 + 4 * i + 2)) ∧ A 7 (180 + 4 * i + 3) = Int32.ofNat (zN A 7 (180 + 4 * i + 3)) ∧ zN A 7 (180 + 4 * i + 2) < 100 ∧ zN A 7 (180 + 4 * i + 3) < 100 := fun i hi hk => by
    obtain ⟨q1, q2⟩ := (w6 i (show i < (A 7 2).toNatClampNeg by unfold zN at hm; omega)).2 hk.1
    have b1 : zN A 7 (180 + 4 * i + 2) ≤ 99 := q1.2
    have b2 : zN A 7 (180 + 4 * i + 3) ≤ 99 := q2.2
    exact ⟨q1.1, q2.1, by omega, by omega⟩
  have isM : ∀ i, i < m → (mk i ∧ f_X0_isMark F (ad 0) (Int32.ofNat i) a (Int32.ofNat m) (cM X ad σ B) = some 1) ∨ (¬ mk i ∧ f_X0_isMark F (ad 0) (Int32.ofNat i) a (Int32.ofNat m) (cM X ad σ B) = some 0) := fun i hi => by
    obtain ⟨q1, q2, q3, q4, q5, q6⟩ := hC.lg (X := X) (F := F) hA ll (show i < zN A 7 2 by omega)
    obtain ⟨l1, l2, -⟩ := hlv i hi
    unfold f_X0_isMark
    simp (disch := omega) only [Option.bind_some, Option.bind_none, nmE, n_pp, n_pl, n_lp, n_mm, n_ml, n_lm, csI_s, csI_n, csI_2, csA_1, csA_s, csA_n, csA_2, csL_1, csL_2, csL_s, csL_n, csL_3, csQ_1, csQ_2, csQ_3, csQ_s, csQ_n, nar0, c_le, c_le_l, c_le_r, c_lt, c_lt_l, c_lt_r, c_eq, c_eq_l, c_eq_r, if_true, if_false, if_pos, if_neg, o0_4 hA, o46_5 hA, oc52 hA, oc0 hA, q1, q2, q3, q4, l2]
    by_cases h1 : A 7 (180 + 4 * i) = 1
    · rw [if_pos h1]
      by_cases h2 : A 7 (180 + 4 * i + 1) = a
      · rw [if_pos h2]
        by_cases h3 : lv i = 0
        · rw [if_pos h3]; exact Or.inr ⟨fun q => q.2.2 h3, rfl⟩
        · rw [if_neg h3]; exact Or.inl ⟨⟨h1, h2, h3⟩, rfl⟩
      · rw [if_neg h2]; exact Or.inr ⟨fun q => h2 q.2.1, rfl⟩
    · rw [if_neg h1]; exact Or.inr ⟨fun q => h1 q.1, rfl⟩
  let ok : Nat → Nat → Prop := fun j i => dst (zN A 7 (180 + 4 * j + 3)) (zN A 7 (180 + 4 * i + 3)) ≤ s * dst (zN A 7 (180 + 4 * j + 2)) (zN A 7 (180 + 4 * i + 2))
  have inner : ∀ (j : Nat), j < m → mk j → ∀ (KC KT : Option Int32) (l1 u1 l2 u2 : Int32) (d v fc ft : Nat), v + d = j → d < fc → d < ft → ((∀ i, v ≤ i → i < j → mk i → ok j i) ∧ f_X0_ends_L91 F KC (ad 0) a (Int32.ofNat p) (Int32.ofNat s) (Int32.ofNat m) l1 u1 (Int32.ofNat j) (ad (1600 + j)) (cM X ad σ B) fc (Int32.ofNat v) = KC ∧ t_X9_ends_L186 F KT a (Int32.ofNat p) (Int32.ofNat s) (Int32.ofNat m) l2 u2 (Int32.ofNat j) (Int32.ofNat (180 + 4 * j)) τ ft (Int32.ofNat v) = KT) ∨ (f_X0_ends_L91 F KC (ad 0) a (Int32.ofNat p) (Int32.ofNat s) (Int32.ofNat m) l1 u1 (Int32.ofNat j) (ad (1600 + j)) (cM X ad σ B) fc (Int32.ofNat v) = some (-2) ∧ t_X9_ends_L186 F KT a (Int32.ofNat p) (Int32.ofNat s) (Int32.ofNat m) l2 u2 (Int32.ofNat j) (Int32.ofNat (180 + 4 * j)) τ ft (Int32.ofNat v) = some (-2)) := by
    intro j hj hkj KC KT l1 u1 l2 u2 d
    obtain ⟨j1, j2, j3, j4, j5, j6⟩ := hC.lg (X := X) (F := F) hA ll (show j < zN A 7 2 by omega)
    obtain ⟨eqj, ewj, lqj, lwj⟩ := hwq j hj hkj
    rw [eqj] at j5
    rw [ewj] at j6
    induction d with
    | zero =>
      intro v fc ft hv hfc hft
      obtain ⟨fc, rfl⟩ : ∃ m, fc = m + 1 := ⟨fc - 1, by omega⟩
      obtain ⟨ft, rfl⟩ : ∃ m, ft = m + 1 := ⟨ft - 1, by omega⟩
      refine Or.inl ⟨fun i h1 h2 => by omega, ?_, ?_⟩
      · show f_X0_ends_L91_b F KC (ad 0) a (Int32.ofNat p) (Int32.ofNat s) (Int32.ofNat m) l1 u1 (Int32.ofNat j) (ad (1600 + j)) (cM X ad σ B) (f_X0_ends_L91 F KC (ad 0) a (Int32.ofNat p) (Int32.ofNat s) (Int32.ofNat m) l1 u1 (Int32.ofNat j) (ad (1600 + j)) (cM X ad σ B) fc) (Int32.ofNat v) = _
        unfold f_X0_ends_L91_b
        simp (disch := omega) only [Option.bind_some, Option.bind_none, nmE, n_pp, n_pl, n_lp, n_mm, n_ml, n_lm, csI_s, csI_n, csI_2, csA_1, csA_s, csA_n, csA_2, csL_1, csL_2, csL_s, csL_n, csL_3, csQ_1, csQ_2, csQ_3, csQ_s, csQ_n, nar0, c_le, c_le_l, c_le_r, c_lt, c_lt_l, c_lt_r, c_eq, c_eq_l, c_eq_r, if_true, if_false, if_pos, if_neg]
      · show t_X9_ends_L186_b F KT a (Int32.ofNat p) (Int32.ofNat s) (Int32.ofNat m) l2 u2 (Int32.ofNat j) (Int32.ofNat (180 + 4 * j)) τ (t_X9_ends_L186 F KT a (Int32.ofNat p) (Int32.ofNat s) (Int32.ofNat m) l2 u2 (Int32.ofNat j) (Int32.ofNat (180 + 4 * j)) τ ft) (Int32.ofNat v) = _
        unfold t_X9_ends_L186_b
        simp (disch := omega) only [Option.bind_some, Option.bind_none, nmE, n_pp, n_pl, n_lp, n_mm, n_ml, n_lm, taI_n, taI_l, tsA_n, tsA_l, nar0, twA_1, twA_s, twA_n, twA_2, twA_twA, tsI_s, tsI_n, tsI_2, c_le, c_le_l, c_le_r, c_lt, c_lt_l, c_lt_r, c_eq, c_eq_l, c_eq_r, if_true, if_false, if_pos, if_neg]
    | succ d ih =>
      intro v fc ft hv hfc hft
      obtain ⟨fc, rfl⟩ : ∃ m, fc = m + 1 := ⟨fc - 1, by omega⟩
      obtain ⟨ft, rfl⟩ : ∃ m, ft = m + 1 := ⟨ft - 1, by omega⟩
      have hvm : v < m := by omega
      obtain ⟨q1, q2, q3, q4, q5, q6⟩ := hC.lg (X := X) (F := F) hA ll (show v < zN A 7 2 by omega)
      obtain ⟨g1, g2, g3⟩ := hlv v hvm
      have sC : f_X0_ends_L91 F KC (ad 0) a (Int32.ofNat p) (Int32.ofNat s) (Int32.ofNat m) l1 u1 (Int32.ofNat j) (ad (1600 + j)) (cM X ad σ B) (fc + 1) (Int32.ofNat v) = f_X0_ends_L91_b F KC (ad 0) a (Int32.ofNat p) (Int32.ofNat s) (Int32.ofNat m) l1 u1 (Int32.ofNat j) (ad (1600 + j)) (cM X ad σ B) (f_X0_ends_L91 F KC (ad 0) a (Int32.ofNat p) (Int32.ofNat s) (Int32.ofNat m) l1 u1 (Int32.ofNat j) (ad (1600 + j)) (cM X ad σ B) fc) (Int32.ofNat v) := rfl
      have sT : t_X9_ends_L186 F KT a (Int32.ofNat p) (Int32.ofNat s) (Int32.ofNat m) l2 u2 (Int32.ofNat j) (Int32.ofNat (180 + 4 * j)) τ (ft + 1) (Int32.ofNat v) = t_X9_ends_L186_b F KT a (Int32.ofNat p) (Int32.ofNat s) (Int32.ofNat m) l2 u2 (Int32.ofNat j) (Int32.ofNat (180 + 4 * j)) τ (t_X9_ends_L186 F KT a (Int32.ofNat p) (Int32.ofNat s) (Int32.ofNat m) l2 u2 (Int32.ofNat j) (Int32.ofNat (180 + 4 * j)) τ ft) (Int32.ofNat v) := rfl
      unfold f_X0_ends_L91_b at sC
      unfold t_X9_ends_L186_b at sT
      simp (disch := omega) only [Option.bind_some, Option.bind_none, nmE, n_pp, n_pl, n_lp, n_mm, n_ml, n_lm, taI_n, taI_l, tsA_n, tsA_l, nar0, twA_1, twA_s, twA_n, twA_2, twA_twA, tsI_s, tsI_n, tsI_2, c_le, c_le_l, c_le_r, c_lt, c_lt_l, c_lt_r, c_eq, c_eq_l, c_eq_r, if_true, if_false, if_pos, if_neg, hT.2 7 rfl, g3] at sT
      rcases isM v hvm with ⟨hk, eM⟩ | ⟨hk, eM⟩
      · obtain ⟨eqv, ewv, lqv, lwv⟩ := hwq v hvm hk
        rw [eqv] at q5
        rw [ewv] at q6
        have d1 := dst_b lqj lqv
        have d2 := dst_b lwj lwv
        have d3 := mul_b hs d1
        have nlt : ¬ j ≤ v := by omega
        simp (disch := omega) only [Option.bind_some, Option.bind_none, nmE, n_pp, n_pl, n_lp, n_mm, n_ml, n_lm, csI_s, csI_n, csI_2, csA_1, csA_s, csA_n, csA_2, csL_1, csL_2, csL_s, csL_n, csL_3, csQ_1, csQ_2, csQ_3, csQ_s, csQ_n, nar0, c_le, c_le_l, c_le_r, c_lt, c_lt_l, c_lt_r, c_eq, c_eq_l, c_eq_r, if_true, if_false, if_pos, if_neg, o0_4 hA, o46_5 hA, oc52 hA, oc0 hA, q1, q2, q5, q6, j5, j6, eM, ab_n] at sC
        rw [if_neg (show ¬ (1 : Int32) = 0 by decide)] at sC
        rw [if_pos hk.1, if_pos hk.2.1, if_neg hk.2.2, ewv, ewj, eqv, eqj, apart_n (by omega) (by omega), apart_n (by omega) (by omega)] at sT
        rw [dst_s (zN A 7 (180 + 4 * v + 3)), dst_s (zN A 7 (180 + 4 * v + 2))] at sT
        simp (disch := omega) only [Option.bind_some, Option.bind_none, nmE, n_pp, n_pl, n_lp, n_mm, n_ml, n_lm, taI_n, taI_l, tsA_n, tsA_l, nar0, twA_1, twA_s, twA_n, twA_2, twA_twA, tsI_s, tsI_n, tsI_2, c_le, c_le_l, c_le_r, c_lt, c_lt_l, c_lt_r, c_eq, c_eq_l, c_eq_r, if_true, if_false, if_pos, if_neg] at sT
        by_cases hok : ok j v
        · rw [if_pos hok] at sC sT
          rcases ih (v + 1) fc ft (by omega) (by omega) (by omega) with ⟨h1, h2, h3⟩ | ⟨h2, h3⟩
          · refine Or.inl ⟨fun i hi1 hi2 hki => ?_, sC.trans h2, sT.trans h3⟩
            by_cases e : i = v
            · rw [e]; exact hok
            · exact h1 i (by omega) hi2 hki
          · exact Or.inr ⟨sC.trans h2, sT.trans h3⟩
        · rw [if_neg hok] at sC sT
          exact Or.inr ⟨sC, sT⟩
      · simp (disch := omega) only [Option.bind_some, Option.bind_none, nmE, n_pp, n_pl, n_lp, n_mm, n_ml, n_lm, csI_s, csI_n, csI_2, csA_1, csA_s, csA_n, csA_2, csL_1, csL_2, csL_s, csL_n, csL_3, csQ_1, csQ_2, csQ_3, csQ_s, csQ_n, nar0, c_le, c_le_l, c_le_r, c_lt, c_lt_l, c_lt_r, c_eq, c_eq_l, c_eq_r, if_true, if_false, if_pos, if_neg, o0_4 hA, o46_5 hA, oc52 hA, oc0 hA, q1, q2, eM] at sC
        have sT' : t_X9_ends_L186 F KT a (Int32.ofNat p) (Int32.ofNat s) (Int32.ofNat m) l2 u2 (Int32.ofNat j) (Int32.ofNat (180 + 4 * j)) τ (ft + 1) (Int32.ofNat v) = t_X9_ends_L186 F KT a (Int32.ofNat p) (Int32.ofNat s) (Int32.ofNat m) l2 u2 (Int32.ofNat j) (Int32.ofNat (180 + 4 * j)) τ ft (Int32.ofNat (v + 1)) := by
          rw [sT]
          by_cases k1 : A 7 (180 + 4 * v) = 1
          · rw [if_pos k1]
            by_cases k2 : A 7 (180 + 4 * v + 1) = a
            · rw [if_pos k2]
              by_cases k3 : lv v = 0
              · rw [if_pos k3]
              · exact absurd ⟨k1, k2, k3⟩ hk
            · rw [if_neg k2]
          · rw [if_neg k1]
        rcases ih (v + 1) fc ft (by omega) (by omega) (by omega) with ⟨h1, h2, h3⟩ | ⟨h2, h3⟩
        · refine Or.inl ⟨fun i hi1 hi2 hki => ?_, sC.trans h2, sT'.trans h3⟩
          by_cases e : i = v
          · rw [e] at hki; exact absurd hki hk
          · exact h1 i (by omega) hi2 hki
        · exact Or.inr ⟨sC.trans h2, sT'.trans h3⟩
  have key : ∀ (d v fc ft l u : Nat), v + d = m → d < fc → d < ft → l ≤ 99 → u ≤ 99 → (∀ i k, i < v → k < v → mk i → mk k → k < i → ok i k) → (l = 0 ∨ ∃ i, i < v ∧ mk i ∧ l + s * dst p (zN A 7 (180 + 4 * i + 2)) = zN A 7 (180 + 4 * i + 3)) → (u = 99 ∨ ∃ i, i < v ∧ mk i ∧ u = zN A 7 (180 + 4 * i + 3) + s * dst p (zN A 7 (180 + 4 * i + 2))) → ∃ r, f_X0_ends_L49 F (ad 0) a (Int32.ofNat p) (Int32.ofNat s) (Int32.ofNat m) (cM X ad σ B) fc (Int32.ofNat l) (Int32.ofNat u) (Int32.ofNat v) = some r ∧ t_X9_ends_L49 F a (Int32.ofNat p) (Int32.ofNat s) (Int32.ofNat m) τ ft (Int32.ofNat l) (Int32.ofNat u) (Int32.ofNat v) = some r := by
    intro d
    induction d with
    | zero =>
      intro v fc ft l u hv hfc hft ll99 lu99 hO hL hU
      obtain ⟨fc, rfl⟩ : ∃ m, fc = m + 1 := ⟨fc - 1, by omega⟩
      obtain ⟨ft, rfl⟩ : ∃ m, ft = m + 1 := ⟨ft - 1, by omega⟩
      have hlu : l ≤ u := by
        rcases hL with hL | ⟨i, hi, ki, ei⟩
        · omega
        · obtain ⟨-, -, -, bi⟩ := hwq i (by omega) ki
          rcases hU with hU | ⟨k, hk, kk, ek⟩
          · omega
          · have hd : dst (zN A 7 (180 + 4 * i + 3)) (zN A 7 (180 + 4 * k + 3)) ≤ s * dst p (zN A 7 (180 + 4 * i + 2)) + s * dst p (zN A 7 (180 + 4 * k + 2)) := by
              by_cases e : k < i
              · exact Nat.le_trans (hO i k hi hk ki kk e) tri
              · by_cases e2 : i < k
                · have h1 : dst (zN A 7 (180 + 4 * k + 3)) (zN A 7 (180 + 4 * i + 3)) ≤ s * dst (zN A 7 (180 + 4 * k + 2)) (zN A 7 (180 + 4 * i + 2)) := hO k i hk hi kk ki e2
                  rw [dst_s, dst_s (zN A 7 (180 + 4 * k + 2))] at h1
                  exact Nat.le_trans h1 tri
                · have : i = k := by omega
                  rw [this]
                  have : dst (zN A 7 (180 + 4 * k + 3)) (zN A 7 (180 + 4 * k + 3)) = 0 := by unfold dst; omega
                  rw [this]
                  exact Nat.zero_le _
            have hw : zN A 7 (180 + 4 * i + 3) ≤ zN A 7 (180 + 4 * k + 3) + dst (zN A 7 (180 + 4 * i + 3)) (zN A 7 (180 + 4 * k + 3)) := by unfold dst; omega
            omega
      refine ⟨100 * Int32.ofNat l + Int32.ofNat u, ?_, ?_⟩
      · show f_X0_ends_L49_b F (ad 0) a (Int32.ofNat p) (Int32.ofNat s) (Int32.ofNat m) (cM X ad σ B) (f_X0_ends_L49 F (ad 0) a (Int32.ofNat p) (Int32.ofNat s) (Int32.ofNat m) (cM X ad σ B) fc) (Int32.ofNat l) (Int32.ofNat u) (Int32.ofNat v) = _
        unfold f_X0_ends_L49_b
        rw [if_pos ((c_le m v (by omega) (by omega)).2 (by omega))]
      · show t_X9_ends_L49_b F a (Int32.ofNat p) (Int32.ofNat s) (Int32.ofNat m) τ (t_X9_ends_L49 F a (Int32.ofNat p) (Int32.ofNat s) (Int32.ofNat m) τ ft) (Int32.ofNat l) (Int32.ofNat u) (Int32.ofNat v) = _
        unfold t_X9_ends_L49_b
        rw [if_pos ((c_le m v (by omega) (by omega)).2 (by omega)), if_pos ((c_le l u (by omega) (by omega)).2 hlu)]
    | succ d ih =>
      intro v fc ft l u hv hfc hft ll99 lu99 hO hL hU
      obtain ⟨fc, rfl⟩ : ∃ m, fc = m + 1 := ⟨fc - 1, by omega⟩
      obtain ⟨ft, rfl⟩ : ∃ m, ft = m + 1 := ⟨ft - 1, by omega⟩
      have hvm : v < m := by omega
      obtain ⟨q1, q2, q3, q4, q5, q6⟩ := hC.lg (X := X) (F := F) hA ll (show v < zN A 7 2 by omega)
      obtain ⟨g1, g2, g3⟩ := hlv v hvm
      have sC : f_X0_ends_L49 F (ad 0) a (Int32.ofNat p) (Int32.ofNat s) (Int32.ofNat m) (cM X ad σ B) (fc + 1) (Int32.ofNat l) (Int32.ofNat u) (Int32.ofNat v) = f_X0_ends_L49_b F (ad 0) a (Int32.ofNat p) (Int32.ofNat s) (Int32.ofNat m) (cM X ad σ B) (f_X0_ends_L49 F (ad 0) a (Int32.ofNat p) (Int32.ofNat s) (Int32.ofNat m) (cM X ad σ B) fc) (Int32.ofNat l) (Int32.ofNat u) (Int32.ofNat v) := rfl
      have sT : t_X9_ends_L49 F a (Int32.ofNat p) (Int32.ofNat s) (Int32.ofNat m) τ (ft + 1) (Int32.ofNat l) (Int32.ofNat u) (Int32.ofNat v) = t_X9_ends_L49_b F a (Int32.ofNat p) (Int32.ofNat s) (Int32.ofNat m) τ (t_X9_ends_L49 F a (Int32.ofNat p) (Int32.ofNat s) (Int32.ofNat m) τ ft) (Int32.ofNat l) (Int32.ofNat u) (Int32.ofNat v) := rfl
      unfold f_X0_ends_L49_b at sC
      unfold t_X9_ends_L49_b at sT
      simp (disch := omega) only [Option.bind_some, Option.bind_none, nmE, n_pp, n_pl, n_lp, n_mm, n_ml, n_lm, taI_n, taI_l, tsA_n, tsA_l, nar0, twA_1, twA_s, twA_n, twA_2, twA_twA, tsI_s, tsI_n, tsI_2, c_le, c_le_l, c_le_r, c_lt, c_lt_l, c_lt_r, c_eq, c_eq_l, c_eq_r, if_true, if_false, if_pos, if_neg, hT.2 7 rfl, g3] at sT
      rcases isM v hvm with ⟨hk, eM⟩ | ⟨hk, eM⟩
      · obtain ⟨eqv, ewv, lqv, lwv⟩ := hwq v hvm hk
        rw [eqv] at q5
        rw [ewv] at q6
        have d1 := dst_b hp lqv
        have d3 := mul_b hs d1
        simp (disch := omega) only [Option.bind_some, Option.bind_none, nmE, n_pp, n_pl, n_lp, n_mm, n_ml, n_lm, csI_s, csI_n, csI_2, csA_1, csA_s, csA_n, csA_2, csL_1, csL_2, csL_s, csL_n, csL_3, csQ_1, csQ_2, csQ_3, csQ_s, csQ_n, nar0, c_le, c_le_l, c_le_r, c_lt, c_lt_l, c_lt_r, c_eq, c_eq_l, c_eq_r, if_true, if_false, if_pos, if_neg, o0_4 hA, o46_5 hA, oc52 hA, oc0 hA, q1, q2, q5, q6, eM, ab_n] at sC
        rw [if_neg (show ¬ (1 : Int32) = 0 by decide)] at sC
        rw [mx_sub (by omega) (by omega) (by omega), mn_n (by omega) (by omega)] at sC
        rw [if_pos hk.1, if_pos hk.2.1, if_neg hk.2.2, eqv, ewv, apart_n (by omega) (by omega), dst_s (zN A 7 (180 + 4 * v + 2))] at sT
        simp (disch := omega) only [Option.bind_some, Option.bind_none, nmE, n_pp, n_pl, n_lp, n_mm, n_ml, n_lm, taI_n, taI_l, tsA_n, tsA_l, nar0, twA_1, twA_s, twA_n, twA_2, twA_twA, tsI_s, tsI_n, tsI_2, c_le, c_le_l, c_le_r, c_lt, c_lt_l, c_lt_r, c_eq, c_eq_l, c_eq_r, if_true, if_false, if_pos, if_neg] at sT
        obtain ⟨D, hD⟩ : ∃ D, D = s * dst p (zN A 7 (180 + 4 * v + 2)) := ⟨_, rfl⟩
        obtain ⟨w, hw⟩ : ∃ w, w = zN A 7 (180 + 4 * v + 3) := ⟨_, rfl⟩
        rw [← hD] at sC sT d3
        rw [← hw] at sC sT lwv
        have sT1 : t_X9_ends_L49 F a (Int32.ofNat p) (Int32.ofNat s) (Int32.ofNat m) τ (ft + 1) (Int32.ofNat l) (Int32.ofNat u) (Int32.ofNat v) = t_X9_ends_j152 F (t_X9_ends_L49 F a (Int32.ofNat p) (Int32.ofNat s) (Int32.ofNat m) τ ft) a (Int32.ofNat p) (Int32.ofNat s) (Int32.ofNat m) (Int32.ofNat (max l (w - D))) (Int32.ofNat u) (Int32.ofNat v) (Int32.ofNat (180 + 4 * v)) (Int32.ofNat D) τ := by
          rw [sT]
          by_cases h : w ≤ l + D
          · rw [if_pos ((sub_le (by omega) (by omega) (by omega)).2 h), Nat.max_eq_left (by omega)]
          · rw [if_neg (fun q => h ((sub_le (by omega) (by omega) (by omega)).1 q)), n_ss _ _ (by omega), Nat.max_eq_right (by omega)]
        have sT2 : t_X9_ends_L49 F a (Int32.ofNat p) (Int32.ofNat s) (Int32.ofNat m) τ (ft + 1) (Int32.ofNat l) (Int32.ofNat u) (Int32.ofNat v) = t_X9_ends_L186 F (t_X9_ends_L49 F a (Int32.ofNat p) (Int32.ofNat s) (Int32.ofNat m) τ ft (Int32.ofNat (max l (w - D))) (Int32.ofNat (min u (w + D))) (Int32.ofNat (v + 1))) a (Int32.ofNat p) (Int32.ofNat s) (Int32.ofNat m) (Int32.ofNat (max l (w - D))) (Int32.ofNat (min u (w + D))) (Int32.ofNat v) (Int32.ofNat (180 + 4 * v)) τ F (Int32.ofNat 0) := by
          rw [sT1]
          unfold t_X9_ends_j152
          simp (disch := omega) only [Option.bind_some, Option.bind_none, nmE, n_pp, n_pl, n_lp, n_mm, n_ml, n_lm, taI_n, taI_l, tsA_n, tsA_l, nar0, twA_1, twA_s, twA_n, twA_2, twA_twA, tsI_s, tsI_n, tsI_2, c_le, c_le_l, c_le_r, c_lt, c_lt_l, c_lt_r, c_eq, c_eq_l, c_eq_r, if_true, if_false, if_pos, if_neg, hT.2 7 rfl]
          rw [ewv, ← hw]
          simp (disch := omega) only [Option.bind_some, Option.bind_none, nmE, n_pp, n_pl, n_lp, n_mm, n_ml, n_lm, taI_n, taI_l, tsA_n, tsA_l, nar0, twA_1, twA_s, twA_n, twA_2, twA_twA, tsI_s, tsI_n, tsI_2, c_le, c_le_l, c_le_r, c_lt, c_lt_l, c_lt_r, c_eq, c_eq_l, c_eq_r, if_true, if_false, if_pos, if_neg]
          by_cases h : u ≤ w + D
          · rw [if_pos h, Nat.min_eq_left h]
            rfl
          · rw [if_neg h, Nat.min_eq_right (by omega)]
            rfl
        have next := ih (v + 1) fc ft (max l (w - D)) (min u (w + D)) (by omega) (by omega) (by omega) (by omega) (by omega)
        rcases inner v hvm hk (f_X0_ends_L49 F (ad 0) a (Int32.ofNat p) (Int32.ofNat s) (Int32.ofNat m) (cM X ad σ B) fc (Int32.ofNat (max l (w - D))) (Int32.ofNat (min u (w + D))) (Int32.ofNat (v + 1))) (t_X9_ends_L49 F a (Int32.ofNat p) (Int32.ofNat s) (Int32.ofNat m) τ ft (Int32.ofNat (max l (w - D))) (Int32.ofNat (min u (w + D))) (Int32.ofNat (v + 1))) (Int32.ofNat l) (Int32.ofNat u) (Int32.ofNat (max l (w - D))) (Int32.ofNat (min u (w + D))) v 0 F F (by omega) (by omega) (by omega) with ⟨h1, h2, h3⟩ | ⟨h2, h3⟩
        · rw [sC.trans h2, sT2.trans h3]
          refine next (fun i k hi hk2 ki kk hik => ?_) ?_ ?_
          · by_cases e : i = v
            · rw [e]; exact h1 k (Nat.zero_le _) (by omega) kk
            · exact hO i k (by omega) (by omega) ki kk hik
          · by_cases e : w ≤ l + D
            · rw [Nat.max_eq_left (by omega)]
              rcases hL with h | ⟨i, p1, p2⟩
              · exact Or.inl h
              · exact Or.inr ⟨i, by omega, p2⟩
            · rw [Nat.max_eq_right (by omega)]
              exact Or.inr ⟨v, by omega, hk, by omega⟩
          · by_cases e : u ≤ w + D
            · rw [Nat.min_eq_left e]
              rcases hU with h | ⟨i, p1, p2⟩
              · exact Or.inl h
              · exact Or.inr ⟨i, by omega, p2⟩
            · rw [Nat.min_eq_right (by omega)]
              exact Or.inr ⟨v, by omega, hk, by omega⟩
        · exact ⟨-2, sC.trans h2, sT2.trans h3⟩
      · simp (disch := omega) only [Option.bind_some, Option.bind_none, nmE, n_pp, n_pl, n_lp, n_mm, n_ml, n_lm, csI_s, csI_n, csI_2, csA_1, csA_s, csA_n, csA_2, csL_1, csL_2, csL_s, csL_n, csL_3, csQ_1, csQ_2, csQ_3, csQ_s, csQ_n, nar0, c_le, c_le_l, c_le_r, c_lt, c_lt_l, c_lt_r, c_eq, c_eq_l, c_eq_r, if_true, if_false, if_pos, if_neg, o0_4 hA, o46_5 hA, oc52 hA, oc0 hA, q1, q2, eM] at sC
        have sT' : t_X9_ends_L49 F a (Int32.ofNat p) (Int32.ofNat s) (Int32.ofNat m) τ (ft + 1) (Int32.ofNat l) (Int32.ofNat u) (Int32.ofNat v) = t_X9_ends_L49 F a (Int32.ofNat p) (Int32.ofNat s) (Int32.ofNat m) τ ft (Int32.ofNat l) (Int32.ofNat u) (Int32.ofNat (v + 1)) := by
          rw [sT]
          by_cases k1 : A 7 (180 + 4 * v) = 1
          · rw [if_pos k1]
            by_cases k2 : A 7 (180 + 4 * v + 1) = a
            · rw [if_pos k2]
              by_cases k3 : lv v = 0
              · rw [if_pos k3]
              · exact absurd ⟨k1, k2, k3⟩ hk
            · rw [if_neg k2]
          · rw [if_neg k1]
        rw [sC, sT']
        refine ih (v + 1) fc ft l u (by omega) (by omega) (by omega) ll99 lu99 (fun i k hi hk2 ki kk hik => ?_) ?_ ?_
        · have n1 : i ≠ v := fun e => hk (by rw [← e]; exact ki)
          have n2 : k ≠ v := fun e => hk (by rw [← e]; exact kk)
          exact hO i k (by omega) (by omega) ki kk hik
        · rcases hL with h | ⟨i, h1, h2⟩
          · exact Or.inl h
          · exact Or.inr ⟨i, by omega, h2⟩
        · rcases hU with h | ⟨i, h1, h2⟩
          · exact Or.inl h
          · exact Or.inr ⟨i, by omega, h2⟩
  exact key m 0 F F 0 99 (Nat.zero_add _) (by omega) (by omega) (by omega) (by omega) (fun i k h => absurd h (Nat.not_lt_zero i)) (Or.inl rfl) (Or.inl rfl)
theorem st_38 (hF : 1000000 ≤ F) (h : INV ad B A σ τ) (x : Nat → Int32) : ST F 38 x X ad B σ τ := by
  have hI := h
  obtain ⟨hE, hK, hC, hT⟩ := h
  have hA := hE.1
  obtain ⟨el, ll⟩ := hE.2.2.nl
  have v99 : ∀ y : Int32, (((0 : Int32).toInt ≤ y.toInt ∧ y.toInt ≤ (99 : Int32).toInt) ↔ inN y 100) := fun y => by
    show ((0 : Int) ≤ y.toInt ∧ y.toInt ≤ 99) ↔ (0 : Int) ≤ y.toInt ∧ y.toInt < 100
    omega
  have e1 : ∃ r, f_X0_ends F (ad 0) (x 1) (x 2) (x 3) (x 4) (cM X ad σ B) = some r ∧ t_X9_ends F (x 1) (x 2) (x 3) (x 4) τ = some r := by
    unfold f_X0_ends t_X9_ends
    rw [oc0 hA, Option.bind_some, isHouse_C hE, Option.bind_some, gd, within_v _ (v99 (x 2)), Option.bind_some, gd, within_v _ (v99 (x 3)), Option.bind_some, gd, Option.bind_some, isKnown_C hA hC ll, Option.bind_some, gd]
    rw [isHouse_T hE.2.2 hT, Option.bind_some, gd, isIn_v _ (v99 (x 2)), Option.bind_some, gd, isIn_v _ (v99 (x 3)), Option.bind_some, gd, isKnown_T hE.2.2 hT, Option.bind_some, gd]
    by_cases c1 : inN (x 1) (zN A 6 0)
    · rw [if_pos c1, if_pos c1]
      by_cases c2 : inN (x 2) 100
      · rw [if_pos c2, if_pos c2]
        by_cases c3 : inN (x 3) 100
        · rw [if_pos c3, if_pos c3]
          by_cases c4 : inN (x 4) (zN A 7 2 + 1)
          · rw [if_pos c4, if_pos c4]
            obtain ⟨p, hp, e2⟩ := c2.ex
            obtain ⟨s, hs, e3⟩ := c3.ex
            obtain ⟨m, hm, e4⟩ := c4.ex
            rw [e2, e3, e4]
            exact ends_CT (by omega) hE hC hT (by omega) hp hs
          · rw [if_neg c4, if_neg c4]; exact ⟨_, rfl, rfl⟩
        · rw [if_neg c3, if_neg c3]; exact ⟨_, rfl, rfl⟩
      · rw [if_neg c2, if_neg c2]; exact ⟨_, rfl, rfl⟩
    · rw [if_neg c1, if_neg c1]; exact ⟨_, rfl, rfl⟩
  obtain ⟨r, e1, e2⟩ := e1
  exact ST.ro hI (show (Option.bind (f_X0_ends F (ad 0) (x 1) (x 2) (x 3) (x 4) (cM X ad σ B)) fun r => some (r, cM X ad σ B)) = some (r, cM X ad σ B) by rw [e1]; rfl) (show (Option.bind (t_X9_ends F (x 1) (x 2) (x 3) (x 4) τ) fun r => some (r, τ)) = some (r, τ) by rw [e2]; rfl) hC hT
