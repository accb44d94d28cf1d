set_option maxRecDepth 100000
/-! posts: what is cheapest from a year on -/
variable {X : Nat → Option Ob} {ad ad' : Nat → Nat} {B B' : Sw} {A A' : Av} {σ σ' : Cs} {τ : Tw} {F : Nat}
def chg (e f h v w : Nat) : Nat := if v = w then 0 else if w ≤ v then h + (v - w) * f else h + (w - v) * e
def fin (g : Nat → Nat) : Nat → Nat → Nat → Nat
  | 0, acc, _ => acc
  | d + 1, acc, w => fin g d (min acc (g w)) (w + 1)
theorem fin_le (g : Nat → Nat) : ∀ d acc w, fin g d acc w ≤ acc := by
  intro d
  induction d with
  | zero => intro acc w; exact Nat.le_refl _
  | succ d ih =>
    intro acc w
    exact Nat.le_trans (ih (min acc (g w)) (w + 1)) (Nat.min_le_left _ _)
def pP (y : Nat → Nat) (up e f h n : Nat) : Nat → Nat → Nat
  | 0, _ => 0
  | d + 1, v => fin (fun w => chg e f h v w + pP y up e f h n d w) (min 99 (y (n - 1 - d) + up) - y (n - 1 - d)) (chg e f h v (y (n - 1 - d)) + pP y up e f h n d (y (n - 1 - d))) (y (n - 1 - d) + 1)
theorem chg_b {e f h v w : Nat} (he : e < 100) (hf : f < 100) (hh : h < 100) (hv : v < 100) (hw : w < 100) : chg e f h v w ≤ 10000 := by
  unfold chg
  split
  · omega
  · split
    · have := Nat.mul_le_mul (show v - w ≤ 99 by omega) (show f ≤ 99 by omega)
      omega
    · have := Nat.mul_le_mul (show w - v ≤ 99 by omega) (show e ≤ 99 by omega)
      omega
theorem pP_b {y : Nat → Nat} {up e f h n : Nat} (he : e < 100) (hf : f < 100) (hh : h < 100) (hy : ∀ i, i < n → y i < 100) : ∀ d v, d ≤ n → v < 100 → pP y up e f h n d v ≤ 10000 * d := by
  intro d
  induction d with
  | zero => intro v _ _; exact Nat.zero_le _
  | succ d ih =>
    intro v hd hv
    have hy1 := hy (n - 1 - d) (by omega)
    have h1 := ih (y (n - 1 - d)) (by omega) hy1
    have h2 := chg_b he hf hh hv hy1
    refine Nat.le_trans (fin_le _ _ _ _) ?_
    omega
theorem change_n {e f h v w : Nat} (he : e < 100) (hf : f < 100) (hh : h < 100) (hv : v < 100) (hw : w < 100) : p_X0_change F (Int32.ofNat v) (Int32.ofNat w) (Int32.ofNat e) (Int32.ofNat f) (Int32.ofNat h) = some (Int32.ofNat (chg e f h v w)) := by
  unfold p_X0_change chg
  by_cases c1 : v = w
  · rw [if_pos c1, if_pos (by rw [c1])]
    rfl
  · rw [if_neg c1, if_neg (fun q => c1 ((c_eq v w (by omega) (by omega)).1 q))]
    by_cases c2 : w ≤ v
    · rw [if_pos c2, if_pos ((c_le w v (by omega) (by omega)).2 c2), n_ss _ _ c2, n_mm, n_pp]
    · rw [if_neg c2, if_neg (fun q => c2 ((c_le w v (by omega) (by omega)).1 q)), n_ss _ _ (by omega), n_mm, n_pp]
theorem stepCost_n {e f h v w : Nat} (he : e < 100) (hf : f < 100) (hh : h < 100) (hv : v < 100) (hw : w < 100) : p_X9_stepCost F (Int32.ofNat v) (Int32.ofNat w) (Int32.ofNat e) (Int32.ofNat f) (Int32.ofNat h) = some (Int32.ofNat (chg e f h v w)) := by
  unfold p_X9_stepCost chg
  by_cases c1 : v = w
  · rw [if_pos c1, if_pos (by rw [c1])]
    rfl
  · rw [if_neg c1, if_neg (fun q => c1 ((c_eq v w (by omega) (by omega)).1 q))]
    by_cases c2 : w ≤ v
    · rw [if_pos c2, if_pos ((c_le w v (by omega) (by omega)).2 c2), n_ss _ _ c2, n_mm, n_pp, Nat.mul_comm]
    · rw [if_neg c2, if_neg (fun q => c2 ((c_le w v (by omega) (by omega)).1 q)), n_ss _ _ (by omega), n_mm, n_pp, Nat.mul_comm]
theorem least_n {a b : Nat} (ha : a < 2147483648) (hb : b < 2147483648) : p_X9_least F (Int32.ofNat a) (Int32.ofNat b) = some (Int32.ofNat (min a b)) := by
  unfold p_X9_least
  by_cases h : b ≤ a
  · rw [if_pos ((c_le b a hb ha).2 h), Nat.min_eq_right h]
  · rw [if_neg (fun q => h ((c_le b a hb ha).1 q)), Nat.min_eq_left (by omega)]
/-- the rows from r on are laid -/
abbrev yL (A : Av) : Nat → Nat := fun r => zN A 33 r
def FC (A : Av) (up e f h : Nat) (σ : Cs) (r : Nat) : Prop := ∀ q, r ≤ q → q ≤ zN A 0 50 → ∀ v, v < 100 → σ.2.1 (33 + q) v = Int32.ofNat (pP (yL A) up e f h (zN A 0 50) (zN A 0 50 - q) v)
theorem FC.a {up e f h r q : Nat} (hF : FC A up e f h σ r) (hq : q < r) {g : Nat → Int32} : FC A up e f h (csA σ (33 + q) g) r := fun p h1 h2 v hv => by
  rw [csA_n _ _ _ _ (by omega)]
  exact hF p h1 h2 v hv
theorem WF.yr (hW : WF A) : A 0 50 = Int32.ofNat (zN A 0 50) ∧ zN A 0 50 ≤ 12 ∧ ∀ i, i < zN A 0 50 → A 33 i = Int32.ofNat (yL A i) ∧ yL A i < 100 := by
  obtain ⟨n1, n2, n3, n4, n5, n6⟩ := hW.2.1
  refine ⟨n3.1, n3.2, fun i hi => ⟨(n4 i hi).1, ?_⟩⟩
  have : yL A i ≤ 99 := (n4 i hi).2
  omega
/-- the cheapest of a cell, one by one -/
theorem cell_C {up e f h : Nat} (hup : up < 100) (he : e < 100) (hf : f < 100) (hh : h < 100) (hE : EV ad B A) {r v : Nat} (hr : r < zN A 0 50) (hv : v < 100) {K : Sw → Option Sw} : ∀ (d w fc acc : Nat) (σ : Cs), w + d = min 99 (yL A r + up) + 1 → d < fc → yL A r ≤ w → CR ad B A σ → FC A up e f h σ (r + 1) → σ.2.1 (33 + r) v = Int32.ofNat acc → acc ≤ 1000000000 → ∃ g, f_X0_fillPosts_L74 F K (ad 0) (Int32.ofNat up) (Int32.ofNat e) (Int32.ofNat f) (Int32.ofNat h) (Int32.ofNat r) (Int32.ofNat v) fc (Int32.ofNat w) (cM X ad σ B) = K (cM X ad (csA σ (33 + r) g) B) ∧ (∀ u, u ≠ v → g u = σ.2.1 (33 + r) u) ∧ g v = Int32.ofNat (fin (fun w => chg e f h v w + pP (yL A) up e f h (zN A 0 50) (zN A 0 50 - (r + 1)) w) d acc w) := by
  have hA := hE.1
  obtain ⟨e50, l50, hy⟩ := hE.2.2.yr
  obtain ⟨eyr, lyr⟩ := hy r hr
  intro d
  induction d with
  | zero =>
    intro w fc acc σ hw hfc hyw hC hFC hcell hacc
    obtain ⟨fc, rfl⟩ : ∃ m, fc = m + 1 := ⟨fc - 1, by omega⟩
    refine ⟨σ.2.1 (33 + r), ?_, fun _ _ => rfl, hcell⟩
    rw [csA_id]
    show f_X0_fillPosts_L74_b F K (ad 0) (Int32.ofNat up) (Int32.ofNat e) (Int32.ofNat f) (Int32.ofNat h) (Int32.ofNat r) (Int32.ofNat v) (f_X0_fillPosts_L74 F K (ad 0) (Int32.ofNat up) (Int32.ofNat e) (Int32.ofNat f) (Int32.ofNat h) (Int32.ofNat r) (Int32.ofNat v) fc) (Int32.ofNat w) _ = _
    unfold f_X0_fillPosts_L74_b
    have e16 : σ.2.1 16 r = Int32.ofNat (yL A r) := by rw [hC.2.2.1 r hr]; exact eyr
    have m99 : mn 99 (Int32.ofNat (yL A r + up)) = Int32.ofNat (min 99 (yL A r + up)) := mn_n (a := 99) (by omega) (by omega)
    simp (disch := omega) only [Option.bind_some, Option.bind_none, nmE, n_pp, n_pl, n_lp, n_mm, n_ml, n_lm, csI_s, csI_n, csI_2, csA_1, csA_s, csA_n, csA_2, csL_1, csL_2, csL_s, csL_n, csL_3, csQ_1, csQ_2, csQ_3, csQ_s, csQ_n, nar0, c_le, c_le_l, c_le_r, c_lt, c_lt_l, c_lt_r, c_eq, c_eq_l, c_eq_r, if_true, if_false, if_pos, if_neg, o0_10 hA, a16 hA, e16, m99]
  | succ d ih =>
    intro w fc acc σ hw hfc hyw hC hFC hcell hacc
    obtain ⟨fc, rfl⟩ : ∃ m, fc = m + 1 := ⟨fc - 1, by omega⟩
    have e16 : σ.2.1 16 r = Int32.ofNat (yL A r) := by rw [hC.2.2.1 r hr]; exact eyr
    have m99 : mn 99 (Int32.ofNat (yL A r + up)) = Int32.ofNat (min 99 (yL A r + up)) := mn_n (a := 99) (by omega) (by omega)
    have w100 : w < 100 := by omega
    have n1 : ¬ min 99 (yL A r + up) < w := by omega
    have qr : σ.2.2.2 32 r = some (ad (33 + r)) := hC.2.2.2.2.2.2.2.2.1.2.2 r (by omega)
    have qr1 : σ.2.2.2 32 (r + 1) = some (ad (33 + (r + 1))) := hC.2.2.2.2.2.2.2.2.1.2.2 (r + 1) (by omega)
    have hrow := hFC (r + 1) (Nat.le_refl _) (by omega) w w100
    have hpb := pP_b (y := yL A) (up := up) he hf hh (fun i hi => (hy i hi).2) (zN A 0 50 - (r + 1)) w (by omega) w100
    have hcb := chg_b he hf hh hv w100
    obtain ⟨P, hP⟩ : ∃ P, P = pP (yL A) up e f h (zN A 0 50) (zN A 0 50 - (r + 1)) w := ⟨_, rfl⟩
    rw [← hP] at hrow hpb
    have hch : p_X0_change F (Int32.ofNat v) (Int32.ofNat w) (Int32.ofNat e) (Int32.ofNat f) (Int32.ofNat h) = some (Int32.ofNat (chg e f h v w)) := change_n he hf hh hv w100
    have hmn : mn (Int32.ofNat acc) (Int32.ofNat (chg e f h v w + P)) = Int32.ofNat (min acc (chg e f h v w + P)) := mn_n (by omega) (by omega)
    obtain ⟨g, c1, c2, c3⟩ := ih (w + 1) fc (min acc (chg e f h v w + P)) (csA σ (33 + r) (upd (σ.2.1 (33 + r)) v (Int32.ofNat (min acc (chg e f h v w + P))))) (by omega) (by omega) (by omega) (hC.a (by unfold scA; simp; omega)) (hFC.a (by omega)) (by rw [csA_s, up_s]) (by omega)
    refine ⟨g, ?_, fun u hu => ?_, ?_⟩
    · rw [csA_csA] at c1
      rw [← c1]
      show f_X0_fillPosts_L74_b F K (ad 0) (Int32.ofNat up) (Int32.ofNat e) (Int32.ofNat f) (Int32.ofNat h) (Int32.ofNat r) (Int32.ofNat v) (f_X0_fillPosts_L74 F K (ad 0) (Int32.ofNat up) (Int32.ofNat e) (Int32.ofNat f) (Int32.ofNat h) (Int32.ofNat r) (Int32.ofNat v) fc) (Int32.ofNat w) _ = _
      unfold f_X0_fillPosts_L74_b
      simp (disch := omega) only [Option.bind_some, Option.bind_none, nmE, n_pp, n_pl, n_lp, n_mm, n_ml, n_lm, csI_s, csI_n, csI_2, csA_1, csA_s, csA_n, csA_2, csL_1, csL_2, csL_s, csL_n, csL_3, csQ_1, csQ_2, csQ_3, csQ_s, csQ_n, nar0, c_le, c_le_l, c_le_r, c_lt, c_lt_l, c_lt_r, c_eq, c_eq_l, c_eq_r, if_true, if_false, if_pos, if_neg, o0_10 hA, o0_19 hA, a16 hA, e16, m99, q32r hA, qr, qr1, a_ps hA, s_ps hA, hcell, hch, hrow, hmn]
    · rw [c2 u hu, csA_s, up_n _ _ _ _ hu]
    · rw [c3, hP]
      rfl
