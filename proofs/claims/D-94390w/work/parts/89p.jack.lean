set_option maxRecDepth 100000
/-! 17: jack; the component's rows -/
variable {X : Nat → Option Ob} {ad ad' : Nat → Nat} {B B' : Sw} {A A' : Av} {σ σ' : Cs} {τ : Tw} {F : Nat}
def jL (A : Av) (k : Nat) : Nat := if k < zN A 6 5 then zN A 6 (170 + 2 * k) else 1
def jS (A : Av) (k : Nat) : Nat := if k < zN A 6 5 then zN A 7 (50 + k) else 0
def jP (A : Av) (M : Nat) : Nat → Nat → Nat
  | 0, v => if v = 0 then 0 else M
  | d + 1, v => fin (fun n => jP A M d (v - n * jL A (7 - d)) + n) (min (jS A (7 - d)) (v / jL A (7 - d)) + 1) M 0
theorem jP_le (A : Av) (M : Nat) : ∀ d v, jP A M d v ≤ M := by
  intro d
  cases d with
  | zero =>
    intro v
    show (if v = 0 then 0 else M) ≤ M
    split
    · exact Nat.zero_le _
    · exact Nat.le_refl _
  | succ d => exact fun v => fin_le _ _ _ _
theorem jL_b (hW : WF A) (k : Nat) : 1 ≤ jL A k ∧ jL A k ≤ 60 := by
  unfold jL
  split
  · next h => exact ⟨(hW.1.2.2.2.2.2 k h).2, (hW.1.2.2.2.2.2 k h).1.2⟩
  · omega
theorem jS_b (hW : WF A) (k : Nat) : jS A k ≤ 99 := by
  unfold jS
  split
  · next h => exact (hW.2.2.1.2.2.2.2.1 k (by have := hW.W.2; omega)).2
  · omega
theorem jP_row {M k v : Nat} (hk : k < 8) : jP A M (8 - k) v = fin (fun n => jP A M (8 - (k + 1)) (v - n * jL A k) + n) (min (jS A k) (v / jL A k) + 1) M 0 := by
  have e1 : 8 - k = (8 - (k + 1)) + 1 := by omega
  have e2 : 7 - (8 - (k + 1)) = k := by omega
  rw [e1]
  show fin (fun n => jP A M (8 - (k + 1)) (v - n * jL A (7 - (8 - (k + 1)))) + n) (min (jS A (7 - (8 - (k + 1)))) (v / jL A (7 - (8 - (k + 1)))) + 1) M 0 = _
  rw [e2]
theorem jP_hi {M k v : Nat} (hk : zN A 6 5 ≤ k) (hk8 : k ≤ 8) : jP A M (8 - k) v = if v = 0 then 0 else M := by
  obtain ⟨d, hd⟩ : ∃ d, d = 8 - k := ⟨_, rfl⟩
  have key : ∀ d, d ≤ 8 - zN A 6 5 → d ≤ 8 → ∀ v, jP A M d v = if v = 0 then 0 else M := by
    intro d
    induction d with
    | zero => intro _ _ v; rfl
    | succ d ih =>
      intro h1 h2 v
      have eS : jS A (7 - d) = 0 := if_neg (by omega)
      show fin (fun n => jP A M d (v - n * jL A (7 - d)) + n) (min (jS A (7 - d)) (v / jL A (7 - d)) + 1) M 0 = _
      rw [eS, Nat.zero_min]
      show min M (jP A M d (v - 0 * jL A (7 - d)) + 0) = _
      rw [Nat.zero_mul, Nat.sub_zero, Nat.add_zero, Nat.min_eq_right (jP_le A M d v)]
      exact ih (by omega) (by omega) v
  exact key (8 - k) (by omega) (by omega) v
def FJ (A : Av) (p : Nat) (σ : Cs) (r : Nat) : Prop := ∀ q, r ≤ q → q ≤ zN A 6 5 → ∀ v, v ≤ p → σ.2.1 (18 + q) v = Int32.ofNat (jP A 1000000000 (8 - q) v)
theorem le_dv {n l v : Nat} (hl : 1 ≤ l) : n ≤ v / l ↔ n * l ≤ v := Nat.le_div_iff_mul_le hl
theorem cellJ_C (hE : EV ad B A) {p k v : Nat} (hp : p < 100) (hk : k < zN A 6 5) (hv : v ≤ p) {K : Sw → Option Sw} {K2 : Sw → Option (Int32 × Sw)} : ∀ (d n fc acc : Nat) (σ : Cs), n + d = min (jS A k) (v / jL A k) + 1 → d < fc → CR ad B A σ → FJ A p σ (k + 1) → σ.2.1 (18 + k) v = Int32.ofNat acc → acc ≤ 1000000000 → ∃ g, f_X0_fewest_L94 F K2 (ad 0) (Int32.ofNat p) (Int32.ofNat k) (Int32.ofNat (jL A k)) (Int32.ofNat v) fc (Int32.ofNat n) (cM X ad σ B) = K2 (cM X ad (csA σ (18 + k) g) B) ∧ (∀ u, u ≠ v → g u = σ.2.1 (18 + k) u) ∧ g v = Int32.ofNat (fin (fun n => jP A 1000000000 (8 - (k + 1)) (v - n * jL A k) + n) d acc n) := by
  have hA := hE.1
  have hW := hE.2.2
  obtain ⟨eW, lW⟩ := hW.W
  obtain ⟨bl1, bl2⟩ := jL_b hW k
  have bs := jS_b hW k
  have eS : ∀ σ : Cs, CR ad B A σ → σ.2.1 49 k = Int32.ofNat (jS A k) := fun σ hC => by
    rw [hC.2.2.2.2.2.1 k (by omega)]
    have : jS A k = zN A 7 (50 + k) := if_pos hk
    rw [this]
    exact (hW.2.2.1.2.2.2.2.1 k (by omega)).1
  intro d
  induction d with
  | zero =>
    intro n fc acc σ hn hfc hC hFJ hcell hacc
    obtain ⟨fc, rfl⟩ : ∃ m, fc = m + 1 := ⟨fc - 1, by omega⟩
    refine ⟨σ.2.1 (18 + k), ?_, fun _ _ => rfl, hcell⟩
    rw [csA_id]
    show f_X0_fewest_L94_b F K2 (ad 0) (Int32.ofNat p) (Int32.ofNat k) (Int32.ofNat (jL A k)) (Int32.ofNat v) (f_X0_fewest_L94 F K2 (ad 0) (Int32.ofNat p) (Int32.ofNat k) (Int32.ofNat (jL A k)) (Int32.ofNat v) fc) (Int32.ofNat n) _ = _
    unfold f_X0_fewest_L94_b
    rw [o0_4 hA, Option.bind_some, o46_2 hA, Option.bind_some, a49 hA _ _ (by omega), Option.bind_some, eS σ hC]
    have nl : n * jL A k ≤ 100 * 60 := Nat.mul_le_mul (by omega) bl2
    by_cases h : jS A k < n
    · rw [if_pos ((c_lt _ _ (by omega) (by omega)).2 h)]
    · rw [if_neg (fun q => h ((c_lt _ _ (by omega) (by omega)).1 q)), n_mm]
      have h2 : v < n * jL A k := by
        apply Classical.byContradiction
        intro h3
        have := (le_dv (n := n) (v := v) bl1).2 (by omega)
        omega
      rw [if_pos ((c_lt _ _ (by omega) (by omega)).2 h2)]
  | succ d ih =>
    intro n fc acc σ hn hfc hC hFJ hcell hacc
    obtain ⟨fc, rfl⟩ : ∃ m, fc = m + 1 := ⟨fc - 1, by omega⟩
    have hnl : n * jL A k ≤ v := (le_dv bl1).1 (by omega)
    have n1 : ¬ Int32.ofNat (jS A k) < Int32.ofNat n := fun q => by
      have := (c_lt _ _ (by omega) (by omega)).1 q
      omega
    have n2 : ¬ Int32.ofNat v < Int32.ofNat n * Int32.ofNat (jL A k) := fun q => by
      rw [n_mm] at q
      have := (c_lt _ _ (by omega) (by omega)).1 q
      omega
    have qr : σ.2.2.2 17 k = some (ad (18 + k)) := hC.2.2.2.2.2.2.2.2.1.2.1 k (by omega)
    have qr1 : σ.2.2.2 17 (k + 1) = some (ad (18 + (k + 1))) := hC.2.2.2.2.2.2.2.2.1.2.1 (k + 1) (by omega)
    have hrow := hFJ (k + 1) (Nat.le_refl _) (by omega) (v - n * jL A k) (by omega)
    have hpb := jP_le A 1000000000 (8 - (k + 1)) (v - n * jL A k)
    obtain ⟨P, hP⟩ : ∃ P, P = jP A 1000000000 (8 - (k + 1)) (v - n * jL A k) := ⟨_, rfl⟩
    rw [← hP] at hrow hpb
    have hmn : mn (Int32.ofNat acc) (Int32.ofNat (P + n)) = Int32.ofNat (min acc (P + n)) := mn_n (by omega) (by omega)
    have sc : scA (18 + k) = true := by unfold scA; simp; omega
    obtain ⟨g, c1, c2, c3⟩ := ih (n + 1) fc (min acc (P + n)) (csA σ (18 + k) (upd (σ.2.1 (18 + k)) v (Int32.ofNat (min acc (P + n))))) (by omega) (by omega) (hC.a sc) (fun q h1 h2 u hu => by rw [csA_n _ _ _ _ (by omega)]; exact hFJ q h1 h2 u hu) (by rw [csA_s, up_s]) (by omega)
    refine ⟨g, ?_, fun u hu => ?_, ?_⟩
    · rw [csA_csA] at c1
      rw [← c1]
      show f_X0_fewest_L94_b F K2 (ad 0) (Int32.ofNat p) (Int32.ofNat k) (Int32.ofNat (jL A k)) (Int32.ofNat v) (f_X0_fewest_L94 F K2 (ad 0) (Int32.ofNat p) (Int32.ofNat k) (Int32.ofNat (jL A k)) (Int32.ofNat v) fc) (Int32.ofNat n) _ = _
      unfold f_X0_fewest_L94_b
      rw [o0_4 hA, Option.bind_some, o46_2 hA, Option.bind_some, a49 hA _ _ (by omega), Option.bind_some, eS σ hC, if_neg n1, if_neg n2, n_mm, n_ss _ _ hnl]
      simp (disch := omega) only [Option.bind_some, Option.bind_none, nmE, n_pp, n_pl, n_lp, n_mm, n_ml, n_lm, csI_s, csI_n, csI_2, csA_1, csA_s, csA_n, csA_2, csL_1, csL_2, csL_s, csL_n, csL_3, csQ_1, csQ_2, csQ_3, csQ_s, csQ_n, nar0, c_le, c_le_l, c_le_r, c_lt, c_lt_l, c_lt_r, c_eq, c_eq_l, c_eq_r, if_true, if_false, if_pos, if_neg, o0_12 hA, q17r hA, qr, qr1, a_pc hA, s_pc hA, hcell, hrow, hmn]
    · rw [c2 u hu, csA_s, up_n _ _ _ _ hu]
    · rw [c3, hP]
      rfl
