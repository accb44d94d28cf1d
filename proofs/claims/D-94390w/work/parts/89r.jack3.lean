set_option maxRecDepth 100000
/-! 17: jack; the reference's rows -/
variable {X : Nat → Option Ob} {ad ad' : Nat → Nat} {B B' : Sw} {A A' : Av} {σ σ' : Cs} {τ : Tw} {F : Nat}
def GJ (A : Av) (p : Nat) (g : Nat → Int32) (r : Nat) : Prop := ∀ q, r ≤ q → q ≤ 8 → ∀ v, v ≤ p → g (100 * q + v) = Int32.ofNat (jP A 1000000 (8 - q) v)
theorem cellJ_T (hW : WF A) {p k v : Nat} (hp : p < 100) (hk : k < 8) (hv : v ≤ p) {g : Nat → Int32} (hG : GJ A p g (k + 1)) {K : Int32 → Option (Int32 × Tw)} : ∀ (d n fc acc : Nat), n + d = min (jS A k) (v / jL A k) + 1 → d < fc → acc ≤ 1000000 → t_X9_jacks_L110 F K (Int32.ofNat p) (Int32.ofNat k) (Int32.ofNat (jL A k)) (Int32.ofNat (jS A k)) (Int32.ofNat v) (twA τ 25 g) fc (Int32.ofNat acc) (Int32.ofNat n) = K (Int32.ofNat (fin (fun n => jP A 1000000 (8 - (k + 1)) (v - n * jL A k) + n) d acc n)) := by
  obtain ⟨bl1, bl2⟩ := jL_b hW k
  have bs := jS_b hW k
  intro d
  induction d with
  | zero =>
    intro n fc acc hn hfc hacc
    obtain ⟨fc, rfl⟩ : ∃ m, fc = m + 1 := ⟨fc - 1, by omega⟩
    show t_X9_jacks_L110_b F K (Int32.ofNat p) (Int32.ofNat k) (Int32.ofNat (jL A k)) (Int32.ofNat (jS A k)) (Int32.ofNat v) (twA τ 25 g) (t_X9_jacks_L110 F K (Int32.ofNat p) (Int32.ofNat k) (Int32.ofNat (jL A k)) (Int32.ofNat (jS A k)) (Int32.ofNat v) (twA τ 25 g) fc) (Int32.ofNat acc) (Int32.ofNat n) = _
    unfold t_X9_jacks_L110_b
    have nl : n * jL A k ≤ 100 * 60 := Nat.mul_le_mul (by omega) bl2
    by_cases h : jS A k < n
    · rw [if_pos ((c_lt _ _ (by omega) (by omega)).2 h)]
      rfl
    · rw [if_neg (fun q => h ((c_lt _ _ (by omega) (by omega)).1 q)), n_mm]
      have h2 : v < n * jL A k := by
        apply Classical.byContradiction
        intro h3
        have := (le_dv (n := n) (v := v) bl1).2 (by omega)
        omega
      rw [if_pos ((c_lt _ _ (by omega) (by omega)).2 h2)]
      rfl
  | succ d ih =>
    intro n fc acc hn hfc hacc
    obtain ⟨fc, rfl⟩ : ∃ m, fc = m + 1 := ⟨fc - 1, by omega⟩
    have hnl : n * jL A k ≤ v := (le_dv bl1).1 (by omega)
    have n1 : ¬ Int32.ofNat (jS A k) < Int32.ofNat n := fun q => by
      have := (c_lt _ _ (by omega) (by omega)).1 q
      omega
    have n2 : ¬ Int32.ofNat v < Int32.ofNat n * Int32.ofNat (jL A k) := fun q => by
      rw [n_mm] at q
      have := (c_lt _ _ (by omega) (by omega)).1 q
      omega
    have hrow := hG (k + 1) (Nat.le_refl _) (by omega) (v - n * jL A k) (by omega)
    have hpb := jP_le A 1000000 (8 - (k + 1)) (v - n * jL A k)
    have hnx := ih (n + 1) fc (min acc (jP A 1000000 (8 - (k + 1)) (v - n * jL A k) + n)) (by omega) (by omega) (by omega)
    have ix : (((100 : Int32) * Int32.ofNat k + 100) + Int32.ofNat v) - Int32.ofNat n * Int32.ofNat (jL A k) = Int32.ofNat (100 * (k + 1) + (v - n * jL A k)) := by
      rw [n_mm]
      simp (disch := omega) only [Option.bind_some, Option.bind_none, nmE, n_pp, n_pl, n_lp, n_mm, n_ml, n_lm, taI_n, taI_l, tsA_n, tsA_l, nar0, twA_1, twA_s, twA_n, twA_2, twA_twA, tsI_s, tsI_n, tsI_2, c_le, c_le_l, c_le_r, c_lt, c_lt_l, c_lt_r, c_eq, c_eq_l, c_eq_r, if_true, if_false, if_pos, if_neg]
      rw [n_ss _ _ (by omega)]
      congr 1
      omega
    have e34 : (twA τ 25 g).2.1 25 = g := twA_s _ _ _
    show t_X9_jacks_L110_b F K (Int32.ofNat p) (Int32.ofNat k) (Int32.ofNat (jL A k)) (Int32.ofNat (jS A k)) (Int32.ofNat v) (twA τ 25 g) (t_X9_jacks_L110 F K (Int32.ofNat p) (Int32.ofNat k) (Int32.ofNat (jL A k)) (Int32.ofNat (jS A k)) (Int32.ofNat v) (twA τ 25 g) fc) (Int32.ofNat acc) (Int32.ofNat n) = _
    unfold t_X9_jacks_L110_b
    rw [if_neg n1, if_neg n2, ix, taI_n _ _ _ _ (by omega) (by omega), Option.bind_some, e34, hrow, n_pp, least_n (by omega) (by omega), Option.bind_some]
    simp (disch := omega) only [Option.bind_some, Option.bind_none, nmE, n_pp, n_pl, n_lp, n_mm, n_ml, n_lm, taI_n, taI_l, tsA_n, tsA_l, nar0, twA_1, twA_s, twA_n, twA_2, twA_twA, tsI_s, tsI_n, tsI_2, c_le, c_le_l, c_le_r, c_lt, c_lt_l, c_lt_r, c_eq, c_eq_l, c_eq_r, if_true, if_false, if_pos, if_neg]
    exact hnx
theorem rowJ_T (hF : 1000 ≤ F) (hW : WF A) {p k : Nat} (hp : p < 100) (hk : k < 8) {g0 : Nat → Int32} (hG : GJ A p g0 (k + 1)) {K : Tw → Option (Int32 × Tw)} : ∃ g, t_X9_jacks_L96 F K (Int32.ofNat p) (Int32.ofNat k) (Int32.ofNat (jL A k)) (Int32.ofNat (jS A k)) F 0 (twA τ 25 g0) = K (twA τ 25 g) ∧ GJ A p g k := by
  have bs := jS_b hW k
  refine for_up (L := fun n i (s : Nat → Int32) => t_X9_jacks_L96 F K (Int32.ofNat p) (Int32.ofNat k) (Int32.ofNat (jL A k)) (Int32.ofNat (jS A k)) n i (twA τ 25 s)) (N := p + 1) (Inv := fun j s => GJ A p s (k + 1) ∧ ∀ u, u < j → s (100 * k + u) = Int32.ofNat (jP A 1000000 (8 - k) u)) (Post := fun q => ∃ g, q = K (twA τ 25 g) ∧ GJ A p g k) ?_ ?_ (p + 1) 0 F g0 (Nat.zero_add _) (by omega) ⟨hG, fun i hi => absurd hi (Nat.not_lt_zero i)⟩
  · rintro n j s hj ⟨hI1, hI⟩
    refine Or.inl ⟨upd s (100 * k + j) (Int32.ofNat (jP A 1000000 (8 - k) j)), ⟨fun q h1 h2 v hv => ?_, fun u hu => ?_⟩, ?_⟩
    · rw [up_n _ _ _ _ (by omega)]
      exact hI1 q h1 h2 v hv
    · by_cases eu : u = j
      · rw [eu, up_s]
      · rw [up_n _ _ _ _ (by omega)]; exact hI u (by omega)
    · show t_X9_jacks_L96_b F K (Int32.ofNat p) (Int32.ofNat k) (Int32.ofNat (jL A k)) (Int32.ofNat (jS A k)) (t_X9_jacks_L96 F K (Int32.ofNat p) (Int32.ofNat k) (Int32.ofNat (jL A k)) (Int32.ofNat (jS A k)) n) (Int32.ofNat j) _ = _
      unfold t_X9_jacks_L96_b
      have n1 : ¬ Int32.ofNat p < Int32.ofNat j := fun q => by
        have := (c_lt p j (by omega) (by omega)).1 q
        omega
      rw [if_neg n1]
      refine (cellJ_T (F := F) (v := j) hW hp hk (by omega) hI1 (min (jS A k) (j / jL A k) + 1) 0 F 1000000 (by omega) (by omega) (Nat.le_refl _)).trans ?_
      rw [← jP_row hk]
      unfold t_X9_jacks_j162
      simp (disch := omega) only [Option.bind_some, Option.bind_none, nmE, n_pp, n_pl, n_lp, n_mm, n_ml, n_lm, taI_n, taI_l, tsA_n, tsA_l, nar0, twA_1, twA_s, twA_n, twA_2, twA_twA, tsI_s, tsI_n, tsI_2, c_le, c_le_l, c_le_r, c_lt, c_lt_l, c_lt_r, c_eq, c_eq_l, c_eq_r, if_true, if_false, if_pos, if_neg]
  · rintro n s ⟨hI1, hI⟩
    refine ⟨s, ?_, fun q h1 h2 v hv => ?_⟩
    · show t_X9_jacks_L96_b F K (Int32.ofNat p) (Int32.ofNat k) (Int32.ofNat (jL A k)) (Int32.ofNat (jS A k)) (t_X9_jacks_L96 F K (Int32.ofNat p) (Int32.ofNat k) (Int32.ofNat (jL A k)) (Int32.ofNat (jS A k)) n) (Int32.ofNat (p + 1)) _ = _
      unfold t_X9_jacks_L96_b
      rw [if_pos ((c_lt p (p + 1) (by omega) (by omega)).2 (by omega))]
    · by_cases eq : q = k
      · rw [eq]; exact hI v (by omega)
      · exact hI1 q (by omega) h2 v hv
/-- a kind's length and stock, as the reference reads them -/
theorem lenT (hW : WF A) (hT : TR A τ) {g : Nat → Int32} {k : Nat} (hk : k < 8) {α : Type} {Y : Int32 → Option α} : (Option.bind (taI (twA τ 25 g) 6 420 5) fun x1 => if x1 ≤ Int32.ofNat k then Y 1 else Option.bind (taI (twA τ 25 g) 6 420 (170 + (2 * Int32.ofNat k))) fun x5 => Y x5) = Y (Int32.ofNat (jL A k)) := by
  obtain ⟨eW, lW⟩ := hW.W
  simp (disch := omega) only [Option.bind_some, Option.bind_none, nmE, n_pp, n_pl, n_lp, n_mm, n_ml, n_lm, taI_n, taI_l, tsA_n, tsA_l, nar0, twA_1, twA_s, twA_n, twA_2, twA_twA, tsI_s, tsI_n, tsI_2, c_le, c_le_l, c_le_r, c_lt, c_lt_l, c_lt_r, c_eq, c_eq_l, c_eq_r, if_true, if_false, if_pos, if_neg, hT.2 6 rfl, eW]
  unfold jL
  by_cases h : zN A 6 5 ≤ k
  · rw [if_pos h, if_neg (by omega)]
    rfl
  · rw [if_neg h, if_pos (by omega)]
    have : A 6 (170 + 2 * k) = Int32.ofNat (zN A 6 (170 + 2 * k)) := (hW.1.2.2.2.2.2 k (by omega)).1.1
    rw [this]
theorem stkT (hW : WF A) (hT : TR A τ) {g : Nat → Int32} {k : Nat} (hk : k < 8) {α : Type} {Y : Int32 → Option α} : (Option.bind (taI (twA τ 25 g) 6 420 5) fun x1 => if x1 ≤ Int32.ofNat k then Y 0 else Option.bind (taI (twA τ 25 g) 7 1260 (50 + Int32.ofNat k)) fun x7 => Y x7) = Y (Int32.ofNat (jS A k)) := by
  obtain ⟨eW, lW⟩ := hW.W
  simp (disch := omega) only [Option.bind_some, Option.bind_none, nmE, n_pp, n_pl, n_lp, n_mm, n_ml, n_lm, taI_n, taI_l, tsA_n, tsA_l, nar0, twA_1, twA_s, twA_n, twA_2, twA_twA, tsI_s, tsI_n, tsI_2, c_le, c_le_l, c_le_r, c_lt, c_lt_l, c_lt_r, c_eq, c_eq_l, c_eq_r, if_true, if_false, if_pos, if_neg, hT.2 6 rfl, hT.2 7 rfl, eW]
  unfold jS
  by_cases h : zN A 6 5 ≤ k
  · rw [if_pos h, if_neg (by omega)]
    rfl
  · rw [if_neg h, if_pos (by omega)]
    have : A 7 (50 + k) = Int32.ofNat (zN A 7 (50 + k)) := (hW.2.2.1.2.2.2.2.1 k (by omega)).1
    rw [this]
theorem rowsJ_T (hF : 1000 ≤ F) (hW : WF A) (hT : TR A τ) {p : Nat} (hp : p < 100) {K : Tw → Option (Int32 × Tw)} : ∀ (k fc : Nat) (g : Nat → Int32), k ≤ 8 → k < fc → GJ A p g k → ∃ g', GJ A p g' 0 ∧ t_X9_jacks_L37 F K (Int32.ofNat p) fc (Int32.ofNat k + (-1)) (twA τ 25 g) = K (twA τ 25 g') := by
  intro k
  induction k with
  | zero =>
    intro fc g hk hfc hG
    obtain ⟨fc, rfl⟩ : ∃ m, fc = m + 1 := ⟨fc - 1, by omega⟩
    refine ⟨g, hG, ?_⟩
    show t_X9_jacks_L37_b F K (Int32.ofNat p) (t_X9_jacks_L37 F K (Int32.ofNat p) fc) (Int32.ofNat 0 + (-1)) _ = _
    unfold t_X9_jacks_L37_b
    rw [if_pos (by decide)]
  | succ k ih =>
    intro fc g hk hfc hG
    obtain ⟨fc, rfl⟩ : ∃ m, fc = m + 1 := ⟨fc - 1, by omega⟩
    have er : Int32.ofNat (k + 1) + (-1) = Int32.ofNat k := by
      have e1 : Int32.ofNat 1 + (-1) = (0 : Int32) := by decide
      rw [Int32.ofNat_add, Int32.add_assoc, e1, Int32.add_zero]
    rw [er]
    obtain ⟨g1, c1, c2⟩ := rowJ_T (F := F) (τ := τ) hF hW hp (show k < 8 by omega) hG (K := fun τ4 => nm (Int32.ofNat k + (-1)) fun x5 => t_X9_jacks_L37 F K (Int32.ofNat p) fc x5 τ4)
    obtain ⟨g2, p1, p2⟩ := ih fc g1 (by omega) (by omega) c2
    refine ⟨g2, p1, ?_⟩
    rw [← p2]
    show t_X9_jacks_L37_b F K (Int32.ofNat p) (t_X9_jacks_L37 F K (Int32.ofNat p) fc) (Int32.ofNat k) _ = _
    unfold t_X9_jacks_L37_b
    rw [if_neg (Int32.not_lt.2 (ofNat_nn (by omega)))]
    refine (lenT hW hT (show k < 8 by omega) (Y := fun s0 => t_X9_jacks_j67 F (t_X9_jacks_L37 F K (Int32.ofNat p) fc) (Int32.ofNat p) (Int32.ofNat k) s0 (twA τ 25 g))).trans ?_
    unfold t_X9_jacks_j67
    refine (stkT hW hT (show k < 8 by omega) (Y := fun s0 => t_X9_jacks_L96 F (fun τ4 => nm (Int32.ofNat k + (-1)) fun x5 => t_X9_jacks_L37 F K (Int32.ofNat p) fc x5 τ4) (Int32.ofNat p) (Int32.ofNat k) (Int32.ofNat (jL A k)) s0 F 0 (twA τ 25 g))).trans ?_
    exact c1
