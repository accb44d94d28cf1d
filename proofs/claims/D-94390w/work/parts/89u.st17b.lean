set_option maxRecDepth 100000
/-! 17: jack, the reference; the step -/
variable {X : Nat → Option Ob} {ad ad' : Nat → Nat} {B B' : Sw} {A A' : Av} {σ σ' : Cs} {τ : Tw} {F : Nat}
theorem baseJ_T (hF : 1000 ≤ F) {p : Nat} (hp : p < 100) {K : Tw → Option (Int32 × Tw)} : ∃ g, t_X9_jacks_L2 F K (Int32.ofNat p) F 0 τ = K (twA τ 25 g) ∧ ∀ u, u ≤ p → g (800 + u) = Int32.ofNat (if u = 0 then 0 else 1000000) := by
  refine for_up (L := fun n i (s : Nat → Int32) => t_X9_jacks_L2 F K (Int32.ofNat p) n i (twA τ 25 s)) (N := p + 1) (Inv := fun k s => ∀ u, u < k → s (800 + u) = Int32.ofNat (if u = 0 then 0 else 1000000)) (Post := fun q => ∃ g, q = K (twA τ 25 g) ∧ ∀ u, u ≤ p → g (800 + u) = Int32.ofNat (if u = 0 then 0 else 1000000)) ?_ ?_ (p + 1) 0 F (τ.2.1 25) (Nat.zero_add _) (by omega) (fun i hi => absurd hi (Nat.not_lt_zero i)) |> fun h => by
    rw [twA_id] at h
    exact h
  · intro n k s hk hI
    refine Or.inl ⟨upd s (800 + k) (Int32.ofNat (if k = 0 then 0 else 1000000)), fun u hu => ?_, ?_⟩
    · by_cases eu : u = k
      · rw [eu, up_s]
      · rw [up_n _ _ _ _ (by omega)]; exact hI u (by omega)
    · show t_X9_jacks_L2_b F K (Int32.ofNat p) (t_X9_jacks_L2 F K (Int32.ofNat p) n) (Int32.ofNat k) _ = _
      unfold t_X9_jacks_L2_b
      have n1 : ¬ Int32.ofNat p < Int32.ofNat k := fun q => by
        have := (c_lt p k (by omega) (by omega)).1 q
        omega
      rw [if_neg n1]
      by_cases k0 : k = 0
      · rw [if_pos (by rw [k0]; rfl), if_pos k0]
        simp (disch := omega) only [Option.bind_some, Option.bind_none, nmE, n_pp, n_pl, n_lp, n_mm, n_ml, n_lm, taI_n, taI_l, tsA_n, tsA_l, nar0, twA_1, twA_s, twA_n, twA_2, twA_twA, tsI_s, tsI_n, tsI_2, c_le, c_le_l, c_le_r, c_lt, c_lt_l, c_lt_r, c_eq, c_eq_l, c_eq_r, if_true, if_false, if_pos, if_neg]
        rfl
      · rw [if_neg (show ¬ Int32.ofNat k = 0 from fun q => k0 ((c_eq k 0 (by omega) (by omega)).1 q)), if_neg k0]
        simp (disch := omega) only [Option.bind_some, Option.bind_none, nmE, n_pp, n_pl, n_lp, n_mm, n_ml, n_lm, taI_n, taI_l, tsA_n, tsA_l, nar0, twA_1, twA_s, twA_n, twA_2, twA_twA, tsI_s, tsI_n, tsI_2, c_le, c_le_l, c_le_r, c_lt, c_lt_l, c_lt_r, c_eq, c_eq_l, c_eq_r, if_true, if_false, if_pos, if_neg]
        rfl
  · intro n s hI
    refine ⟨s, ?_, fun u hu => hI u (by omega)⟩
    show t_X9_jacks_L2_b F K (Int32.ofNat p) (t_X9_jacks_L2 F K (Int32.ofNat p) n) (Int32.ofNat (p + 1)) _ = _
    unfold t_X9_jacks_L2_b
    rw [if_pos ((c_lt p (p + 1) (by omega) (by omega)).2 (by omega))]
theorem lenT2 (hW : WF A) {τ0 : Tw} (h6 : τ0.2.1 6 = A 6) {k : Nat} (hk : k < 8) {α : Type} {Y : Int32 → Option α} : (Option.bind (taI τ0 6 420 5) fun x1 => if x1 ≤ Int32.ofNat k then Y 1 else Option.bind (taI τ0 6 420 (170 + (2 * Int32.ofNat k))) fun x5 => Y x5) = Y (Int32.ofNat (jL A k)) := by
  obtain ⟨eW, lW⟩ := hW.W
  simp (disch := omega) only [Option.bind_some, Option.bind_none, nmE, n_pp, n_pl, n_lp, n_mm, n_ml, n_lm, taI_n, taI_l, tsA_n, tsA_l, nar0, twA_1, twA_s, twA_n, twA_2, twA_twA, tsI_s, tsI_n, tsI_2, c_le, c_le_l, c_le_r, c_lt, c_lt_l, c_lt_r, c_eq, c_eq_l, c_eq_r, if_true, if_false, if_pos, if_neg, h6, eW]
  unfold jL
  by_cases h : zN A 6 5 ≤ k
  · rw [if_pos h, if_neg (by omega)]
    rfl
  · rw [if_neg h, if_pos (by omega)]
    have : A 6 (170 + 2 * k) = Int32.ofNat (zN A 6 (170 + 2 * k)) := (hW.1.2.2.2.2.2 k (by omega)).1.1
    rw [this]
/-- one kind's number -/
theorem kind_T (hF : 1000 ≤ F) (hW : WF A) {p : Nat} (hp : p < 100) {g : Nat → Int32} (hG : GJ A p g 0) (hval : jP A 1000000000 8 p < 1000000000) {τ0 : Tw} (h6 : τ0.2.1 6 = A 6) (h7 : τ0.2.1 7 = A 7) (h25 : τ0.2.1 25 = g) {k : Nat} (hk : k < 8) {self : Int32 → Int32 → Tw → Option (Int32 × Tw)} : t_X9_jacks_j240 F self (Int32.ofNat p) (Int32.ofNat (jV A p k)) (Int32.ofNat k) (Int32.ofNat (jL A k)) τ0 = self (Int32.ofNat (jV A p (k + 1))) (Int32.ofNat (k + 1)) (twA τ0 26 (upd (τ0.2.1 26) k (Int32.ofNat (jN A k (jV A p k))))) := by
  obtain ⟨eW, lW⟩ := hW.W
  obtain ⟨bl1, bl2⟩ := jL_b hW k
  have bs := jS_b hW k
  obtain ⟨h1, h2⟩ := jV_ok hW hp hval k (by omega)
  obtain ⟨c1, c2⟩ := jT_ok _ (jCk_ex (show k < 8 by omega) h2)
  have hnl : jN A k (jV A p k) * jL A k ≤ jV A p k := (le_dv bl1).1 (Nat.le_trans c2 (Nat.min_le_right _ _))
  have hl := fun K => takes_T (F := F) (K := K) hW hp hG hk h1 h2 τ0 h25 (min (jS A k) (jV A p k / jL A k)) F (Nat.le_refl _) (by omega) (jCk_ex (by omega) h2)
  have hdv : jV A p k / jL A k ≤ jV A p k := Nat.div_le_self _ _
  have fin2 : ∀ w : Nat, w = jN A k (jV A p k) → (Option.bind (tsA τ0 26 0 8 (Int32.ofNat k) (Int32.ofNat w)) fun τ6 => nm (Int32.ofNat (jV A p k) - (Int32.ofNat w * Int32.ofNat (jL A k))) fun x7 => nm (Int32.ofNat k + 1) fun x9 => self x7 x9 τ6) = self (Int32.ofNat (jV A p (k + 1))) (Int32.ofNat (k + 1)) (twA τ0 26 (upd (τ0.2.1 26) k (Int32.ofNat (jN A k (jV A p k))))) := by
    intro w hw
    rw [hw, n_mm, n_ss _ _ hnl]
    simp (disch := omega) only [Option.bind_some, Option.bind_none, nmE, n_pp, n_pl, n_lp, n_mm, n_ml, n_lm, taI_n, taI_l, tsA_n, tsA_l, nar0, twA_1, twA_s, twA_n, twA_2, twA_twA, tsI_s, tsI_n, tsI_2, c_le, c_le_l, c_le_r, c_lt, c_lt_l, c_lt_r, c_eq, c_eq_l, c_eq_r, if_true, if_false, if_pos, if_neg]
    rfl
  have t5 : taI τ0 6 420 5 = some (Int32.ofNat (zN A 6 5)) := by
    rw [show (5 : Int32) = Int32.ofNat 5 from rfl, taI_n _ _ _ _ (by omega) (by omega), h6, eW]
  have t7 : taI τ0 7 1260 (50 + Int32.ofNat k) = some (A 7 (50 + k)) := by
    rw [show (50 : Int32) + Int32.ofNat k = Int32.ofNat (50 + k) from n_pl 50 k, taI_n _ _ _ _ (by omega) (by omega), h7]
  unfold t_X9_jacks_j240
  rw [t5, Option.bind_some]
  by_cases h : zN A 6 5 ≤ k
  · have eS : jS A k = 0 := if_neg (by omega)
    rw [if_pos ((c_le _ _ (by omega) (by omega)).2 h)]
    rw [eS, Nat.zero_min] at hl
    have eN : jN A k (jV A p k) = jT A 1000000000 k (jV A p k) 0 := by
      unfold jN
      rw [eS, Nat.zero_min]
    refine (hl _).trans ?_
    exact fin2 _ eN.symm
  · have eS : A 7 (50 + k) = Int32.ofNat (jS A k) := by
      have : jS A k = zN A 7 (50 + k) := if_pos (by omega)
      rw [this]
      exact (hW.2.2.1.2.2.2.2.1 k (by omega)).1
    rw [if_neg (fun q => h ((c_le _ _ (by omega) (by omega)).1 q)), t7, Option.bind_some, eS, dv_n (by omega) (by omega) (by omega), Option.bind_some, least_n (by omega) (by omega), Option.bind_some]
    refine (hl _).trans ?_
    exact fin2 _ rfl
/-- all the kinds -/
theorem kinds_T (hF : 1000 ≤ F) (hW : WF A) {p : Nat} (hp : p < 100) {g : Nat → Int32} (hG : GJ A p g 0) (hval : jP A 1000000000 8 p < 1000000000) {τ0 : Tw} (h6 : τ0.2.1 6 = A 6) (h7 : τ0.2.1 7 = A 7) (h25 : τ0.2.1 25 = g) : ∀ (d k fc : Nat) (s : Nat → Int32), k + d = 8 → d < fc → (∀ i, i < k → s i = Int32.ofNat (jN A i (jV A p i))) → ∃ s', (∀ i, i < 8 → s' i = Int32.ofNat (jN A i (jV A p i))) ∧ t_X9_jacks_L208 F (Int32.ofNat p) fc (Int32.ofNat (jV A p k)) (Int32.ofNat k) (twA τ0 26 s) = some (g p, twA τ0 26 s') := by
  intro d
  induction d with
  | zero =>
    intro k fc s hk hfc hs
    obtain ⟨fc, rfl⟩ : ∃ m, fc = m + 1 := ⟨fc - 1, by omega⟩
    have e : k = 8 := by omega
    rw [e]
    rw [e] at hs
    refine ⟨s, hs, ?_⟩
    show t_X9_jacks_L208_b F (Int32.ofNat p) (t_X9_jacks_L208 F (Int32.ofNat p) fc) (Int32.ofNat (jV A p 8)) (Int32.ofNat 8) _ = _
    unfold t_X9_jacks_L208_b
    have e25 : (twA τ0 26 s).2.1 25 = g := (twA_n _ _ _ _ (by omega)).trans h25
    rw [if_pos (by decide), taI_n _ _ _ _ (by omega) (by omega), Option.bind_some, e25]
  | succ d ih =>
    intro k fc s hk hfc hs
    obtain ⟨fc, rfl⟩ : ∃ m, fc = m + 1 := ⟨fc - 1, by omega⟩
    have k8 : k < 8 := by omega
    obtain ⟨s', p1, p2⟩ := ih (k + 1) fc (upd s k (Int32.ofNat (jN A k (jV A p k)))) (by omega) (by omega) (fun i hi => by
      by_cases e : i = k
      · rw [e, up_s]
      · rw [up_n _ _ _ _ e]; exact hs i (by omega))
    refine ⟨s', p1, ?_⟩
    rw [← p2]
    show t_X9_jacks_L208_b F (Int32.ofNat p) (t_X9_jacks_L208 F (Int32.ofNat p) fc) (Int32.ofNat (jV A p k)) (Int32.ofNat k) _ = _
    unfold t_X9_jacks_L208_b
    have e6 : (twA τ0 26 s).2.1 6 = A 6 := (twA_n _ _ _ _ (by omega)).trans h6
    have e7 : (twA τ0 26 s).2.1 7 = A 7 := (twA_n _ _ _ _ (by omega)).trans h7
    have e25 : (twA τ0 26 s).2.1 25 = g := (twA_n _ _ _ _ (by omega)).trans h25
    rw [if_neg (show ¬ (8 : Int32) ≤ Int32.ofNat k from fun q => by
      have := (c_le 8 k (by omega) (by omega)).1 q
      omega)]
    refine (lenT2 hW e6 k8 (Y := fun s0 => t_X9_jacks_j240 F (t_X9_jacks_L208 F (Int32.ofNat p) fc) (Int32.ofNat p) (Int32.ofNat (jV A p k)) (Int32.ofNat k) s0 (twA τ0 26 s))).trans ?_
    rw [kind_T hF hW hp hG hval e6 e7 e25 k8, twA_s, twA_twA]
theorem jacks_T (hF : 1000 ≤ F) (hW : WF A) (hT : TR A τ) {p : Nat} (hp : p < 100) : ∃ g s, (jP A 1000000000 8 p < 1000000000 → ∀ i, i < 8 → s i = Int32.ofNat (jN A i (jV A p i))) ∧ t_X9_jacks F (Int32.ofNat p) τ = some (Int32.ofNat (jP A 1000000 8 p), twA (twA τ 25 g) 26 s) := by
  have hrel := jP_rel hW (show 1000 ≤ 1000000000 by omega) (show 1000 ≤ 1000000 by omega) 8 p (by omega)
  have hle := jP_le A 1000000 8 p
  have hle9 := jP_le A 1000000000 8 p
  unfold jR at hrel
  obtain ⟨g, c1, c2⟩ := baseJ_T (F := F) (τ := τ) hF hp (K := fun τ1 => t_X9_jacks_L37 F (fun τ2 => Option.bind (taI τ2 25 900 (Int32.ofNat p)) fun x3 => if x3 < 1000000 then t_X9_jacks_L208 F (Int32.ofNat p) F (Int32.ofNat p) 0 τ2 else some (1000000, τ2)) (Int32.ofNat p) F 7 τ1)
  obtain ⟨g', p1, p2⟩ := rowsJ_T (F := F) hF hW hT hp (K := fun τ2 => Option.bind (taI τ2 25 900 (Int32.ofNat p)) fun x3 => if x3 < 1000000 then t_X9_jacks_L208 F (Int32.ofNat p) F (Int32.ofNat p) 0 τ2 else some (1000000, τ2)) 8 F g (by omega) (by omega) (fun q h1 h2 v hv => by
    have : q = 8 := by omega
    rw [this, show 100 * 8 + v = 800 + v from rfl, c2 v hv]
    rfl)
  have gp : g' p = Int32.ofNat (jP A 1000000 8 p) := by
    have := p1 0 (Nat.le_refl _) (by omega) p (Nat.le_refl _)
    rw [show 100 * 0 + p = p by omega] at this
    exact this
  have e25 : (twA τ 25 g').2.1 25 = g' := twA_s _ _ _
  have e7 : Int32.ofNat 8 + (-1) = (7 : Int32) := by decide
  rw [e7] at p2
  by_cases hval : jP A 1000000000 8 p < 1000000000
  · have hv6 : jP A 1000000 8 p < 1000000 := by omega
    obtain ⟨s', q1, q2⟩ := kinds_T (F := F) hF hW hp p1 hval (τ0 := twA τ 25 g') ((twA_n _ _ _ _ (by omega)).trans (hT.2 6 rfl)) ((twA_n _ _ _ _ (by omega)).trans (hT.2 7 rfl)) e25 8 0 F ((twA τ 25 g').2.1 26) (by omega) (by omega) (fun i hi => absurd hi (Nat.not_lt_zero i))
    rw [twA_id] at q2
    refine ⟨g', s', fun _ => q1, ?_⟩
    unfold t_X9_jacks
    refine c1.trans (p2.trans ?_)
    show Option.bind (taI (twA τ 25 g') 25 900 (Int32.ofNat p)) _ = _
    rw [taI_n _ _ _ _ (by omega) (by omega), Option.bind_some, e25, gp, if_pos (show Int32.ofNat (jP A 1000000 8 p) < 1000000 from (c_lt _ 1000000 (by omega) (by omega)).2 hv6)]
    refine q2.trans ?_
    rw [gp]
  · have hv6 : jP A 1000000 8 p = 1000000 := by omega
    refine ⟨g', (twA τ 25 g').2.1 26, fun h => absurd h hval, ?_⟩
    rw [twA_id]
    unfold t_X9_jacks
    refine c1.trans (p2.trans ?_)
    show Option.bind (taI (twA τ 25 g') 25 900 (Int32.ofNat p)) _ = _
    rw [taI_n _ _ _ _ (by omega) (by omega), Option.bind_some, e25, gp, hv6, if_neg (by decide)]
    rfl
theorem st_17 (hF : 1000000 ≤ F) (h : INV ad B A σ τ) (x : Nat → Int32) : ST F 17 x X ad B σ τ := by
  have hI := h
  obtain ⟨hE, hK, hC, hT⟩ := h
  have hA := hE.1
  have hW := hE.2.2
  obtain ⟨eW, lW⟩ := hW.W
  have h1 : stC F 17 (ad 0) x (cM X ad σ B) = f_X0_jack F (ad 0) (x 1) (x 2) (cM X ad σ B) := rfl
  have h2 : stT F 17 x τ = t_X9_jack F (x 1) (x 2) τ := rfl
  have t5 : taI τ 6 420 5 = some (Int32.ofNat (zN A 6 5)) := by
    rw [show (5 : Int32) = Int32.ofNat 5 from rfl, taI_n _ _ _ _ (by omega) (by omega), hT.2 6 rfl, eW]
  have v1 : (((1 : Int32).toInt ≤ (x 1).toInt ∧ (x 1).toInt ≤ (99 : Int32).toInt) ↔ (1 ≤ (x 1).toInt ∧ inN (x 1) 100)) := by
    show ((1 : Int) ≤ (x 1).toInt ∧ (x 1).toInt ≤ 99) ↔ (1 : Int) ≤ (x 1).toInt ∧ (0 : Int) ≤ (x 1).toInt ∧ (x 1).toInt < 100
    omega
  have v2 : (((10 : Int32).toInt ≤ (x 2).toInt ∧ (x 2).toInt ≤ (9 + Int32.ofNat (zN A 6 5)).toInt) ↔ inN (x 2 - 10) (zN A 6 5)) := by
    rw [show (9 : Int32) + Int32.ofNat (zN A 6 5) = Int32.ofNat (9 + zN A 6 5) from n_pl 9 _, i_tn (by omega)]
    constructor
    · rintro ⟨a, b⟩
      have a : (10 : Int) ≤ (x 2).toInt := a
      obtain ⟨k, hk, e⟩ := i_nat (x := x 2) (m := 9 + zN A 6 5) (by omega) b
      have hk10 : 10 ≤ k := by
        rw [e, i_tn (by omega)] at a
        omega
      have e2 : x 2 - 10 = Int32.ofNat (k - 10) := by
        rw [e, show (10 : Int32) = Int32.ofNat 10 from rfl, n_ss _ _ hk10]
      rw [e2]
      unfold inN
      rw [i_tn (by omega)]
      omega
    · intro q
      obtain ⟨t, ht, e⟩ := q.ex
      have e2 : x 2 = Int32.ofNat (t + 10) := by
        have : x 2 = (x 2 - 10) + 10 := (Int32.sub_add_cancel _ _).symm
        rw [this, e]
        exact n_lp 10 t
      rw [e2, i_tn (by omega)]
      show (10 : Int) ≤ _ ∧ _
      omega
  unfold f_X0_jack at h1
  unfold t_X9_jack at h2
  rw [within_v _ v1, Option.bind_some, gd, o0_3 hA, Option.bind_some, (hE.2.1.tw σ).2.2.1, Option.bind_some, (hE.2.1.wn F σ).1, Option.bind_some, (hE.2.1.wn F σ).2, Option.bind_some, within_N (by omega), Option.bind_some, gd] at h1
  rw [isIn_v _ v1, Option.bind_some, gd, t5, Option.bind_some, isIn_v _ v2, Option.bind_some, gd] at h2
  by_cases g1 : 1 ≤ (x 1).toInt ∧ inN (x 1) 100
  · rw [if_pos g1] at h1 h2
    obtain ⟨p, hp, ep⟩ := g1.2.ex
    obtain ⟨σ', hC', hFJ, c1, -⟩ := fewest_C (X := X) (F := F) (by omega) hE hC hp
    obtain ⟨g, s, hs, t1⟩ := jacks_T (F := F) (by omega) hW hT hp
    have hrel := jP_rel hW (show 1000 ≤ 1000000000 by omega) (show 1000 ≤ 1000000 by omega) 8 p (by omega)
    have hle := jP_le A 1000000 8 p
    have hle9 := jP_le A 1000000000 8 p
    unfold jR at hrel
    have hT' : TR (aw (aw A 25 g) 26 s) (twA (twA τ 25 g) 26 s) := (hT.W (by decide)).W (by decide)
    have hr : irr A (aw (aw A 25 g) 26 s) := (irr.w (j := 25) (f := g) (by omega)).tr (irr.w (j := 26) (f := s) (by omega))
    have jC : f_X0_jack_j39 F (ad 0) (x 1) (x 2) (cM X ad σ B) = if jP A 1000000000 8 p < 1000000000 then (if x 2 = 0 then some (Int32.ofNat (jP A 1000000000 8 p), cM X ad σ' B) else f_X0_jack_L67 F (ad 0) (x 2) (cM X ad σ' B) F (Int32.ofNat p) 0) else some (-2, cM X ad σ' B) := by
      unfold f_X0_jack_j39
      rw [ep, oc0 hA, Option.bind_some, c1, Option.bind_some]
      by_cases c : jP A 1000000000 8 p < 1000000000
      · rw [if_pos c, if_pos (show Int32.ofNat (jP A 1000000000 8 p) < 1000000000 from (c_lt _ 1000000000 (by omega) (by omega)).2 c)]
      · rw [if_neg c, if_neg (show ¬ Int32.ofNat (jP A 1000000000 8 p) < 1000000000 from fun q => c ((c_lt _ 1000000000 (by omega) (by omega)).1 q))]
    have jT' : t_X9_jack_j34 F (x 1) (x 2) τ = if jP A 1000000 8 p < 1000000 then (if x 2 = 0 then some (Int32.ofNat (jP A 1000000 8 p), twA (twA τ 25 g) 26 s) else Option.bind (taI (twA (twA τ 25 g) 26 s) 26 8 (x 2 - 10)) fun x5 => some (x5, twA (twA τ 25 g) 26 s)) else some (-2, twA (twA τ 25 g) 26 s) := by
      unfold t_X9_jack_j34
      rw [ep, t1, Option.bind_some]
      by_cases c : jP A 1000000 8 p < 1000000
      · rw [if_pos c, if_pos (show Int32.ofNat (jP A 1000000 8 p) < 1000000 from (c_lt _ 1000000 (by omega) (by omega)).2 c)]
      · rw [if_neg c, if_neg (show ¬ Int32.ofNat (jP A 1000000 8 p) < 1000000 from fun q => c ((c_lt _ 1000000 (by omega) (by omega)).1 q))]
    rw [jC] at h1
    rw [jT'] at h2
    by_cases c : jP A 1000000000 8 p < 1000000000
    · have c6 : jP A 1000000 8 p < 1000000 := by omega
      have ceq : jP A 1000000 8 p = jP A 1000000000 8 p := by omega
      rw [if_pos c] at h1
      rw [if_pos c6, ceq] at h2
      by_cases z : x 2 = 0
      · rw [if_pos z, if_pos z] at h1 h2
        exact ST.ir hI h1 h2 hr (hr.cr hC') hT'
      · rw [if_neg z, if_neg z] at h1 h2
        by_cases g2 : inN (x 2 - 10) (zN A 6 5)
        · obtain ⟨t, ht, et⟩ := g2.ex
          rw [if_pos g2] at h1 h2
          have jc := jacks_C (X := X) (F := F) (by omega) hE hC' hp hFJ c ht et t 0 F (Nat.zero_add _) (by omega)
          have h1' := h1.trans jc
          have e26 : (twA (twA τ 25 g) 26 s).2.1 26 = s := twA_s _ _ _
          rw [et, taI_n _ _ _ _ (by omega) (by omega), Option.bind_some, e26, hs c t (by omega)] at h2
          exact ST.ir hI h1' h2 hr (hr.cr hC') hT'
        · rw [if_neg g2] at h1 h2
          exact ST.ro hI h1 h2 hC hT
    · have c6 : ¬ jP A 1000000 8 p < 1000000 := by omega
      rw [if_neg c] at h1
      rw [if_neg c6] at h2
      by_cases z : x 2 = 0
      · rw [if_pos z] at h1 h2
        exact ST.ir hI h1 h2 hr (hr.cr hC') hT'
      · rw [if_neg z] at h1 h2
        by_cases g2 : inN (x 2 - 10) (zN A 6 5)
        · rw [if_pos g2] at h1 h2
          exact ST.ir hI h1 h2 hr (hr.cr hC') hT'
        · rw [if_neg g2] at h1 h2
          exact ST.ro hI h1 h2 hC hT
  · rw [if_neg g1] at h1 h2
    exact ST.ro hI h1 h2 hC hT
