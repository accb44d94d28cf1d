set_option maxRecDepth 100000
/-! 23: nights; the tables filled, the first night -/
variable {X : Nat → Option Ob} {ad ad' : Nat → Nat} {B B' : Sw} {A A' : Av} {σ σ' : Cs} {τ : Tw} {F : Nat}
theorem dec_1 (k : Nat) : Int32.ofNat (k + 1) + (-1) = Int32.ofNat k := by
  have e1 : Int32.ofNat 1 + (-1) = (0 : Int32) := by decide
  rw [Int32.ofNat_add, Int32.add_assoc, e1, Int32.add_zero]
/-- the tables from k on -/
def TBL (n k : Nat) (f g : Nat → Int32) : Prop := ∀ s, k ≤ s → s < 2 ^ n → ∃ a b, f s = Int32.ofNat a ∧ g s = Int32.ofNat b ∧ nR n s a b ∧ (s = 2 ^ n - 1 → a = 0 ∧ b = 0)
theorem TBL.v {n k : Nat} {f g : Nat → Int32} (h : TBL n k f g) (hn : n ≤ 8) {s : Nat} (h1 : k ≤ s) (h2 : s < 2 ^ n) : f s = Int32.ofNat (f s).toNatClampNeg ∧ (f s).toNatClampNeg ≤ 99 ∧ g s = Int32.ofNat (g s).toNatClampNeg ∧ (g s).toNatClampNeg ≤ 1000000 ∧ nR n s (f s).toNatClampNeg (g s).toNatClampNeg ∧ (s = 2 ^ n - 1 → (f s).toNatClampNeg = 0) := by
  obtain ⟨a, b, e1, e2, r, z⟩ := h s h1 h2
  have la : a ≤ 99 ∧ b ≤ 1000000 := by
    rcases r with ⟨q1, q2⟩ | ⟨q1, q2⟩ <;> omega
  have c1 : (f s).toNatClampNeg = a := by rw [e1]; exact i_cl (n := 1000) (by omega) (by omega)
  have c2 : (g s).toNatClampNeg = b := by rw [e2]; exact i_cl (n := 2000000) (by omega) (by omega)
  rw [c1, c2]
  exact ⟨e1, la.1, e2, la.2, r, fun q => (z q).1⟩
theorem fill_CT (hF : 1000 ≤ F) {n cr : Nat} (hn : n ≤ 8) (lcr : cr ≤ 9) : ∀ (k fc ft : Nat) (A : Av) (σ : Cs) (τ : Tw), k ≤ 2 ^ n → k < fc → k < ft → A 6 6 = Int32.ofNat cr → EV ad B A → CR ad B A σ → TR A τ → (∀ s, s < 2 ^ n → σ.2.1 30 s = A 30 s) → TBL n k (σ.2.1 29) (A 31) → ∃ (A' : Av) (σ' : Cs) (τ' : Tw), f_X0_fillNights_L215 F (ad 0) (Int32.ofNat n) (Int32.ofNat (2 ^ n - 1)) fc (Int32.ofNat k + (-1)) (cM X ad σ B) = some (Int32.ofNat n, cM X ad σ' B) ∧ t_X9_layNights_L76 F (Int32.ofNat (2 ^ n)) ft (Int32.ofNat k + (-1)) τ = some τ' ∧ EV ad B A' ∧ CR ad B A' σ' ∧ TR A' τ' ∧ TBL n 0 (σ'.2.1 29) (A' 31) ∧ (∀ j, j ≠ 31 → A' j = A j) ∧ ∀ r, r ≠ 29 → σ'.2.1 r = σ.2.1 r := by
  obtain ⟨p1, p2⟩ := pow_b hn
  intro k
  induction k with
  | zero =>
    intro fc ft A σ τ hk hfc hft hcr hE hC hT hG hTb
    obtain ⟨fc, rfl⟩ : ∃ m, fc = m + 1 := ⟨fc - 1, by omega⟩
    obtain ⟨ft, rfl⟩ : ∃ m, ft = m + 1 := ⟨ft - 1, by omega⟩
    refine ⟨A, σ, τ, ?_, ?_, hE, hC, hT, hTb, fun _ _ => rfl, fun _ _ => rfl⟩
    · show f_X0_fillNights_L215_b F (ad 0) (Int32.ofNat n) (Int32.ofNat (2 ^ n - 1)) (f_X0_fillNights_L215 F (ad 0) (Int32.ofNat n) (Int32.ofNat (2 ^ n - 1)) fc) (Int32.ofNat 0 + (-1)) (cM X ad σ B) = _
      unfold f_X0_fillNights_L215_b
      rw [if_pos (by decide)]
    · show t_X9_layNights_L76_b F (Int32.ofNat (2 ^ n)) (t_X9_layNights_L76 F (Int32.ofNat (2 ^ n)) ft) (Int32.ofNat 0 + (-1)) τ = _
      unfold t_X9_layNights_L76_b
      rw [if_pos (by decide)]
  | succ k ih =>
    intro fc ft A σ τ hk hfc hft hcr hE hC hT hG hTb
    obtain ⟨fc, rfl⟩ : ∃ m, fc = m + 1 := ⟨fc - 1, by omega⟩
    obtain ⟨ft, rfl⟩ : ∃ m, ft = m + 1 := ⟨ft - 1, by omega⟩
    have hA := hE.1
    have k2 : k < 2 ^ n := by omega
    have nneg : ¬ Int32.ofNat k < 0 := Int32.not_lt.2 (ofNat_nn (by omega))
    rw [dec_1 k]
    have c : f_X0_fillNights_L215 F (ad 0) (Int32.ofNat n) (Int32.ofNat (2 ^ n - 1)) (fc + 1) (Int32.ofNat k) (cM X ad σ B) = f_X0_fillNights_L215_b F (ad 0) (Int32.ofNat n) (Int32.ofNat (2 ^ n - 1)) (f_X0_fillNights_L215 F (ad 0) (Int32.ofNat n) (Int32.ofNat (2 ^ n - 1)) fc) (Int32.ofNat k) (cM X ad σ B) := rfl
    have t : t_X9_layNights_L76 F (Int32.ofNat (2 ^ n)) (ft + 1) (Int32.ofNat k) τ = t_X9_layNights_L76_b F (Int32.ofNat (2 ^ n)) (t_X9_layNights_L76 F (Int32.ofNat (2 ^ n)) ft) (Int32.ofNat k) τ := rfl
    unfold f_X0_fillNights_L215_b at c
    unfold t_X9_layNights_L76_b at t
    have e99 : (99 : Int32).toInt8.toInt32 = Int32.ofNat 99 := by decide
    have e00 : (0 : Int32).toInt8.toInt32 = Int32.ofNat 0 := by decide
    rw [if_neg nneg, o0_16 hA, Option.bind_some, e99, e00, s29 hA _ _ _ (by omega), Option.bind_some, s29 hA _ _ _ (by omega), Option.bind_some, (nar2 (show 0 ≤ 99 by omega)).1, (nar2 (show 99 ≤ 99 by omega)).1, nmE, n_rst hn k2, nmE] at c
    rw [if_neg nneg, show Int32.ofNat (2 ^ n) - 1 = Int32.ofNat (2 ^ n - 1) by rw [show (1 : Int32) = Int32.ofNat 1 from rfl, n_ss _ _ (by omega)], tsA_n _ _ _ _ _ _ (by omega) (by omega), Option.bind_some, tsA_n _ _ _ _ _ _ (by omega) (by omega), Option.bind_some, nar0, nar0, hT.2 31 rfl] at t
    obtain ⟨K1, eK1⟩ : ∃ K1 : Sw → Option (Int32 × Sw), K1 = fun μ16 => nm (Int32.ofNat k + (-1)) fun x17 => f_X0_fillNights_L215 F (ad 0) (Int32.ofNat n) (Int32.ofNat (2 ^ n - 1)) fc x17 μ16 := ⟨_, rfl⟩
    obtain ⟨K2, eK2⟩ : ∃ K2 : Tw → Option Tw, K2 = fun τ10 => nm (Int32.ofNat k + (-1)) fun x11 => t_X9_layNights_L76 F (Int32.ofNat (2 ^ n)) ft x11 τ10 := ⟨_, rfl⟩
    obtain ⟨a0, ea0⟩ : ∃ a0, a0 = if k = 2 ^ n - 1 then 0 else 99 := ⟨_, rfl⟩
    obtain ⟨b0, eb0⟩ : ∃ b0, b0 = if k = 2 ^ n - 1 then 0 else 1000000 := ⟨_, rfl⟩
    have c : f_X0_fillNights_L215 F (ad 0) (Int32.ofNat n) (Int32.ofNat (2 ^ n - 1)) (fc + 1) (Int32.ofNat k) (cM X ad σ B) = f_X0_fillNights_L254 F K1 (ad 0) (Int32.ofNat n) (Int32.ofNat (2 ^ n - 1)) (Int32.ofNat k) (Int32.ofNat (rst n k)) F (Int32.ofNat (rst n k)) (cM X ad (csA σ 29 (upd (σ.2.1 29) k (Int32.ofNat a0))) B) := by
      rw [c, eK1, ea0]
      by_cases q : k = 2 ^ n - 1
      · rw [if_pos (show Int32.ofNat k = Int32.ofNat (2 ^ n - 1) by rw [← q]), if_pos q]
      · rw [if_neg (fun z => q ((c_eq _ _ (by omega) (by omega)).1 z)), if_neg q]
    have t : t_X9_layNights_L76 F (Int32.ofNat (2 ^ n)) (ft + 1) (Int32.ofNat k) τ = t_X9_layNights_L103 F K2 (Int32.ofNat (2 ^ n)) (Int32.ofNat k) F (Int32.ofNat 1) (twA τ 31 (upd (A 31) k (Int32.ofNat b0))) := by
      rw [t, eK2, eb0]
      by_cases q : k = 2 ^ n - 1
      · rw [if_pos (show Int32.ofNat k = Int32.ofNat (2 ^ n - 1) by rw [← q]), if_pos q]
        rfl
      · rw [if_neg (fun z => q ((c_eq _ _ (by omega) (by omega)).1 z)), if_neg q]
        rfl
    have lr : rst n k < 256 := by unfold rst; omega
    have la0 : a0 ≤ 99 := by rw [ea0]; split <;> omega
    have lb0 : b0 ≤ 1000000 := by rw [eb0]; split <;> omega
    obtain ⟨acc, σ1, y1, y2, y3, y4, y5⟩ := inC (X := X) (F := F) (n := n) (s := k) (cr := cr) (f := σ.2.1 29) (v := fun s' => (σ.2.1 29 s').toNatClampNeg) (a0 := a0) (c4 := Int32.ofNat (2 ^ n - 1)) (K := K1) hE hn k2 hcr lcr (fun s' h1 h2 => ⟨(hTb.v hn (by omega) h2).1, (hTb.v hn (by omega) h2).2.1⟩) la0 (rst n k) (rst n k) F a0 (csA σ 29 (upd (σ.2.1 29) k (Int32.ofNat a0))) (Nat.le_refl _) (by omega) (Nat.and_self _) (csA_s _ _ _) (hC.a rfl) ⟨Or.inl rfl, Nat.le_refl _, fun y hy => by
      obtain ⟨q1, q2, q3⟩ := hy
      have := (in_rst k2).1 ⟨q2.2.1, q2.2.2.1⟩
      have l : y ≤ rst n k := by rw [← this]; exact Nat.and_le_right
      omega⟩
    have g30 : (csA σ 29 (upd (σ.2.1 29) k (Int32.ofNat a0))).2.1 30 = σ.2.1 30 := csA_n _ _ _ _ (by decide)
    rw [g30] at y5
    obtain ⟨acc2, z1, z2⟩ := inT (F := F) (τ := τ) (n := n) (s := k) (cr := cr) (G := A 30) (f := A 31) (v := fun s' => (A 31 s').toNatClampNeg) (a0 := b0) (K := K2) hF hn k2 (fun s' h1 h2 => ⟨(hTb.v hn (by omega) h2).2.2.1, (hTb.v hn (by omega) h2).2.2.2.1⟩) lb0 (by rw [hT.2 6 rfl]; exact hcr) lcr (hT.2 30 rfl) (2 ^ n - 1) 1 F b0 (by omega) (by omega) (Nat.le_refl _) ⟨Or.inl rfl, Nat.le_refl _, fun y hy => by
      have := hy.2.1
      omega⟩
    have hr : irr A (aw A 31 (upd (A 31) k (Int32.ofNat acc2))) := irr.w (by omega)
    have okc : ∀ y, okY n k cr (σ.2.1 30) y ↔ okY n k cr (A 30) y := fun y => by
      unfold okY
      constructor
      · rintro ⟨a, b, c, d, e⟩
        rw [hG _ (or_lt' k2 b)] at e
        exact ⟨a, b, c, d, e⟩
      · rintro ⟨a, b, c, d, e⟩
        rw [← hG _ (or_lt' k2 b)] at e
        exact ⟨a, b, c, d, e⟩
    have hnew : nR n k acc acc2 ∧ (k = 2 ^ n - 1 → acc = 0 ∧ acc2 = 0) := by
      by_cases q : k = 2 ^ n - 1
      · rw [if_pos q] at ea0 eb0
        have q1 : acc = 0 := by have := y5.2.1; omega
        have q2 : acc2 = 0 := by have := z2.2.1; omega
        refine ⟨Or.inr ⟨by omega, ?_⟩, fun _ => ⟨q1, q2⟩⟩
        rw [q1, q, pcN_full n hn]
        omega
      · rw [if_neg q] at ea0 eb0
        rw [ea0] at y5
        rw [eb0] at z2
        exact ⟨nR_min hn k2 (G := A 30) (vC := fun s' => (σ.2.1 29 s').toNatClampNeg) (vT := fun s' => (A 31 s').toNatClampNeg) (fun s' h1 h2 => (hTb.v hn (by omega) h2).2.2.2.2.1) (y5.cg fun y => by rw [okc]) z2, fun z => absurd z q⟩
    obtain ⟨A', σ', τ', w1, w2, w3, w4, w5, w6, w7, w8⟩ := ih fc ft (aw A 31 (upd (A 31) k (Int32.ofNat acc2))) σ1 (twA τ 31 (upd (A 31) k (Int32.ofNat acc2))) (by omega) (by omega) (by omega) (by rw [aw_n _ _ _ _ (by decide)]; exact hcr) (hr.ev hE) (hr.cr y3) (hT.W (by decide)) (fun s hs => by rw [aw_n _ _ _ _ (by decide), y4 30 (by decide), g30]; exact hG s hs) (fun s h1 h2 => by
      rw [y2, aw_s]
      by_cases e : s = k
      · rw [e, up_s, up_s]
        exact ⟨acc, acc2, rfl, rfl, hnew.1, hnew.2⟩
      · rw [up_n _ _ _ _ e, up_n _ _ _ _ e]
        exact hTb s (by omega) h2)
    refine ⟨A', σ', τ', ?_, ?_, w3, w4, w5, w6, fun j hj => (w7 j hj).trans (aw_n _ _ _ _ hj), fun r hr => ((w8 r hr).trans (y4 r hr)).trans (csA_n _ _ _ _ hr)⟩
    · rw [c, y1, eK1]
      exact w1
    · have z1 : t_X9_layNights_L103 F K2 (Int32.ofNat (2 ^ n)) (Int32.ofNat k) F (Int32.ofNat 1) (twA τ 31 (upd (A 31) k (Int32.ofNat b0))) = _ := z1
      rw [t, z1, eK2]
      exact w2
/-- the first night: the same set -/
theorem first_CT (hF : 1000 ≤ F) (hE : EV ad B A) (hT : TR A τ) {n cr : Nat} (hn : n ≤ 8) (lcr : cr ≤ 9) (hcr : A 6 6 = Int32.ofNat cr) (h42 : A 0 42 = Int32.ofNat n) (hG : ∀ s, s < 2 ^ n → σ.2.1 30 s = A 30 s) (hTb : TBL n 0 (σ.2.1 29) (A 31)) (h0 : (σ.2.1 29 0).toNatClampNeg ≠ 99) {KC : Int32 → Option (Int32 × Sw)} {KT : Int32 → Option Int32} : ∀ (d x fc ft b : Nat), x + d = 2 ^ n → d < fc → d < ft → 1 ≤ x → b < 2 ^ n → ∃ b', b' < 2 ^ n ∧ f_X0_nights_L84 F KC (ad 0) (Int32.ofNat n) (cM X ad σ B) fc (Int32.ofNat b) (Int32.ofNat x) = KC (Int32.ofNat b') ∧ t_X9_firstNight_L4 F KT τ ft (Int32.ofNat b) (Int32.ofNat x) = KT (Int32.ofNat b') := by
  obtain ⟨p1, p2⟩ := pow_b hn
  have hA := hE.1
  have e42 : τ.1 42 = Int32.ofNat n := by rw [hT.1 42 rfl]; exact h42
  intro d
  induction d with
  | zero =>
    intro x fc ft b hx hfc hft h1 hb
    obtain ⟨fc, rfl⟩ : ∃ m, fc = m + 1 := ⟨fc - 1, by omega⟩
    obtain ⟨ft, rfl⟩ : ∃ m, ft = m + 1 := ⟨ft - 1, by omega⟩
    have e0 : x = 2 ^ n := by omega
    refine ⟨b, hb, ?_, ?_⟩
    · show f_X0_nights_L84_b F KC (ad 0) (Int32.ofNat n) (cM X ad σ B) (f_X0_nights_L84 F KC (ad 0) (Int32.ofNat n) (cM X ad σ B) fc) (Int32.ofNat b) (Int32.ofNat x) = _
      unfold f_X0_nights_L84_b
      rw [bit_p n hn, e0, if_pos (Int32.le_refl _)]
    · show t_X9_firstNight_L4_b F KT τ (t_X9_firstNight_L4 F KT τ ft) (Int32.ofNat b) (Int32.ofNat x) = _
      unfold t_X9_firstNight_L4_b
      rw [e42, bit_p n hn, e0, if_pos (Int32.le_refl _)]
  | succ d ih =>
    intro x fc ft b hx hfc hft h1 hb
    obtain ⟨fc, rfl⟩ : ∃ m, fc = m + 1 := ⟨fc - 1, by omega⟩
    obtain ⟨ft, rfl⟩ : ∃ m, ft = m + 1 := ⟨ft - 1, by omega⟩
    have x2 : x < 2 ^ n := by omega
    have lp := pcN_max x (by omega)
    have lpb := pcN_max b (by omega)
    have nle : ¬ Int32.ofNat (2 ^ n) ≤ Int32.ofNat x := fun q => by
      have := (c_le _ _ (by omega) (by omega)).1 q
      omega
    obtain ⟨x1, x3, x4, x5, x6, -⟩ := hTb.v hn (Nat.zero_le x) x2
    obtain ⟨o1, o3, o4, o5, o6, -⟩ := hTb.v hn (Nat.zero_le 0) (by omega)
    have ca := canAdd_C (X := X) (F := F) (σ := σ) (s := 0) (y := x) hE hcr lcr (by omega) (by omega) (by rw [Nat.zero_or]; omega) (by rw [Nat.zero_or]; exact x1) x3
    rw [Nat.zero_or] at ca
    have c : f_X0_nights_L84 F KC (ad 0) (Int32.ofNat n) (cM X ad σ B) (fc + 1) (Int32.ofNat b) (Int32.ofNat x) = f_X0_nights_L84_b F KC (ad 0) (Int32.ofNat n) (cM X ad σ B) (f_X0_nights_L84 F KC (ad 0) (Int32.ofNat n) (cM X ad σ B) fc) (Int32.ofNat b) (Int32.ofNat x) := rfl
    have t : t_X9_firstNight_L4 F KT τ (ft + 1) (Int32.ofNat b) (Int32.ofNat x) = t_X9_firstNight_L4_b F KT τ (t_X9_firstNight_L4 F KT τ ft) (Int32.ofNat b) (Int32.ofNat x) := rfl
    unfold f_X0_nights_L84_b at c
    unfold t_X9_firstNight_L4_b at t
    have ca : f_X0_canAdd F (ad 0) 0 (Int32.ofNat x) (cM X ad σ B) = _ := ca
    have q0 : aI (cM X ad σ B) 2 (ad 29) 0 = some (σ.2.1 29 0) := a29 hA σ 0 (by omega)
    have qx : aI (cM X ad σ B) 2 (ad 29) (Int32.ofNat x) = some (σ.2.1 29 x) := a29 hA σ x (by omega)
    have cx : p_J15_bitCount F (Int32.ofNat x) = some (Int32.ofNat (pcN x 16)) := by rw [count_C (b16_n (by omega)), pc_n (by omega)]
    have cb : p_J15_bitCount F (Int32.ofNat b) = some (Int32.ofNat (pcN b 16)) := by rw [count_C (b16_n (by omega)), pc_n (by omega)]
    have tx : p_X9_bitsOf F (Int32.ofNat x) = some (Int32.ofNat (pcN x 16)) := by rw [count_T (by omega), pc_n (by omega)]
    have tb' : p_X9_bitsOf F (Int32.ofNat b) = some (Int32.ofNat (pcN b 16)) := by rw [count_T (by omega), pc_n (by omega)]
    have t6 : taI τ 6 420 6 = some (Int32.ofNat cr) := by
      rw [show (6 : Int32) = Int32.ofNat 6 from rfl, taI_n _ _ _ _ (by omega) (by omega), hT.2 6 rfl, hcr]
    have t30 : taI τ 30 256 (Int32.ofNat x) = some (A 30 x) := by rw [taI_n _ _ _ _ (by omega) (by omega), hT.2 30 rfl]
    have t31 : taI τ 31 256 (Int32.ofNat x) = some (A 31 x) := by rw [taI_n _ _ _ _ (by omega) (by omega), hT.2 31 rfl]
    have t31' : taI τ 31 256 0 = some (A 31 0) := by rw [show (0 : Int32) = Int32.ofNat 0 from rfl, taI_n _ _ _ _ (by omega) (by omega), hT.2 31 rfl]
    rw [bit_p n hn, if_neg nle] at c
    rw [e42, bit_p n hn, if_neg nle] at t
    simp only [Option.bind_some, Option.bind_none, nmE, gd, oc0 hA, ca, o0_16 hA, q0, qx, cx, cb, n_lp] at c
    simp only [Option.bind_some, Option.bind_none, nmE, gd, tx, tb', t6, t30, t31, t31', n_lp] at t
    rw [x1, o1] at c
    rw [x4, o4] at t
    generalize (σ.2.1 29 x).toNatClampNeg = u at x1 x3 x6 c
    generalize (σ.2.1 29 0).toNatClampNeg = u0 at o1 o3 o6 c h0
    generalize (A 31 x).toNatClampNeg = v at x4 x5 x6 t
    generalize (A 31 0).toNatClampNeg = v0 at o4 o5 o6 t
    have eu9 : (Int32.ofNat u).toNatClampNeg = u := i_cl (n := 1000) (by omega) (by omega)
    rw [hG x x2, eu9] at c
    have nx := ih (x + 1) fc ft b (by omega) (by omega) (by omega) (by omega) hb
    have nx' := ih (x + 1) fc ft x (by omega) (by omega) (by omega) (by omega) x2
    have lcr' : (Int32.ofNat cr < Int32.ofNat (pcN x 16)) ↔ cr < pcN x 16 := c_lt _ _ (by omega) (by omega)
    have go : ∀ (b1 : Nat), (∃ b', b' < 2 ^ n ∧ f_X0_nights_L84 F KC (ad 0) (Int32.ofNat n) (cM X ad σ B) fc (Int32.ofNat b1) (Int32.ofNat (x + 1)) = KC (Int32.ofNat b') ∧ t_X9_firstNight_L4 F KT τ ft (Int32.ofNat b1) (Int32.ofNat (x + 1)) = KT (Int32.ofNat b')) → f_X0_nights_L84 F KC (ad 0) (Int32.ofNat n) (cM X ad σ B) (fc + 1) (Int32.ofNat b) (Int32.ofNat x) = f_X0_nights_L84 F KC (ad 0) (Int32.ofNat n) (cM X ad σ B) fc (Int32.ofNat b1) (Int32.ofNat (x + 1)) → t_X9_firstNight_L4 F KT τ (ft + 1) (Int32.ofNat b) (Int32.ofNat x) = t_X9_firstNight_L4 F KT τ ft (Int32.ofNat b1) (Int32.ofNat (x + 1)) → ∃ b', b' < 2 ^ n ∧ f_X0_nights_L84 F KC (ad 0) (Int32.ofNat n) (cM X ad σ B) (fc + 1) (Int32.ofNat b) (Int32.ofNat x) = KC (Int32.ofNat b') ∧ t_X9_firstNight_L4 F KT τ (ft + 1) (Int32.ofNat b) (Int32.ofNat x) = KT (Int32.ofNat b') := fun b1 h a1 a2 => by
      obtain ⟨b', w1, w2, w3⟩ := h
      exact ⟨b', w1, a1.trans w2, a2.trans w3⟩
    by_cases k1 : pcN x 16 ≤ cr
    · rw [if_neg (fun q => by have := lcr'.1 q; omega)] at t
      by_cases k2 : A 30 x = 0
      · rw [if_pos k2] at t
        rw [if_neg (fun q => q.2.1 k2)] at c
        exact go b nx c t
      · rw [if_neg k2] at t
        have uv : u0 = v0 ∧ u0 ≤ 8 := by
          rcases o6 with ⟨q1, q2⟩ | ⟨q1, q2⟩
          · exact absurd q1 h0
          · exact ⟨q1, by omega⟩
        have ev : (Int32.ofNat v + 1 = Int32.ofNat v0) ↔ v + 1 = v0 := by
          rw [n_lp 1 v]
          exact c_eq _ _ (by show v + 1 < _; omega) (by omega)
        have eu : (Int32.ofNat u + 1 = Int32.ofNat u0) ↔ u + 1 = u0 := by
          rw [n_lp 1 u]
          exact c_eq _ _ (by show u + 1 < _; omega) (by omega)
        by_cases k3 : u < 99
        · rw [if_pos ⟨k1, k2, k3⟩] at c
          have euv : u = v := by
            rcases x6 with ⟨q1, q2⟩ | ⟨q1, q2⟩
            · omega
            · exact q1
          by_cases k4 : u + 1 = u0
          · first | rw [if_pos (eu.2 k4)] at c | rw [if_pos (show Int32.ofNat (u + 1) = Int32.ofNat u0 by rw [k4])] at c
            first | rw [if_pos (ev.2 (by omega))] at t | rw [if_pos (show Int32.ofNat (v + 1) = Int32.ofNat v0 by rw [show v + 1 = v0 by omega])] at t
            by_cases k5 : b = 0
            · rw [if_pos (show Int32.ofNat b = 0 by rw [k5]; rfl)] at c t
              exact go x nx' c t
            · have nb : ¬ Int32.ofNat b = 0 := fun q => k5 ((c_eq b 0 (by omega) (by omega)).1 q)
              rw [if_neg nb] at c t
              by_cases k6 : Int32.ofNat (pcN b 16) ≤ Int32.ofNat (pcN x 16)
              · rw [if_pos k6] at c t
                exact go b nx c t
              · rw [if_neg k6] at c t
                exact go x nx' c t
          · first | rw [if_neg (fun q => k4 (eu.1 q))] at c | rw [if_neg (fun q => k4 ((c_eq _ _ (by omega) (by omega)).1 q))] at c
            first | rw [if_neg (fun q => k4 (by have := ev.1 q; omega))] at t | rw [if_neg (fun q => k4 (by have := (c_eq _ _ (by omega) (by omega)).1 q; omega))] at t
            exact go b nx c t
        · rw [if_neg (fun q => k3 q.2.2)] at c
          have ev1 : v = 1000000 := by
            rcases x6 with ⟨q1, q2⟩ | ⟨q1, q2⟩
            · exact q2
            · omega
          first | rw [if_neg (fun q => by have := ev.1 q; omega)] at t | rw [if_neg (fun q => by have := (c_eq _ _ (by omega) (by omega)).1 q; omega)] at t
          exact go b nx c t
    · rw [if_pos (lcr'.2 (by omega))] at t
      rw [if_neg (fun q => k1 q.1)] at c
      exact go b nx c t
/-- the houses of a set -/
theorem houses_CT (hF : 1000 ≤ F) (hA : AdOK ad B) (hT : TR A τ) {n : Nat} (hn : n ≤ 8) {w : Nat → Nat} (h42 : A 0 42 = Int32.ofNat n) (hw : ∀ j, j < n → σ.2.1 27 j = Int32.ofNat (w j) ∧ A 28 j = Int32.ofNat (w j)) {b : Int32} : ∀ (d i fc ft : Nat) (acc : Int32), i + d = n → d < fc → d < ft → ∃ r, f_X0_nights_L157 F (ad 0) (Int32.ofNat n) b (cM X ad σ B) fc acc (Int32.ofNat i) = some (r, cM X ad σ B) ∧ t_X9_firstNight_L84 F b τ ft acc (Int32.ofNat i) = some r := by
  have e42 : τ.1 42 = Int32.ofNat n := by rw [hT.1 42 rfl]; exact h42
  intro d
  induction d with
  | zero =>
    intro i fc ft acc hi hfc hft
    obtain ⟨fc, rfl⟩ : ∃ m, fc = m + 1 := ⟨fc - 1, by omega⟩
    obtain ⟨ft, rfl⟩ : ∃ m, ft = m + 1 := ⟨ft - 1, by omega⟩
    have e0 : i = n := by omega
    refine ⟨acc, ?_, ?_⟩
    · show f_X0_nights_L157_b F (ad 0) (Int32.ofNat n) b (cM X ad σ B) (f_X0_nights_L157 F (ad 0) (Int32.ofNat n) b (cM X ad σ B) fc) acc (Int32.ofNat i) = _
      unfold f_X0_nights_L157_b
      rw [e0, if_pos (Int32.le_refl _)]
    · show t_X9_firstNight_L84_b F b τ (t_X9_firstNight_L84 F b τ ft) acc (Int32.ofNat i) = _
      unfold t_X9_firstNight_L84_b
      rw [e42, e0, if_pos (Int32.le_refl _)]
  | succ d ih =>
    intro i fc ft acc hi hfc hft
    obtain ⟨fc, rfl⟩ : ∃ m, fc = m + 1 := ⟨fc - 1, by omega⟩
    obtain ⟨ft, rfl⟩ : ∃ m, ft = m + 1 := ⟨ft - 1, by omega⟩
    have nle : ¬ Int32.ofNat n ≤ Int32.ofNat i := fun q => by
      have := (c_le _ _ (by omega) (by omega)).1 q
      omega
    obtain ⟨w1, w2⟩ := hw i (by omega)
    have c : f_X0_nights_L157 F (ad 0) (Int32.ofNat n) b (cM X ad σ B) (fc + 1) acc (Int32.ofNat i) = f_X0_nights_L157_b F (ad 0) (Int32.ofNat n) b (cM X ad σ B) (f_X0_nights_L157 F (ad 0) (Int32.ofNat n) b (cM X ad σ B) fc) acc (Int32.ofNat i) := rfl
    have t : t_X9_firstNight_L84 F b τ (ft + 1) acc (Int32.ofNat i) = t_X9_firstNight_L84_b F b τ (t_X9_firstNight_L84 F b τ ft) acc (Int32.ofNat i) := rfl
    unfold f_X0_nights_L157_b at c
    unfold t_X9_firstNight_L84_b at t
    rw [if_neg nle, bit_of _ (by omega), o0_14 hA, Option.bind_some, a27 hA _ _ (by omega), Option.bind_some, w1, nmE, nmE, nmE, n_lp 1 i] at c
    rw [e42, if_neg nle, bit_of _ (by omega), taI_n _ _ _ _ (by omega) (by omega), Option.bind_some, hT.2 28 rfl, w2, nmE, nmE, nmE, n_lp 1 i] at t
    by_cases q : tb b i = true
    · rw [if_pos q, if_pos rfl] at c t
      obtain ⟨r, y1, y2⟩ := ih (i + 1) fc ft _ (by omega) (by omega) (by omega)
      exact ⟨r, c.trans y1, t.trans y2⟩
    · rw [if_neg q, if_neg (show ¬ (0 : Int32) = 1 by decide)] at c t
      obtain ⟨r, y1, y2⟩ := ih (i + 1) fc ft acc (by omega) (by omega) (by omega)
      exact ⟨r, c.trans y1, t.trans y2⟩
