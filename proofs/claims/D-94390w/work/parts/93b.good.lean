set_option maxRecDepth 100000
/-! 23: nights; which sets are safe -/
variable {X : Nat → Option Ob} {ad ad' : Nat → Nat} {B B' : Sw} {A A' : Av} {σ σ' : Cs} {τ : Tw} {F : Nat}
theorem tb_n {s i : Nat} (hi : i < 32) : tb (Int32.ofNat s) i = s.testBit i := by
  show (BitVec.ofNat 32 s).getLsbD i = s.testBit i
  rw [BitVec.getLsbD_ofNat]
  simp [hi]
theorem bit_p : ∀ n, n ≤ 8 → (1 : Int32) <<< (Int32.ofNat n &&& 31) = Int32.ofNat (2 ^ n) := by decide
theorem pow_b {n : Nat} (h : n ≤ 8) : 2 ^ n ≤ 256 ∧ 1 ≤ 2 ^ n := ⟨Nat.pow_le_pow_right (by omega) h, Nat.one_le_two_pow⟩
/-- heights when the first i of a set are at their dues -/
def gH (A : Av) (w : Nat → Nat) (s : Nat) : Nat → Nat → Int32
  | 0 => fun h => A 7 (10 + h)
  | i + 1 => fun h => if s.testBit i = true ∧ h = w i then sDue A h else gH A w s i h
theorem gH_o {w : Nat → Nat} {s h : Nat} : ∀ i, (∀ j, j < i → w j ≠ h) → gH A w s i h = A 7 (10 + h) := by
  intro i
  induction i with
  | zero => intro _; rfl
  | succ i ih =>
    intro hw
    show (if s.testBit i = true ∧ h = w i then sDue A h else gH A w s i h) = _
    rw [if_neg (fun q => hw i (Nat.lt_succ_self i) q.2.symm)]
    exact ih fun j hj => hw j (by omega)
theorem gH_N (hW : WF A) {w : Nat → Nat} {s h : Nat} (hh : h < 16) : ∀ i, isN (gH A w s i h) 99 := by
  intro i
  induction i with
  | zero => exact hW.2.2.1.2.1 h hh
  | succ i ih =>
    show isN (if s.testBit i = true ∧ h = w i then sDue A h else gH A w s i h) 99
    by_cases c : s.testBit i = true ∧ h = w i
    · rw [if_pos c]; exact hold_N _
    · rw [if_neg c]; exact ih
/-- the lists of houses and dues, and what was kept -/
def NB (n : Nat) (w : Nat → Nat) (A : Av) (σ : Cs) : Prop := (n ≤ 8 ∧ (∀ j, j < n → w j < zN A 6 0) ∧ ∀ i j, i < n → j < n → w i = w j → i = j) ∧ (∀ j, j < n → A 28 j = Int32.ofNat (w j) ∧ A 29 j = sDue A (w j)) ∧ A 0 42 = Int32.ofNat n ∧ (∀ i, i < 16 → A 27 (480 + i) = A 7 (10 + i)) ∧ (∀ i, i < 8 → A 27 (496 + i) = A 7 (50 + i)) ∧ (∀ i, i < 16 → σ.2.1 13 i = A 7 (10 + i)) ∧ (∀ i, i < 8 → σ.2.1 14 i = A 7 (50 + i)) ∧ ∀ j, j < n → σ.2.1 27 j = Int32.ofNat (w j) ∧ σ.2.1 28 j = sDue A (w j)
/-- what the loop over the sets may have changed -/
def NI (n : Nat) (w : Nat → Nat) (Ab : Av) (σb : Cs) (s : Nat) (A : Av) (σ : Cs) : Prop := (∀ j, j ≠ 7 → j ≠ 30 → A j = Ab j) ∧ (∀ q, q < 10 ∨ 26 ≤ q → A 7 q = Ab 7 q) ∧ (∀ h, h < 16 → (∀ i, i < n → w i ≠ h) → A 7 (10 + h) = Ab 7 (10 + h)) ∧ (∀ r, r = 13 ∨ r = 14 ∨ r = 27 ∨ r = 28 → σ.2.1 r = σb.2.1 r) ∧ ∀ s', s' < s → (A 30 s' = 0 ∨ A 30 s' = 1) ∧ σ.2.1 30 s' = A 30 s'
theorem bring_C (hF : 1000 ≤ F) (hE : EV ad B A) (hC : CR ad B A σ) {n : Nat} {w : Nat → Nat} {Ab : Av} {σb : Cs} {s0 : Nat} (hN : NB n w Ab σb) (hI : NI n w Ab σb s0 A σ) {s : Nat} {c3 : Int32} {K : Sw → Option (Int32 × Sw)} : ∃ f, f_X0_fillNights_L99 F K (ad 0) (Int32.ofNat n) c3 (Int32.ofNat s) F 0 (cM X ad σ B) = K (cM X ad (csA σ 47 f) B) ∧ ∀ h, h < 16 → f h = gH Ab w s n h := by
  have hA := hE.1
  obtain ⟨⟨n8, wl, wi⟩, -, -, -, -, k13, -, kw⟩ := hN
  obtain ⟨i1, i2, i3, i4, -⟩ := hI
  have z6 : zN A 6 0 = zN Ab 6 0 := by unfold zN; rw [i1 6 (by decide) (by decide)]
  have lH := hE.2.2.H.2
  refine for_up (L := fun k i (f : Nat → Int32) => f_X0_fillNights_L99 F K (ad 0) (Int32.ofNat n) c3 (Int32.ofNat s) k i (cM X ad (csA σ 47 f) B)) (N := n) (Inv := fun i f => ∀ h, h < 16 → (∃ j, i ≤ j ∧ j < n ∧ w j = h) ∨ f h = gH Ab w s i h) (Post := fun r => ∃ f, r = K (cM X ad (csA σ 47 f) B) ∧ ∀ h, h < 16 → f h = gH Ab w s n h) ?_ ?_ n 0 F (σ.2.1 47) (Nat.zero_add _) (by omega) (fun h hh => ?_) |> fun h => by
    rw [csA_id] at h
    exact h
  · intro m i f hi hf
    have wi16 : w i < 16 := by have := wl i hi; omega
    have r27 : (csA σ 47 f).2.1 27 i = Int32.ofNat (w i) := by
      rw [csA_n _ _ _ _ (by decide), i4 27 (by omega)]; exact (kw i hi).1
    have r28 : (csA σ 47 f).2.1 28 i = sDue Ab (w i) := by
      rw [csA_n _ _ _ _ (by decide), i4 28 (by omega)]; exact (kw i hi).2
    have r13 : (csA σ 47 f).2.1 13 (w i) = Ab 7 (10 + w i) := by
      rw [csA_n _ _ _ _ (by decide), i4 13 (by omega)]; exact k13 _ wi16
    have st : f_X0_fillNights_L99 F K (ad 0) (Int32.ofNat n) c3 (Int32.ofNat s) (m + 1) (Int32.ofNat i) (cM X ad (csA σ 47 f) B) = f_X0_fillNights_L99_b F K (ad 0) (Int32.ofNat n) c3 (Int32.ofNat s) (f_X0_fillNights_L99 F K (ad 0) (Int32.ofNat n) c3 (Int32.ofNat s) m) (Int32.ofNat i) (cM X ad (csA σ 47 f) B) := rfl
    unfold f_X0_fillNights_L99_b at st
    rw [if_neg (fun q => by have := (c_le _ _ (by omega) (by omega)).1 q; omega), o0_4 hA, Option.bind_some, o46_0 hA, Option.bind_some, o0_14 hA, Option.bind_some, a27 hA _ _ (by omega), Option.bind_some, r27, bit_of _ (by omega), tb_n (by omega)] at st
    have fin : ∀ (v : Int32), (s.testBit i = true → v = sDue Ab (w i)) → (¬ s.testBit i = true → v = Ab 7 (10 + w i)) → ∀ h, h < 16 → (∃ j, i + 1 ≤ j ∧ j < n ∧ w j = h) ∨ upd f (w i) v h = gH Ab w s (i + 1) h := by
      intro v v1 v2 h hh
      show _ ∨ upd f (w i) v h = if s.testBit i = true ∧ h = w i then sDue Ab h else gH Ab w s i h
      by_cases e : h = w i
      · refine Or.inr ?_
        rw [e, up_s]
        by_cases c : s.testBit i = true
        · rw [if_pos ⟨c, rfl⟩]; exact v1 c
        · rw [if_neg (fun q => c q.1), v2 c]
          refine (gH_o i fun j hj q => ?_).symm
          have := wi j i (by omega) hi q
          omega
      · rw [up_n _ _ _ _ e, if_neg (fun q => e q.2)]
        rcases hf h hh with ⟨j, a, b, c⟩ | q
        · refine Or.inl ⟨j, ?_, b, c⟩
          have : j ≠ i := fun z => e (by rw [← c, z])
          omega
        · exact Or.inr q
    by_cases hb : s.testBit i = true
    · rw [if_pos hb, if_pos rfl, o0_15 hA, Option.bind_some, a28 hA _ _ (by omega), Option.bind_some, r28, s47 hA _ _ _ wi16, Option.bind_some, nmE, csA_csA, csA_s, nar0, n_lp 1 i] at st
      exact Or.inl ⟨_, fin _ (fun _ => rfl) (fun q => absurd hb q), st⟩
    · rw [if_neg hb, if_neg (show ¬ (0 : Int32) = 1 by decide), o0_7 hA, Option.bind_some, o12_0 hA, Option.bind_some, Option.bind_some, a27 hA _ _ (by omega), Option.bind_some, r27, a13 hA _ _ wi16, Option.bind_some, r13, s47 hA _ _ _ wi16, Option.bind_some, nmE, csA_csA, csA_s, nar0, n_lp 1 i] at st
      exact Or.inl ⟨_, fin _ (fun q => absurd q hb) (fun _ => rfl), st⟩
  · intro m f hf
    refine ⟨f, ?_, fun h hh => ?_⟩
    · show f_X0_fillNights_L99_b F K (ad 0) (Int32.ofNat n) c3 (Int32.ofNat s) (f_X0_fillNights_L99 F K (ad 0) (Int32.ofNat n) c3 (Int32.ofNat s) m) (Int32.ofNat n) (cM X ad (csA σ 47 f) B) = _
      unfold f_X0_fillNights_L99_b
      rw [if_pos (Int32.le_refl _)]
    · rcases hf h hh with ⟨j, a, b, c⟩ | q
      · omega
      · exact q
  · by_cases q : ∃ j, j < n ∧ w j = h
    · obtain ⟨j, a, b⟩ := q
      exact Or.inl ⟨j, Nat.zero_le _, a, b⟩
    · refine Or.inr ?_
      show σ.2.1 47 h = Ab 7 (10 + h)
      rw [hC.2.2.2.1 h hh]
      exact i3 h hh fun i hi e => q ⟨i, hi, e⟩
theorem bring_T (hF : 1000 ≤ F) (hW : WF A) (hT : TR A τ) {n : Nat} {w : Nat → Nat} {Ab : Av} {σb : Cs} {s0 : Nat} (hN : NB n w Ab σb) (hI : NI n w Ab σb s0 A σ) {s : Nat} : ∃ L, t_X9_brings F (Int32.ofNat s) τ = some (twA τ 7 L) ∧ (∀ h, h < 16 → L (10 + h) = gH Ab w s n h) ∧ ∀ q, q < 10 ∨ 26 ≤ q → L q = A 7 q := by
  obtain ⟨⟨n8, wl, wi⟩, k28, k42, k27, k27', -⟩ := hN
  obtain ⟨i1, i2, i3, -⟩ := hI
  have z6 : zN A 6 0 = zN Ab 6 0 := by unfold zN; rw [i1 6 (by decide) (by decide)]
  have lH := hW.H.2
  obtain ⟨L0, t1, t2, t3, t4⟩ := put_T (F := F) (l := 20) hF (by omega) hT
  have t1 : t_X9_putBack F 20 τ = some (twA τ 7 L0) := t1
  have a27' : A 27 = Ab 27 := i1 27 (by decide) (by decide)
  have e42 : ∀ g, (twA τ 7 g).1 42 = Int32.ofNat n := fun g => by rw [twA_1, hT.1 42 rfl, i1 0 (by decide) (by decide)]; exact k42
  unfold t_X9_brings
  rw [t1, Option.bind_some]
  refine for_up (L := fun k i (f : Nat → Int32) => t_X9_brings_L8 F (Int32.ofNat s) k i (twA τ 7 f)) (N := n) (Inv := fun i f => (∀ h, h < 16 → f (10 + h) = gH Ab w s i h) ∧ ∀ q, q < 10 ∨ 26 ≤ q → f q = A 7 q) (Post := fun r => ∃ f, r = some (twA τ 7 f) ∧ (∀ h, h < 16 → f (10 + h) = gH Ab w s n h) ∧ ∀ q, q < 10 ∨ 26 ≤ q → f q = A 7 q) ?_ ?_ n 0 F L0 (Nat.zero_add _) (by omega) ⟨fun h hh => ?_, fun q hq => ?_⟩
  · rintro m i f hi ⟨f1, f2⟩
    have wi16 : w i < 16 := by have := wl i hi; omega
    obtain ⟨x1, x2⟩ := k28 i hi
    have st : t_X9_brings_L8 F (Int32.ofNat s) (m + 1) (Int32.ofNat i) (twA τ 7 f) = t_X9_brings_L8_b F (Int32.ofNat s) (t_X9_brings_L8 F (Int32.ofNat s) m) (Int32.ofNat i) (twA τ 7 f) := rfl
    unfold t_X9_brings_L8_b at st
    rw [e42, if_neg (fun q => by have := (c_le _ _ (by omega) (by omega)).1 q; omega), bit_of _ (by omega), tb_n (by omega)] at st
    by_cases hb : s.testBit i = true
    · rw [if_pos hb, if_pos rfl, taI_n _ _ _ _ (by omega) (by omega), Option.bind_some, taI_n _ _ _ _ (by omega) (by omega), Option.bind_some, twA_n _ _ _ _ (by decide), twA_n _ _ _ _ (by decide), hT.2 28 rfl, hT.2 29 rfl, i1 28 (by decide) (by decide), i1 29 (by decide) (by decide), x1, x2, show (10 : Int32) + Int32.ofNat (w i) = Int32.ofNat (10 + w i) from n_pl 10 _, tsA_n _ _ _ _ _ _ (by omega) (by omega), Option.bind_some, nmE, twA_twA, twA_s, nar0, n_lp 1 i] at st
      refine Or.inl ⟨_, ⟨fun h hh => ?_, fun q hq => ?_⟩, st⟩
      · show _ = if s.testBit i = true ∧ h = w i then sDue Ab h else gH Ab w s i h
        by_cases e : h = w i
        · rw [e, up_s, if_pos ⟨hb, rfl⟩]
        · rw [up_n _ _ _ _ (by omega), if_neg (fun q => e q.2)]
          exact f1 h hh
      · rw [up_n _ _ _ _ (by omega)]
        exact f2 q hq
    · rw [if_neg hb, if_neg (show ¬ (0 : Int32) = 1 by decide), nmE, n_lp 1 i] at st
      refine Or.inl ⟨f, ⟨fun h hh => ?_, f2⟩, st⟩
      show _ = if s.testBit i = true ∧ h = w i then sDue Ab h else gH Ab w s i h
      rw [if_neg (fun q => hb q.1)]
      exact f1 h hh
  · rintro m f ⟨f1, f2⟩
    refine ⟨f, ?_, f1, f2⟩
    show t_X9_brings_L8_b F (Int32.ofNat s) (t_X9_brings_L8 F (Int32.ofNat s) m) (Int32.ofNat n) (twA τ 7 f) = _
    unfold t_X9_brings_L8_b
    rw [e42, if_pos (Int32.le_refl _)]
  · show L0 (10 + h) = Ab 7 (10 + h)
    rw [t2 h hh, a27']
    exact k27 h hh
  · by_cases c : 50 ≤ q ∧ q < 58
    · have := t3 (q - 50) (by omega)
      rw [show 50 + (q - 50) = q by omega, a27', show 24 * 20 + 16 + (q - 50) = 496 + (q - 50) by omega, k27' (q - 50) (by omega), show 50 + (q - 50) = q by omega] at this
      rw [this]
      exact (i2 q (by omega)).symm
    · exact t4 q (by omega)
/-- which sets are safe: both sides -/
theorem good_CT (hF : 100000 ≤ F) {n : Nat} {w : Nat → Nat} {Ab : Av} {σb : Cs} (hN : NB n w Ab σb) (hWb : WF Ab) {c3 : Int32} {KC : Sw → Option (Int32 × Sw)} {KT : Tw → Option Tw} : ∀ (d s fc ft : Nat) (A : Av) (σ : Cs) (τ : Tw), s + d = 2 ^ n → d < fc → d < ft → NI n w Ab σb s A σ → EV ad B A → CR ad B A σ → TR A τ → ∃ (A' : Av) (σ' : Cs) (τ' : Tw), f_X0_fillNights_L88 F KC (ad 0) (Int32.ofNat n) c3 fc (Int32.ofNat s) (cM X ad σ B) = KC (cM X ad σ' B) ∧ t_X9_layNights_L24 F KT c3 (Int32.ofNat (2 ^ n)) ft (Int32.ofNat s) τ = KT τ' ∧ NI n w Ab σb (2 ^ n) A' σ' ∧ EV ad B A' ∧ CR ad B A' σ' ∧ TR A' τ' := by
  obtain ⟨p1, p2⟩ := pow_b hN.1.1
  intro d
  induction d with
  | zero =>
    intro s fc ft A σ τ hs hfc hft hI hE hC hT
    obtain ⟨fc, rfl⟩ : ∃ m, fc = m + 1 := ⟨fc - 1, by omega⟩
    obtain ⟨ft, rfl⟩ : ∃ m, ft = m + 1 := ⟨ft - 1, by omega⟩
    have e0 : s = 2 ^ n := by omega
    refine ⟨A, σ, τ, ?_, ?_, by rw [← e0]; exact hI, hE, hC, hT⟩
    · show f_X0_fillNights_L88_b F KC (ad 0) (Int32.ofNat n) c3 (f_X0_fillNights_L88 F KC (ad 0) (Int32.ofNat n) c3 fc) (Int32.ofNat s) (cM X ad σ B) = _
      unfold f_X0_fillNights_L88_b
      rw [bit_p n hN.1.1, e0, if_pos (Int32.le_refl _)]
    · show t_X9_layNights_L24_b F KT c3 (Int32.ofNat (2 ^ n)) (t_X9_layNights_L24 F KT c3 (Int32.ofNat (2 ^ n)) ft) (Int32.ofNat s) τ = _
      unfold t_X9_layNights_L24_b
      rw [e0, if_pos (Int32.le_refl _)]
  | succ d ih =>
    intro s fc ft A σ τ hs hfc hft hI hE hC hT
    obtain ⟨fc, rfl⟩ : ∃ m, fc = m + 1 := ⟨fc - 1, by omega⟩
    obtain ⟨ft, rfl⟩ : ∃ m, ft = m + 1 := ⟨ft - 1, by omega⟩
    have hA := hE.1
    have nle : ¬ Int32.ofNat (2 ^ n) ≤ Int32.ofNat s := fun q => by
      have := (c_le _ _ (by omega) (by omega)).1 q
      omega
    obtain ⟨K1, eK1⟩ : ∃ K1 : Sw → Option (Int32 × Sw), K1 = fun μ2 =>
        Option.bind (gfR μ2 (ad 0) 0 17) fun x3 =>
        Option.bind (oc μ2 (ad 0) 0) fun u7 =>
        Option.bind (f_X0_reachedAt F (ad 0) 12 μ2) fun q5 =>
        if (c3 &&& (q5.1 ^^^ (-1))) = 0 then
          Option.bind (sI q5.2 4 x3 (Int32.ofNat s) 1) fun μ15 =>
          nm (Int32.ofNat s + 1) fun x16 =>
          f_X0_fillNights_L88 F KC (ad 0) (Int32.ofNat n) c3 fc x16 μ15
        else
          Option.bind (sI q5.2 4 x3 (Int32.ofNat s) 0) fun μ11 =>
          nm (Int32.ofNat s + 1) fun x12 =>
          f_X0_fillNights_L88 F KC (ad 0) (Int32.ofNat n) c3 fc x12 μ11 := ⟨_, rfl⟩
    have c : f_X0_fillNights_L88 F KC (ad 0) (Int32.ofNat n) c3 (fc + 1) (Int32.ofNat s) (cM X ad σ B) = f_X0_fillNights_L99 F K1 (ad 0) (Int32.ofNat n) c3 (Int32.ofNat s) F 0 (cM X ad σ B) := by
      show f_X0_fillNights_L88_b F KC (ad 0) (Int32.ofNat n) c3 (f_X0_fillNights_L88 F KC (ad 0) (Int32.ofNat n) c3 fc) (Int32.ofNat s) (cM X ad σ B) = _
      unfold f_X0_fillNights_L88_b
      rw [bit_p n hN.1.1, if_neg nle, eK1]
    have t : t_X9_layNights_L24 F KT c3 (Int32.ofNat (2 ^ n)) (ft + 1) (Int32.ofNat s) τ = t_X9_layNights_L24_b F KT c3 (Int32.ofNat (2 ^ n)) (t_X9_layNights_L24 F KT c3 (Int32.ofNat (2 ^ n)) ft) (Int32.ofNat s) τ := rfl
    unfold t_X9_layNights_L24_b at t
    rw [if_neg nle] at t
    obtain ⟨f, f1, f2⟩ := bring_C (X := X) (F := F) (s := s) (c3 := c3) (K := K1) (by omega) hE hC hN hI
    obtain ⟨L, l1, l2, l3⟩ := bring_T (F := F) (s := s) (by omega) hE.2.2 hT hN hI
    have hw16 : ∀ i, i < n → w i < 16 := fun i hi => by
      have := hN.1.2.1 i hi
      have := hWb.H.2
      omega
    have pr := put_rel (L := L) (f := f) (g := σ.2.1 49) hE hC (fun q hq => l3 q (by omega)) (fun i hi => by rw [f2 i hi, l2 i hi]) (fun i hi => by rw [l3 _ (by omega)]; exact hC.2.2.2.2.2.1 i hi) (fun i hi => by rw [l2 i hi]; exact gH_N hWb hi n) (fun i hi => by rw [l3 _ (by omega)]; exact hE.2.2.2.2.1.2.2.2.2.1 i hi)
    have e49 : csA (csA σ 47 f) 49 (σ.2.1 49) = csA σ 47 f := by
      have := csA_id (csA σ 47 f) 49
      rw [csA_n _ _ _ _ (show (49 : Nat) ≠ 47 by decide)] at this
      exact this
    rw [e49] at pr
    obtain ⟨hE1, hC1⟩ := pr
    have hT1 : TR (aw A 7 L) (twA τ 7 L) := hT.W (by decide)
    obtain ⟨σ2, r1, r2, gg, bb, r3⟩ := reachedAt_C (X := X) hF hE1 hC1 12
    obtain ⟨τ2, u1, u2⟩ := reach_T hF hE1.2.2 hT1 hE1.l0 (hour := 12) (ns := -1) (nh := -1)
    obtain ⟨v, ev⟩ : ∃ v, v = sReach (aw A 7 L) (sTide (aw A 7 L) 12) (-1) (-1) := ⟨_, rfl⟩
    rw [← ev] at r1 u1
    rw [f1, eK1] at c
    rw [l1, Option.bind_some, u1, Option.bind_some] at t
    have c : f_X0_fillNights_L88 F KC (ad 0) (Int32.ofNat n) c3 (fc + 1) (Int32.ofNat s) (cM X ad σ B) =
        Option.bind (gfR (cM X ad (csA σ 47 f) B) (ad 0) 0 17) fun x3 =>
        Option.bind (oc (cM X ad (csA σ 47 f) B) (ad 0) 0) fun u7 =>
        Option.bind (f_X0_reachedAt F (ad 0) 12 (cM X ad (csA σ 47 f) B)) fun q5 =>
        if (c3 &&& (q5.1 ^^^ (-1))) = 0 then
          Option.bind (sI q5.2 4 x3 (Int32.ofNat s) 1) fun μ15 =>
          nm (Int32.ofNat s + 1) fun x16 =>
          f_X0_fillNights_L88 F KC (ad 0) (Int32.ofNat n) c3 fc x16 μ15
        else
          Option.bind (sI q5.2 4 x3 (Int32.ofNat s) 0) fun μ11 =>
          nm (Int32.ofNat s + 1) fun x12 =>
          f_X0_fillNights_L88 F KC (ad 0) (Int32.ofNat n) c3 fc x12 μ11 := c
    rw [o0_17 hA, Option.bind_some, oc0 hA, Option.bind_some, r1, Option.bind_some] at c
    have c : f_X0_fillNights_L88 F KC (ad 0) (Int32.ofNat n) c3 (fc + 1) (Int32.ofNat s) (cM X ad σ B) =
        if (c3 &&& (v ^^^ (-1))) = 0 then
          Option.bind (sI (cM X ad σ2 B) 4 (ad 30) (Int32.ofNat s) 1) fun μ15 =>
          nm (Int32.ofNat s + 1) fun x16 =>
          f_X0_fillNights_L88 F KC (ad 0) (Int32.ofNat n) c3 fc x16 μ15
        else
          Option.bind (sI (cM X ad σ2 B) 4 (ad 30) (Int32.ofNat s) 0) fun μ11 =>
          nm (Int32.ofNat s + 1) fun x12 =>
          f_X0_fillNights_L88 F KC (ad 0) (Int32.ofNat n) c3 fc x12 μ11 := c
    have t : t_X9_layNights_L24 F KT c3 (Int32.ofNat (2 ^ n)) (ft + 1) (Int32.ofNat s) τ =
      if (c3 &&& (v ^^^ (-1))) = 0 then
        Option.bind (tsA τ2 30 4 256 (Int32.ofNat s) 1) fun τ12 =>
        nm (Int32.ofNat s + 1) fun x13 =>
        t_X9_layNights_L24 F KT c3 (Int32.ofNat (2 ^ n)) ft x13 τ12
      else
        Option.bind (tsA τ2 30 4 256 (Int32.ofNat s) 0) fun τ8 =>
        nm (Int32.ofNat s + 1) fun x9 =>
        t_X9_layNights_L24 F KT c3 (Int32.ofNat (2 ^ n)) ft x9 τ8 := t
    have nx : ∀ x : Int32, (x = 0 ∨ x = 1) → ∃ (A' : Av) (σ' : Cs) (τ' : Tw), (Option.bind (sI (cM X ad σ2 B) 4 (ad 30) (Int32.ofNat s) x) fun μ15 =>
          nm (Int32.ofNat s + 1) fun x16 =>
          f_X0_fillNights_L88 F KC (ad 0) (Int32.ofNat n) c3 fc x16 μ15) = KC (cM X ad σ' B) ∧ (Option.bind (tsA τ2 30 4 256 (Int32.ofNat s) x) fun τ12 =>
        nm (Int32.ofNat s + 1) fun x13 =>
        t_X9_layNights_L24 F KT c3 (Int32.ofNat (2 ^ n)) ft x13 τ12) = KT τ' ∧ NI n w Ab σb (2 ^ n) A' σ' ∧ EV ad B A' ∧ CR ad B A' σ' ∧ TR A' τ' := by
      intro x hx
      have ex : nar 4 x = x := by
        rcases hx with rfl | rfl <;> rfl
      rw [s30 hA _ _ _ (by omega), Option.bind_some, nmE, n_lp 1 s, ex, tsA_n _ _ _ _ _ _ (by omega) (by omega), Option.bind_some, nmE, ex, u2.2 30 rfl]
      have a30 : aw A 7 L 30 = A 30 := aw_n _ _ _ _ (by decide)
      have hi : irr (aw A 7 L) (aw (aw A 7 L) 30 (upd (aw A 7 L 30) s x)) := irr.w (by omega)
      obtain ⟨i1, i2, i3, i4, i5⟩ := hI
      have s2o : ∀ r, r ≠ 11 → r ≠ 47 → σ2.2.1 r = σ.2.1 r := fun r h1 h2 => by
        rw [r3]
        show (csA (csA σ 47 f) 11 gg).2.1 r = _
        rw [csA_n _ _ _ _ h1, csA_n _ _ _ _ h2]
      refine ih (s + 1) fc ft (aw (aw A 7 L) 30 (upd (aw A 7 L 30) s x)) (csA σ2 30 (upd (σ2.2.1 30) s x)) _ (by omega) (by omega) (by omega) ⟨fun j h1 h2 => ?_, fun q hq => ?_, fun h hh hw => ?_, fun r hr => ?_, fun s' hs' => ?_⟩ (hi.ev hE1) (hi.cr (r2.a rfl)) (u2.W (by decide))
      · rw [aw_n _ _ _ _ h2, aw_n _ _ _ _ h1]; exact i1 j h1 h2
      · rw [aw_n _ _ _ _ (by decide), aw_s, l3 q hq]; exact i2 q hq
      · rw [aw_n _ _ _ _ (by decide), aw_s, l2 h hh]
        exact gH_o n hw
      · rw [csA_n _ _ _ _ (by omega), s2o r (by omega) (by omega)]
        exact i4 r hr
      · rw [aw_s, csA_s]
        by_cases e : s' = s
        · rw [e, up_s, up_s]
          exact ⟨hx, rfl⟩
        · rw [up_n _ _ _ _ e, up_n _ _ _ _ e, a30, s2o 30 (by decide) (by decide)]
          exact i5 s' (by omega)
    by_cases q : c3 &&& (v ^^^ (-1)) = 0
    · rw [if_pos q] at c t
      obtain ⟨A', σ', τ', y1, y2, y3⟩ := nx 1 (Or.inr rfl)
      exact ⟨A', σ', τ', c.trans y1, t.trans y2, y3⟩
    · rw [if_neg q] at c t
      obtain ⟨A', σ', τ', y1, y2, y3⟩ := nx 0 (Or.inl rfl)
      exact ⟨A', σ', τ', c.trans y1, t.trans y2, y3⟩
