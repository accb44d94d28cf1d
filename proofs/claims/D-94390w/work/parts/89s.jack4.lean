set_option maxRecDepth 100000
/-! 17: jack; how many of each -/
variable {X : Nat → Option Ob} {ad ad' : Nat → Nat} {B B' : Sw} {A A' : Av} {σ σ' : Cs} {τ : Tw} {F : Nat}
def jR (M N v a b : Nat) : Prop := (a = M ∧ b = N) ∨ (a = b ∧ a ≤ v)
theorem fin_rel {M N v : Nat} (hM : v < M) (hN : v < N) {g1 g2 : Nat → Nat} : ∀ (d n a b : Nat), jR M N v a b → (∀ i, n ≤ i → i < n + d → (g1 i = M + i ∧ g2 i = N + i) ∨ (g1 i = g2 i ∧ g1 i ≤ v)) → jR M N v (fin g1 d a n) (fin g2 d b n) := by
  intro d
  induction d with
  | zero => intro n a b h _; exact h
  | succ d ih =>
    intro n a b h hg
    refine ih (n + 1) (min a (g1 n)) (min b (g2 n)) ?_ (fun i h1 h2 => hg i (by omega) (by omega))
    have := hg n (Nat.le_refl _) (by omega)
    unfold jR at h ⊢
    omega
theorem jP_rel (hW : WF A) {M N : Nat} (hM : 1000 ≤ M) (hN : 1000 ≤ N) : ∀ d v, v < 1000 → jR M N v (jP A M d v) (jP A N d v) := by
  intro d
  induction d with
  | zero =>
    intro v hv
    show jR M N v (if v = 0 then 0 else M) (if v = 0 then 0 else N)
    by_cases h : v = 0
    · rw [if_pos h, if_pos h]; exact Or.inr ⟨rfl, by omega⟩
    · rw [if_neg h, if_neg h]; exact Or.inl ⟨rfl, rfl⟩
  | succ d ih =>
    intro v hv
    obtain ⟨bl1, bl2⟩ := jL_b hW (7 - d)
    refine fin_rel (by omega) (by omega) _ 0 M N (Or.inl ⟨rfl, rfl⟩) fun i h1 h2 => ?_
    have hil : i * jL A (7 - d) ≤ v := (le_dv bl1).1 (by omega)
    have hi : i ≤ i * jL A (7 - d) := Nat.le_mul_of_pos_right i bl1
    have := ih (v - i * jL A (7 - d)) (by omega)
    show (jP A M d (v - i * jL A (7 - d)) + i = M + i ∧ jP A N d (v - i * jL A (7 - d)) + i = N + i) ∨ (jP A M d (v - i * jL A (7 - d)) + i = jP A N d (v - i * jL A (7 - d)) + i ∧ jP A M d (v - i * jL A (7 - d)) + i ≤ v)
    unfold jR at this
    omega
/-- n of kind k, then the rest, is a best choice -/
abbrev jCk (A : Av) (M k v n : Nat) : Prop := jP A M (8 - (k + 1)) (v - n * jL A k) + n = jP A M (8 - k) v
def jT (A : Av) (M k v : Nat) : Nat → Nat
  | 0 => 0
  | n + 1 => if jCk A M k v (n + 1) then n + 1 else jT A M k v n
theorem jT_ok {M k v : Nat} : ∀ n, (∃ m, m ≤ n ∧ jCk A M k v m) → jCk A M k v (jT A M k v n) ∧ jT A M k v n ≤ n := by
  intro n
  induction n with
  | zero =>
    rintro ⟨m, hm, h⟩
    have : m = 0 := by omega
    rw [this] at h
    exact ⟨h, Nat.le_refl _⟩
  | succ n ih =>
    rintro ⟨m, hm, h⟩
    show jCk A M k v (if jCk A M k v (n + 1) then n + 1 else jT A M k v n) ∧ (if jCk A M k v (n + 1) then n + 1 else jT A M k v n) ≤ n + 1
    by_cases c : jCk A M k v (n + 1)
    · rw [if_pos c]; exact ⟨c, Nat.le_refl _⟩
    · rw [if_neg c]
      have hm2 : m ≤ n := by
        apply Classical.byContradiction
        intro q
        have : m = n + 1 := by omega
        rw [this] at h
        exact c h
      obtain ⟨p1, p2⟩ := ih ⟨m, hm2, h⟩
      exact ⟨p1, by omega⟩
theorem jCk_ex {M k v : Nat} (hk : k < 8) (hv : jP A M (8 - k) v < M) : ∃ m, m ≤ min (jS A k) (v / jL A k) ∧ jCk A M k v m := by
  unfold jCk
  rw [jP_row hk] at hv ⊢
  rcases fin_at (fun n => jP A M (8 - (k + 1)) (v - n * jL A k) + n) (min (jS A k) (v / jL A k) + 1) M 0 with h | ⟨m, h1, h2, h3⟩
  · rw [h] at hv
    omega
  · exact ⟨m, by omega, h3.symm⟩
theorem jCk_rel (hW : WF A) {M N k v n : Nat} (hM : 1000 ≤ M) (hN : 1000 ≤ N) (hv : v < 1000) (hval : jP A M (8 - k) v < M) : jCk A M k v n ↔ jCk A N k v n := by
  have h1 := jP_rel hW hM hN (8 - k) v hv
  have h2 := jP_rel hW hM hN (8 - (k + 1)) (v - n * jL A k) (by omega)
  unfold jR at h1 h2
  unfold jCk
  omega
/-- the component's loop -/
theorem takes_C (hE : EV ad B A) (hQ : ∀ j, j < 9 → σ.2.2.2 17 j = some (ad (18 + j))) {p : Nat} (hp : p < 100) (hFJ : FJ A p σ 0) {k v : Nat} (hk : k < zN A 6 5) (hv : v ≤ p) : ∀ (n fc : Nat), n ≤ min (jS A k) (v / jL A k) → n < fc → (∃ m, m ≤ n ∧ jCk A 1000000000 k v m) → f_X0_takes_L35 F (ad 0) (Int32.ofNat k) (Int32.ofNat v) (Int32.ofNat (jL A k)) (cM X ad σ B) fc (Int32.ofNat n) = some (Int32.ofNat (jT A 1000000000 k v n)) := by
  have hA := hE.1
  have lW := hE.2.2.W.2
  obtain ⟨bl1, bl2⟩ := jL_b hE.2.2 k
  have qr : σ.2.2.2 17 k = some (ad (18 + k)) := hQ k (by omega)
  have qr1 : σ.2.2.2 17 (k + 1) = some (ad (18 + (k + 1))) := hQ (k + 1) (by omega)
  have r0 := hFJ k (Nat.zero_le _) (by omega) v hv
  have b0 := jP_le A 1000000000 (8 - k) v
  have stp : ∀ n fc, n ≤ min (jS A k) (v / jL A k) → f_X0_takes_L35 F (ad 0) (Int32.ofNat k) (Int32.ofNat v) (Int32.ofNat (jL A k)) (cM X ad σ B) (fc + 1) (Int32.ofNat n) = if jCk A 1000000000 k v n then some (Int32.ofNat n) else f_X0_takes_L35 F (ad 0) (Int32.ofNat k) (Int32.ofNat v) (Int32.ofNat (jL A k)) (cM X ad σ B) fc (Int32.ofNat n + (-1)) := by
    intro n fc hn
    have hnl : n * jL A k ≤ v := (le_dv bl1).1 (by omega)
    have hnn : n ≤ n * jL A k := Nat.le_mul_of_pos_right n bl1
    have r1 := hFJ (k + 1) (Nat.zero_le _) (by omega) (v - n * jL A k) (by omega)
    have b1 := jP_le A 1000000000 (8 - (k + 1)) (v - n * jL A k)
    show f_X0_takes_L35_b F (ad 0) (Int32.ofNat k) (Int32.ofNat v) (Int32.ofNat (jL A k)) (cM X ad σ B) (f_X0_takes_L35 F (ad 0) (Int32.ofNat k) (Int32.ofNat v) (Int32.ofNat (jL A k)) (cM X ad σ B) fc) (Int32.ofNat n) = _
    unfold f_X0_takes_L35_b jCk
    rw [n_mm, n_ss _ _ hnl]
    simp (disch := omega) only [Option.bind_some, Option.bind_none, nmE, n_pp, n_pl, n_lp, n_mm, n_ml, n_lm, csI_s, csI_n, csI_2, csA_1, csA_s, csA_n, csA_2, csL_1, csL_2, csL_s, csL_n, csL_3, csQ_1, csQ_2, csQ_3, csQ_s, csQ_n, nar0, c_le, c_le_l, c_le_r, c_lt, c_lt_l, c_lt_r, c_eq, c_eq_l, c_eq_r, if_true, if_false, if_pos, if_neg, o0_12 hA, q17r hA, qr, qr1, a_pc hA, r0, r1]
  intro n
  induction n with
  | zero =>
    rintro fc hn hfc ⟨m, hm, h⟩
    obtain ⟨fc, rfl⟩ : ∃ m, fc = m + 1 := ⟨fc - 1, by omega⟩
    have : m = 0 := by omega
    rw [this] at h
    rw [stp 0 fc hn, if_pos h]
    rfl
  | succ n ih =>
    rintro fc hn hfc ⟨m, hm, h⟩
    obtain ⟨fc, rfl⟩ : ∃ m, fc = m + 1 := ⟨fc - 1, by omega⟩
    rw [stp (n + 1) fc hn]
    show _ = some (Int32.ofNat (if jCk A 1000000000 k v (n + 1) then n + 1 else jT A 1000000000 k v n))
    by_cases c : jCk A 1000000000 k v (n + 1)
    · rw [if_pos c, if_pos c]
    · rw [if_neg c, if_neg c]
      have er : Int32.ofNat (n + 1) + (-1) = Int32.ofNat n := by
        have e1 : Int32.ofNat 1 + (-1) = (0 : Int32) := by decide
        rw [Int32.ofNat_add, Int32.add_assoc, e1, Int32.add_zero]
      rw [er]
      refine ih fc (by omega) (by omega) ⟨m, ?_, h⟩
      apply Classical.byContradiction
      intro q
      have : m = n + 1 := by omega
      rw [this] at h
      exact c h
/-- the reference's loop -/
theorem takes_T (hW : WF A) {p : Nat} (hp : p < 100) {g : Nat → Int32} (hG : GJ A p g 0) {k v : Nat} (hk : k < 8) (hv : v ≤ p) (hval : jP A 1000000000 (8 - k) v < 1000000000) (τ0 : Tw) (e25 : τ0.2.1 25 = g) {K : Int32 → Option (Int32 × Tw)} : ∀ (n fc : Nat), n ≤ min (jS A k) (v / jL A k) → n < fc → (∃ m, m ≤ n ∧ jCk A 1000000000 k v m) → t_X9_jacks_L274 F K (Int32.ofNat p) (Int32.ofNat v) (Int32.ofNat k) (Int32.ofNat (jL A k)) τ0 fc (Int32.ofNat n) = K (Int32.ofNat (jT A 1000000000 k v n)) := by
  obtain ⟨bl1, bl2⟩ := jL_b hW k
  have r0 := hG k (Nat.zero_le _) (by omega) v hv
  have b0 := jP_le A 1000000 (8 - k) v
  have stp : ∀ n fc, n ≤ min (jS A k) (v / jL A k) → t_X9_jacks_L274 F K (Int32.ofNat p) (Int32.ofNat v) (Int32.ofNat k) (Int32.ofNat (jL A k)) τ0 (fc + 1) (Int32.ofNat n) = if jCk A 1000000000 k v n then K (Int32.ofNat n) else t_X9_jacks_L274 F K (Int32.ofNat p) (Int32.ofNat v) (Int32.ofNat k) (Int32.ofNat (jL A k)) τ0 fc (Int32.ofNat n + (-1)) := by
    intro n fc hn
    have hnl : n * jL A k ≤ v := (le_dv bl1).1 (by omega)
    have hnn : n ≤ n * jL A k := Nat.le_mul_of_pos_right n bl1
    have r1 := hG (k + 1) (Nat.zero_le _) (by omega) (v - n * jL A k) (by omega)
    have b1 := jP_le A 1000000 (8 - (k + 1)) (v - n * jL A k)
    have ix : (((100 : Int32) * Int32.ofNat k + 100) + Int32.ofNat v) - Int32.ofNat n * Int32.ofNat (jL A k) = Int32.ofNat (100 * (k + 1) + (v - n * jL A k)) := by
      rw [n_mm]
      simp (disch := omega) only [Option.bind_some, Option.bind_none, nmE, n_pp, n_pl, n_lp, n_mm, n_ml, n_lm, taI_n, taI_l, tsA_n, tsA_l, nar0, twA_1, twA_s, twA_n, twA_2, twA_twA, tsI_s, tsI_n, tsI_2, c_le, c_le_l, c_le_r, c_lt, c_lt_l, c_lt_r, c_eq, c_eq_l, c_eq_r, if_true, if_false, if_pos, if_neg]
      rw [n_ss _ _ (by omega)]
      congr 1
      omega
    have hrel := jCk_rel hW (N := 1000000) (k := k) (v := v) (n := n) (show 1000 ≤ 1000000000 by omega) (by omega) (by omega) hval
    show t_X9_jacks_L274_b F K (Int32.ofNat p) (Int32.ofNat v) (Int32.ofNat k) (Int32.ofNat (jL A k)) τ0 (t_X9_jacks_L274 F K (Int32.ofNat p) (Int32.ofNat v) (Int32.ofNat k) (Int32.ofNat (jL A k)) τ0 fc) (Int32.ofNat n) = _
    unfold t_X9_jacks_L274_b
    rw [ix, taI_n _ _ _ _ (by omega) (by omega), Option.bind_some, e25, r1]
    simp (disch := omega) only [Option.bind_some, Option.bind_none, nmE, n_pp, n_pl, n_lp, n_mm, n_ml, n_lm, taI_n, taI_l, tsA_n, tsA_l, nar0, twA_1, twA_s, twA_n, twA_2, twA_twA, tsI_s, tsI_n, tsI_2, c_le, c_le_l, c_le_r, c_lt, c_lt_l, c_lt_r, c_eq, c_eq_l, c_eq_r, if_true, if_false, if_pos, if_neg, e25, r0]
    by_cases c : jCk A 1000000000 k v n
    · rw [if_pos c, if_pos (hrel.1 c)]
    · rw [if_neg c, if_neg (fun q => c (hrel.2 q))]
  intro n
  induction n with
  | zero =>
    rintro fc hn hfc ⟨m, hm, h⟩
    obtain ⟨fc, rfl⟩ : ∃ m, fc = m + 1 := ⟨fc - 1, by omega⟩
    have : m = 0 := by omega
    rw [this] at h
    rw [stp 0 fc hn, if_pos h]
    rfl
  | succ n ih =>
    rintro fc hn hfc ⟨m, hm, h⟩
    obtain ⟨fc, rfl⟩ : ∃ m, fc = m + 1 := ⟨fc - 1, by omega⟩
    rw [stp (n + 1) fc hn]
    show _ = K (Int32.ofNat (if jCk A 1000000000 k v (n + 1) then n + 1 else jT A 1000000000 k v n))
    by_cases c : jCk A 1000000000 k v (n + 1)
    · rw [if_pos c, if_pos c]
    · rw [if_neg c, if_neg c]
      have er : Int32.ofNat (n + 1) + (-1) = Int32.ofNat n := by
        have e1 : Int32.ofNat 1 + (-1) = (0 : Int32) := by decide
        rw [Int32.ofNat_add, Int32.add_assoc, e1, Int32.add_zero]
      rw [er]
      refine ih fc (by omega) (by omega) ⟨m, ?_, h⟩
      apply Classical.byContradiction
      intro q
      have : m = n + 1 := by omega
      rw [this] at h
      exact c h
