set_option maxRecDepth 100000
/-! conditions: both sides at once -/
variable {X : Nat → Option Ob} {ad : Nat → Nat} {B : Sw} {A A' : Av} {σ σ' : Cs} {τ : Tw} {F : Nat}
/-- what a comparison says -/
def cmpv (op x y : Int32) : Int32 := if op = 300 then (if x = y then 1 else 0) else if op = 301 then (if x = y then 0 else 1) else if op = 302 then (if y < x then 0 else 1) else (if y ≤ x then 0 else 1)
theorem cmpv_01 (op x y : Int32) : cmpv op x y = 0 ∨ cmpv op x y = 1 := by
  unfold cmpv
  split
  · split
    · exact Or.inr rfl
    · exact Or.inl rfl
  · split
    · split
      · exact Or.inl rfl
      · exact Or.inr rfl
    · split
      · split
        · exact Or.inl rfl
        · exact Or.inr rfl
      · split
        · exact Or.inl rfl
        · exact Or.inr rfl
/-- what a relation says -/
def litv (op nt : Int32) (x y : Option Int32) : Int32 := match x, y with
  | some x, some y => if cmpv op x y = nt then 0 else 1
  | _, _ => nt
theorem beside_C (hA : AdOK ad B) {env : Nat → Int32} {b l r dl dr : Nat} {s op : Int32} {cl cr : Cd} (h2 : B.1 b = some (.inr (15, [.int s, .ref l, .ref r]))) (h3 : (s = 61 ∧ op = 300) ∨ (s = 33 ∧ op = 301) ∨ (s = 109 ∧ op = 302) ∨ (s = 60 ∧ op = 60)) (hl : TrB B dl l cl) (hr : TrB B dr r cr) (ll : dl ≤ 410) (lr : dr ≤ 410) (he : ∀ k, k < 9 → σ.2.1 11 k = env k) : ∃ z, f_X15_holds F b (ad 10) (cM X ad σ B) = some (litv op 0 (vl env cl) (vl env cr), cM X ad (csI σ 41 z) B) := by
  obtain ⟨a, σ1, e1, h4⟩ := value_C (X := X) (F := F) hA dl 410 l cl (csI σ 41 0) hl ll he
  have he1 : ∀ k, k < 9 → σ1.2.1 11 k = env k := by
    rcases h4 with ⟨e, -⟩ | ⟨e, -⟩ <;> (subst e; exact he)
  obtain ⟨c, σ2, e2, h5⟩ := value_C (X := X) (F := F) hA dr 410 r cr σ1 hr lr he1
  unfold f_X15_holds
  rw [p10_1 hA, Option.bind_some, F_gR (k := 1) h2 rfl, Option.bind_some, e1, Option.bind_some, F_gR (k := 2) h2 rfl, Option.bind_some, e2, Option.bind_some, o10_1 hA, Option.bind_some]
  rcases h4 with ⟨e, g1⟩ | ⟨e, g1⟩
  · subst e
    rcases h5 with ⟨e, g2⟩ | ⟨e, g2⟩
    · subst e
      rw [csI_s, if_pos rfl, F_gI (k := 0) h2 rfl, Option.bind_some, vl_s g1, vl_s g2]
      refine ⟨0, ?_⟩
      unfold litv cmpv
      rcases h3 with ⟨q1, q2⟩ | ⟨q1, q2⟩ | ⟨q1, q2⟩ | ⟨q1, q2⟩
      · subst q1; subst q2
        show (if a = c then _ else _) = _
        by_cases h : a = c
        · rw [if_pos h]; simp [h]
        · rw [if_neg h]; simp [h]
      · subst q1; subst q2
        show (if a = c then _ else _) = _
        by_cases h : a = c
        · rw [if_pos h]; simp [h]
        · rw [if_neg h]; simp [h]
      · subst q1; subst q2
        show (if c < a then _ else _) = _
        by_cases h : c < a
        · rw [if_pos h]; simp [h]
        · rw [if_neg h]; simp [h]
      · subst q1; subst q2
        show (if c ≤ a then _ else _) = _
        by_cases h : c ≤ a
        · rw [if_pos h]; simp [h]
        · rw [if_neg h]; simp [h]
    · subst e
      rw [csI_s, if_neg (by decide), csI_csI, vl_s g1, vl_n g2]
      exact ⟨1, rfl⟩
  · subst e
    rcases h5 with ⟨e, g2⟩ | ⟨e, g2⟩
    · subst e
      rw [csI_s, if_neg (by decide), csI_csI, vl_n g1]
      exact ⟨1, rfl⟩
    · subst e
      rw [csI_s, if_neg (by decide), csI_csI, csI_csI, vl_n g1]
      exact ⟨1, rfl⟩
theorem litv_1 (op : Int32) (x y : Option Int32) : litv op 1 x y = if litv op 0 x y = 0 then 1 else 0 := by
  unfold litv
  cases x with
  | none => rfl
  | some x =>
    cases y with
    | none => rfl
    | some y =>
      show (if cmpv op x y = 1 then (0 : Int32) else 1) = if (if cmpv op x y = 0 then (0 : Int32) else 1) = 0 then 1 else 0
      rcases cmpv_01 op x y with h | h
      · rw [h]; rfl
      · rw [h]; rfl
theorem litv_01 {op nt : Int32} (hn : nt = 0 ∨ nt = 1) (x y : Option Int32) : litv op nt x y = 0 ∨ litv op nt x y = 1 := by
  unfold litv
  cases x with
  | none => exact hn
  | some x =>
    cases y with
    | none => exact hn
    | some y =>
      show (if cmpv op x y = nt then (0 : Int32) else 1) = 0 ∨ (if cmpv op x y = nt then (0 : Int32) else 1) = 1
      by_cases h : cmpv op x y = nt
      · rw [if_pos h]; exact Or.inl rfl
      · rw [if_neg h]; exact Or.inr rfl
theorem oc_no {t ci cj : Nat} {fs : List Value} (h1 : B.1 t = some (.inr (ci, fs))) (hne : ci ≠ cj) : ¬ oc (cM X ad σ B) t cj = some () := fun z => by
  rw [F_oc_n h1 hne] at z
  cases z
theorem lit_T (hF : 1000 ≤ F) (hT : TR A τ) {env : Nat → Int32} {k dl dr f0 : Nat} {cl cr : Cd} (hk : k < 200) (hl : CdOK dl cl) (hr : CdOK dr cr) (h14 : A 14 k = Int32.ofNat f0) (h15 : A 15 k = Int32.ofNat (f0 + cl.length)) (h16 : A 16 k = Int32.ofNat (f0 + cl.length + cr.length)) (hc1 : cAt A f0 cl) (hc2 : cAt A (f0 + cl.length) cr) (hle : f0 + cl.length + cr.length ≤ 500) (hn : A 12 k = 0 ∨ A 12 k = 1) (he : ∀ j, j < 9 → τ.2.1 23 j = env j) : ∃ τ', t_X9_isLit F (Int32.ofNat k) τ = some (litv (A 13 k) (A 12 k) (vl env cl) (vl env cr), τ') ∧ TR A τ' ∧ ∀ j, j < 9 → τ'.2.1 23 j = env j := by
  obtain ⟨b1, g1, e1, q1⟩ := sumv_T (F := F) (τ := τ) (env := env) hF hl hc1 (by omega) (hT.2 9 rfl) (hT.2 10 rfl) he
  have T1 : TR A (tsI (twA τ 24 g1) 35 b1) := (hT.w rfl).i rfl
  obtain ⟨b2, g2, e2, q2⟩ := sumv_T (F := F) (τ := tsI (twA τ 24 g1) 35 b1) (env := env) hF hr hc2 hle (T1.2 9 rfl) (T1.2 10 rfl) he
  have T2 : TR A (tsI (twA (tsI (twA τ 24 g1) 35 b1) 24 g2) 35 b2) := (T1.w rfl).i rfl
  unfold t_X9_isLit
  simp (disch := omega) only [Option.bind_some, Option.bind_none, nmE, n_pp, n_pl, n_lp, n_mm, n_ml, n_lm, taI_n, taI_l, tsA_n, tsA_l, nar0, twA_1, twA_s, twA_n, twA_2, twA_twA, tsI_s, tsI_n, tsI_2, c_le, c_le_l, c_le_r, c_lt, c_lt_l, c_lt_r, c_eq, c_eq_l, c_eq_r, if_true, if_false, if_pos, if_neg, hT.2 14 rfl, hT.2 15 rfl, h14, h15, e1]
  rcases q1 with ⟨r1, r2⟩ | ⟨r1, r2⟩
  · obtain ⟨x, hx⟩ := Option.isSome_iff_exists.mp r2
    rw [if_pos r1]
    simp (disch := omega) only [Option.bind_some, Option.bind_none, nmE, n_pp, n_pl, n_lp, n_mm, n_ml, n_lm, taI_n, taI_l, tsA_n, tsA_l, nar0, twA_1, twA_s, twA_n, twA_2, twA_twA, tsI_s, tsI_n, tsI_2, c_le, c_le_l, c_le_r, c_lt, c_lt_l, c_lt_r, c_eq, c_eq_l, c_eq_r, if_true, if_false, if_pos, if_neg, T1.2 15 rfl, T1.2 16 rfl, hT.2 15 rfl, hT.2 16 rfl, h15, h16, e2]
    rcases q2 with ⟨p1, p2⟩ | ⟨p1, p2⟩
    · obtain ⟨y, hy⟩ := Option.isSome_iff_exists.mp p2
      rw [if_pos p1, hx, hy]
      have j : ∀ v : Int32, t_X9_isLit_j147 F (Int32.ofNat k) v (tsI (twA (tsI (twA τ 24 g1) 35 b1) 24 g2) 35 b2) = some (if v = A 12 k then 0 else 1, tsI (twA (tsI (twA τ 24 g1) 35 b1) 24 g2) 35 b2) := by
        intro v
        unfold t_X9_isLit_j147
        rw [taI_n _ _ _ _ (by omega) (by decide), T2.2 12 rfl, Option.bind_some]
        by_cases h : v = A 12 k
        · rw [if_pos h, if_pos h]
        · rw [if_neg h, if_neg h]
      refine ⟨tsI (twA (tsI (twA τ 24 g1) 35 b1) 24 g2) 35 b2, ?_, T2, he⟩
      have e13 : ∀ K : Int32 → Option (Int32 × Tw), Option.bind (taI (tsI (twA (tsI (twA τ 24 g1) 35 b1) 24 g2) 35 b2) 13 400 (Int32.ofNat k)) K = K (A 13 k) := fun K => by rw [taI_n _ _ _ _ (by omega) (by decide), T2.2 13 rfl, Option.bind_some]
      have e13' : ∀ K : Int32 → Option (Int32 × Tw), Option.bind (some (τ.2.1 13 k)) K = K (A 13 k) := fun K => by rw [hT.2 13 rfl, Option.bind_some]
      simp only [Option.getD_some, hT.2 13 rfl, j]
      show _ = some (if cmpv (A 13 k) x y = A 12 k then (0 : Int32) else 1, _)
      unfold cmpv
      by_cases c1 : A 13 k = 300
      · rw [if_pos c1, if_pos c1]
        by_cases h : x = y
        · rw [if_pos h, if_pos h]
        · rw [if_neg h, if_neg h]
      rw [if_neg c1, if_neg c1]
      by_cases c2 : A 13 k = 301
      · rw [if_pos c2, if_pos c2]
        by_cases h : x = y
        · rw [if_pos h, if_pos h]
        · rw [if_neg h, if_neg h]
      rw [if_neg c2, if_neg c2]
      by_cases c3 : A 13 k = 302
      · rw [if_pos c3, if_pos c3]
        by_cases h : y < x
        · rw [if_pos h, if_pos h]
        · rw [if_neg h, if_neg h]
      rw [if_neg c3, if_neg c3]
      by_cases h : y ≤ x
      · rw [if_pos h, if_pos h]
      · rw [if_neg h, if_neg h]
    · have n1 : ¬ b2 = 0 := by rw [p1]; decide
      rw [if_neg n1, hx, p2]
      refine ⟨tsI (twA (tsI (twA τ 24 g1) 35 b1) 24 g2) 35 b2, ?_, T2, he⟩
      simp only [hT.2 12 rfl, if_pos hn]
      rfl
  · have n1 : ¬ b1 = 0 := by rw [r1]; decide
    rw [if_neg n1, r2]
    refine ⟨tsI (twA τ 24 g1) 35 b1, ?_, T1, he⟩
    simp (disch := omega) only [Option.bind_some, Option.bind_none, nmE, n_pp, n_pl, n_lp, n_mm, n_ml, n_lm, taI_n, taI_l, tsA_n, tsA_l, nar0, twA_1, twA_s, twA_n, twA_2, twA_twA, tsI_s, tsI_n, tsI_2, c_le, c_le_l, c_le_r, c_lt, c_lt_l, c_lt_r, c_eq, c_eq_l, c_eq_r, if_true, if_false, if_pos, if_neg, hT.2 12 rfl]
    rfl
