set_option maxRecDepth 100000
/-! the reference's laws -/
theorem twA_self (τ : Tw) (j : Nat) : twA τ j (τ.2.1 j) = τ := by
  refine Prod.ext rfl (Prod.ext (funext fun q => ?_) rfl)
  show (if q = j then τ.2.1 j else τ.2.1 q) = τ.2.1 q
  by_cases h : q = j
  · rw [if_pos h, h]
  · rw [if_neg h]
theorem askNone_T {F : Nat} (hF : 100 ≤ F) (τ : Tw) : ∃ g, t_X9_askNone F τ = some (twA τ 23 g) ∧ ∀ j, j < 9 → g j = 0 := by
  unfold t_X9_askNone
  refine for_up (L := t_X9_askNone_L2 F) (N := 9) (Inv := fun k s => ∃ g, s = twA τ 23 g ∧ ∀ j, j < k → g j = 0) (Post := fun r => ∃ g, r = some (twA τ 23 g) ∧ ∀ j, j < 9 → g j = 0) ?_ ?_ 9 0 F τ rfl (by omega) ⟨τ.2.1 23, (twA_self _ _).symm, fun j hj => absurd hj (Nat.not_lt_zero j)⟩
  · intro n k s hk ⟨g, e, hg⟩
    subst e
    refine Or.inl ⟨twA τ 23 (upd g k 0), ⟨_, rfl, fun j hj => ?_⟩, ?_⟩
    · by_cases h : j = k
      · rw [h, up_s]
      · rw [up_n _ _ _ _ h]
        exact hg j (by omega)
    · show t_X9_askNone_L2_b F (t_X9_askNone_L2 F n) (Int32.ofNat k) _ = _
      unfold t_X9_askNone_L2_b
      simp (disch := omega) only [Option.bind_some, Option.bind_none, nmE, n_pp, n_pl, n_lp, n_mm, n_ml, n_lm, taI_n, taI_l, tsA_n, tsA_l, nar0, twA_1, twA_s, twA_n, twA_2, twA_twA, tsI_s, tsI_n, tsI_2, c_le, c_le_l, c_le_r, c_lt, c_lt_l, c_lt_r, c_eq, c_eq_l, c_eq_r, if_true, if_false, if_pos, if_neg]
  · intro n s ⟨g, e, hg⟩
    subst e
    show ∃ h, t_X9_askNone_L2_b F (t_X9_askNone_L2 F n) (Int32.ofNat 9) _ = _ ∧ _
    unfold t_X9_askNone_L2_b
    simp (disch := omega) only [Option.bind_some, Option.bind_none, nmE, n_pp, n_pl, n_lp, n_mm, n_ml, n_lm, taI_n, taI_l, tsA_n, tsA_l, nar0, twA_1, twA_s, twA_n, twA_2, twA_twA, tsI_s, tsI_n, tsI_2, c_le, c_le_l, c_le_r, c_lt, c_lt_l, c_lt_r, c_eq, c_eq_l, c_eq_r, if_true, if_false, if_pos, if_neg]
    exact ⟨g, rfl, hg⟩
/-- a number held to 0 .. 99 -/
def hold (x : Int32) : Int32 := if (0 : Int32) ≤ x then (if x ≤ 99 then x else 99) else 0
theorem within_T {F : Nat} (x : Int32) : p_X9_within F x 0 99 = some (hold x) := by
  unfold p_X9_within hold
  by_cases h : (0 : Int32) ≤ x
  · rw [if_pos h, if_pos h]
    by_cases h2 : x ≤ 99
    · rw [if_pos h2, if_pos h2]
    · rw [if_neg h2, if_neg h2]
  · rw [if_neg h, if_neg h]
theorem hold_N (x : Int32) : isN (hold x) 99 := by
  unfold hold
  by_cases h : (0 : Int32) ≤ x
  · rw [if_pos h]
    by_cases h2 : x ≤ 99
    · rw [if_pos h2]
      have h3 := Int32.le_iff_toInt_le.mp h
      have h4 := Int32.le_iff_toInt_le.mp h2
      obtain ⟨k, hk, e⟩ := i_nat (x := x) (m := 99) h3 h4
      rw [e]
      exact isN.of hk (by decide)
    · rw [if_neg h2]
      exact isN.of (k := 99) (m := 99) (by decide) (by decide)
  · rw [if_neg h]
    exact isN.of (k := 0) (m := 99) (by decide) (by decide)
/-- the code of a law -/
def cdl (A : Av) : Nat → Nat → Cd
  | _, 0 => []
  | k, n + 1 => (A 9 k, A 10 k) :: cdl A (k + 1) n
theorem cdl_at {A : Av} : ∀ {c : Cd} {k : Nat}, cAt A k c → cdl A k c.length = c := by
  intro c
  induction c with
  | nil => intro k h; rfl
  | cons p c ih =>
    intro k h
    show (A 9 k, A 10 k) :: cdl A (k + 1) c.length = _
    rw [h.1, h.2.1, ih h.2.2]
/-- what a sum comes to, nought if it is broken -/
def sV (A : Av) (env : Nat → Int32) (k n : Nat) : Int32 := (vl env (cdl A k n)).getD 0
/-- a sum of the reference, its code being that of a tree -/
theorem sumv_T {F : Nat} {A : Av} {env : Nat → Int32} {d k : Nat} {c : Cd} {τ : Tw} (hF : 1000 ≤ F) (hc : CdOK d c) (ha : cAt A k c) (hk : k + c.length ≤ 500) (h9 : τ.2.1 9 = A 9) (h10 : τ.2.1 10 = A 10) (he : ∀ j, j < 9 → τ.2.1 23 j = env j) :
    ∃ b g, t_X9_sum F (Int32.ofNat k) (Int32.ofNat (k + c.length)) τ = some ((vl env c).getD 0, tsI (twA τ 24 g) 35 b) ∧ ((b = 0 ∧ (vl env c).isSome = true) ∨ (b = 1 ∧ vl env c = none)) := by
  unfold t_X9_sum
  have hl := hc.len
  obtain ⟨m, hm⟩ : ∃ m, F = (m + 1) + c.length := ⟨F - c.length - 1, by omega⟩
  have e0 : t_X9_sum_L10 F (Int32.ofNat (k + c.length)) F 0 (Int32.ofNat k) (tsI τ 35 0) = t_X9_sum_L10 F (Int32.ofNat (k + c.length)) ((m + 1) + c.length) (Int32.ofNat 0) (Int32.ofNat k) (tsI τ 35 0) := by rw [← hm]; rfl
  rw [nmE, e0]
  rcases sum_T (F := F) (T := k + c.length) hk d c k 0 (m + 1) (tsI τ 35 0) hc ha (Nat.le_refl _) (by omega) h9 h10 he with ⟨v, g, hv, e1, gv, -⟩ | ⟨hv, g, e1⟩
  · rw [e1, sumL_s]
    unfold t_X9_sum_L10_b
    rw [if_pos (Int32.le_refl _)]
    rw [vl_s hv]
    refine ⟨0, g, ?_, Or.inl ⟨rfl, rfl⟩⟩
    simp (disch := omega) only [Option.bind_some, Option.bind_none, nmE, n_pp, n_pl, n_lp, n_mm, n_ml, n_lm, taI_n, taI_l, tsA_n, tsA_l, nar0, twA_1, twA_s, twA_n, twA_2, twA_twA, tsI_s, tsI_n, tsI_2, c_le, c_le_l, c_le_r, c_lt, c_lt_l, c_lt_r, c_eq, c_eq_l, c_eq_r, if_true, if_false, if_pos, if_neg]
    rw [gv]
    rfl
  · rw [e1, vl_n hv]
    refine ⟨1, g, ?_, Or.inr ⟨rfl, rfl⟩⟩
    show some (0, tsI (tsI (twA τ 24 g) 35 0) 35 1) = some (0, _)
    refine congrArg (fun z => some ((0 : Int32), z)) ?_
    refine Prod.ext (funext fun j => ?_) rfl
    show (if j = 35 then (1 : Int32) else if j = 35 then 0 else τ.1 j) = if j = 35 then 1 else τ.1 j
    by_cases h : j = 35
    · rw [if_pos h, if_pos h]
    · rw [if_neg h, if_neg h, if_neg h]
/-- a law is told as a tree's code, or not at all -/
def LawC (A : Av) (w : Nat) : Prop := A 6 (10 + 2 * w) = -1 ∨ ∃ (d f0 : Nat) (c : Cd), CdOK d c ∧ A 6 (10 + 2 * w) = Int32.ofNat f0 ∧ A 6 (10 + 2 * w + 1) = Int32.ofNat (f0 + c.length) ∧ cAt A f0 c ∧ f0 + c.length ≤ 500
theorem LawB.c {A : Av} {B : Sw} {t w : Nat} {c0 : Int32 × Int32} (h : LawB A B t w c0) : LawC A w := by
  obtain ⟨d, c, h1, -, h | ⟨f0, h3, h4, h5, h6⟩⟩ := h
  · exact Or.inl h.1
  · exact Or.inr ⟨d, f0, c, h1.ok, h3, h4, h5, h6⟩
def sSay (A : Av) (w : Nat) (oth : Int32) (env : Nat → Int32) : Int32 := hold (if A 6 (10 + 2 * w) = -1 then oth else sV A env (zN A 6 (10 + 2 * w)) (zN A 6 (10 + 2 * w + 1) - zN A 6 (10 + 2 * w)))
theorem sSay_n {A : Av} {w : Nat} {oth : Int32} {env : Nat → Int32} (h : A 6 (10 + 2 * w) = -1) : sSay A w oth env = hold oth := by
  unfold sSay
  rw [if_pos h]
theorem ofNat_ne_m1 {k : Nat} (hk : k < 2147483648) : Int32.ofNat k ≠ -1 := fun h => by
  have h2 := congrArg Int32.toInt h
  rw [i_tn hk] at h2
  have h3 : (-1 : Int32).toInt = -1 := rfl
  omega
theorem ofNat_ne_m2 {k : Nat} (hk : k < 2147483648) : Int32.ofNat k ≠ -2 := fun h => by
  have h2 := congrArg Int32.toInt h
  rw [i_tn hk] at h2
  have h3 : (-2 : Int32).toInt = -2 := rfl
  omega
theorem ofNat_nn {k : Nat} (hk : k < 2147483648) : (0 : Int32) ≤ Int32.ofNat k := (c_le 0 k (by omega) hk).mpr (Nat.zero_le k)
theorem sSay_s {A : Av} {w f0 : Nat} {oth : Int32} {env : Nat → Int32} {c : Cd} (h1 : A 6 (10 + 2 * w) = Int32.ofNat f0) (h2 : A 6 (10 + 2 * w + 1) = Int32.ofNat (f0 + c.length)) (h3 : cAt A f0 c) (h4 : f0 + c.length ≤ 500) : sSay A w oth env = hold ((vl env c).getD 0) := by
  unfold sSay sV zN
  rw [h1, h2, if_neg (ofNat_ne_m1 (by omega)), i_cl (n := 501) (by omega) (by decide), i_cl (n := 501) (by omega) (by decide), Nat.add_sub_cancel_left, cdl_at h3]
theorem says_T {F : Nat} {A : Av} {w : Nat} {oth : Int32} {env : Nat → Int32} {τ : Tw} (hF : 1000 ≤ F) (hw : w < 3) (hL : LawC A w) (hT : TR A τ) (he : ∀ j, j < 9 → τ.2.1 23 j = env j) : ∃ τ', t_X9_says F (Int32.ofNat w) oth τ = some (sSay A w oth env, τ') ∧ TR A τ' ∧ ∀ j, j < 9 → τ'.2.1 23 j = env j := by
  unfold t_X9_says
  simp (disch := omega) only [Option.bind_some, Option.bind_none, nmE, n_pp, n_pl, n_lp, n_mm, n_ml, n_lm, taI_n, taI_l, tsA_n, tsA_l, nar0, twA_1, twA_s, twA_n, twA_2, twA_twA, tsI_s, tsI_n, tsI_2, c_le, c_le_l, c_le_r, c_lt, c_lt_l, c_lt_r, c_eq, c_eq_l, c_eq_r, if_true, if_false, if_pos, if_neg, hT.2 6 rfl]
  rcases hL with h | ⟨d, f0, c, hc, h1, h2, h3, h4⟩
  · rw [sSay_n h, h, if_neg (by decide), within_T]
    exact ⟨τ, rfl, hT, he⟩
  · rw [sSay_s h1 h2 h3 h4, h1, if_pos (ofNat_nn (by omega)), h2]
    obtain ⟨b, g, e, -⟩ := sumv_T (F := F) (τ := τ) (env := env) hF hc h3 h4 (hT.2 9 rfl) (hT.2 10 rfl) he
    rw [e]
    simp (disch := omega) only [Option.bind_some, Option.bind_none, nmE, n_pp, n_pl, n_lp, n_mm, n_ml, n_lm, taI_n, taI_l, tsA_n, tsA_l, nar0, twA_1, twA_s, twA_n, twA_2, twA_twA, tsI_s, tsI_n, tsI_2, c_le, c_le_l, c_le_r, c_lt, c_lt_l, c_lt_r, c_eq, c_eq_l, c_eq_r, if_true, if_false, if_pos, if_neg, within_T]
    exact ⟨_, rfl, (hT.w rfl).i rfl, he⟩
def sRk (A : Av) (h : Nat) : Int32 := if A 7 (30 + h) = -2 then 0 else A 6 (70 + zN A 7 (30 + h))
theorem WF.held {A : Av} (hW : WF A) {h : Nat} (hh : h < 16) : A 7 (30 + h) = -2 ∨ (A 7 (30 + h) = Int32.ofNat (zN A 7 (30 + h)) ∧ zN A 7 (30 + h) < zN A 6 1 ∧ zN A 7 (30 + h) ≤ 11 ∧ h < zN A 6 0) := by
  rcases hW.2.2.1.2.2.1 h hh with e | ⟨e1, e2, e3⟩
  · exact Or.inl e
  · exact Or.inr ⟨e1.1, e2, e1.2, e3⟩
theorem rankOf_T {F : Nat} {A : Av} {h : Nat} {τ : Tw} (hW : WF A) (hh : h < 16) (hT : TR A τ) : t_X9_rankOf F (Int32.ofNat h) τ = some (sRk A h) := by
  unfold t_X9_rankOf sRk
  simp (disch := omega) only [Option.bind_some, Option.bind_none, nmE, n_pp, n_pl, n_lp, n_mm, n_ml, n_lm, taI_n, taI_l, tsA_n, tsA_l, nar0, twA_1, twA_s, twA_n, twA_2, twA_twA, tsI_s, tsI_n, tsI_2, c_le, c_le_l, c_le_r, c_lt, c_lt_l, c_lt_r, c_eq, c_eq_l, c_eq_r, if_true, if_false, if_pos, if_neg, hT.2 7 rfl]
  rcases hW.held hh with e | ⟨e, h1, h2, -⟩
  · rw [e, if_neg (by decide), if_pos rfl]
  · have n2 : ¬ A 7 (30 + h) = -2 := by rw [e]; exact ofNat_ne_m2 (by omega)
    rw [if_neg n2, e, if_pos (ofNat_nn (by omega))]
    simp (disch := omega) only [Option.bind_some, Option.bind_none, nmE, n_pp, n_pl, n_lp, n_mm, n_ml, n_lm, taI_n, taI_l, tsA_n, tsA_l, nar0, twA_1, twA_s, twA_n, twA_2, twA_twA, tsI_s, tsI_n, tsI_2, c_le, c_le_l, c_le_r, c_lt, c_lt_l, c_lt_r, c_eq, c_eq_l, c_eq_r, if_true, if_false, if_pos, if_neg, hT.2 6 rfl]
def sX (A : Av) (h : Nat) : Int32 := A 6 (20 + 3 * h)
def sLd (A : Av) (h : Nat) : Int32 := A 6 (20 + 3 * h + 2)
def sHt (A : Av) (h : Nat) : Int32 := A 7 (10 + h)
def envD (A : Av) (h : Nat) : Nat → Int32 := fun k => if k = 1 then sRk A h else if k = 2 then sLd A h else if k = 3 then sX A h else 0
def sDue (A : Av) (h : Nat) : Int32 := sSay A 1 (sRk A h) (envD A h)
theorem xOf_T {F : Nat} {A : Av} {h : Nat} {τ : Tw} (hh : h < 16) (hT : TR A τ) : t_X9_xOf F (Int32.ofNat h) τ = some (sX A h) := by
  unfold t_X9_xOf sX
  simp (disch := omega) only [Option.bind_some, Option.bind_none, nmE, n_pp, n_pl, n_lp, n_mm, n_ml, n_lm, taI_n, taI_l, tsA_n, tsA_l, nar0, twA_1, twA_s, twA_n, twA_2, twA_twA, tsI_s, tsI_n, tsI_2, c_le, c_le_l, c_le_r, c_lt, c_lt_l, c_lt_r, c_eq, c_eq_l, c_eq_r, if_true, if_false, if_pos, if_neg, hT.2 6 rfl]
theorem heightOf_T {F : Nat} {A : Av} {h : Nat} {τ : Tw} (hh : h < 16) (hT : TR A τ) : t_X9_heightOf F (Int32.ofNat h) τ = some (sHt A h) := by
  unfold t_X9_heightOf sHt
  simp (disch := omega) only [Option.bind_some, Option.bind_none, nmE, n_pp, n_pl, n_lp, n_mm, n_ml, n_lm, taI_n, taI_l, tsA_n, tsA_l, nar0, twA_1, twA_s, twA_n, twA_2, twA_twA, tsI_s, tsI_n, tsI_2, c_le, c_le_l, c_le_r, c_lt, c_lt_l, c_lt_r, c_eq, c_eq_l, c_eq_r, if_true, if_false, if_pos, if_neg, hT.2 7 rfl]
theorem dueOf_T {F : Nat} {A : Av} {h : Nat} {τ : Tw} (hF : 1000 ≤ F) (hW : WF A) (hL : LawC A 1) (hh : h < 16) (hT : TR A τ) : ∃ τ', t_X9_dueOf F (Int32.ofNat h) τ = some (sDue A h, τ') ∧ TR A τ' := by
  unfold t_X9_dueOf
  obtain ⟨g, e, hg⟩ := askNone_T (F := F) (by omega) τ
  rw [e, Option.bind_some, rankOf_T hW hh (hT.w rfl)]
  simp (disch := omega) only [Option.bind_some, Option.bind_none, nmE, n_pp, n_pl, n_lp, n_mm, n_ml, n_lm, taI_n, taI_l, tsA_n, tsA_l, nar0, twA_1, twA_s, twA_n, twA_2, twA_twA, tsI_s, tsI_n, tsI_2, c_le, c_le_l, c_le_r, c_lt, c_lt_l, c_lt_r, c_eq, c_eq_l, c_eq_r, if_true, if_false, if_pos, if_neg, hT.2 6 rfl]
  rw [xOf_T hh ((hT.w rfl))]
  simp (disch := omega) only [Option.bind_some, Option.bind_none, nmE, n_pp, n_pl, n_lp, n_mm, n_ml, n_lm, taI_n, taI_l, tsA_n, tsA_l, nar0, twA_1, twA_s, twA_n, twA_2, twA_twA, tsI_s, tsI_n, tsI_2, c_le, c_le_l, c_le_r, c_lt, c_lt_l, c_lt_r, c_eq, c_eq_l, c_eq_r, if_true, if_false, if_pos, if_neg]
  rw [rankOf_T hW hh (hT.w rfl)]
  simp (disch := omega) only [Option.bind_some, Option.bind_none, nmE, n_pp, n_pl, n_lp, n_mm, n_ml, n_lm, taI_n, taI_l, tsA_n, tsA_l, nar0, twA_1, twA_s, twA_n, twA_2, twA_twA, tsI_s, tsI_n, tsI_2, c_le, c_le_l, c_le_r, c_lt, c_lt_l, c_lt_r, c_eq, c_eq_l, c_eq_r, if_true, if_false, if_pos, if_neg]
  obtain ⟨τ', e2, h2, -⟩ := says_T (F := F) (w := 1) (oth := sRk A h) (env := envD A h) (τ := twA τ 23 (upd (upd (upd g 1 (sRk A h)) 2 (A 6 (20 + 3 * h + 2))) 3 (sX A h))) hF (by decide) hL (hT.w rfl) (fun j hj => by
    rw [twA_s]
    unfold envD upd
    by_cases h3 : j = 3
    · subst h3; rfl
    by_cases h2 : j = 2
    · subst h2; rfl
    by_cases h1 : j = 1
    · subst h1; rfl
    simp [h1, h2, h3, hg j hj])
  have e2 : t_X9_says F 1 _ _ = _ := e2
  rw [e2]
  exact ⟨τ', rfl, h2⟩
def envT (A : Av) (hour : Int32) : Nat → Int32 := fun k => if k = 4 then hour else if k = 5 then A 7 0 else 0
def sTide (A : Av) (hour : Int32) : Int32 := sSay A 0 0 (envT A hour)
theorem tideOf_T {F : Nat} {A : Av} {hour : Int32} {τ : Tw} (hF : 1000 ≤ F) (hL : LawC A 0) (hT : TR A τ) : ∃ τ', t_X9_tideOf F hour τ = some (sTide A hour, τ') ∧ TR A τ' := by
  unfold t_X9_tideOf
  obtain ⟨g, e, hg⟩ := askNone_T (F := F) (by omega) τ
  rw [e]
  simp (disch := omega) only [Option.bind_some, Option.bind_none, nmE, n_pp, n_pl, n_lp, n_mm, n_ml, n_lm, taI_n, taI_l, tsA_n, tsA_l, nar0, twA_1, twA_s, twA_n, twA_2, twA_twA, tsI_s, tsI_n, tsI_2, c_le, c_le_l, c_le_r, c_lt, c_lt_l, c_lt_r, c_eq, c_eq_l, c_eq_r, if_true, if_false, if_pos, if_neg, hT.2 7 rfl]
  obtain ⟨τ', e2, h2, -⟩ := says_T (F := F) (w := 0) (oth := 0) (env := envT A hour) (τ := twA τ 23 (upd (upd g 4 hour) 5 (A 7 0))) hF (by decide) hL (hT.w rfl) (fun j hj => by
    rw [twA_s]
    unfold envT upd
    by_cases h5 : j = 5
    · subst h5; rfl
    by_cases h4 : j = 4
    · subst h4; rfl
    simp [h4, h5, hg j hj])
  have e2 : t_X9_says F 0 _ _ = _ := e2
  rw [e2]
  exact ⟨τ', rfl, h2⟩
/-- what is seen of a house: without what is gone, without sway -/
def envL (A : Av) (h : Nat) (wind : Int32) : Nat → Int32 := fun k => if k = 0 then sHt A h else if k = 1 then sRk A h else if k = 2 then sLd A h else if k = 3 then sX A h else if k = 5 then A 7 0 else if k = 6 then wind else 0
theorem look_T {F : Nat} {A : Av} {h : Nat} {wind : Int32} {τ : Tw} (hF : 1000 ≤ F) (hW : WF A) (hh : h < 16) (hT : TR A τ) : ∃ g, t_X9_look F (Int32.ofNat h) wind τ = some (twA τ 23 g) ∧ ∀ j, j < 9 → g j = envL A h wind j := by
  unfold t_X9_look
  obtain ⟨g, e, hg⟩ := askNone_T (F := F) (by omega) τ
  rw [e, Option.bind_some, heightOf_T hh (hT.w rfl)]
  simp (disch := omega) only [Option.bind_some, Option.bind_none, nmE, n_pp, n_pl, n_lp, n_mm, n_ml, n_lm, taI_n, taI_l, tsA_n, tsA_l, nar0, twA_1, twA_s, twA_n, twA_2, twA_twA, tsI_s, tsI_n, tsI_2, c_le, c_le_l, c_le_r, c_lt, c_lt_l, c_lt_r, c_eq, c_eq_l, c_eq_r, if_true, if_false, if_pos, if_neg]
  rw [rankOf_T hW hh (hT.w rfl)]
  simp (disch := omega) only [Option.bind_some, Option.bind_none, nmE, n_pp, n_pl, n_lp, n_mm, n_ml, n_lm, taI_n, taI_l, tsA_n, tsA_l, nar0, twA_1, twA_s, twA_n, twA_2, twA_twA, tsI_s, tsI_n, tsI_2, c_le, c_le_l, c_le_r, c_lt, c_lt_l, c_lt_r, c_eq, c_eq_l, c_eq_r, if_true, if_false, if_pos, if_neg, hT.2 6 rfl]
  rw [xOf_T hh ((hT.w rfl))]
  simp (disch := omega) only [Option.bind_some, Option.bind_none, nmE, n_pp, n_pl, n_lp, n_mm, n_ml, n_lm, taI_n, taI_l, tsA_n, tsA_l, nar0, twA_1, twA_s, twA_n, twA_2, twA_twA, tsI_s, tsI_n, tsI_2, c_le, c_le_l, c_le_r, c_lt, c_lt_l, c_lt_r, c_eq, c_eq_l, c_eq_r, if_true, if_false, if_pos, if_neg, hT.2 7 rfl]
  refine ⟨_, rfl, fun j hj => ?_⟩
  unfold envL upd sLd
  by_cases h6 : j = 6
  · subst h6; rfl
  by_cases h5 : j = 5
  · subst h5; rfl
  by_cases h3 : j = 3
  · subst h3; rfl
  by_cases h2 : j = 2
  · subst h2; rfl
  by_cases h1 : j = 1
  · subst h1; rfl
  by_cases h0 : j = 0
  · subst h0; rfl
  simp [h0, h1, h2, h3, h5, h6, hg j hj]
def sSway (A : Av) (h : Nat) (wind : Int32) : Int32 := sSay A 2 0 (envL A h wind)
theorem swayOf_T {F : Nat} {A : Av} {h : Nat} {wind : Int32} {τ : Tw} (hF : 1000 ≤ F) (hW : WF A) (hL : LawC A 2) (hh : h < 16) (hT : TR A τ) : ∃ τ', t_X9_swayOf F (Int32.ofNat h) wind τ = some (sSway A h wind, τ') ∧ TR A τ' := by
  unfold t_X9_swayOf
  obtain ⟨g, e, hg⟩ := look_T (F := F) (wind := wind) hF hW hh hT
  rw [e]
  obtain ⟨τ', e2, h2, -⟩ := says_T (F := F) (w := 2) (oth := 0) (env := envL A h wind) (τ := twA τ 23 g) hF (by decide) hL (hT.w rfl) (fun j hj => by rw [twA_s]; exact hg j hj)
  have e2 : t_X9_says F 2 _ _ = _ := e2
  rw [Option.bind_some, e2]
  exact ⟨τ', rfl, h2⟩
