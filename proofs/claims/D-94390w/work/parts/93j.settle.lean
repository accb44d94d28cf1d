set_option maxRecDepth 100000
/-! the reference's first state -/
variable {τ : Tw} {F : Nat}
theorem twA_me (j : Nat) (f : Nat → Int32) (h : ∀ k, f k = τ.2.1 j k) : twA τ j f = τ := by
  refine Prod.ext rfl (Prod.ext (funext fun q => ?_) rfl)
  show (if q = j then f else τ.2.1 q) = _
  by_cases e : q = j
  · rw [if_pos e, e]
    exact funext h
  · rw [if_neg e]
/-- a piece of an array, set anew -/
def paF (a n : Nat) (v : Nat → Int32) (f : Nat → Int32) : Nat → Int32 := fun j => if a ≤ j ∧ j < a + n then v (j - a) else f j
theorem paF_0 {a : Nat} {v f : Nat → Int32} : paF a 0 v f = f := by
  funext j
  exact if_neg (by omega)
theorem paF_up {a n : Nat} {v f : Nat → Int32} {x : Int32} (hx : x = v n) : upd (paF a n v f) (a + n) x = paF a (n + 1) v f := by
  funext j
  by_cases e : j = a + n
  · subst e
    rw [up_s, hx]
    refine Eq.symm ((if_pos (by omega)).trans ?_)
    rw [Nat.add_sub_cancel_left]
  · rw [up_n _ _ _ _ e]
    unfold paF
    by_cases c : a ≤ j ∧ j < a + n
    · rw [if_pos c, if_pos (by omega)]
    · rw [if_neg c, if_neg (by omega)]
theorem paF_in {a n j : Nat} {v f : Nat → Int32} (h : j < n) : paF a n v f (a + j) = v j := by
  refine (if_pos (by omega)).trans ?_
  rw [Nat.add_sub_cancel_left]
theorem paF_out {a n j : Nat} {v f : Nat → Int32} (h : j < a ∨ a + n ≤ j) : paF a n v f j = f j := if_neg (by omega)
theorem b_L2 {K : Tw → Option Tw} {c : Nat} (hF : 210 < F) (hc : c < 2) : t_X9_begin_L2 F K (Int32.ofNat c) F 0 τ = K (twA τ 6 (paF (210 * c) 210 (fun _ => 0) (τ.2.1 6))) := by
  refine for_up (L := t_X9_begin_L2 F K (Int32.ofNat c)) (N := 210) (Inv := fun k s => s = twA τ 6 (paF (210 * c) k (fun _ => 0) (τ.2.1 6))) (Post := fun r => r = K (twA τ 6 (paF (210 * c) 210 (fun _ => 0) (τ.2.1 6)))) ?_ ?_ 210 0 F _ (by decide) hF (by rw [paF_0, twA_me 6 _ (fun _ => rfl)])
  · intro n k s hk hs
    subst hs
    refine Or.inl ⟨_, rfl, ?_⟩
    show t_X9_begin_L2_b F K (Int32.ofNat c) (t_X9_begin_L2 F K (Int32.ofNat c) n) (Int32.ofNat k) _ = _
    unfold t_X9_begin_L2_b
    simp (disch := omega) only [Option.bind_some, Option.bind_none, nmE, n_pp, n_pl, n_lp, n_mm, n_ml, n_lm, taI_n, taI_l, tsA_n, tsA_l, nar0, twA_1, twA_s, twA_n, twA_2, twA_twA, tsI_s, tsI_n, tsI_2, c_le, c_le_l, c_le_r, c_lt, c_lt_l, c_lt_r, c_eq, c_eq_l, c_eq_r, if_true, if_false, if_pos, if_neg]
    rw [paF_up rfl]
  · intro n s hs
    subst hs
    show t_X9_begin_L2_b F K (Int32.ofNat c) (t_X9_begin_L2 F K (Int32.ofNat c) n) (Int32.ofNat 210) _ = _
    unfold t_X9_begin_L2_b
    rw [if_pos (by decide)]
theorem b_L59 {c : Nat} (hF : 210 < F) (hc : c < 2) : t_X9_begin_L59 F (Int32.ofNat c) F 0 τ = some (twA (twA (twA τ 6 (paF (210 * c + 10) 6 (fun _ => -1) (τ.2.1 6))) 8 (upd (τ.2.1 8) c 0)) 11 (upd (τ.2.1 11) c 0)) := by
  refine for_up (L := t_X9_begin_L59 F (Int32.ofNat c)) (N := 6) (Inv := fun k s => s = twA τ 6 (paF (210 * c + 10) k (fun _ => -1) (τ.2.1 6))) (Post := fun r => r = some (twA (twA (twA τ 6 (paF (210 * c + 10) 6 (fun _ => -1) (τ.2.1 6))) 8 (upd (τ.2.1 8) c 0)) 11 (upd (τ.2.1 11) c 0))) ?_ ?_ 6 0 F _ (by decide) (by omega) (by rw [paF_0, twA_me 6 _ (fun _ => rfl)])
  · intro n k s hk hs
    subst hs
    refine Or.inl ⟨_, rfl, ?_⟩
    show t_X9_begin_L59_b F (Int32.ofNat c) (t_X9_begin_L59 F (Int32.ofNat c) n) (Int32.ofNat k) _ = _
    unfold t_X9_begin_L59_b
    simp (disch := omega) only [Option.bind_some, Option.bind_none, nmE, n_pp, n_pl, n_lp, n_mm, n_ml, n_lm, taI_n, taI_l, tsA_n, tsA_l, nar0, twA_1, twA_s, twA_n, twA_2, twA_twA, tsI_s, tsI_n, tsI_2, c_le, c_le_l, c_le_r, c_lt, c_lt_l, c_lt_r, c_eq, c_eq_l, c_eq_r, if_true, if_false, if_pos, if_neg]
    rw [paF_up rfl]
  · intro n s hs
    subst hs
    show t_X9_begin_L59_b F (Int32.ofNat c) (t_X9_begin_L59 F (Int32.ofNat c) n) (Int32.ofNat 6) _ = _
    unfold t_X9_begin_L59_b
    rw [if_pos (by decide)]
    simp (disch := omega) only [Option.bind_some, Option.bind_none, nmE, n_pp, n_pl, n_lp, n_mm, n_ml, n_lm, taI_n, taI_l, tsA_n, tsA_l, nar0, twA_1, twA_s, twA_n, twA_2, twA_twA, tsI_s, tsI_n, tsI_2, c_le, c_le_l, c_le_r, c_lt, c_lt_l, c_lt_r, c_eq, c_eq_l, c_eq_r, if_true, if_false, if_pos, if_neg]
/-- a town's begin -/
def bgF (c : Nat) (f : Nat → Int32) : Nat → Int32 := paF (210 * c) 210 (fun j => if j = 6 then 2 else if j = 7 then 10 else if 10 ≤ j ∧ j < 16 then -1 else 0) f
theorem t_begin {c : Nat} (hF : 210 < F) (hc : c < 2) : t_X9_begin F (Int32.ofNat c) τ = some (twA (twA (twA τ 6 (bgF c (τ.2.1 6))) 8 (upd (τ.2.1 8) c 0)) 11 (upd (τ.2.1 11) c 0)) := by
  unfold t_X9_begin
  rw [b_L2 hF hc]
  simp (disch := omega) only [Option.bind_some, Option.bind_none, nmE, n_pp, n_pl, n_lp, n_mm, n_ml, n_lm, taI_n, taI_l, tsA_n, tsA_l, nar0, twA_1, twA_s, twA_n, twA_2, twA_twA, tsI_s, tsI_n, tsI_2, c_le, c_le_l, c_le_r, c_lt, c_lt_l, c_lt_r, c_eq, c_eq_l, c_eq_r, if_true, if_false, if_pos, if_neg]
  rw [b_L59 hF hc]
  simp (disch := omega) only [Option.bind_some, Option.bind_none, nmE, n_pp, n_pl, n_lp, n_mm, n_ml, n_lm, taI_n, taI_l, tsA_n, tsA_l, nar0, twA_1, twA_s, twA_n, twA_2, twA_twA, tsI_s, tsI_n, tsI_2, c_le, c_le_l, c_le_r, c_lt, c_lt_l, c_lt_r, c_eq, c_eq_l, c_eq_r, if_true, if_false, if_pos, if_neg]
  have e : paF (210 * c + 10) 6 (fun _ => -1) (upd (upd (paF (210 * c) 210 (fun _ => 0) (τ.2.1 6)) (210 * c + 6) 2) (210 * c + 7) 10) = bgF c (τ.2.1 6) := by
    funext j
    by_cases h : 210 * c ≤ j ∧ j < 210 * c + 210
    · obtain ⟨i, rfl⟩ : ∃ i, j = 210 * c + i := ⟨j - 210 * c, by omega⟩
      unfold bgF
      rw [paF_in (by omega)]
      by_cases h1 : 10 ≤ i ∧ i < 16
      · obtain ⟨m, rfl⟩ : ∃ m, i = 10 + m := ⟨i - 10, by omega⟩
        rw [← Nat.add_assoc, paF_in (by omega), if_neg (by omega), if_neg (by omega), if_pos h1]
      · rw [paF_out (by omega), if_neg h1]
        by_cases h7 : i = 7
        · subst h7
          rw [up_s, if_neg (by omega), if_pos rfl]
        · rw [up_n _ _ _ _ (by omega), if_neg h7]
          by_cases h6 : i = 6
          · subst h6
            rw [up_s, if_pos rfl]
          · rw [up_n _ _ _ _ (by omega), if_neg h6, paF_in (by omega)]
    · unfold bgF
      rw [paF_out (by omega), paF_out (by omega), up_n _ _ _ _ (by omega), up_n _ _ _ _ (by omega), paF_out (by omega)]
  rw [e]
theorem s_L2 {K : Tw → Option Tw} (hF : 420 < F) : t_X9_settle_L2 F K F 0 τ = K (twA τ 7 (paF 0 420 (fun _ => 0) (τ.2.1 7))) := by
  refine for_up (L := t_X9_settle_L2 F K) (N := 420) (Inv := fun k s => s = twA τ 7 (paF 0 k (fun _ => 0) (τ.2.1 7))) (Post := fun r => r = K (twA τ 7 (paF 0 420 (fun _ => 0) (τ.2.1 7)))) ?_ ?_ 420 0 F _ (by decide) hF (by rw [paF_0, twA_me 7 _ (fun _ => rfl)])
  · intro n k s hk hs
    subst hs
    refine Or.inl ⟨_, rfl, ?_⟩
    show t_X9_settle_L2_b F K (t_X9_settle_L2 F K n) (Int32.ofNat k) _ = _
    unfold t_X9_settle_L2_b
    simp (disch := omega) only [Option.bind_some, Option.bind_none, nmE, n_pp, n_pl, n_lp, n_mm, n_ml, n_lm, taI_n, taI_l, tsA_n, tsA_l, nar0, twA_1, twA_s, twA_n, twA_2, twA_twA, tsI_s, tsI_n, tsI_2, c_le, c_le_l, c_le_r, c_lt, c_lt_l, c_lt_r, c_eq, c_eq_l, c_eq_r, if_true, if_false, if_pos, if_neg]
    have := paF_up (a := 0) (n := k) (v := fun _ => 0) (f := τ.2.1 7) (x := 0) rfl
    rw [Nat.zero_add] at this
    rw [this]
  · intro n s hs
    subst hs
    show t_X9_settle_L2_b F K (t_X9_settle_L2 F K n) (Int32.ofNat 420) _ = _
    unfold t_X9_settle_L2_b
    rw [if_pos (by decide)]
theorem s_L24 {K : Tw → Option Tw} (hF : 420 < F) : t_X9_settle_L24 F K F 0 τ = K (twA τ 7 (paF 30 16 (fun _ => -2) (paF 10 16 (fun j => τ.2.1 6 (20 + 3 * j + 1)) (τ.2.1 7)))) := by
  refine for_up (L := t_X9_settle_L24 F K) (N := 16) (Inv := fun k s => s = twA τ 7 (paF 30 k (fun _ => -2) (paF 10 k (fun j => τ.2.1 6 (20 + 3 * j + 1)) (τ.2.1 7)))) (Post := fun r => r = K (twA τ 7 (paF 30 16 (fun _ => -2) (paF 10 16 (fun j => τ.2.1 6 (20 + 3 * j + 1)) (τ.2.1 7))))) ?_ ?_ 16 0 F _ (by decide) (by omega) (by rw [paF_0, paF_0, twA_me 7 _ (fun _ => rfl)])
  · intro n k s hk hs
    subst hs
    refine Or.inl ⟨_, rfl, ?_⟩
    show t_X9_settle_L24_b F K (t_X9_settle_L24 F K n) (Int32.ofNat k) _ = _
    unfold t_X9_settle_L24_b
    simp (disch := omega) only [Option.bind_some, Option.bind_none, nmE, n_pp, n_pl, n_lp, n_mm, n_ml, n_lm, taI_n, taI_l, tsA_n, tsA_l, nar0, twA_1, twA_s, twA_n, twA_2, twA_twA, tsI_s, tsI_n, tsI_2, c_le, c_le_l, c_le_r, c_lt, c_lt_l, c_lt_r, c_eq, c_eq_l, c_eq_r, if_true, if_false, if_pos, if_neg]
    have e : upd (paF 30 k (fun _ => -2) (paF 10 k (fun j => τ.2.1 6 (20 + 3 * j + 1)) (τ.2.1 7))) (10 + k) (τ.2.1 6 (20 + 3 * k + 1)) = paF 30 k (fun _ => -2) (paF 10 (k + 1) (fun j => τ.2.1 6 (20 + 3 * j + 1)) (τ.2.1 7)) := by
      rw [← paF_up (a := 10) (n := k) (v := fun j => τ.2.1 6 (20 + 3 * j + 1)) (x := τ.2.1 6 (20 + 3 * k + 1)) rfl]
      funext j
      by_cases e : j = 10 + k
      · subst e
        rw [up_s, paF_out (by omega), up_s]
      · rw [up_n _ _ _ _ e]
        unfold paF
        by_cases c : 30 ≤ j ∧ j < 30 + k
        · rw [if_pos c, if_pos c]
        · rw [if_neg c, if_neg c, up_n _ _ _ _ e]
    rw [e, paF_up rfl]
  · intro n s hs
    subst hs
    show t_X9_settle_L24_b F K (t_X9_settle_L24 F K n) (Int32.ofNat 16) _ = _
    unfold t_X9_settle_L24_b
    rw [if_pos (by decide)]
theorem s_L117 {K : Tw → Option Tw} (hF : 420 < F) : t_X9_settle_L117 F K F 0 τ = K (twA τ 7 (paF 50 8 (fun j => τ.2.1 6 (170 + 2 * j + 1)) (τ.2.1 7))) := by
  refine for_up (L := t_X9_settle_L117 F K) (N := 8) (Inv := fun k s => s = twA τ 7 (paF 50 k (fun j => τ.2.1 6 (170 + 2 * j + 1)) (τ.2.1 7))) (Post := fun r => r = K (twA τ 7 (paF 50 8 (fun j => τ.2.1 6 (170 + 2 * j + 1)) (τ.2.1 7)))) ?_ ?_ 8 0 F _ (by decide) (by omega) (by rw [paF_0, twA_me 7 _ (fun _ => rfl)])
  · intro n k s hk hs
    subst hs
    refine Or.inl ⟨_, rfl, ?_⟩
    show t_X9_settle_L117_b F K (t_X9_settle_L117 F K n) (Int32.ofNat k) _ = _
    unfold t_X9_settle_L117_b
    simp (disch := omega) only [Option.bind_some, Option.bind_none, nmE, n_pp, n_pl, n_lp, n_mm, n_ml, n_lm, taI_n, taI_l, tsA_n, tsA_l, nar0, twA_1, twA_s, twA_n, twA_2, twA_twA, tsI_s, tsI_n, tsI_2, c_le, c_le_l, c_le_r, c_lt, c_lt_l, c_lt_r, c_eq, c_eq_l, c_eq_r, if_true, if_false, if_pos, if_neg]
    rw [paF_up rfl]
  · intro n s hs
    subst hs
    show t_X9_settle_L117_b F K (t_X9_settle_L117 F K n) (Int32.ofNat 8) _ = _
    unfold t_X9_settle_L117_b
    rw [if_pos (by decide)]
/-- the first state -/
def τI : Tw := (fun k => if k = 9 then -1 else 0, fun j k => if j = 6 ∧ k = 6 then 2 else if j = 6 ∧ k = 7 then 10 else if j = 6 ∧ 10 ≤ k ∧ k < 16 then -1 else if j = 7 ∧ 30 ≤ k ∧ k < 46 then -2 else 0, fun _ _ => 0)
theorem t_first (hF : 420 < F) : t_X9_init F = some τI := by
  unfold t_X9_init
  have h0 : t_X9_begin F 0 τ0 = _ := t_begin (F := F) (τ := τ0) (c := 0) (by omega) (by decide)
  rw [h0, Option.bind_some]
  unfold t_X9_settle
  rw [s_L2 hF, s_L24 hF]
  obtain ⟨m, rfl⟩ : ∃ m, F = m + 1 := ⟨F - 1, by omega⟩
  show t_X9_settle_L71_b (m + 1) _ (t_X9_settle_L71 (m + 1) _ m) 0 _ = _
  unfold t_X9_settle_L71_b
  have h2 : bgF 0 (τ0.2.1 6) 2 = 0 := rfl
  simp (disch := omega) only [Option.bind_some, Option.bind_none, nmE, n_pp, n_pl, n_lp, n_mm, n_ml, n_lm, taI_n, taI_l, tsA_n, tsA_l, nar0, twA_1, twA_s, twA_n, twA_2, twA_twA, tsI_s, tsI_n, tsI_2, c_le, c_le_l, c_le_r, c_lt, c_lt_l, c_lt_r, c_eq, c_eq_l, c_eq_r, if_true, if_false, if_pos, if_neg, h2]
  rw [if_pos (by decide), s_L117 hF]
  simp (disch := omega) only [Option.bind_some, Option.bind_none, nmE, n_pp, n_pl, n_lp, n_mm, n_ml, n_lm, taI_n, taI_l, tsA_n, tsA_l, nar0, twA_1, twA_s, twA_n, twA_2, twA_twA, tsI_s, tsI_n, tsI_2, c_le, c_le_l, c_le_r, c_lt, c_lt_l, c_lt_r, c_eq, c_eq_l, c_eq_r, if_true, if_false, if_pos, if_neg]
  refine congrArg some (Prod.ext (funext fun k => ?_) (Prod.ext (funext fun j => funext fun k => ?_) rfl))
  · show (if k = 40 then (0 : Int32) else if k = 50 then 0 else if k = 9 then -1 else 0) = if k = 9 then -1 else 0
    by_cases a : k = 40
    · rw [if_pos a, if_neg (by omega)]
    · rw [if_neg a]
      by_cases b : k = 50
      · rw [if_pos b, if_neg (by omega)]
      · rw [if_neg b]
  · have hz : ∀ i : Nat, upd (fun _ => (0 : Int32)) i 0 = fun _ => 0 := fun i => by
      funext q
      by_cases e : q = i
      · rw [e, up_s]
      · rw [up_n _ _ _ _ e]
    have hn : nar 4 0 = 0 := rfl
    show (if j = 18 then upd (upd (fun _ => (0 : Int32)) 1 (nar 4 0)) 2 (nar 4 0) else if j = 7 then paF 50 8 (fun j => bgF 0 (fun _ => 0) (170 + 2 * j + 1)) (paF 30 16 (fun _ => -2) (paF 10 16 (fun j => bgF 0 (fun _ => 0) (20 + 3 * j + 1)) (paF 0 420 (fun _ => 0) (fun _ => 0)))) else if j = 11 then upd (fun _ => (0 : Int32)) 0 0 else if j = 8 then upd (fun _ => (0 : Int32)) 0 0 else if j = 6 then bgF 0 (fun _ => 0) else fun _ => 0) k = if j = 6 ∧ k = 6 then 2 else if j = 6 ∧ k = 7 then 10 else if j = 6 ∧ 10 ≤ k ∧ k < 16 then -1 else if j = 7 ∧ 30 ≤ k ∧ k < 46 then -2 else 0
    rw [hn, hz, hz, hz]
    have hb : ∀ q, bgF 0 (fun _ => 0) q = if q = 6 then 2 else if q = 7 then 10 else if 10 ≤ q ∧ q < 16 then -1 else 0 := fun q => by
      by_cases c : q < 210
      · have := paF_in (a := 210 * 0) (n := 210) (j := q) (v := fun j => if j = 6 then 2 else if j = 7 then 10 else if 10 ≤ j ∧ j < 16 then -1 else 0) (f := fun _ => 0) c
        rw [Nat.mul_zero, Nat.zero_add] at this
        exact this
      · rw [if_neg (by omega), if_neg (by omega), if_neg (by omega)]
        exact paF_out (by omega)
    have hb0 : ∀ q, 16 ≤ q → bgF 0 (fun _ => 0) q = 0 := fun q hq => by
      rw [hb, if_neg (by omega), if_neg (by omega), if_neg (by omega)]
    by_cases a1 : j = 18
    · rw [if_pos a1, if_neg (by omega), if_neg (by omega), if_neg (by omega), if_neg (by omega)]
    rw [if_neg a1]
    by_cases a2 : j = 7
    · rw [if_pos a2, if_neg (by omega), if_neg (by omega), if_neg (by omega)]
      have g1 : ∀ q, paF 0 420 (fun _ => 0) (fun _ => (0 : Int32)) q = 0 := fun q => by
        unfold paF
        by_cases c : 0 ≤ q ∧ q < 0 + 420
        · rw [if_pos c]
        · rw [if_neg c]
      by_cases c1 : 50 ≤ k ∧ k < 58
      · obtain ⟨i, rfl⟩ : ∃ i, k = 50 + i := ⟨k - 50, by omega⟩
        rw [paF_in (by omega), hb0 _ (by omega), if_neg (by omega)]
      · rw [paF_out (by omega)]
        by_cases c2 : 30 ≤ k ∧ k < 46
        · obtain ⟨i, rfl⟩ : ∃ i, k = 30 + i := ⟨k - 30, by omega⟩
          rw [paF_in (by omega), if_pos ⟨a2, c2⟩]
        · rw [paF_out (by omega), if_neg (fun z => c2 z.2)]
          by_cases c3 : 10 ≤ k ∧ k < 26
          · obtain ⟨i, rfl⟩ : ∃ i, k = 10 + i := ⟨k - 10, by omega⟩
            rw [paF_in (by omega), hb0 _ (by omega)]
          · rw [paF_out (by omega), g1]
    rw [if_neg a2]
    by_cases a3 : j = 11
    · rw [if_pos a3, if_neg (by omega), if_neg (by omega), if_neg (by omega), if_neg (by omega)]
    rw [if_neg a3]
    by_cases a4 : j = 8
    · rw [if_pos a4, if_neg (by omega), if_neg (by omega), if_neg (by omega), if_neg (by omega)]
    rw [if_neg a4]
    by_cases a5 : j = 6
    · rw [if_pos a5, hb]
      by_cases c6 : k = 6
      · rw [if_pos c6, if_pos ⟨a5, c6⟩]
      · rw [if_neg c6, if_neg (show ¬ (j = 6 ∧ k = 6) by omega)]
        by_cases c7 : k = 7
        · rw [if_pos c7, if_pos ⟨a5, c7⟩]
        · rw [if_neg c7, if_neg (show ¬ (j = 6 ∧ k = 7) by omega)]
          by_cases c8 : 10 ≤ k ∧ k < 16
          · rw [if_pos c8, if_pos ⟨a5, c8⟩]
          · rw [if_neg c8, if_neg (by omega), if_neg (by omega)]
    · rw [if_neg a5, if_neg (by omega), if_neg (by omega), if_neg (by omega), if_neg (by omega)]
