set_option maxRecDepth 100000
/-! all tokens: the reference -/
variable {A : Av} {τ τ' : Tw} {F : Nat} {b : Nat → Nat} {n : Nat}
def whT (b : Nat → Nat) (n i : Nat) : Int32 := if isL (b i) then (if rn isL b n i - i ≤ 8 then (if wk (wv b i (rn isL b n i - i)) < 26 then wtL.getD (wk (wv b i (rn isL b n i - i))) 0 else -1) else -1) else if isD (b i) then Int32.ofNat (iv b i (min (rn isD b n i - i) 4)) else if clsS (b i) (b (i + 1)) = 3 then 0 else wT (clsS (b i) (b (i + 1)))
def lnT (b : Nat → Nat) (n i k : Nat) (g : Nat → Int64) : Nat → Int64 := if isL (b i) then vp_updL g k (valC b n i) else g
def tkT (τ : Tw) (k : Nat) (s : Int32) (i : Nat) (w : Int32) : Tw := tsI (twA (twA (twA τ 2 (upd (τ.2.1 2) k s)) 3 (upd (τ.2.1 3) k (Int32.ofNat i))) 4 (upd (τ.2.1 4) k w)) 2 (Int32.ofNat (k + 1))
theorem token_T {k i : Nat} {s w : Int32} (h2 : τ.1 2 = Int32.ofNat k) (hk : k ≤ 2000) : t_X9_token F s (Int32.ofNat i) w τ = some (tkT τ k s i w) := by
  unfold t_X9_token
  rw [h2, tsA_n τ 2 0 2001 k s (by omega) (by decide), Option.bind_some, nar0]
  have e1 : (twA τ 2 (upd (τ.2.1 2) k s)).1 2 = Int32.ofNat k := h2
  rw [e1, tsA_n _ 3 0 2001 k _ (by omega) (by decide), Option.bind_some, nar0]
  have e2 : (twA (twA τ 2 (upd (τ.2.1 2) k s)) 3 (upd ((twA τ 2 (upd (τ.2.1 2) k s)).2.1 3) k (Int32.ofNat i))).1 2 = Int32.ofNat k := h2
  rw [e2, tsA_n _ 4 0 2001 k _ (by omega) (by decide), Option.bind_some, nar0]
  rw [show ∀ f, (twA (twA (twA τ 2 (upd (τ.2.1 2) k s)) 3 (upd ((twA τ 2 (upd (τ.2.1 2) k s)).2.1 3) k (Int32.ofNat i))) 4 f).1 2 = Int32.ofNat k from fun f => h2, nmE, n_lp]
  rfl
theorem twL_me (j : Nat) : twL τ j (τ.2.2 j) = τ := by
  refine Prod.ext rfl (Prod.ext rfl (funext fun q => ?_))
  show (if q = j then τ.2.2 j else τ.2.2 q) = _
  by_cases e : q = j
  · rw [if_pos e, e]
  · rw [if_neg e]
theorem j23_0 {x : Nat} (hx : x < 256) : t_X9_signAt_j23 F (Int32.ofNat x) 0 τ = some (if clsS x 0 = 3 then 0 else wT (clsS x 0)) := by
  by_cases h61 : x = 61
  · subst h61
    rfl
  by_cases h33 : x = 33
  · subst h33
    rfl
  by_cases h60 : x = 60
  · subst h60
    rfl
  by_cases h59 : x = 59
  · subst h59
    rfl
  by_cases h43 : x = 43
  · subst h43
    rfl
  by_cases h45 : x = 45
  · subst h45
    rfl
  by_cases h42 : x = 42
  · subst h42
    rfl
  by_cases h47 : x = 47
  · subst h47
    rfl
  by_cases h40 : x = 40
  · subst h40
    rfl
  by_cases h41 : x = 41
  · subst h41
    rfl
  unfold t_X9_signAt_j23
  have q61 : ¬ Int32.ofNat x = 61 := fun q => h61 ((c_eq x 61 (by omega) (by decide)).1 q)
  rw [if_neg q61]
  have q33 : ¬ Int32.ofNat x = 33 := fun q => h33 ((c_eq x 33 (by omega) (by decide)).1 q)
  rw [if_neg q33]
  have q60 : ¬ Int32.ofNat x = 60 := fun q => h60 ((c_eq x 60 (by omega) (by decide)).1 q)
  rw [if_neg q60]
  have q59 : ¬ Int32.ofNat x = 59 := fun q => h59 ((c_eq x 59 (by omega) (by decide)).1 q)
  rw [if_neg q59]
  have q43 : ¬ Int32.ofNat x = 43 := fun q => h43 ((c_eq x 43 (by omega) (by decide)).1 q)
  rw [if_neg q43]
  have q45 : ¬ Int32.ofNat x = 45 := fun q => h45 ((c_eq x 45 (by omega) (by decide)).1 q)
  rw [if_neg q45]
  have q42 : ¬ Int32.ofNat x = 42 := fun q => h42 ((c_eq x 42 (by omega) (by decide)).1 q)
  rw [if_neg q42]
  have q47 : ¬ Int32.ofNat x = 47 := fun q => h47 ((c_eq x 47 (by omega) (by decide)).1 q)
  rw [if_neg q47]
  have q40 : ¬ Int32.ofNat x = 40 := fun q => h40 ((c_eq x 40 (by omega) (by decide)).1 q)
  rw [if_neg q40]
  have q41 : ¬ Int32.ofNat x = 41 := fun q => h41 ((c_eq x 41 (by omega) (by decide)).1 q)
  rw [if_neg q41]
  have e : clsS x 0 = 3 := by
    unfold clsS
    rw [if_neg (by omega), if_neg (by omega), if_neg (by omega), if_neg h59, if_neg h61, if_neg h43, if_neg h45, if_neg h42, if_neg h47, if_neg h60, if_neg h40, if_neg h41]
  rw [e]
  rfl
theorem j23_1 {x : Nat} (hx : x < 256) : t_X9_signAt_j23 F (Int32.ofNat x) 1 τ = some (if clsS x 61 = 3 then 0 else wT (clsS x 61)) := by
  by_cases h61 : x = 61
  · subst h61
    rfl
  by_cases h33 : x = 33
  · subst h33
    rfl
  by_cases h60 : x = 60
  · subst h60
    rfl
  by_cases h59 : x = 59
  · subst h59
    rfl
  by_cases h43 : x = 43
  · subst h43
    rfl
  by_cases h45 : x = 45
  · subst h45
    rfl
  by_cases h42 : x = 42
  · subst h42
    rfl
  by_cases h47 : x = 47
  · subst h47
    rfl
  by_cases h40 : x = 40
  · subst h40
    rfl
  by_cases h41 : x = 41
  · subst h41
    rfl
  unfold t_X9_signAt_j23
  have q61 : ¬ Int32.ofNat x = 61 := fun q => h61 ((c_eq x 61 (by omega) (by decide)).1 q)
  rw [if_neg q61]
  have q33 : ¬ Int32.ofNat x = 33 := fun q => h33 ((c_eq x 33 (by omega) (by decide)).1 q)
  rw [if_neg q33]
  have q60 : ¬ Int32.ofNat x = 60 := fun q => h60 ((c_eq x 60 (by omega) (by decide)).1 q)
  rw [if_neg q60]
  have q59 : ¬ Int32.ofNat x = 59 := fun q => h59 ((c_eq x 59 (by omega) (by decide)).1 q)
  rw [if_neg q59]
  have q43 : ¬ Int32.ofNat x = 43 := fun q => h43 ((c_eq x 43 (by omega) (by decide)).1 q)
  rw [if_neg q43]
  have q45 : ¬ Int32.ofNat x = 45 := fun q => h45 ((c_eq x 45 (by omega) (by decide)).1 q)
  rw [if_neg q45]
  have q42 : ¬ Int32.ofNat x = 42 := fun q => h42 ((c_eq x 42 (by omega) (by decide)).1 q)
  rw [if_neg q42]
  have q47 : ¬ Int32.ofNat x = 47 := fun q => h47 ((c_eq x 47 (by omega) (by decide)).1 q)
  rw [if_neg q47]
  have q40 : ¬ Int32.ofNat x = 40 := fun q => h40 ((c_eq x 40 (by omega) (by decide)).1 q)
  rw [if_neg q40]
  have q41 : ¬ Int32.ofNat x = 41 := fun q => h41 ((c_eq x 41 (by omega) (by decide)).1 q)
  rw [if_neg q41]
  have e : clsS x 61 = 3 := by
    unfold clsS
    rw [if_neg (by omega), if_neg (by omega), if_neg (by omega), if_neg h59, if_neg h61, if_neg h43, if_neg h45, if_neg h42, if_neg h47, if_neg h60, if_neg h40, if_neg h41]
  rw [e]
  rfl
theorem clsS_0 {x y : Nat} (h : y ≠ 61) : clsS x y = clsS x 0 := by
  unfold clsS
  rw [if_neg (by omega), if_neg (by omega), if_neg (by omega), if_neg (show ¬ ((0 : Nat) = 61 ∧ x = 61) by omega), if_neg (show ¬ ((0 : Nat) = 61 ∧ x = 33) by omega), if_neg (show ¬ ((0 : Nat) = 61 ∧ x = 60) by omega)]
theorem sign_T (hT : TP b n) (hc : TPt τ b n) {i : Nat} (hi : i < n) : t_X9_signAt F (Int32.ofNat i) τ = some (if clsS (b i) (b (i + 1)) = 3 then 0 else wT (clsS (b i) (b (i + 1)))) := by
  have hn := hT.1
  have hx := hT.2.1 i
  have hy := hT.2.1 (i + 1)
  unfold t_X9_signAt
  rw [t_byte hT hc (by omega), Option.bind_some, n_lp, t_byte hT hc (by omega), Option.bind_some]
  by_cases h : b (i + 1) = 61
  · have e : Int32.ofNat (b (i + 1)) = 61 := by rw [h]; rfl
    rw [if_pos e, j23_1 hx, h]
  · have e : ¬ Int32.ofNat (b (i + 1)) = 61 := fun q => h ((c_eq _ 61 (by omega) (by decide)).1 q)
    rw [if_neg e, j23_0 hx, clsS_0 h]
theorem wT_len : ∀ c, c < 16 → 4 ≤ c → (wT c < 300 ↔ c < 13) ∧ wT c ≠ 0 := by decide
theorem lenS_c (x y : Nat) : lenS x y = if clsS x y < 13 then 1 else 2 := by
  by_cases h : y = 61 ∧ (x = 61 ∨ x = 33 ∨ x = 60)
  · obtain ⟨rfl, rfl | rfl | rfl⟩ := h <;> rfl
  · have e : clsS x y < 13 := by
      unfold clsS
      rw [if_neg (by omega), if_neg (by omega), if_neg (by omega)]
      repeat' split
      all_goals decide
    rw [if_pos e]
    exact if_neg h
theorem clsS_3 (x y : Nat) : clsS x y = 3 ∨ (4 ≤ clsS x y ∧ clsS x y < 16) := by
  unfold clsS
  repeat' split
  all_goals decide
theorem wt_nn : ∀ k, k < 26 → ¬ wtL.getD k 0 < 0 := by decide
theorem scan_T (hF : 100000 ≤ F) (hT : TP b n) (hc : TPt τ b n) {i k : Nat} (hi : i < n) (h2 : τ.1 2 = Int32.ofNat k) (hk : k ≤ 2000) : t_X9_scan F (Int32.ofNat i) τ = some (Int32.ofNat (nxt b n i), tkT (twL τ 5 (lnT b n i k (τ.2.2 5))) k (sT (cls b n i)) i (whT b n i)) := by
  have hn := hT.1
  unfold t_X9_scan nxt cls whT lnT
  rw [t_let hT hc (by omega), Option.bind_some]
  by_cases hl : isL (b i)
  · have hle := rn_le hT L0 (show i ≤ n by omega)
    have hge := rn_ge hT L0 (show i ≤ n by omega)
    rw [if_pos hl, if_pos hl, if_pos hl, if_pos hl, if_pos hl, if_neg (by decide), tw_L12 hF hT hc (by omega), n_ss _ _ hge]
    have tk : ∀ (s w : Int32), t_X9_token F s (Int32.ofNat i) w (twL τ 5 (vp_updL (τ.2.2 5) k (valC b n i))) = some (tkT (twL τ 5 (vp_updL (τ.2.2 5) k (valC b n i))) k s i w) := fun s w => token_T h2 hk
    have hv : Int64.ofNat (wv b i (min (rn isL b n i - i) 8)) = valC b n i := by
      unfold valC
      rw [if_pos hl]
    by_cases h8 : rn isL b n i - i ≤ 8
    · have e8 : Int32.ofNat (rn isL b n i - i) ≤ (8 : Int32) := (c_le _ 8 (by omega) (by omega)).2 h8
      have hlt : wv b i (rn isL b n i - i) < 2 ^ 62 := by
        have h1 := wv_lt (f := b) (i := i) (rn isL b n i - i) fun q hq => rn_in hT L0 (show i ≤ n by omega) (by omega) (by omega)
        have h3 : 27 ^ (rn isL b n i - i) ≤ 27 ^ 8 := Nat.pow_le_pow_right (by decide) h8
        have h4 : 27 ^ 8 < 2 ^ 62 := by decide
        omega
      rw [if_pos e8, if_pos h8, if_pos h8, Nat.min_eq_left h8, T_word hlt, Option.bind_some]
      rw [Nat.min_eq_left h8] at hv
      unfold t_X9_scan_j67
      rw [h2, tsL_n τ 5 1 2001 k _ (by omega) (by decide), Option.bind_some, n_ss _ _ hge, if_pos e8, hv]
      unfold clsW
      by_cases hw : wk (wv b i (rn isL b n i - i)) < 26
      · rw [if_pos hw, if_pos hw, if_neg (wt_nn _ hw), tk, Option.bind_some]
        have : ∀ c, c < 26 → sT (16 + c) = 3 := by decide
        rw [this _ hw]
      · rw [if_neg hw, if_neg hw, if_pos (by decide), tk, Option.bind_some]
        rfl
    · have e8 : ¬ Int32.ofNat (rn isL b n i - i) ≤ (8 : Int32) := fun q => h8 ((c_le _ 8 (by omega) (by omega)).1 q)
      rw [if_neg e8, if_neg h8, if_neg h8]
      unfold t_X9_scan_j67
      rw [h2, tsL_n τ 5 1 2001 k _ (by omega) (by decide), Option.bind_some, n_ss _ _ hge, if_neg e8, hv, tk, Option.bind_some]
      rfl
  · rw [if_neg hl, if_neg hl, if_neg hl, if_neg hl, if_neg hl, if_pos rfl, t_dig hT hc (by omega), Option.bind_some, twL_me]
    by_cases hd : isD (b i)
    · rw [if_pos hd, if_pos hd, if_pos hd, if_pos hd, if_neg (by decide), tn_L120 hF hT hc (by omega), token_T h2 hk, Option.bind_some]
      by_cases h4 : rn isD b n i - i ≤ 4
      · rw [if_pos h4, if_pos h4]
        rfl
      · rw [if_neg h4, if_neg h4]
        rfl
    · rw [if_neg hd, if_neg hd, if_neg hd, if_neg hd, if_pos rfl, sign_T hT hc hi, Option.bind_some, lenS_c]
      rcases clsS_3 (b i) (b (i + 1)) with h | ⟨h3, h4⟩
      · rw [if_pos h, if_pos rfl, h]
        unfold t_X9_scan_j191
        rw [token_T h2 hk, Option.bind_some, if_pos (by decide), n_lp]
        rfl
      · have hne : ¬ clsS (b i) (b (i + 1)) = 3 := by omega
        obtain ⟨w1, w2⟩ := wT_len _ h4 h3
        have hs : ∀ c, c < 16 → 4 ≤ c → sT c = 2 := by decide
        rw [if_neg hne, if_neg w2, hs _ h4 h3]
        unfold t_X9_scan_j191
        rw [token_T h2 hk, Option.bind_some]
        by_cases h13 : clsS (b i) (b (i + 1)) < 13
        · rw [if_pos (w1.2 h13), if_pos h13, n_lp]
        · rw [if_neg (fun q => h13 (w1.1 q)), if_neg h13, n_lp]
