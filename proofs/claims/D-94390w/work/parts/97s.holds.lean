set_option maxRecDepth 100000
/-! the reading's end: the reference's town takes hold, all lives as told -/
variable {τ τ' τ2 : Tw} {F : Nat} {A A' : Av}
theorem h_L2 {K : Tw → Option Tw} (hF : 210 < F) : t_X9_takesHold_L2 F K F 0 τ = K (twA τ 6 (paF 0 210 (fun k => τ.2.1 6 (210 + k)) (τ.2.1 6))) := by
  refine for_up (L := t_X9_takesHold_L2 F K) (N := 210) (Inv := fun k s => s = twA τ 6 (paF 0 k (fun k => τ.2.1 6 (210 + k)) (τ.2.1 6))) (Post := fun r => r = K (twA τ 6 (paF 0 210 (fun k => τ.2.1 6 (210 + k)) (τ.2.1 6)))) ?_ ?_ 210 0 F _ (by decide) hF (by rw [paF_0, twA_me 6 _ (fun _ => rfl)])
  · intro n k s hk hs
    subst hs
    refine Or.inl ⟨_, rfl, ?_⟩
    show t_X9_takesHold_L2_b F K (t_X9_takesHold_L2 F K n) (Int32.ofNat k) _ = _
    unfold t_X9_takesHold_L2_b
    simp (disch := omega) only [Option.bind_some, Option.bind_none, nmE, n_pp, n_pl, n_lp, n_mm, n_ml, n_lm, taI_n, taI_l, tsA_n, tsA_l, nar0, twA_1, twA_s, twA_n, twA_2, twA_twA, tsI_s, tsI_n, tsI_2, c_le, c_le_l, c_le_r, c_lt, c_lt_l, c_lt_r, c_eq, c_eq_l, c_eq_r, if_true, if_false, if_pos, if_neg]
    rw [paF_out (show 210 + k < 0 ∨ 0 + k ≤ 210 + k by omega)]
    have := paF_up (a := 0) (n := k) (v := fun k => τ.2.1 6 (210 + k)) (f := τ.2.1 6) (x := τ.2.1 6 (210 + k)) rfl
    rw [Nat.zero_add] at this
    rw [this]
  · intro n s hs
    subst hs
    show t_X9_takesHold_L2_b F K (t_X9_takesHold_L2 F K n) (Int32.ofNat 210) _ = _
    unfold t_X9_takesHold_L2_b
    rw [if_pos (by decide)]
/-- the codes, put down -/
def hc (τ : Tw) (k : Nat) : Tw := twA (twA τ 9 (paF 0 k (fun i => τ.2.1 9 (500 + i)) (τ.2.1 9))) 10 (paF 0 k (fun i => τ.2.1 10 (500 + i)) (τ.2.1 10))
theorem twA_cm {a b : Nat} {f g : Nat → Int32} (h : a ≠ b) : twA (twA τ a f) b g = twA (twA τ b g) a f := by
  refine Prod.ext rfl (Prod.ext (funext fun q => ?_) rfl)
  show (if q = b then g else if q = a then f else τ.2.1 q) = (if q = a then f else if q = b then g else τ.2.1 q)
  by_cases e : q = b
  · rw [if_pos e, if_neg (by omega), if_pos e]
  · rw [if_neg e, if_neg e]
theorem hc_9 {k : Nat} : (hc τ k).2.1 9 = paF 0 k (fun i => τ.2.1 9 (500 + i)) (τ.2.1 9) := rfl
theorem hc_10 {k : Nat} : (hc τ k).2.1 10 = paF 0 k (fun i => τ.2.1 10 (500 + i)) (τ.2.1 10) := rfl
theorem hc_o {k r : Nat} (h1 : r ≠ 9) (h2 : r ≠ 10) : (hc τ k).2.1 r = τ.2.1 r := (twA_n _ _ _ _ h2).trans (twA_n _ _ _ _ h1)
theorem hc_up {k : Nat} : twA (twA (hc τ k) 9 (upd ((hc τ k).2.1 9) k (τ.2.1 9 (500 + k)))) 10 (upd ((hc τ k).2.1 10) k (τ.2.1 10 (500 + k))) = hc τ (k + 1) := by
  have u9 := paF_up (a := 0) (n := k) (v := fun i => τ.2.1 9 (500 + i)) (f := τ.2.1 9) (x := τ.2.1 9 (500 + k)) rfl
  have u10 := paF_up (a := 0) (n := k) (v := fun i => τ.2.1 10 (500 + i)) (f := τ.2.1 10) (x := τ.2.1 10 (500 + k)) rfl
  rw [Nat.zero_add] at u9 u10
  rw [hc_9, hc_10, u9, u10]
  unfold hc
  rw [twA_cm (a := 10) (b := 9) (by decide), twA_twA, twA_twA]
theorem h_L33 {K : Tw → Option Tw} (hF : 500 < F) : t_X9_takesHold_L33 F K F 0 τ = K (hc τ 500) := by
  refine for_up (L := t_X9_takesHold_L33 F K) (N := 500) (Inv := fun k s => s = hc τ k) (Post := fun r => r = K (hc τ 500)) ?_ ?_ 500 0 F _ (by decide) hF (by
    unfold hc
    rw [paF_0, paF_0, twA_me 9 _ (fun _ => rfl), twA_me 10 _ (fun _ => rfl)])
  · intro n k s hk hs
    subst hs
    refine Or.inl ⟨_, rfl, ?_⟩
    show t_X9_takesHold_L33_b F K (t_X9_takesHold_L33 F K n) (Int32.ofNat k) _ = _
    unfold t_X9_takesHold_L33_b
    have e9 : (hc τ k).2.1 9 (500 + k) = τ.2.1 9 (500 + k) := by rw [hc_9, paF_out (by omega)]
    have e10 : (hc τ k).2.1 10 (500 + k) = τ.2.1 10 (500 + k) := by rw [hc_10, paF_out (by omega)]
    have g : ¬ (500 : Int32) ≤ Int32.ofNat k := fun q => by
      have := (c_le 500 k (by decide) (by omega)).1 q
      omega
    rw [if_neg g, n_pl, taI_n _ 9 1000 _ (show 500 + k < 1000 by omega) (by decide), Option.bind_some, tsA_n _ 9 0 1000 k _ (by omega) (by decide), Option.bind_some, taI_n _ 10 1000 _ (show 500 + k < 1000 by omega) (by decide), Option.bind_some, twA_n _ 9 10 _ (by decide), tsA_n _ 10 0 1000 k _ (by omega) (by decide), Option.bind_some, nar0, nar0, nmE, n_lp, e9, e10, twA_n _ 9 10 _ (by decide), hc_up]
  · intro n s hs
    subst hs
    show t_X9_takesHold_L33_b F K (t_X9_takesHold_L33 F K n) (Int32.ofNat 500) _ = _
    unfold t_X9_takesHold_L33_b
    rw [if_pos (by decide)]
/-- the rows, put down -/
def hrV (τ : Tw) (r i : Nat) : Int32 := if r = 12 then τ.2.1 12 (200 + i) &&& 1 else τ.2.1 r (200 + i)
def hr (τ : Tw) (k : Nat) : Tw := (τ.1, fun q => if 12 ≤ q ∧ q ≤ 17 then paF 0 k (hrV τ q) (τ.2.1 q) else τ.2.1 q, τ.2.2)
theorem hr_0 : hr τ 0 = τ := by
  refine Prod.ext rfl (Prod.ext (funext fun q => ?_) rfl)
  show (if 12 ≤ q ∧ q ≤ 17 then paF 0 0 (hrV τ q) (τ.2.1 q) else τ.2.1 q) = τ.2.1 q
  rw [paF_0, ite_self]
theorem hr_r {k r : Nat} (h1 : 12 ≤ r) (h2 : r ≤ 17) : (hr τ k).2.1 r = paF 0 k (hrV τ r) (τ.2.1 r) := if_pos ⟨h1, h2⟩
theorem hr_o {k r : Nat} (h : ¬ (12 ≤ r ∧ r ≤ 17)) : (hr τ k).2.1 r = τ.2.1 r := if_neg h
theorem h_L80 (hF : 200 < F) : t_X9_takesHold_L80 F F 0 τ = Option.bind (t_X9_settle F (hr τ 200)) fun q => some q := by
  refine for_up (L := t_X9_takesHold_L80 F) (N := 200) (Inv := fun k s => s = hr τ k) (Post := fun r => r = Option.bind (t_X9_settle F (hr τ 200)) fun q => some q) ?_ ?_ 200 0 F _ (by decide) hF hr_0.symm
  · intro n k s hk hs
    subst hs
    refine Or.inl ⟨_, rfl, ?_⟩
    show t_X9_takesHold_L80_b F (t_X9_takesHold_L80 F n) (Int32.ofNat k) _ = _
    unfold t_X9_takesHold_L80_b
    have g : ¬ (200 : Int32) ≤ Int32.ofNat k := fun q => by
      have := (c_le 200 k (by decide) (by omega)).1 q
      omega
    have rd : ∀ s : Tw, ∀ r, taI s r 400 (Int32.ofNat (200 + k)) = some (s.2.1 r (200 + k)) := fun s r => taI_n s r 400 _ (by omega) (by decide)
    have wr : ∀ (s : Tw) (r t : Nat) (x : Int32), tsA s r t 400 (Int32.ofNat k) x = some (twA s r (upd (s.2.1 r) k (nar t x))) := fun s r t x => tsA_n s r t 400 k x (by omega) (by decide)
    rw [if_neg g, n_pl]
    simp only [rd, wr, Option.bind_some, nmE, n_lp, nar0, nar4]
    refine congrArg (t_X9_takesHold_L80 F n (Int32.ofNat (k + 1))) (Prod.ext rfl (Prod.ext (funext fun q => ?_) rfl))
    have up : ∀ r, 12 ≤ r → r ≤ 17 → upd ((hr τ k).2.1 r) k (hrV τ r k) = paF 0 (k + 1) (hrV τ r) (τ.2.1 r) := fun r a b => by
      have u := paF_up (a := 0) (n := k) (v := hrV τ r) (f := τ.2.1 r) (x := hrV τ r k) rfl
      rw [Nat.zero_add] at u
      rw [hr_r a b, u]
    have vv : ∀ r, 12 ≤ r → r ≤ 17 → (hr τ k).2.1 r (200 + k) = τ.2.1 r (200 + k) := fun r a b => by
      rw [hr_r a b, paF_out (by omega)]
    by_cases c : 12 ≤ q ∧ q ≤ 17
    · have : q = 12 ∨ q = 13 ∨ q = 14 ∨ q = 15 ∨ q = 16 ∨ q = 17 := by omega
      rcases this with rfl | rfl | rfl | rfl | rfl | rfl
      · show upd ((hr τ k).2.1 12) k ((hr τ k).2.1 12 (200 + k) &&& 1) = paF 0 (k + 1) (hrV τ 12) (τ.2.1 12)
        rw [vv 12 (by decide) (by decide)]
        exact up 12 (by decide) (by decide)
      · show upd ((hr τ k).2.1 13) k ((hr τ k).2.1 13 (200 + k)) = paF 0 (k + 1) (hrV τ 13) (τ.2.1 13)
        rw [vv 13 (by decide) (by decide)]
        exact up 13 (by decide) (by decide)
      · show upd ((hr τ k).2.1 14) k ((hr τ k).2.1 14 (200 + k)) = paF 0 (k + 1) (hrV τ 14) (τ.2.1 14)
        rw [vv 14 (by decide) (by decide)]
        exact up 14 (by decide) (by decide)
      · show upd ((hr τ k).2.1 15) k ((hr τ k).2.1 15 (200 + k)) = paF 0 (k + 1) (hrV τ 15) (τ.2.1 15)
        rw [vv 15 (by decide) (by decide)]
        exact up 15 (by decide) (by decide)
      · show upd ((hr τ k).2.1 16) k ((hr τ k).2.1 16 (200 + k)) = paF 0 (k + 1) (hrV τ 16) (τ.2.1 16)
        rw [vv 16 (by decide) (by decide)]
        exact up 16 (by decide) (by decide)
      · show upd ((hr τ k).2.1 17) k ((hr τ k).2.1 17 (200 + k)) = paF 0 (k + 1) (hrV τ 17) (τ.2.1 17)
        rw [vv 17 (by decide) (by decide)]
        exact up 17 (by decide) (by decide)
    · have e1 : (hr τ (k + 1)).2.1 q = τ.2.1 q := hr_o c
      have e2 : (hr τ k).2.1 q = τ.2.1 q := hr_o c
      rw [e1, ← e2, twA_n _ _ _ _ (by omega), twA_n _ _ _ _ (by omega), twA_n _ _ _ _ (by omega), twA_n _ _ _ _ (by omega), twA_n _ _ _ _ (by omega), twA_n _ _ _ _ (by omega)]
  · intro n s hs
    subst hs
    show t_X9_takesHold_L80_b F (t_X9_takesHold_L80 F n) (Int32.ofNat 200) _ = _
    unfold t_X9_takesHold_L80_b
    rw [if_pos (by decide)]
/-! who holds which office -/
theorem hold_T {H : Nat} {v : Int32} (hF : 100 ≤ F) (hH : τ.2.1 6 0 = Int32.ofNat H) (h16 : H ≤ 16) : ∃ r, t_X9_holderOf F v τ = some r ∧ ((∃ k, k < H ∧ τ.2.1 7 (30 + k) = v ∧ r = Int32.ofNat k) ∨ ((∀ k, k < H → τ.2.1 7 (30 + k) ≠ v) ∧ r = -2)) := by
  unfold t_X9_holderOf
  refine for_up (L := fun n i (_ : Unit) => t_X9_holderOf_L2 F v τ n i) (N := H) (Inv := fun k _ => ∀ i, i < k → τ.2.1 7 (30 + i) ≠ v) (Post := fun r => ∃ r', r = some r' ∧ ((∃ k, k < H ∧ τ.2.1 7 (30 + k) = v ∧ r' = Int32.ofNat k) ∨ ((∀ k, k < H → τ.2.1 7 (30 + k) ≠ v) ∧ r' = -2))) ?_ ?_ H 0 F () (by omega) (by omega) (fun i hi => absurd hi (Nat.not_lt_zero i))
  · intro n k _ hk hI
    have st : t_X9_holderOf_L2 F v τ (n + 1) (Int32.ofNat k) = t_X9_holderOf_L2_b F v τ (t_X9_holderOf_L2 F v τ n) (Int32.ofNat k) := rfl
    unfold t_X9_holderOf_L2_b at st
    have i0 : taI τ 6 420 0 = some (τ.2.1 6 0) := taI_n τ 6 420 0 (by decide) (by decide)
    have hk' : ¬ Int32.ofNat H ≤ Int32.ofNat k := fun z => by
      have := (c_le H k (by omega) (by omega)).1 z
      omega
    rw [i0, Option.bind_some, hH, if_neg hk', n_pl, taI_n τ 7 1260 _ (show 30 + k < 1260 by omega) (by decide), Option.bind_some, nmE, n_lp] at st
    by_cases e : τ.2.1 7 (30 + k) = v
    · rw [if_pos e] at st
      exact Or.inr ⟨_, st, Or.inl ⟨k, hk, e, rfl⟩⟩
    · rw [if_neg e] at st
      refine Or.inl ⟨(), fun i hi => ?_, st⟩
      by_cases q : i = k
      · rw [q]; exact e
      · exact hI i (by omega)
  · intro n _ hI
    have st : t_X9_holderOf_L2 F v τ (n + 1) (Int32.ofNat H) = t_X9_holderOf_L2_b F v τ (t_X9_holderOf_L2 F v τ n) (Int32.ofNat H) := rfl
    unfold t_X9_holderOf_L2_b at st
    have i0 : taI τ 6 420 0 = some (τ.2.1 6 0) := taI_n τ 6 420 0 (by decide) (by decide)
    rw [i0, Option.bind_some, hH, if_pos (Int32.le_refl _)] at st
    exact ⟨_, st, Or.inr ⟨hI, rfl⟩⟩
/-- offices that are held: by houses that are told, each by one -/
def WH (H O : Nat) (L : Nat → Int32) : Prop := (∀ k, k < 16 → L (30 + k) = -2 ∨ ∃ o, o < O ∧ k < H ∧ L (30 + k) = Int32.ofNat o) ∧ ∀ h i, h < 16 → i < 16 → L (30 + h) = L (30 + i) → L (30 + h) = -2 ∨ h = i
theorem givesH_T (hF : 100 ≤ F) {H O h o : Nat} (hH : τ.2.1 6 0 = Int32.ofNat H) (h16 : H ≤ 16) (hO : O ≤ 12) (hW : WH H O (τ.2.1 7)) (hh : h < H) (ho : o < O) : t_X9_gives F (Int32.ofNat h) (Int32.ofNat o) τ = some (twA τ 7 (gvL (τ.2.1 7) h (Int32.ofNat o))) := by
  obtain ⟨w2, w3⟩ := hW
  have nm2 : Int32.ofNat o ≠ -2 := ofNat_ne_m2 (by omega)
  have nm1 : Int32.ofNat o ≠ -1 := ofNat_ne_m1 (by omega)
  have big : ∀ k, k < 16 → τ.2.1 7 (30 + k) = Int32.ofNat o → k < H := fun k hk e => by
    rcases w2 k hk with q | ⟨-, -, q, -⟩
    · exact absurd (e.symm.trans q) nm2
    · exact q
  obtain ⟨r, hr, hrr⟩ := hold_T (F := F) (v := Int32.ofNat o) hF hH h16
  unfold t_X9_gives
  rw [hr, Option.bind_some]
  rcases hrr with ⟨k, k1, k3, k4⟩ | ⟨k1, k2⟩
  · rw [k4, if_neg (Int32.not_lt.2 (ofNat_nn (by omega)))]
    simp (disch := omega) only [Option.bind_some, Option.bind_none, nmE, n_pp, n_pl, n_lp, n_mm, n_ml, n_lm, taI_n, taI_l, tsA_n, tsA_l, nar0, twA_1, twA_s, twA_n, twA_2, twA_twA, tsI_s, tsI_n, tsI_2, c_le, c_le_l, c_le_r, c_lt, c_lt_l, c_lt_r, c_eq, c_eq_l, c_eq_r, if_true, if_false, if_pos, if_neg]
    refine congrArg (fun f => some (twA τ 7 f)) (funext fun i => ?_)
    unfold gvL
    by_cases e1 : i = 30 + h
    · rw [e1, up_s, if_pos rfl, if_neg nm1]
    · rw [up_n _ _ _ _ e1, if_neg e1]
      by_cases e2 : i = 30 + k
      · rw [e2, up_s, if_pos ⟨nm1, by omega, by omega, k3⟩]
      · rw [up_n _ _ _ _ e2, if_neg]
        intro q
        obtain ⟨q1, q2, q3, q4⟩ := q
        obtain ⟨j, rfl⟩ : ∃ j, i = 30 + j := ⟨i - 30, by omega⟩
        rcases w3 j k (by omega) (by omega) (q4.trans k3.symm) with z | z
        · exact nm2 (q4.symm.trans z)
        · omega
  · rw [k2, if_pos (show (-2 : Int32) < 0 by decide)]
    simp (disch := omega) only [Option.bind_some, Option.bind_none, nmE, n_pp, n_pl, n_lp, n_mm, n_ml, n_lm, taI_n, taI_l, tsA_n, tsA_l, nar0, twA_1, twA_s, twA_n, twA_2, twA_twA, tsI_s, tsI_n, tsI_2, c_le, c_le_l, c_le_r, c_lt, c_lt_l, c_lt_r, c_eq, c_eq_l, c_eq_r, if_true, if_false, if_pos, if_neg]
    refine congrArg (fun f => some (twA τ 7 f)) (funext fun i => ?_)
    unfold gvL
    by_cases e1 : i = 30 + h
    · rw [e1, up_s, if_pos rfl, if_neg nm1]
    · rw [up_n _ _ _ _ e1, if_neg e1, if_neg]
      intro q
      obtain ⟨q1, q2, q3, q4⟩ := q
      obtain ⟨j, rfl⟩ : ∃ j, i = 30 + j := ⟨i - 30, by omega⟩
      have := big j (by omega) q4
      exact k1 j this q4
theorem WH.gv {H O h o : Nat} {L : Nat → Int32} (hW : WH H O L) (hO : O ≤ 12) (hh : h < H) (h16 : H ≤ 16) (ho : o < O) : WH H O (gvL L h (Int32.ofNat o)) := by
  obtain ⟨w2, w3⟩ := hW
  have nm2 : Int32.ofNat o ≠ -2 := ofNat_ne_m2 (by omega)
  have nm1 : Int32.ofNat o ≠ -1 := ofNat_ne_m1 (by omega)
  have ev : ∀ k, k < 16 → gvL L h (Int32.ofNat o) (30 + k) = if k = h then Int32.ofNat o else if L (30 + k) = Int32.ofNat o then -2 else L (30 + k) := fun k hk => by
    rw [gvL_at hk, if_neg nm1]
    by_cases e : k = h
    · rw [if_pos e, if_pos e]
    · rw [if_neg e, if_neg e]
      by_cases e2 : L (30 + k) = Int32.ofNat o
      · rw [if_pos ⟨nm1, e2⟩, if_pos e2]
      · rw [if_neg (fun z => e2 z.2), if_neg e2]
  refine ⟨fun k hk => ?_, fun x y hx hy he => ?_⟩
  · rw [ev k hk]
    by_cases e : k = h
    · rw [if_pos e]
      exact Or.inr ⟨o, ho, by omega, rfl⟩
    · rw [if_neg e]
      by_cases e2 : L (30 + k) = Int32.ofNat o
      · rw [if_pos e2]; exact Or.inl rfl
      · rw [if_neg e2]; exact w2 k hk
  · rw [ev x hx] at he ⊢
    rw [ev y hy] at he
    by_cases e : x = h
    · rw [if_pos e] at he ⊢
      by_cases f : y = h
      · exact Or.inr (by omega)
      · rw [if_neg f] at he
        by_cases f2 : L (30 + y) = Int32.ofNat o
        · rw [if_pos f2] at he; exact absurd he nm2
        · rw [if_neg f2] at he; exact absurd he.symm f2
    · rw [if_neg e] at he ⊢
      by_cases e2 : L (30 + x) = Int32.ofNat o
      · rw [if_pos e2]; exact Or.inl rfl
      · rw [if_neg e2] at he ⊢
        by_cases f : y = h
        · rw [if_pos f] at he; exact absurd he e2
        · rw [if_neg f] at he
          by_cases f2 : L (30 + y) = Int32.ofNat o
          · rw [if_pos f2] at he; exact Or.inl he
          · rw [if_neg f2] at he; exact w3 x y hx hy he
/-- all rows of offices, given one after the other -/
theorem s_L71 {K : Tw → Option Tw} (hF : 1000 ≤ F) {H O n : Nat} (hH : τ.2.1 6 0 = Int32.ofNat H) (h16 : H ≤ 16) (hO : O ≤ 12) (hn : n ≤ 12) (h2 : τ.2.1 6 2 = Int32.ofNat n) (hr : ∀ i, i < n → ∃ h o, h < H ∧ o < O ∧ τ.2.1 6 (90 + 2 * i) = Int32.ofNat h ∧ τ.2.1 6 (90 + 2 * i + 1) = Int32.ofNat o) (hA : ∀ k, k < 210 → A 6 k = τ.2.1 6 k) (hW : WH H O (τ.2.1 7)) (h0 : ∀ i, i < 16 → τ.2.1 7 (30 + i) = -2) : ∃ L, t_X9_settle_L71 F K F 0 τ = K (twA τ 7 L) ∧ WH H O L ∧ (∀ i, i < 16 → ofA A n i = if L (30 + i) = -2 then -1 else L (30 + i)) ∧ ∀ k, k < 30 ∨ 46 ≤ k → L k = τ.2.1 7 k := by
  refine for_up (L := t_X9_settle_L71 F K) (N := n) (Inv := fun k s => ∃ L, s = twA τ 7 L ∧ WH H O L ∧ (∀ i, i < 16 → ofA A k i = if L (30 + i) = -2 then -1 else L (30 + i)) ∧ ∀ k, k < 30 ∨ 46 ≤ k → L k = τ.2.1 7 k) (Post := fun r => ∃ L, r = K (twA τ 7 L) ∧ WH H O L ∧ (∀ i, i < 16 → ofA A n i = if L (30 + i) = -2 then -1 else L (30 + i)) ∧ ∀ k, k < 30 ∨ 46 ≤ k → L k = τ.2.1 7 k) ?_ ?_ n 0 F τ (by omega) (by omega) ⟨τ.2.1 7, (twA_me 7 _ (fun _ => rfl)).symm, hW, fun i hi => by rw [h0 i hi, if_pos rfl]; exact if_pos hi, fun _ _ => rfl⟩
  · rintro f k s hk ⟨L, rfl, l1, l2, l3⟩
    obtain ⟨h, o, a1, a2, a3, a4⟩ := hr k hk
    have hg := givesH_T (τ := twA τ 7 L) (F := F) (H := H) (O := O) (h := h) (o := o) (by omega) hH h16 hO l1 a1 a2
    rw [twA_s, twA_twA] at hg
    have i2 : taI (twA τ 7 L) 6 420 2 = some (τ.2.1 6 2) := taI_n _ 6 420 2 (by decide) (by decide)
    have ia : taI (twA τ 7 L) 6 420 (Int32.ofNat (90 + 2 * k)) = some (Int32.ofNat h) := (taI_n _ 6 420 _ (by omega) (by decide)).trans (congrArg some a3)
    have ib : taI (twA τ 7 L) 6 420 (Int32.ofNat (90 + 2 * k + 1)) = some (Int32.ofNat o) := (taI_n _ 6 420 _ (by omega) (by decide)).trans (congrArg some a4)
    have hk' : ¬ Int32.ofNat n ≤ Int32.ofNat k := fun z => by
      have := (c_le n k (by omega) (by omega)).1 z
      omega
    refine Or.inl ⟨twA τ 7 (gvL L h (Int32.ofNat o)), ⟨_, rfl, l1.gv hO a1 h16 a2, ?_, fun i hi => (gvL_o (by omega) hi).trans (l3 i hi)⟩, ?_⟩
    · have hz : zN A 6 (90 + 2 * k) = h := by
        unfold zN
        rw [hA _ (by omega), a3]
        exact i_cl (n := 16) (by omega) (by decide)
      have nm2 : Int32.ofNat o ≠ -2 := ofNat_ne_m2 (by omega)
      have nm1 : Int32.ofNat o ≠ -1 := ofNat_ne_m1 (by omega)
      have := gv_rel (L := L) (f := ofA A k) l2 (h := h) (c := Int32.ofNat o) nm2 (fun i hi => by
        rcases l1.1 i hi with q | ⟨p, p1, -, q⟩
        · rw [q]; decide
        · rw [q]; exact ofNat_ne_m1 (by omega))
      rw [if_neg nm1] at this
      show ∀ i, i < 16 → upd (gvF (A 6 (90 + 2 * k + 1)) (ofA A k)) (zN A 6 (90 + 2 * k)) (A 6 (90 + 2 * k + 1)) i = _
      rw [hz, hA _ (by omega), a4]
      exact this
    · show t_X9_settle_L71_b F K (t_X9_settle_L71 F K f) (Int32.ofNat k) (twA τ 7 L) = _
      unfold t_X9_settle_L71_b
      rw [i2, Option.bind_some, h2, if_neg hk', n_ml, n_pl, ia, Option.bind_some, n_lp, ib, Option.bind_some, hg, Option.bind_some, nmE, n_lp]
  · rintro f s ⟨L, rfl, l1, l2, l3⟩
    refine ⟨L, ?_, l1, l2, l3⟩
    have i2 : taI (twA τ 7 L) 6 420 2 = some (τ.2.1 6 2) := taI_n _ 6 420 2 (by decide) (by decide)
    show t_X9_settle_L71_b F K (t_X9_settle_L71 F K f) (Int32.ofNat n) (twA τ 7 L) = _
    unfold t_X9_settle_L71_b
    rw [i2, Option.bind_some, h2, if_pos (Int32.le_refl _)]
/-- the reference's town takes hold -/
theorem holds_T (hF : 1000 ≤ F) {H O n : Nat} (hH : τ.2.1 6 210 = Int32.ofNat H) (h16 : H ≤ 16) (hO : O ≤ 12) (hn : n ≤ 12) (h2 : τ.2.1 6 212 = Int32.ofNat n) (hr : ∀ i, i < n → ∃ h o, h < H ∧ o < O ∧ τ.2.1 6 (210 + (90 + 2 * i)) = Int32.ofNat h ∧ τ.2.1 6 (210 + (90 + 2 * i + 1)) = Int32.ofNat o) (hA : ∀ k, k < 210 → A 6 k = τ.2.1 6 (210 + k)) : ∃ L τ', t_X9_takesHold F τ = some τ' ∧ WH H O L ∧ (∀ i, i < 16 → ofA A n i = if L (30 + i) = -2 then -1 else L (30 + i)) ∧ (∀ k, k < 30 ∨ 46 ≤ k → L k = paF 10 16 (fun j => τ.2.1 6 (210 + (20 + 3 * j + 1))) (paF 0 420 (fun _ => 0) (τ.2.1 7)) k) ∧ τ'.2.1 7 = paF 50 8 (fun j => τ.2.1 6 (210 + (170 + 2 * j + 1))) L ∧ (∀ k, k < 210 → τ'.2.1 6 k = τ.2.1 6 (210 + k)) ∧ (∀ k, k < 500 → τ'.2.1 9 k = τ.2.1 9 (500 + k) ∧ τ'.2.1 10 k = τ.2.1 10 (500 + k)) ∧ (∀ r k, 13 ≤ r → r ≤ 17 → k < 200 → τ'.2.1 r k = τ.2.1 r (200 + k)) ∧ (∀ k, k < 200 → τ'.2.1 12 k = τ.2.1 12 (200 + k) &&& 1) ∧ τ'.2.1 18 1 = 0 ∧ τ'.2.1 18 2 = 0 ∧ τ'.1 40 = 0 ∧ τ'.1 50 = 0 ∧ (∀ z, z ≠ 40 → z ≠ 50 → τ'.1 z = τ.1 z) ∧ τ'.2.1 1 = τ.2.1 1 := by
  obtain ⟨τa, ea⟩ : ∃ τa, τa = twA τ 6 (paF 0 210 (fun k => τ.2.1 6 (210 + k)) (τ.2.1 6)) := ⟨_, rfl⟩
  obtain ⟨τb, eb⟩ : ∃ τb, τb = hr (hc τa 500) 200 := ⟨_, rfl⟩
  have a6 : ∀ k, k < 210 → τa.2.1 6 k = τ.2.1 6 (210 + k) := fun k hk => by
    rw [ea, twA_s]
    have := paF_in (a := 0) (n := 210) (j := k) (v := fun k => τ.2.1 6 (210 + k)) (f := τ.2.1 6) hk
    rw [Nat.zero_add] at this
    exact this
  have ao : ∀ r, r ≠ 6 → τa.2.1 r = τ.2.1 r := fun r hr => by rw [ea]; exact twA_n _ _ _ _ hr
  have b6 : ∀ k, k < 210 → τb.2.1 6 k = τ.2.1 6 (210 + k) := fun k hk => by
    rw [eb, hr_o (by decide), hc_o (by decide) (by decide)]
    exact a6 k hk
  have bo : ∀ r, r ≠ 6 → r ≠ 9 → r ≠ 10 → ¬ (12 ≤ r ∧ r ≤ 17) → τb.2.1 r = τ.2.1 r := fun r h1 h2 h3 h4 => by
    rw [eb, hr_o h4, hc_o h2 h3, ao r h1]
  have b1 : τb.1 = τ.1 := by rw [eb, ea]; rfl
  obtain ⟨τc, ec⟩ : ∃ τc, τc = twA τb 7 (paF 30 16 (fun _ => -2) (paF 10 16 (fun j => τb.2.1 6 (20 + 3 * j + 1)) (paF 0 420 (fun _ => 0) (τb.2.1 7)))) := ⟨_, rfl⟩
  have c7 : τc.2.1 7 = paF 30 16 (fun _ => -2) (paF 10 16 (fun j => τb.2.1 6 (20 + 3 * j + 1)) (paF 0 420 (fun _ => 0) (τb.2.1 7))) := by rw [ec]; exact twA_s _ _ _
  have co : ∀ r, r ≠ 7 → τc.2.1 r = τb.2.1 r := fun r hr => by rw [ec]; exact twA_n _ _ _ _ hr
  have c30 : ∀ i, i < 16 → τc.2.1 7 (30 + i) = -2 := fun i hi => by rw [c7, paF_in hi]
  obtain ⟨L, hL, l1, l2, l3⟩ := s_L71 (τ := τc) (A := A) (F := F) (K := fun τ3 => t_X9_settle_L117 F (fun τ4 => nm (tsI τ4 50 0) fun τ5 => nm (tsI τ5 40 0) fun τ7 => Option.bind (tsA τ7 18 4 3 1 0) fun τ10 => Option.bind (tsA τ10 18 4 3 2 0) fun τ12 => some τ12) F 0 τ3) hF (H := H) (O := O) (n := n) (by rw [co 6 (by decide), b6 0 (by decide)]; exact hH) h16 hO hn (by rw [co 6 (by decide), b6 2 (by decide)]; exact h2) (fun i hi => by
    obtain ⟨h, o, q1, q2, q3, q4⟩ := hr i hi
    exact ⟨h, o, q1, q2, by rw [co 6 (by decide), b6 _ (by omega)]; exact q3, by rw [co 6 (by decide), b6 _ (by omega)]; exact q4⟩) (fun k hk => by rw [co 6 (by decide), b6 k hk]; exact hA k hk) ⟨fun k hk => Or.inl (c30 k hk), fun h i hh hi _ => Or.inl (c30 h hh)⟩ c30
  have run : t_X9_takesHold F τ = t_X9_settle_L71 F (fun τ3 => t_X9_settle_L117 F (fun τ4 => nm (tsI τ4 50 0) fun τ5 => nm (tsI τ5 40 0) fun τ7 => Option.bind (tsA τ7 18 4 3 1 0) fun τ10 => Option.bind (tsA τ10 18 4 3 2 0) fun τ12 => some τ12) F 0 τ3) F 0 τc := by
    unfold t_X9_takesHold
    rw [h_L2 (by omega), ← ea, h_L33 (by omega), h_L80 (by omega), ← eb]
    unfold t_X9_settle
    rw [s_L2 (by omega), s_L24 (by omega), twA_twA, twA_s, twA_n _ 7 6 _ (by decide), ← ec]
    cases t_X9_settle_L71 F (fun τ3 => t_X9_settle_L117 F (fun τ4 => nm (tsI τ4 50 0) fun τ5 => nm (tsI τ5 40 0) fun τ7 => Option.bind (tsA τ7 18 4 3 1 0) fun τ10 => Option.bind (tsA τ10 18 4 3 2 0) fun τ12 => some τ12) F 0 τ3) F 0 τc <;> rfl
  obtain ⟨τd, ed⟩ : ∃ τd, τd = twA τc 7 (paF 50 8 (fun j => τc.2.1 6 (170 + 2 * j + 1)) L) := ⟨_, rfl⟩
  have w18 : ∀ (τ : Tw) (k : Nat), k < 3 → tsA τ 18 4 3 (Int32.ofNat k) 0 = some (twA τ 18 (upd (τ.2.1 18) k 0)) := fun τ k hk => tsA_n τ 18 4 3 k 0 hk (by decide)
  have w1 : ∀ τ : Tw, tsA τ 18 4 3 1 0 = some (twA τ 18 (upd (τ.2.1 18) 1 0)) := fun τ => w18 τ 1 (by decide)
  have w2 : ∀ τ : Tw, tsA τ 18 4 3 2 0 = some (twA τ 18 (upd (τ.2.1 18) 2 0)) := fun τ => w18 τ 2 (by decide)
  obtain ⟨τe, ee⟩ : ∃ τe, τe = twA (twA (tsI (tsI τd 50 0) 40 0) 18 (upd (τd.2.1 18) 1 0)) 18 (upd (upd (τd.2.1 18) 1 0) 2 0) := ⟨_, rfl⟩
  have fin : t_X9_takesHold F τ = some τe := by
    rw [run, hL, s_L117 (by omega), twA_twA, twA_s, twA_n _ 7 6 _ (by decide), ← ed, nmE, nmE, w1, Option.bind_some, w2, Option.bind_some, ee]
    rfl
  have eo : ∀ r, r ≠ 7 → r ≠ 18 → τe.2.1 r = τb.2.1 r := fun r h1 h2 => by
    rw [ee, twA_n _ _ _ _ h2, twA_n _ _ _ _ h2]
    show τd.2.1 r = _
    rw [ed, twA_n _ _ _ _ h1, co r h1]
  have e18 : τe.2.1 18 = upd (upd (τd.2.1 18) 1 0) 2 0 := by rw [ee]; exact twA_s _ _ _
  refine ⟨L, τe, fin, l1, l2, fun k hk => ?_, ?_, fun k hk => ?_, fun k hk => ⟨?_, ?_⟩, fun r k h1 h2 hk => ?_, fun k hk => ?_, ?_, ?_, ?_, ?_, fun z h1 h2 => ?_, ?_⟩
  · rw [l3 k hk, c7, paF_out (by omega), bo 7 (by decide) (by decide) (by decide) (by decide)]
    unfold paF
    by_cases q : 10 ≤ k ∧ k < 10 + 16
    · rw [if_pos q, if_pos q, b6 _ (by omega)]
    · rw [if_neg q, if_neg q]
  · rw [ee, twA_n _ _ _ _ (by decide), twA_n _ _ _ _ (by decide)]
    show τd.2.1 7 = _
    rw [ed, twA_s]
    funext k
    unfold paF
    by_cases q : 50 ≤ k ∧ k < 50 + 8
    · rw [if_pos q, if_pos q, co 6 (by decide), b6 _ (by omega)]
    · rw [if_neg q, if_neg q]
  · rw [eo 6 (by decide) (by decide), b6 k hk]
  · rw [eo 9 (by decide) (by decide), eb, hr_o (by decide), hc_9, ao 9 (by decide)]
    have := paF_in (a := 0) (n := 500) (j := k) (v := fun i => τ.2.1 9 (500 + i)) (f := τ.2.1 9) hk
    rw [Nat.zero_add] at this
    exact this
  · rw [eo 10 (by decide) (by decide), eb, hr_o (by decide), hc_10, ao 10 (by decide)]
    have := paF_in (a := 0) (n := 500) (j := k) (v := fun i => τ.2.1 10 (500 + i)) (f := τ.2.1 10) hk
    rw [Nat.zero_add] at this
    exact this
  · rw [eo r (by omega) (by omega), eb, hr_r (by omega) h2]
    have := paF_in (a := 0) (n := 200) (j := k) (v := hrV (hc τa 500) r) (f := (hc τa 500).2.1 r) hk
    rw [Nat.zero_add] at this
    rw [this]
    unfold hrV
    rw [if_neg (by omega), hc_o (by omega) (by omega), ao r (by omega)]
  · rw [eo 12 (by decide) (by decide), eb, hr_r (by decide) (by decide)]
    have := paF_in (a := 0) (n := 200) (j := k) (v := hrV (hc τa 500) 12) (f := (hc τa 500).2.1 12) hk
    rw [Nat.zero_add] at this
    rw [this]
    unfold hrV
    rw [if_pos rfl, hc_o (by decide) (by decide), ao 12 (by decide)]
  · rw [e18, up_n _ _ _ _ (by decide), up_s]
  · rw [e18, up_s]
  · rw [ee]
    show (tsI (tsI τd 50 0) 40 0).1 40 = 0
    exact tsI_s _ _ _
  · rw [ee]
    show (tsI (tsI τd 50 0) 40 0).1 50 = 0
    rw [tsI_n _ _ _ _ (by decide), tsI_s]
  · rw [ee]
    show (tsI (tsI τd 50 0) 40 0).1 z = _
    rw [tsI_n _ _ _ _ h1, tsI_n _ _ _ _ h2, ed]
    show τc.1 z = _
    rw [ec]
    show τb.1 z = _
    rw [b1]
  · rw [eo 1 (by decide) (by decide), bo 1 (by decide) (by decide) (by decide) (by decide)]
