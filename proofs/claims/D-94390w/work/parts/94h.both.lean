set_option maxRecDepth 100000
/-! both rows of tokens -/
variable {X : Nat → Option Ob} {ad : Nat → Nat} {B : Sw} {A : Av} {σ σ' : Cs} {τ τ' : Tw} {F : Nat} {b : Nat → Nat} {n : Nat}
/-- tokens up to last: sort numbers c, places pl -/
def TKS (c pl : Nat → Nat) (last : Nat) (σ : Cs) (τ : Tw) : Prop := last ≤ 400 ∧
  (∀ j, j ≤ last → (c j < 42 ∧ σ.2.1 3 j = kT (c j) ∧ τ.2.1 2 j = sT (c j)) ∧ (σ.2.1 4 j = Int32.ofNat (pl j) ∧ τ.2.1 3 j = Int32.ofNat (pl j)) ∧ (c j ≠ 1 → c j ≠ 3 → τ.2.1 4 j = wT (c j)) ∧ (c j = 1 → ∃ v, v ≤ 9999 ∧ τ.2.1 4 j = Int32.ofNat v ∧ σ.2.2.1 5 j = (Int32.ofNat v).toInt64) ∧ (c j = 0 → σ.2.2.1 5 j = τ.2.2 5 j)) ∧
  (∀ j, j < last → c j ≠ 2 ∧ c j ≠ 3) ∧ (last = 400 ∨ c last = 2 ∨ c last = 3) ∧ (∀ j j', j < j' → j' ≤ last → pl j < pl j') ∧ ∀ j, j ≤ last → pl j ≤ 2000
theorem least_of {P : Nat → Prop} : ∀ m, (∃ L, L ≤ m ∧ P L ∧ ∀ j, j < L → ¬ P j) ∨ ∀ j, j ≤ m → ¬ P j := by
  intro m
  induction m with
  | zero =>
    by_cases h : P 0
    · exact Or.inl ⟨0, Nat.le_refl 0, h, fun j hj => absurd hj (Nat.not_lt_zero j)⟩
    · refine Or.inr fun j hj => ?_
      have : j = 0 := by omega
      rw [this]
      exact h
  | succ m ih =>
    rcases ih with ⟨L, h1, h2, h3⟩ | ih
    · exact Or.inl ⟨L, by omega, h2, h3⟩
    · by_cases h : P (m + 1)
      · exact Or.inl ⟨m + 1, Nat.le_refl _, h, fun j hj => ih j (by omega)⟩
      · refine Or.inr fun j hj => ?_
        by_cases e : j = m + 1
        · rw [e]
          exact h
        · exact ih j (by omega)
theorem iv_le {i : Nat} : ∀ m, (∀ q, q < m → isD (b (i + q))) → iv b i m < 10 ^ m
  | 0, _ => (show 0 < 10 ^ 0 by decide)
  | m + 1, h => by
    have h1 := iv_le m (fun q hq => h q (by omega))
    have h2 := h m (Nat.lt_succ_self m)
    show iv b i m * 10 + (b (i + m) - 48) < 10 ^ (m + 1)
    rw [Nat.pow_succ]
    omega
theorem cls_1 (hT : TP b n) {i : Nat} (hi : i < n) (h : cls b n i = 1) : ∃ v, v ≤ 9999 ∧ whT b n i = Int32.ofNat v ∧ valC b n i = (Int32.ofNat v).toInt64 := by
  unfold cls at h
  by_cases hl : isL (b i)
  · rw [if_pos hl] at h
    split at h
    · unfold clsW at h
      split at h <;> omega
    · omega
  · rw [if_neg hl] at h
    by_cases hd : isD (b i)
    · rw [if_pos hd] at h
      have hle := rn_le hT D0 (show i ≤ n by omega)
      refine ⟨iv b i (min (rn isD b n i - i) 4), ?_, ?_, ?_⟩
      · have h1 := iv_le (b := b) (i := i) (min (rn isD b n i - i) 4) fun q hq => rn_in hT D0 (show i ≤ n by omega) (by omega) (by omega)
        have h2 : 10 ^ (min (rn isD b n i - i) 4) ≤ 10 ^ 4 := Nat.pow_le_pow_right (by decide) (Nat.min_le_right _ _)
        omega
      · unfold whT
        rw [if_neg hl, if_pos hd]
      · unfold valC
        rw [if_neg hl, if_pos hd]
    · rw [if_neg hd] at h
      have := clsS_3 (b i) (b (i + 1))
      omega
theorem cls_w {i : Nat} (h1 : cls b n i ≠ 1) (h3 : cls b n i ≠ 3) : whT b n i = wT (cls b n i) := by
  unfold cls at h1 h3 ⊢
  unfold whT
  by_cases hl : isL (b i)
  · rw [if_pos hl] at h1 h3 ⊢
    rw [if_pos hl]
    by_cases h8 : rn isL b n i - i ≤ 8
    · rw [if_pos h8] at h1 h3 ⊢
      rw [if_pos h8]
      unfold clsW
      split
      · next hw =>
        unfold wT
        rw [if_neg (by omega), Nat.add_sub_cancel_left]
      · rfl
    · rw [if_neg h8] at h3
      exact absurd rfl h3
  · rw [if_neg hl] at h1 h3 ⊢
    rw [if_neg hl]
    by_cases hd : isD (b i)
    · rw [if_pos hd] at h1 h3
      split at h1
      · exact absurd rfl h1
      · next h4 =>
        rw [if_neg h4] at h3
        exact absurd rfl h3
    · rw [if_neg hd] at h1 h3 ⊢
      rw [if_neg hd, if_neg h3]
theorem ps_le (hT : TP b n) : ∀ j, (∀ j', j' < j → ps b n j' < n) → ps b n j ≤ n
  | 0, _ => rn_le hT W0 (Nat.zero_le n)
  | j + 1, h => rn_le hT W0 (nxt_gt hT (h j (Nat.lt_succ_self j))).2
theorem ps_gt (hT : TP b n) {j : Nat} (h : ps b n j < n) : ps b n j < ps b n (j + 1) := by
  obtain ⟨h1, h2⟩ := nxt_gt hT h
  have h3 : nxt b n (ps b n j) ≤ ps b n (j + 1) := rn_ge hT W0 h2
  omega
theorem cls_2 {i : Nat} : cls b n i ≠ 2 := by
  intro h
  unfold cls at h
  split at h
  · split at h
    · unfold clsW at h
      split at h <;> omega
    · omega
  · split at h
    · split at h <;> omega
    · have := clsS_3 (b i) (b (i + 1))
      omega
theorem toks (hT : TP b n) (hC : ∀ j, j ≤ 400 → (∀ j', j' < j → ps b n j' < n) → stoC b n σ j) (hR : ∀ j, (∀ j', j' < j → ps b n j' < n ∧ cls b n (ps b n j') ≠ 3) → stoT b n τ j) : ∃ last, TKS (clsJ b n) (ps b n) last σ τ := by
  have hn := hT.1
  obtain ⟨L, h1, h2, h3⟩ : ∃ L, L ≤ 400 ∧ (L = 400 ∨ clsJ b n L = 2 ∨ clsJ b n L = 3) ∧ ∀ j, j < L → ¬ (j = 400 ∨ clsJ b n j = 2 ∨ clsJ b n j = 3) := by
    rcases least_of (P := fun j => j = 400 ∨ clsJ b n j = 2 ∨ clsJ b n j = 3) 400 with h | h
    · exact h
    · exact absurd (Or.inl rfl) (h 400 (Nat.le_refl _))
  have lt : ∀ j, j < L → ps b n j < n ∧ cls b n (ps b n j) ≠ 3 := fun j hj => by
    have h := h3 j hj
    unfold clsJ at h
    by_cases c : ps b n j < n
    · rw [if_pos c] at h
      exact ⟨c, fun e => h (Or.inr (Or.inr e))⟩
    · rw [if_neg c] at h
      exact absurd (Or.inr (Or.inl rfl)) h
  have inc : ∀ j j', j < j' → j' ≤ L → ps b n j < ps b n j' := by
    intro j j' hjj
    induction hjj with
    | refl => intro h; exact ps_gt hT (lt j (by omega)).1
    | @step m hm ih =>
      intro h
      have a1 := ih (by omega)
      exact Nat.lt_trans a1 (ps_gt hT (lt m (show m < L by omega)).1)
  have le : ∀ j, j ≤ L → ps b n j ≤ n := fun j hj => ps_le hT j fun j' hj' => (lt j' (by omega)).1
  refine ⟨L, h1, fun j hj => ?_, fun j hj => ?_, h2, inc, fun j hj => by have := le j hj; omega⟩
  · obtain ⟨a1, a2, a3⟩ := hC j (by omega) fun j' hj' => (lt j' (by omega)).1
    obtain ⟨b1, b2, b3, b4⟩ := hR j fun j' hj' => lt j' (by omega)
    refine ⟨⟨?_, a1, b1⟩, ⟨a2, b2⟩, fun q1 q3 => ?_, fun q => ?_, fun q => a3.trans (b4 q).symm⟩
    · unfold clsJ
      split
      · exact cls_lt _ _ _
      · decide
    · rw [b3]
      unfold whJ clsJ at *
      by_cases c : ps b n j < n
      · rw [if_pos c] at q1 q3 ⊢
        rw [if_pos c]
        exact cls_w q1 q3
      · rw [if_neg c, if_neg c]
        rfl
    · have c : ps b n j < n := by
        by_cases c : ps b n j < n
        · exact c
        · unfold clsJ at q
          rw [if_neg c] at q
          omega
      have q' : cls b n (ps b n j) = 1 := by
        unfold clsJ at q
        rw [if_pos c] at q
        exact q
      obtain ⟨v, v1, v2, v3⟩ := cls_1 hT c q'
      refine ⟨v, v1, ?_, ?_⟩
      · rw [b3]
        unfold whJ
        rw [if_pos c]
        exact v2
      · rw [a3]
        unfold valJ
        rw [if_pos c]
        exact v3
  · have h := h3 j hj
    exact ⟨fun e => h (Or.inr (Or.inl e)), fun e => h (Or.inr (Or.inr e))⟩
/-- what the cut does, on both sides -/
theorem toks_CT (hF : 100000 ≤ F) (hE : EV ad B A) (hK : KB B) (hC : CR ad B A σ) (hR : TR A τ) : ∃ σ' τ' c pl last, f_X1_cut F (ad 1) (cM X ad σ B) = some (cM X ad σ' B) ∧ t_X9_scanAll F τ = some τ' ∧ SF σ σ' ∧ σ'.1 21 = 0 ∧ TF τ τ' ∧ TKS c pl last σ' τ' := by
  obtain ⟨hA, -, hW⟩ := hE
  obtain ⟨w1, -, -, -, w5, -⟩ := hW.2.1
  let b : Nat → Nat := fun k => if k < zN A 0 0 then zN A 1 k else 0
  have hbi : ∀ k, k < zN A 0 0 → b k = zN A 1 k := fun k hk => if_pos hk
  have hle := w1.le
  have hT : TP b (zN A 0 0) := by
    refine ⟨w1.le, fun k => ?_, fun k hk => if_neg (by omega)⟩
    show (if k < zN A 0 0 then zN A 1 k else 0) < 256
    split
    · next h =>
      have := (w5 k (by omega)).le
      omega
    · decide
  have hTc : TPc σ b (zN A 0 0) := by
    refine ⟨hC.1.1.trans w1.eq, fun k hk => ?_⟩
    rw [hC.2.1 k hk, hbi k hk, (w5 k (by omega)).eq]
    rfl
  have hTt : TPt τ b (zN A 0 0) := by
    refine ⟨(hR.1 0 (by decide)).trans w1.eq, fun k hk => ?_⟩
    rw [hR.2 1 (by decide), hbi k hk]
    exact (w5 k (by omega)).eq
  obtain ⟨σ', c1, c2, c3, c4⟩ := cut_all (X := X) hF hA hK hT hTc
  obtain ⟨τ', t1, t2, t3⟩ := scanAll_all hF hT hTt
  obtain ⟨last, h⟩ := toks hT c4 t3
  exact ⟨σ', τ', _, _, last, c1, t1, c2, c3, t2, h⟩
