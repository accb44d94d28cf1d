set_option maxRecDepth 100000
/-! the tape, and runs of bytes -/
variable {X : Nat → Option Ob} {ad : Nat → Nat} {B : Sw} {A : Av} {σ : Cs} {τ : Tw} {F : Nat} {b : Nat → Nat} {n : Nat}
/-- a byte as the component sees it -/
def cb (k : Nat) : Int32 := (Int32.ofNat k).toInt8.toInt32
abbrev isL (k : Nat) : Prop := 97 ≤ k ∧ k ≤ 122
abbrev isD (k : Nat) : Prop := 48 ≤ k ∧ k ≤ 57
abbrev isW (k : Nat) : Prop := k = 9 ∨ k = 10 ∨ k = 13 ∨ k = 32
/-- the bytes: b, n of them -/
def TP (b : Nat → Nat) (n : Nat) : Prop := n ≤ 2000 ∧ (∀ k, b k < 256) ∧ ∀ k, n ≤ k → b k = 0
def TPc (σ : Cs) (b : Nat → Nat) (n : Nat) : Prop := σ.1 21 = Int32.ofNat n ∧ ∀ k, k < n → σ.2.1 2 k = cb (b k)
def TPt (τ : Tw) (b : Nat → Nat) (n : Nat) : Prop := τ.1 0 = Int32.ofNat n ∧ ∀ k, k < n → τ.2.1 1 k = Int32.ofNat (b k)
theorem c_let {k : Nat} (hk : k < 256) : p_X1_isLetter F (cb k) = some (if isL k then 1 else 0) := by
  have : ∀ k, k < 256 → (if cb k < 97 then some (0 : Int32) else if 122 < cb k then some 0 else some 1) = some (if isL k then 1 else 0) := by decide +kernel
  exact this k hk
theorem c_dig {k : Nat} (hk : k < 256) : p_X1_isDigit F (cb k) = some (if isD k then 1 else 0) := by
  have : ∀ k, k < 256 → (if cb k < 48 then some (0 : Int32) else if 57 < cb k then some 0 else some 1) = some (if isD k then 1 else 0) := by decide +kernel
  exact this k hk
theorem cb_lo {k : Nat} (hk : k < 128) : cb k = Int32.ofNat k := by
  have : ∀ k, k < 128 → cb k = Int32.ofNat k := by decide +kernel
  exact this k hk
theorem cb_eq {k j : Nat} (hk : k < 256) (hj : j < 128) : cb k = Int32.ofNat j ↔ k = j := by
  constructor
  · intro h
    by_cases c : k < 128
    · rw [cb_lo c] at h
      exact (c_eq k j (by omega) (by omega)).1 h
    · have : ∀ k, k < 256 → ¬ k < 128 → cb k < 0 := by decide +kernel
      have h1 := this k hk c
      rw [h] at h1
      exact absurd h1 (Int32.not_lt.2 (ofNat_nn (by omega)))
  · intro h
    rw [h, cb_lo hj]
theorem c_byte (hA : AdOK ad B) (hT : TP b n) (hc : TPc σ b n) {i : Nat} (hi : i < 100000) : f_X1_byteAt F (ad 1) (Int32.ofNat i) (cM X ad σ B) = some (cb (b i)) := by
  unfold f_X1_byteAt
  rw [o1_1 hA, Option.bind_some, hc.1]
  by_cases h : n ≤ i
  · rw [if_pos ((c_le n i (by have := hT.1; omega) (by omega)).2 h), hT.2.2 i h]
    rfl
  · rw [if_neg (fun q => h ((c_le n i (by have := hT.1; omega) (by omega)).1 q)), o1_0 hA, Option.bind_some, a2 hA σ i (by have := hT.1; omega), Option.bind_some, hc.2 i (by omega)]
theorem t_byte (hT : TP b n) (hc : TPt τ b n) {i : Nat} (hi : i < 100000) : t_X9_byteAt F (Int32.ofNat i) τ = some (Int32.ofNat (b i)) := by
  unfold t_X9_byteAt
  rw [hc.1]
  by_cases h : n ≤ i
  · rw [if_pos ((c_le n i (by have := hT.1; omega) (by omega)).2 h), hT.2.2 i h]
    rfl
  · rw [if_neg (fun q => h ((c_le n i (by have := hT.1; omega) (by omega)).1 q)), taI_n τ 1 2000 i (by have := hT.1; omega) (by decide), Option.bind_some, hc.2 i (by omega)]
theorem t_let (hT : TP b n) (hc : TPt τ b n) {i : Nat} (hi : i < 100000) : t_X9_isLetter F (Int32.ofNat i) τ = some (if isL (b i) then 1 else 0) := by
  have h1 := t_byte (F := F) hT hc hi
  have hb := hT.2.1 i
  unfold t_X9_isLetter
  rw [h1, Option.bind_some, Option.bind_some]
  have : ∀ k, k < 256 → (if Int32.ofNat k < 97 then some (0 : Int32) else if 122 < Int32.ofNat k then some 0 else some 1) = some (if isL k then 1 else 0) := by decide +kernel
  exact this _ hb
theorem t_dig (hT : TP b n) (hc : TPt τ b n) {i : Nat} (hi : i < 100000) : t_X9_isDigit F (Int32.ofNat i) τ = some (if isD (b i) then 1 else 0) := by
  have h1 := t_byte (F := F) hT hc hi
  have hb := hT.2.1 i
  unfold t_X9_isDigit
  rw [h1, Option.bind_some, Option.bind_some]
  have : ∀ k, k < 256 → (if Int32.ofNat k < 48 then some (0 : Int32) else if 57 < Int32.ofNat k then some 0 else some 1) = some (if isD k then 1 else 0) := by decide +kernel
  exact this _ hb
/-- the first place from i on where P does not hold -/
def rnF (P : Nat → Prop) [DecidablePred P] (b : Nat → Nat) : Nat → Nat → Nat
  | 0, i => i
  | m + 1, i => if P (b i) then rnF P b m (i + 1) else i
def rn (P : Nat → Prop) [DecidablePred P] (b : Nat → Nat) (n i : Nat) : Nat := rnF P b (n - i) i
theorem rn_y {P : Nat → Prop} [DecidablePred P] {i : Nat} (h : i < n) (hp : P (b i)) : rn P b n i = rn P b n (i + 1) := by
  unfold rn
  rw [show n - i = (n - (i + 1)) + 1 by omega]
  exact if_pos hp
theorem rn_n {P : Nat → Prop} [DecidablePred P] {i : Nat} (hp : ¬ P (b i)) : rn P b n i = i := by
  unfold rn
  cases h : n - i with
  | zero => rfl
  | succ m => exact if_neg hp
theorem rn_e {P : Nat → Prop} [DecidablePred P] {i : Nat} (h : n ≤ i) : rn P b n i = i := by
  unfold rn
  rw [show n - i = 0 by omega]
  rfl
theorem rn_all {P : Nat → Prop} [DecidablePred P] (hT : TP b n) (h0 : ¬ P 0) : ∀ (d i : Nat), n - i = d → i ≤ n → i ≤ rn P b n i ∧ rn P b n i ≤ n ∧ (∀ j, i ≤ j → j < rn P b n i → P (b j)) ∧ ¬ P (b (rn P b n i)) := by
  intro d
  induction d with
  | zero =>
    intro i hd hi
    rw [rn_e (by omega)]
    refine ⟨Nat.le_refl _, hi, fun j a c => by omega, ?_⟩
    rw [hT.2.2 i (by omega)]
    exact h0
  | succ d ih =>
    intro i hd hi
    by_cases hp : P (b i)
    · rw [rn_y (by omega) hp]
      obtain ⟨a1, a2, a3, a4⟩ := ih (i + 1) (by omega) (by omega)
      refine ⟨by omega, a2, fun j x y => ?_, a4⟩
      by_cases e : j = i
      · rw [e]
        exact hp
      · exact a3 j (by omega) y
    · rw [rn_n hp]
      exact ⟨Nat.le_refl _, hi, fun j a c => by omega, hp⟩
theorem rn_ge {P : Nat → Prop} [DecidablePred P] (hT : TP b n) (h0 : ¬ P 0) {i : Nat} (hi : i ≤ n) : i ≤ rn P b n i := (rn_all hT h0 _ i rfl hi).1
theorem rn_le {P : Nat → Prop} [DecidablePred P] (hT : TP b n) (h0 : ¬ P 0) {i : Nat} (hi : i ≤ n) : rn P b n i ≤ n := (rn_all hT h0 _ i rfl hi).2.1
theorem rn_in {P : Nat → Prop} [DecidablePred P] (hT : TP b n) (h0 : ¬ P 0) {i j : Nat} (hi : i ≤ n) (h1 : i ≤ j) (h2 : j < rn P b n i) : P (b j) := (rn_all hT h0 _ i rfl hi).2.2.1 j h1 h2
theorem rn_at {P : Nat → Prop} [DecidablePred P] (hT : TP b n) (h0 : ¬ P 0) {i : Nat} (hi : i ≤ n) : ¬ P (b (rn P b n i)) := (rn_all hT h0 _ i rfl hi).2.2.2
/-- the value of letters -/
def wv (b : Nat → Nat) (i : Nat) : Nat → Nat
  | 0 => 0
  | m + 1 => wv b i m * 27 + (b (i + m) - 96)
def iv (b : Nat → Nat) (i : Nat) : Nat → Nat
  | 0 => 0
  | m + 1 => iv b i m * 10 + (b (i + m) - 48)
theorem l_step {v c : Nat} (hc : isL c) : Int64.ofNat v * 27 + (Int32.ofNat c).toInt64 - 96 = Int64.ofNat (v * 27 + (c - 96)) := by
  have h1 : (Int32.ofNat c).toInt64 = Int64.ofNat c := by
    have : ∀ k, k < 123 → (Int32.ofNat k).toInt64 = Int64.ofNat k := by decide +kernel
    exact this c (by omega)
  have h2 : (27 : Int64) = Int64.ofNat 27 := rfl
  have h3 : (96 : Int64) = Int64.ofNat 96 := rfl
  rw [h1, h2, h3, ← Int64.ofNat_mul, ← Int64.ofNat_add, ← Int64.ofNat_sub _ _ (by omega)]
  congr 1
  omega
theorem l_step' {v c : Nat} (hc : isL c) : Int64.ofNat v * 27 + (Int32.ofNat c).toInt64 - 97 + 1 = Int64.ofNat (v * 27 + (c - 96)) := by
  rw [← l_step hc]
  have : ∀ x : Int64, x - 97 + 1 = x - 96 := fun x => by
    have e : (-97 : Int64) + 1 = -96 := by decide
    rw [Int64.sub_eq_add_neg, Int64.sub_eq_add_neg, Int64.add_assoc, e]
  exact this _
theorem d_step {v c : Nat} (hc : isD c) : 10 * Int32.ofNat v + Int32.ofNat c - 48 = Int32.ofNat (v * 10 + (c - 48)) := by
  have h2 : (10 : Int32) = Int32.ofNat 10 := rfl
  have h3 : (48 : Int32) = Int32.ofNat 48 := rfl
  rw [h2, h3, ← Int32.ofNat_mul, ← Int32.ofNat_add, ← Int32.ofNat_sub _ _ (by omega)]
  congr 1
  omega
theorem L0 : ¬ isL 0 := by decide
theorem D0 : ¬ isD 0 := by decide
theorem W0 : ¬ isW 0 := by decide
theorem cw_L4 (hF : 100000 ≤ F) (hA : AdOK ad B) (hT : TP b n) (hc : TPc σ b n) {K : Int32 → Int64 → Option (Int32 × Sw)} {i : Nat} (hi : i ≤ n) : f_X1_word_L4 F K (ad 1) (Int32.ofNat i) (cM X ad σ B) F (Int32.ofNat i) 0 = K (Int32.ofNat (rn isL b n i)) (Int64.ofNat (wv b i (min (rn isL b n i - i) 8))) := by
  have hn := hT.1
  have hle := rn_le hT L0 hi
  have hge := rn_ge hT L0 hi
  refine for_up (L := f_X1_word_L4 F K (ad 1) (Int32.ofNat i) (cM X ad σ B)) (N := rn isL b n i) (Inv := fun k s => i ≤ k ∧ s = Int64.ofNat (wv b i (min (k - i) 8))) (Post := fun r => r = K (Int32.ofNat (rn isL b n i)) (Int64.ofNat (wv b i (min (rn isL b n i - i) 8)))) ?_ ?_ (rn isL b n i - i) i F _ (by omega) (by omega) ⟨Nat.le_refl _, by rw [Nat.sub_self]; rfl⟩
  · intro m k s hk hs
    obtain ⟨h1, rfl⟩ := hs
    have hp : isL (b k) := rn_in hT L0 hi h1 hk
    have hkn : k < n := by omega
    show (∃ s', _ ∧ f_X1_word_L4_b F K (ad 1) (Int32.ofNat i) (cM X ad σ B) (f_X1_word_L4 F K (ad 1) (Int32.ofNat i) (cM X ad σ B) m) (Int32.ofNat k) _ = _) ∨ _
    unfold f_X1_word_L4_b
    rw [oc1 hA, Option.bind_some, c_byte hA hT hc (by omega), Option.bind_some, c_let (hT.2.1 k), if_pos hp, Option.bind_some, if_neg (by decide)]
    by_cases h8 : i + 8 ≤ k
    · have e8 : Int32.ofNat i + 8 ≤ Int32.ofNat k := by
        rw [n_lp]
        exact (c_le (i + 8) k (by omega) (by omega)).2 h8
      rw [if_pos e8, nmE, n_lp]
      refine Or.inl ⟨_, ⟨by omega, ?_⟩, rfl⟩
      rw [Nat.min_eq_right (by omega), Nat.min_eq_right (by omega)]
    · have e8 : ¬ Int32.ofNat i + 8 ≤ Int32.ofNat k := by
        rw [n_lp]
        exact fun q => h8 ((c_le (i + 8) k (by omega) (by omega)).1 q)
      rw [if_neg e8, o1_0 hA, Option.bind_some, a2 hA σ k (by omega), Option.bind_some, hc.2 k hkn, cb_lo (by omega), nmE, nmE, n_lp, l_step' hp]
      refine Or.inl ⟨_, ⟨by omega, ?_⟩, rfl⟩
      rw [Nat.min_eq_left (by omega), Nat.min_eq_left (by omega), show k + 1 - i = (k - i) + 1 by omega]
      show _ = Int64.ofNat (wv b i (k - i) * 27 + (b (i + (k - i)) - 96))
      rw [show i + (k - i) = k by omega]
  · intro m s hs
    obtain ⟨h1, rfl⟩ := hs
    have hp := rn_at (P := isL) hT L0 hi
    show f_X1_word_L4_b F K (ad 1) (Int32.ofNat i) (cM X ad σ B) (f_X1_word_L4 F K (ad 1) (Int32.ofNat i) (cM X ad σ B) m) (Int32.ofNat (rn isL b n i)) _ = _
    unfold f_X1_word_L4_b
    rw [oc1 hA, Option.bind_some, c_byte hA hT hc (by omega), Option.bind_some, c_let (hT.2.1 _), if_neg hp, Option.bind_some, if_pos rfl]
theorem tw_L12 (hF : 100000 ≤ F) (hT : TP b n) (hc : TPt τ b n) {K : Int32 → Int64 → Option (Int32 × Tw)} {i : Nat} (hi : i ≤ n) : t_X9_scan_L12 F K (Int32.ofNat i) τ F (Int32.ofNat i) 0 = K (Int32.ofNat (rn isL b n i)) (Int64.ofNat (wv b i (min (rn isL b n i - i) 8))) := by
  have hn := hT.1
  have hle := rn_le hT L0 hi
  have hge := rn_ge hT L0 hi
  refine for_up (L := t_X9_scan_L12 F K (Int32.ofNat i) τ) (N := rn isL b n i) (Inv := fun k s => i ≤ k ∧ s = Int64.ofNat (wv b i (min (k - i) 8))) (Post := fun r => r = K (Int32.ofNat (rn isL b n i)) (Int64.ofNat (wv b i (min (rn isL b n i - i) 8)))) ?_ ?_ (rn isL b n i - i) i F _ (by omega) (by omega) ⟨Nat.le_refl _, by rw [Nat.sub_self]; rfl⟩
  · intro m k s hk hs
    obtain ⟨h1, rfl⟩ := hs
    have hp : isL (b k) := rn_in hT L0 hi h1 hk
    have hkn : k < n := by omega
    show (∃ s', _ ∧ t_X9_scan_L12_b F K (Int32.ofNat i) τ (t_X9_scan_L12 F K (Int32.ofNat i) τ m) (Int32.ofNat k) _ = _) ∨ _
    unfold t_X9_scan_L12_b
    rw [t_let hT hc (by omega), if_pos hp, Option.bind_some, if_neg (by decide), n_ss _ _ h1]
    by_cases h8 : i + 8 ≤ k
    · have e8 : (8 : Int32) ≤ Int32.ofNat (k - i) := (c_le 8 (k - i) (by omega) (by omega)).2 (by omega)
      rw [if_pos e8, nmE, n_lp]
      refine Or.inl ⟨_, ⟨by omega, ?_⟩, rfl⟩
      rw [Nat.min_eq_right (by omega), Nat.min_eq_right (by omega)]
    · have e8 : ¬ (8 : Int32) ≤ Int32.ofNat (k - i) := fun q => h8 (by have := (c_le 8 (k - i) (by omega) (by omega)).1 q; omega)
      rw [if_neg e8, t_byte hT hc (by omega), Option.bind_some, nmE, nmE, n_lp, l_step hp]
      refine Or.inl ⟨_, ⟨by omega, ?_⟩, rfl⟩
      rw [Nat.min_eq_left (by omega), Nat.min_eq_left (by omega), show k + 1 - i = (k - i) + 1 by omega]
      show _ = Int64.ofNat (wv b i (k - i) * 27 + (b (i + (k - i)) - 96))
      rw [show i + (k - i) = k by omega]
  · intro m s hs
    obtain ⟨h1, rfl⟩ := hs
    have hp := rn_at (P := isL) hT L0 hi
    show t_X9_scan_L12_b F K (Int32.ofNat i) τ (t_X9_scan_L12 F K (Int32.ofNat i) τ m) (Int32.ofNat (rn isL b n i)) _ = _
    unfold t_X9_scan_L12_b
    rw [t_let hT hc (by omega), if_neg hp, Option.bind_some, if_pos rfl]
