set_option maxRecDepth 100000
/-! THE PLAIN LAW, base: ints, loops, the two states -/
theorem nmE {α β : Type} (a : α) (f : α → β) : nm a f = f a := rfl
theorem n_pl (n k : Nat) : (no_index (OfNat.ofNat n) : Int32) + Int32.ofNat k = Int32.ofNat (OfNat.ofNat n + k) := (Int32.ofNat_add n k).symm
theorem n_lp (n k : Nat) : Int32.ofNat k + (no_index (OfNat.ofNat n) : Int32) = Int32.ofNat (k + OfNat.ofNat n) := (Int32.ofNat_add k n).symm
theorem n_pp (n k : Nat) : Int32.ofNat n + Int32.ofNat k = Int32.ofNat (n + k) := (Int32.ofNat_add n k).symm
theorem n_ml (n k : Nat) : (no_index (OfNat.ofNat n) : Int32) * Int32.ofNat k = Int32.ofNat (OfNat.ofNat n * k) := (Int32.ofNat_mul n k).symm
theorem n_lm (n k : Nat) : Int32.ofNat k * (no_index (OfNat.ofNat n) : Int32) = Int32.ofNat (k * OfNat.ofNat n) := (Int32.ofNat_mul k n).symm
theorem n_mm (n k : Nat) : Int32.ofNat n * Int32.ofNat k = Int32.ofNat (n * k) := (Int32.ofNat_mul n k).symm
theorem n_sl (n k : Nat) (h : (OfNat.ofNat n : Nat) ≤ k) : Int32.ofNat k - (no_index (OfNat.ofNat n) : Int32) = Int32.ofNat (k - OfNat.ofNat n) := (Int32.ofNat_sub k n h).symm
theorem n_ss (n k : Nat) (h : n ≤ k) : Int32.ofNat k - Int32.ofNat n = Int32.ofNat (k - n) := (Int32.ofNat_sub k n h).symm
theorem c_le (a b : Nat) (ha : a < 2147483648) (hb : b < 2147483648) : Int32.ofNat a ≤ Int32.ofNat b ↔ a ≤ b := Int32.ofNat_le_iff_le ha hb
theorem c_lt (a b : Nat) (ha : a < 2147483648) (hb : b < 2147483648) : Int32.ofNat a < Int32.ofNat b ↔ a < b := Int32.ofNat_lt_iff_lt ha hb
theorem c_eq (a b : Nat) (ha : a < 2147483648) (hb : b < 2147483648) : Int32.ofNat a = Int32.ofNat b ↔ a = b := by
  refine ⟨fun h => ?_, fun h => by rw [h]⟩
  have h1 := (c_le a b ha hb).mp (by rw [h]; exact Int32.le_refl _)
  have h2 := (c_le b a hb ha).mp (by rw [h]; exact Int32.le_refl _)
  omega
theorem c_le_l (n k : Nat) (hn : (OfNat.ofNat n : Nat) < 2147483648) (hk : k < 2147483648) : (no_index (OfNat.ofNat n) : Int32) ≤ Int32.ofNat k ↔ (OfNat.ofNat n : Nat) ≤ k := c_le n k hn hk
theorem c_le_r (n k : Nat) (hn : (OfNat.ofNat n : Nat) < 2147483648) (hk : k < 2147483648) : Int32.ofNat k ≤ (no_index (OfNat.ofNat n) : Int32) ↔ k ≤ (OfNat.ofNat n : Nat) := c_le k n hk hn
theorem c_lt_l (n k : Nat) (hn : (OfNat.ofNat n : Nat) < 2147483648) (hk : k < 2147483648) : (no_index (OfNat.ofNat n) : Int32) < Int32.ofNat k ↔ (OfNat.ofNat n : Nat) < k := c_lt n k hn hk
theorem c_lt_r (n k : Nat) (hn : (OfNat.ofNat n : Nat) < 2147483648) (hk : k < 2147483648) : Int32.ofNat k < (no_index (OfNat.ofNat n) : Int32) ↔ k < (OfNat.ofNat n : Nat) := c_lt k n hk hn
theorem c_eq_r (n k : Nat) (hn : (OfNat.ofNat n : Nat) < 2147483648) (hk : k < 2147483648) : Int32.ofNat k = (no_index (OfNat.ofNat n) : Int32) ↔ k = (OfNat.ofNat n : Nat) := c_eq k n hk hn
theorem c_eq_l (n k : Nat) (hn : (OfNat.ofNat n : Nat) < 2147483648) (hk : k < 2147483648) : (no_index (OfNat.ofNat n) : Int32) = Int32.ofNat k ↔ (OfNat.ofNat n : Nat) = k := c_eq n k hn hk
theorem i_in {k n : Nat} (hk : k < n) (hn : n ≤ 2147483648) : ¬ (Int32.ofNat k < 0 ∨ n ≤ (Int32.ofNat k).toNatClampNeg) := by
  rw [Int32.toNatClampNeg_ofNat_of_lt (show k < 2 ^ 31 by omega)]
  intro h
  rcases h with h | h
  · have h1 := (c_lt k 0 (by omega) (by omega)).mp h
    omega
  · omega
theorem i_cl {k n : Nat} (hk : k < n) (hn : n ≤ 2147483648) : (Int32.ofNat k).toNatClampNeg = k := Int32.toNatClampNeg_ofNat_of_lt (show k < 2 ^ 31 by omega)
/-- an int between two bounds is a number -/
theorem i_nat {x : Int32} {m : Nat} (h0 : (0 : Int) ≤ x.toInt) (hm : x.toInt ≤ (m : Int)) : ∃ k, k ≤ m ∧ x = Int32.ofNat k := by
  refine ⟨x.toInt.toNat, by omega, ?_⟩
  refine (Int32.ofNat_toNatClampNeg x ?_).symm
  rw [Int32.le_iff_toInt_le]
  exact h0
theorem i_tn {k : Nat} (hk : k < 2147483648) : (Int32.ofNat k).toInt = (k : Int) := Int32.toInt_ofNat_of_lt (show k < 2 ^ 31 from hk)
/-- a loop that counts up -/
theorem for_up {S R : Type} {L : Nat → Int32 → S → R} {N : Nat} {Inv : Nat → S → Prop} {Post : R → Prop}
    (hs : ∀ n k s, k < N → Inv k s → (∃ s', Inv (k + 1) s' ∧ L (n + 1) (Int32.ofNat k) s = L n (Int32.ofNat (k + 1)) s') ∨ Post (L (n + 1) (Int32.ofNat k) s))
    (he : ∀ n s, Inv N s → Post (L (n + 1) (Int32.ofNat N) s)) : ∀ (d k n : Nat) (s : S), k + d = N → d < n → Inv k s → Post (L n (Int32.ofNat k) s) := by
  intro d
  induction d with
  | zero =>
    intro k n s hk hn hI
    obtain ⟨m, rfl⟩ : ∃ m, n = m + 1 := ⟨n - 1, by omega⟩
    have hkN : k = N := by omega
    subst hkN
    exact he m s hI
  | succ d ih =>
    intro k n s hk hn hI
    obtain ⟨m, rfl⟩ : ∃ m, n = m + 1 := ⟨n - 1, by omega⟩
    rcases hs m k s (by omega) hI with ⟨s', h1, h2⟩ | h
    · rw [h2]
      exact ih (k + 1) m s' (by omega) (by omega) h1
    · exact h
/-- a loop that counts down to zero -/
theorem for_dn {S R : Type} {L : Nat → Int32 → S → R} {Inv : Nat → S → Prop} {Post : R → Prop}
    (hs : ∀ n k s, Inv (k + 1) s → (∃ s', Inv k s' ∧ L (n + 1) (Int32.ofNat k) s = L n (Int32.ofNat k + (-1)) s') ∨ Post (L (n + 1) (Int32.ofNat k) s))
    (he : ∀ n s, Inv 0 s → Post (L (n + 1) (-1) s)) : ∀ (k n : Nat) (s : S), k < n → Inv k s → Post (L n (Int32.ofNat k + (-1)) s) := by
  intro k
  induction k with
  | zero =>
    intro n s hn hI
    obtain ⟨m, rfl⟩ : ∃ m, n = m + 1 := ⟨n - 1, by omega⟩
    have e0 : Int32.ofNat 0 + (-1) = (-1 : Int32) := by decide
    rw [e0]
    exact he m s hI
  | succ k ih =>
    intro n s hn hI
    obtain ⟨m, rfl⟩ : ∃ m, n = m + 1 := ⟨n - 1, by omega⟩
    have e1 : Int32.ofNat 1 + (-1) = (0 : Int32) := by decide
    have e : Int32.ofNat (k + 1) + (-1) = Int32.ofNat k := by rw [Int32.ofNat_add, Int32.add_assoc, e1, Int32.add_zero]
    rw [e]
    rcases hs m k s hI with ⟨s', h1, h2⟩ | h
    · rw [h2]
      exact ih m s' (by omega) h1
    · exact h
/-! the reference's side -/
def twA (τ : Tw) (j : Nat) (f : Nat → Int32) : Tw := (τ.1, (fun q => if q = j then f else τ.2.1 q), τ.2.2)
def twL (τ : Tw) (j : Nat) (f : Nat → Int64) : Tw := (τ.1, τ.2.1, (fun q => if q = j then f else τ.2.2 q))
theorem taI_n (τ : Tw) (j n k : Nat) (hk : k < n) (hn : n ≤ 2147483648) : taI τ j n (Int32.ofNat k) = some (τ.2.1 j k) := by
  unfold taI
  rw [if_pos (i_in hk hn), i_cl hk hn]
theorem taI_l (τ : Tw) (j n k : Nat) (hk : (OfNat.ofNat k : Nat) < n) (hn : n ≤ 2147483648) : taI τ j n (no_index (OfNat.ofNat k)) = some (τ.2.1 j (OfNat.ofNat k)) := taI_n τ j n k hk hn
theorem tsA_n (τ : Tw) (j t n k : Nat) (x : Int32) (hk : k < n) (hn : n ≤ 2147483648) : tsA τ j t n (Int32.ofNat k) x = some (twA τ j (upd (τ.2.1 j) k (nar t x))) := by
  unfold tsA
  rw [if_pos (i_in hk hn), i_cl hk hn]
  rfl
theorem tsA_l (τ : Tw) (j t n k : Nat) (x : Int32) (hk : (OfNat.ofNat k : Nat) < n) (hn : n ≤ 2147483648) : tsA τ j t n (no_index (OfNat.ofNat k)) x = some (twA τ j (upd (τ.2.1 j) (OfNat.ofNat k) (nar t x))) := tsA_n τ j t n k x hk hn
theorem taL_n (τ : Tw) (j n k : Nat) (hk : k < n) (hn : n ≤ 2147483648) : taL τ j n (Int32.ofNat k) = some (τ.2.2 j k) := by
  unfold taL
  rw [if_pos (i_in hk hn), i_cl hk hn]
theorem tsL_n (τ : Tw) (j t n k : Nat) (x : Int64) (hk : k < n) (hn : n ≤ 2147483648) : tsL τ j t n (Int32.ofNat k) x = some (twL τ j (vp_updL (τ.2.2 j) k x)) := by
  unfold tsL
  rw [if_pos (i_in hk hn), i_cl hk hn]
  rfl
theorem nar0 (x : Int32) : nar 0 x = x := rfl
theorem nar4 (x : Int32) : nar 4 x = x &&& 1 := rfl
theorem twA_1 (τ : Tw) (j : Nat) (f : Nat → Int32) : (twA τ j f).1 = τ.1 := rfl
theorem twA_s (τ : Tw) (j : Nat) (f : Nat → Int32) : (twA τ j f).2.1 j = f := if_pos rfl
theorem twA_n (τ : Tw) (j i : Nat) (f : Nat → Int32) (h : i ≠ j) : (twA τ j f).2.1 i = τ.2.1 i := if_neg h
theorem twA_2 (τ : Tw) (j : Nat) (f : Nat → Int32) : (twA τ j f).2.2 = τ.2.2 := rfl
theorem twL_1 (τ : Tw) (j : Nat) (f : Nat → Int64) : (twL τ j f).1 = τ.1 := rfl
theorem twL_s (τ : Tw) (j : Nat) (f : Nat → Int64) : (twL τ j f).2.2 j = f := if_pos rfl
theorem twL_n (τ : Tw) (j i : Nat) (f : Nat → Int64) (h : i ≠ j) : (twL τ j f).2.2 i = τ.2.2 i := if_neg h
theorem twL_2 (τ : Tw) (j : Nat) (f : Nat → Int64) : (twL τ j f).2.1 = τ.2.1 := rfl
theorem tsI_s (τ : Tw) (k : Nat) (v : Int32) : (tsI τ k v).1 k = v := if_pos rfl
theorem tsI_n (τ : Tw) (k i : Nat) (v : Int32) (h : i ≠ k) : (tsI τ k v).1 i = τ.1 i := if_neg h
theorem tsI_2 (τ : Tw) (k : Nat) (v : Int32) : (tsI τ k v).2 = τ.2 := rfl
theorem up_s (f : Nat → Int32) (k : Nat) (x : Int32) : upd f k x k = x := if_pos rfl
theorem up_n (f : Nat → Int32) (k j : Nat) (x : Int32) (h : j ≠ k) : upd f k x j = f j := if_neg h
theorem upL_s (f : Nat → Int64) (k : Nat) (x : Int64) : vp_updL f k x k = x := if_pos rfl
theorem upL_n (f : Nat → Int64) (k j : Nat) (x : Int64) (h : j ≠ k) : vp_updL f k x j = f j := if_neg h
/-- all but what the sums use: int 35 broken, arrays 23 asked, 24 stack -/
def pjI (k : Nat) : Bool := !(k == 35)
def pjA (j : Nat) : Bool := !(j == 0 || j == 23 || j == 24)
/-- the abstract state: what lasts of the reference's (A 0: the ints) -/
abbrev Av : Type := Nat → Nat → Int32
def TR (A : Av) (τ : Tw) : Prop := (∀ k, pjI k = true → τ.1 k = A 0 k) ∧ ∀ j, pjA j = true → τ.2.1 j = A j
def aw (A : Av) (j : Nat) (f : Nat → Int32) : Av := fun q => if q = j then f else A q
theorem aw_s (A : Av) (j : Nat) (f : Nat → Int32) : aw A j f j = f := if_pos rfl
theorem aw_n (A : Av) (j i : Nat) (f : Nat → Int32) (h : i ≠ j) : aw A j f i = A i := if_neg h
theorem TR.w {A : Av} {τ : Tw} {j : Nat} {f : Nat → Int32} (h : TR A τ) (hj : pjA j = false) : TR A (twA τ j f) := by
  refine ⟨h.1, fun i hi => ?_⟩
  rw [twA_n]
  · exact h.2 i hi
  · intro e
    subst e
    rw [hj] at hi
    cases hi
theorem TR.l {A : Av} {τ : Tw} {j : Nat} {f : Nat → Int64} (h : TR A τ) : TR A (twL τ j f) := h
theorem TR.i {A : Av} {τ : Tw} {k : Nat} {v : Int32} (h : TR A τ) (hk : pjI k = false) : TR A (tsI τ k v) := by
  refine ⟨fun i hi => ?_, h.2⟩
  rw [tsI_n]
  · exact h.1 i hi
  · intro e
    subst e
    rw [hk] at hi
    cases hi
theorem TR.W {A : Av} {τ : Tw} {j : Nat} {f : Nat → Int32} (h : TR A τ) (hj : j ≠ 0) : TR (aw A j f) (twA τ j f) := by
  refine ⟨fun k hk => ?_, fun i hi => ?_⟩
  · rw [aw_n _ _ _ _ (fun e => hj e.symm)]
    exact h.1 k hk
  · by_cases e : i = j
    · subst e
      rw [twA_s, aw_s]
    · rw [twA_n _ _ _ _ e, aw_n _ _ _ _ e]
      exact h.2 i hi
theorem TR.I {A : Av} {τ : Tw} {k : Nat} {v : Int32} (h : TR A τ) : TR (aw A 0 (upd (A 0) k v)) (tsI τ k v) := by
  refine ⟨fun i hi => ?_, fun i hi => ?_⟩
  · rw [aw_s]
    by_cases e : i = k
    · subst e
      rw [tsI_s, up_s]
    · rw [tsI_n _ _ _ _ e, up_n _ _ _ _ e]
      exact h.1 i hi
  · have h0 : i ≠ 0 := by
      intro e
      subst e
      cases hi
    rw [aw_n _ _ _ _ h0]
    exact h.2 i hi
