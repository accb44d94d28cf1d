set_option maxRecDepth 100000
/-! a step of both sides -/
def KB (B : Sw) : Prop := B.1 (B.2.2.2 0) = some (.inl (12, (0, .inr (.inr (fun _ => none))))) ∧ B.1 (B.2.2.2 1) = some (.inl (11, (26, .inr (.inr (fun j => some (B.2.2.2 (10 + j)))))))
def Own (ad : Nat → Nat) (B : Sw) (a : Nat) : Prop := B.1 a ≠ none ∨ ∃ r, r < 114 ∧ ad r = a
def XT (ad : Nat → Nat) (B : Sw) (ad' : Nat → Nat) (B' : Sw) : Prop := ad' 0 = ad 0 ∧ (∀ a o, B.1 a = some o → B'.1 a = some o) ∧ (∀ a, Own ad' B' a → Own ad B a ∨ B.2.1 ≤ a) ∧ B.2.1 ≤ B'.2.1 ∧ B'.2.1 ≤ B.2.1 + 18700 ∧ B'.2.2.1 ≤ B.2.2.1 + 85000 ∧ B'.2.2.2 = B.2.2.2
theorem XT.rf {ad : Nat → Nat} {B : Sw} : XT ad B ad B := ⟨rfl, fun _ _ h => h, fun _ h => Or.inl h, Nat.le_refl _, Nat.le_add_right _ _, Nat.le_add_right _ _, rfl⟩
def INV (ad : Nat → Nat) (B : Sw) (A : Av) (σ : Cs) (τ : Tw) : Prop := EV ad B A ∧ KB B ∧ CR ad B A σ ∧ TR A τ
def ST (F k : Nat) (x : Nat → Int32) (X : Nat → Option Ob) (ad : Nat → Nat) (B : Sw) (σ : Cs) (τ : Tw) : Prop := ∃ (r : Int32) (ad' : Nat → Nat) (B' : Sw) (A' : Av) (σ' : Cs) (τ' : Tw), stC F k (ad 0) x (cM X ad σ B) = some (r, cM X ad' σ' B') ∧ stT F k x τ = some (r, τ') ∧ INV ad' B' A' σ' τ' ∧ XT ad B ad' B'
section STP
variable {X : Nat → Option Ob} {ad : Nat → Nat} {B : Sw} {A : Av} {σ : Cs} {τ : Tw} {F : Nat}
theorem ST.ro {k : Nat} {x : Nat → Int32} {r : Int32} {σ' : Cs} {τ' : Tw} (h : INV ad B A σ τ) (h1 : stC F k (ad 0) x (cM X ad σ B) = some (r, cM X ad σ' B)) (h2 : stT F k x τ = some (r, τ')) (h3 : CR ad B A σ') (h4 : TR A τ') : ST F k x X ad B σ τ := ⟨r, ad, B, A, σ', τ', h1, h2, ⟨h.1, h.2.1, h3, h4⟩, XT.rf⟩
theorem ST.rw {k : Nat} {x : Nat → Int32} {r : Int32} {A' : Av} {σ' : Cs} {τ' : Tw} (h : INV ad B A σ τ) (h1 : stC F k (ad 0) x (cM X ad σ B) = some (r, cM X ad σ' B)) (h2 : stT F k x τ = some (r, τ')) (hB : TB ad B A') (hW : WF A') (h3 : CR ad B A' σ') (h4 : TR A' τ') : ST F k x X ad B σ τ := ⟨r, ad, B, A', σ', τ', h1, h2, ⟨⟨h.1.1, hB, hW⟩, h.2.1, h3, h4⟩, XT.rf⟩
/-- a number below N -/
abbrev inN (x : Int32) (N : Nat) : Prop := 0 ≤ x.toInt ∧ x.toInt < (N : Int)
theorem inN.ex {x : Int32} {N : Nat} (h : inN x N) : ∃ k, k < N ∧ x = Int32.ofNat k := by
  obtain ⟨k, hk, e⟩ := i_nat (x := x) (m := x.toInt.toNat) h.1 (by have := h.1; omega)
  refine ⟨k, ?_, e⟩
  have h1 := h.1
  have h2 := h.2
  omega
theorem inN.of {k N : Nat} (h : k < N) (hN : N ≤ 2147483648) : inN (Int32.ofNat k) N := by
  show (0 : Int) ≤ (Int32.ofNat k).toInt ∧ (Int32.ofNat k).toInt < (N : Int)
  rw [i_tn (by omega)]
  omega
theorem within_v {F : Nat} {x lo hi : Int32} (P : Prop) [Decidable P] (h : (lo.toInt ≤ x.toInt ∧ x.toInt ≤ hi.toInt) ↔ P) : p_X0_within F x lo hi = some (if P then 1 else 0) := by
  unfold p_X0_within
  by_cases h1 : x < lo
  · have h3 := Int32.lt_iff_toInt_lt.mp h1
    rw [if_pos h1, if_neg (fun z => by have := (h.mpr z).1; omega)]
  · rw [if_neg h1]
    have h1' := Int32.le_iff_toInt_le.mp (Int32.not_lt.mp h1)
    by_cases h2 : hi < x
    · have h3 := Int32.lt_iff_toInt_lt.mp h2
      rw [if_pos h2, if_neg (fun z => by have := (h.mpr z).2; omega)]
    · have h2' := Int32.le_iff_toInt_le.mp (Int32.not_lt.mp h2)
      rw [if_neg h2, if_pos (h.mp ⟨h1', h2'⟩)]
end STP
