set_option maxRecDepth 100000
/-! the plain law: the steps, one after the other -/
variable {X : Nat → Option Ob} {ad ad' : Nat → Nat} {B B' : Sw} {A A' : Av} {σ σ' : Cs} {τ τ' : Tw} {F : Nat}
def ST2 (F : Nat) : Prop := ∀ (X : Nat → Option Ob) (ad : Nat → Nat) (B : Sw) (A : Av) (σ : Cs) (τ : Tw) (x : Nat → Int32), INV ad B A σ τ → ST F 2 x X ad B σ τ
theorem st_any (hF : 1000000 ≤ F) (h2 : ST2 F) (h : INV ad B A σ τ) (x : Nat → Int32) (k : Nat) : ST F k x X ad B σ τ := by
  by_cases h43 : 43 ≤ k
  · exact st_more h x h43
  match k, h43 with
  | 0, _ => exact st_0 hF h x
  | 1, _ => exact st_1 h x
  | 2, _ => exact h2 X ad B A σ τ x h
  | 3, _ => exact st_3 h x
  | 4, _ => exact st_4 hF h x
  | 5, _ => exact st_5 hF h x
  | 6, _ => exact st_6 hF h x
  | 7, _ => exact st_7 h x
  | 8, _ => exact st_8 hF h x
  | 9, _ => exact st_9 hF h x
  | 10, _ => exact st_10 hF h x
  | 11, _ => exact st_11 hF h x
  | 12, _ => exact st_12 h x
  | 13, _ => exact st_13 hF h x
  | 14, _ => exact st_14 hF h x
  | 15, _ => exact st_15 hF h x
  | 16, _ => exact st_16 h x
  | 17, _ => exact st_17 hF h x
  | 18, _ => exact st_18 hF h x
  | 19, _ => exact st_19 hF h x
  | 20, _ => exact st_20 hF h x
  | 21, _ => exact st_21 hF h x
  | 22, _ => exact st_22 hF h x
  | 23, _ => exact st_23 hF h x
  | 24, _ => exact st_24 hF h x
  | 25, _ => exact st_25 hF h x
  | 26, _ => exact st_26 hF h x
  | 27, _ => exact st_27 hF h x
  | 28, _ => exact st_28 hF h x
  | 29, _ => exact st_29 h x
  | 30, _ => exact st_30 h x
  | 31, _ => exact st_31 hF h x
  | 32, _ => exact st_32 hF h x
  | 33, _ => exact st_33 hF h x
  | 34, _ => exact st_34 hF h x
  | 35, _ => exact st_35 hF h x
  | 36, _ => exact st_36 hF h x
  | 37, _ => exact st_37 hF h x
  | 38, _ => exact st_38 hF h x
  | 39, _ => exact st_39 hF h x
  | 40, _ => exact st_40 hF h x
  | 41, _ => exact st_41 hF h x
  | 42, _ => exact st_42 h x
  | n + 43, q => exact absurd (Nat.le_add_left 43 n) q
theorem cM_X {a : Nat} (h : ¬ Own ad B a) : (cM X ad σ B).1 a = X a := by
  rw [cM_1]
  cases hb : B.1 a with
  | some o => exact absurd (Or.inl (by rw [hb]; exact fun z => by cases z)) h
  | none =>
    cases hq : rl ad a with
    | none => rfl
    | some r =>
      obtain ⟨x, y⟩ := rl_some hq
      exact absurd (Or.inr ⟨r, x, y⟩) h
/-- the law's invariant -/
def II (cw tw b L : Nat) (xs : Nat → Int32) (M : Sw) (τ : Tw) : Prop := ∃ (ad : Nat → Nat) (B : Sw) (A : Av) (σ : Cs) (X : Nat → Option Ob), M = cM X ad σ B ∧ ad 0 = cw ∧ INV ad B A σ τ ∧ (∀ j, j ≤ 34 → X (tw + j) = some (tB tw τ j)) ∧ X b = some (.inl (10, (L, .inl xs))) ∧ (∀ j, j ≤ 34 → ¬ Own ad B (tw + j) ∧ tw + j < B.2.1) ∧ (¬ Own ad B b ∧ b < B.2.1) ∧ ¬ (tw ≤ b ∧ b ≤ tw + 34)
theorem ii_ok {cw tw b L : Nat} {xs : Nat → Int32} : IOK (II cw tw b L xs) cw tw b L xs := by
  rintro M τ ⟨ad, B, A, σ, X, rfl, h0, hI, hx, hb, ho, hob, hnb⟩
  refine ⟨?_, by rw [← h0]; exact oc0 hI.1.1 σ, by rw [cM_X hob.1]; exact hb⟩
  refine Prod.ext (funext fun a => ?_) rfl
  by_cases q : tw ≤ a ∧ a ≤ tw + 34
  · obtain ⟨j, rfl⟩ : ∃ j, a = tw + j := ⟨a - tw, by omega⟩
    rw [mT_at (by omega), cM_X (ho j (by omega)).1]
    exact hx j (by omega)
  · rw [mT_off q]
theorem ii_st (hF : 1000000 ≤ F) (h2 : ST2 F) {cw tw b L : Nat} {xs : Nat → Int32} : IST (II cw tw b L xs) F cw tw b := by
  rintro k x M τ ⟨ad, B, A, σ, X, rfl, h0, hI, hx, hb, ho, hob, hnb⟩
  obtain ⟨r, ad', B', A', σ', τ', c1, c2, hI', x1, x2, x3, x4, x5, x6, x7⟩ := st_any (X := X) hF h2 hI x k
  have own' : ∀ a, ¬ Own ad B a → a < B.2.1 → ¬ Own ad' B' a := fun a h l q => by
    rcases x3 a q with q | q
    · exact h q
    · omega
  refine ⟨r, cM X ad' σ' B', τ', by rw [← h0]; exact c1, c2, ?_, ?_, ?_, x5, x6⟩
  · refine Prod.ext (funext fun a => ?_) rfl
    by_cases q : tw ≤ a ∧ a ≤ tw + 34
    · obtain ⟨j, rfl⟩ : ∃ j, a = tw + j := ⟨a - tw, by omega⟩
      rw [mT_at (by omega), cM_X (own' _ (ho j (by omega)).1 (ho j (by omega)).2)]
      exact hx j (by omega)
    · rw [mT_off q]
  · rw [cM_X (own' _ hob.1 hob.2), cM_X hob.1]
  · refine ⟨ad', B', A', σ', fun a => if tw ≤ a ∧ a ≤ tw + 34 then some (tB tw τ' (a - tw)) else X a, ?_, x1.trans h0, hI', fun j hj => ?_, ?_, fun j hj => ⟨own' _ (ho j hj).1 (ho j hj).2, ?_⟩, ⟨own' _ hob.1 hob.2, ?_⟩, hnb⟩
    · refine Prod.ext (funext fun a => ?_) rfl
      by_cases q : tw ≤ a ∧ a ≤ tw + 34
      · obtain ⟨j, rfl⟩ : ∃ j, a = tw + j := ⟨a - tw, by omega⟩
        rw [mT_at (by omega), cM_X (own' _ (ho j (by omega)).1 (ho j (by omega)).2)]
        show _ = if tw ≤ tw + j ∧ tw + j ≤ tw + 34 then some (tB tw τ' (tw + j - tw)) else X (tw + j)
        rw [if_pos q, Nat.add_sub_cancel_left]
      · rw [mT_off q, cM_1, cM_1]
        show _ = match B'.1 a with | some o => some o | none => match rl ad' a with | some r => some (cB ad' σ' r) | none => if tw ≤ a ∧ a ≤ tw + 34 then some (tB tw τ' (a - tw)) else X a
        rw [if_neg q]
        rfl
    · show (if tw ≤ tw + j ∧ tw + j ≤ tw + 34 then some (tB tw τ' (tw + j - tw)) else X (tw + j)) = _
      rw [if_pos (by omega), Nat.add_sub_cancel_left]
    · show (if tw ≤ b ∧ b ≤ tw + 34 then some (tB tw τ' (b - tw)) else X b) = _
      rw [if_neg hnb]
      exact hb
    · have := (ho j hj).2
      omega
    · have := hob.2
      omega
