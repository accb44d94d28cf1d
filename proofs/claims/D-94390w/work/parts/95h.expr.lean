set_option maxRecDepth 100000
/-! a sum: both sides, from the outside -/
variable {X X' X2 : Nat → Option Ob} {ad : Nat → Nat} {B B' B2 : Sw} {A : Av} {σ σ' σ2 : Cs} {τ τ' τ2 : Tw} {F : Nat} {c pl : Nat → Nat} {last j : Nat}
/-- what a sum leaves alone on the reference's side: codes below m -/
def EX (m : Nat) (τ τ' : Tw) : Prop := (∀ z, z ≠ 7 → z ≠ 8 → z ≠ 9 → z ≠ 30 → z ≠ 32 → τ'.1 z = τ.1 z) ∧ (∀ r, r ≠ 8 → r ≠ 9 → r ≠ 10 → r ≠ 22 → τ'.2.1 r = τ.2.1 r) ∧ τ'.2.1 8 0 = τ.2.1 8 0 ∧ (∀ k, k < 500 + m → τ'.2.1 9 k = τ.2.1 9 k ∧ τ'.2.1 10 k = τ.2.1 10 k) ∧ τ'.2.2 = τ.2.2
theorem ET.x {m w : Nat} (h : ET m w τ τ') : EX m τ τ' := ⟨fun z a b c d _ => h.1 z a b c d, h.2.1, h.2.2.1, h.2.2.2.1, h.2.2.2.2.2⟩
theorem EX.tr {m m1 : Nat} (h1 : EX m τ τ') (h2 : EX m1 τ' τ2) (hm : m ≤ m1) : EX m τ τ2 := by
  obtain ⟨a1, a2, a3, a4, a6⟩ := h1
  obtain ⟨b1, b2, b3, b4, b6⟩ := h2
  refine ⟨fun z p q r s t => (b1 z p q r s t).trans (a1 z p q r s t), fun z p q r s => (b2 z p q r s).trans (a2 z p q r s), b3.trans a3, fun k hk => ?_, b6.trans a6⟩
  have x := b4 k (by omega)
  have y := a4 k hk
  exact ⟨x.1.trans y.1, x.2.trans y.2⟩
theorem EX.i32 {m : Nat} {v : Int32} : EX m τ (tsI τ 32 v) := ⟨fun z _ _ _ _ p => tsI_n _ _ _ _ p, fun _ _ _ _ _ => rfl, rfl, fun _ _ => ⟨rfl, rfl⟩, rfl⟩
theorem TKS.x {m : Nat} (h : TKS c pl last σ τ) (h1 : EF σ σ') (h2 : EX m τ τ') : TKS c pl last σ' τ' := h.of (by rw [h1.2]) (by rw [h1.2]) (by rw [h1.2]) (h2.2.1 2 (by decide) (by decide) (by decide) (by decide)) (h2.2.1 3 (by decide) (by decide) (by decide) (by decide)) (h2.2.1 4 (by decide) (by decide) (by decide) (by decide)) (by rw [h2.2.2.2.2])
/-- a sum was read on both sides, or both fail alike -/
def XOK (c pl : Nat → Nat) (last : Nat) (ad : Nat → Nat) (X : Nat → Option Ob) (B : Sw) (σ : Cs) (τ : Tw) (j m : Nat) (rC : Option ((Nat ⊕ Nat) × Sw)) (rT : Option (Int32 × Tw)) : Prop := ∃ (t : Nat) (X' : Nat → Option Ob) (B' : Sw) (σ' : Cs) (τ' : Tw) (j' : Nat) (cl : Cd), rC = some (.inl t, cM X' ad σ' B') ∧ rT = some (1, τ') ∧ j < j' ∧ PK c pl last j' σ' τ' ∧ σ'.1 32 = 0 ∧ τ'.1 32 = Int32.ofNat m ∧ τ'.2.1 8 1 = Int32.ofNat (m + cl.length) ∧ cAt (vT τ') m cl ∧ TrB B' (j' - j) t cl ∧ cl.length ≤ j' - j ∧ MF ad X B X' B' (2 * (j' - j)) ∧ EF σ σ' ∧ EX m τ τ'
def XNO {R : Type} (last : Nat) (ad : Nat → Nat) (X : Nat → Option Ob) (B : Sw) (σ : Cs) (τ : Tw) (j m : Nat) (rC : Option ((R ⊕ Nat) × Sw)) (rT : Option (Int32 × Tw)) : Prop := ∃ (e : Nat) (X' : Nat → Option Ob) (B' : Sw) (σ' : Cs) (τ' : Tw) (k : Int32) (p : Nat), rC = some (.inr e, cM X' ad σ' B') ∧ rT = some (0, τ') ∧ B'.1 e = some (fltO k p) ∧ τ'.1 8 = k ∧ τ'.1 9 = Int32.ofNat p ∧ k ≠ 0 ∧ MF ad X B X' B' (2 * (last + 1 - j)) ∧ EF σ σ' ∧ EX m τ τ'
theorem expr_CT (hF : 100000 ≤ F) (hA : AdOK ad B) (hP : PK c pl last j σ τ) (h32 : σ.1 32 = 0) {m : Nat} (h8 : τ.2.1 8 1 = Int32.ofNat m) (hm : m ≤ j) : XOK c pl last ad X B σ τ j m (f_sum F 9 (ad 6) (cM X ad σ B)) (t_X9_expr F τ) ∨ XNO last ad X B σ τ j m (f_sum F 9 (ad 6) (cM X ad σ B)) (t_X9_expr F τ) := by
  have hj := hP.1.1
  have hjl := hP.2.2.2
  obtain ⟨τ1, e1⟩ : ∃ τ1, τ1 = tsI (tsI τ 32 (Int32.ofNat m)) 30 0 := ⟨_, rfl⟩
  have hE : EX m τ τ1 := by
    rw [e1]
    exact EX.i32.tr (ET.i30 (m := m) (w := 0)).x (Nat.le_refl _)
  have hpre : t_X9_expr F τ = t_X9_expr_L21 F F (Int32.ofNat 0) 1 1 τ1 := by
    unfold t_X9_expr
    have i1 : taI τ 8 2 1 = some (τ.2.1 8 1) := taI_n τ 8 2 1 (by decide) (by decide)
    rw [i1, Option.bind_some, nmE, nmE, h8, e1]
    rfl
  have hX : ATX c pl last ad B σ τ1 j m 0 0 1 := by
    refine ⟨hA, ⟨hP.1.x EF.rf hE, hP.2.1, ?_, hjl⟩, h32, ?_, ?_, by omega, Or.inl rfl, by omega⟩
    · rw [e1, tsI_n _ _ _ _ (by decide), tsI_n _ _ _ _ (by decide)]
      exact hP.2.2.1
    · rw [e1]
      exact h8
    · rw [e1]
      exact tsI_s _ _ _
  have h132 : τ1.1 32 = Int32.ofNat m := by
    rw [e1, tsI_n _ _ _ _ (by decide), tsI_s]
  rw [hpre]
  rcases sum_all (F := F) hF 9 0 (by decide) X B σ τ1 j m 0 hX with ⟨t, X', B', σ', τ', j', Q, os, s, a1, a2, ⟨a3, a4⟩, a5, a6, a7, a8, a9, a10, a11, a12, a13, a14, a15, a16, a17⟩ | ⟨s, r, b1, b2, e, X3, B3, σ4, τ6, kk, p, f1, f2, f3, f4, f5, f6, f7, f8, f9⟩
  · have hj' := a5.2.2.2
    obtain ⟨τ3, c1, c2, c3, c4, c5, c6⟩ := red_all (F := F) (r := 1) (by decide) os τ' (m + Q.length) 0 F a7 a8 (by omega) (by omega) a10 a16 (Or.inl rfl) (by omega)
    have hend : t_X9_expr_L21 F F (Int32.ofNat 0) 1 1 τ1 = some (1, τ3) := by
      have e2 := a2 (F - s)
      rw [Nat.sub_add_cancel (by omega)] at e2
      obtain ⟨g, hg⟩ : ∃ g, F - s = g + 1 + 1 := ⟨F - s - 2, by omega⟩
      rw [e2, hg, L21_s, end_T a5 a17, if_pos (by decide), L21_s]
      unfold t_X9_expr_L21_b
      have e3 : t_X9_reduce F 1 0 τ' = some τ3 := c1
      rw [if_pos rfl, e3, Option.bind_some]
    refine Or.inl ⟨t, X', B', σ', τ3, j', Q ++ opC os, a1, hend, a4, ⟨a5.1.e EF.rf (c5 0), a5.2.1, c3.trans a5.2.2.1, hj'⟩, a6, ?_, ?_, ?_, a11, ?_, a13, a14, ?_⟩
    · rw [(c5 0).1 32 (by decide) (by decide) (by decide) (by decide), a15.1 32 (by decide) (by decide) (by decide) (by decide)]
      exact h132
    · rw [c4, List.length_append, opC_len, Nat.add_assoc]
    · exact cAt_app.2 ⟨cAt_keep (c5 0) _ _ (Nat.le_refl _) a9, c6⟩
    · rw [List.length_append, opC_len]
      exact a12
    · exact (hE.tr a15.x (Nat.le_refl _)).tr (c5 0).x (Nat.le_add_right _ _)
  · refine Or.inr ⟨e, X3, B3, σ4, τ6, kk, p, f1, ?_, f3, f4, f5, f6, f7, f8, hE.tr f9.x (Nat.le_refl _)⟩
    have e2 := b2 (F - s)
    rw [Nat.sub_add_cancel (by omega)] at e2
    rw [e2, f2]
