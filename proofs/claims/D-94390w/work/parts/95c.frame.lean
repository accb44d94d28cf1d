set_option maxRecDepth 100000
/-! what a sum's reading leaves alone; a step to the next token -/
variable {X X' X2 : Nat → Option Ob} {ad : Nat → Nat} {B B' B2 : Sw} {A : Av} {σ σ' σ2 : Cs} {τ τ' : Tw} {F : Nat} {c pl : Nat → Nat} {last j : Nat}
/-- the memory grew by at most u cells; older ones that may change did not -/
def MF (ad : Nat → Nat) (X : Nat → Option Ob) (B : Sw) (X' : Nat → Option Ob) (B' : Sw) (u : Nat) : Prop := AdOK ad B' ∧ Gr B B' ∧ (∀ a, Own ad B' a → Own ad B a ∨ B.2.1 ≤ a) ∧ (∀ a, a < B.2.1 → ¬ Own ad B a → X' a = X a) ∧ B.2.1 ≤ B'.2.1 ∧ (B'.2.1 ≤ B.2.1 + u ∧ ∀ a, a < B.2.1 → B.1 a = none → B'.1 a = none) ∧ B'.2.2.1 ≤ B.2.2.1 + 8 * u ∧ B'.2.2.2 = B.2.2.2
theorem MF.rf (hA : AdOK ad B) : MF ad X B X B 0 := ⟨hA, fun _ _ h => h, fun _ h => Or.inl h, fun _ _ _ => rfl, Nat.le_refl _, ⟨Nat.le_refl _, fun _ _ h => h⟩, Nat.le_refl _, rfl⟩
theorem MF.no {u a : Nat} (h : MF ad X B X' B' u) (ha : a < B.2.1) (hn : ¬ Own ad B a) : ¬ Own ad B' a := fun q => by
  rcases h.2.2.1 a q with q | q
  · exact hn q
  · omega
theorem MF.tr {u v : Nat} (h1 : MF ad X B X' B' u) (h2 : MF ad X' B' X2 B2 v) : MF ad X B X2 B2 (u + v) := by
  have hno := fun a (p : a < B.2.1) (q : ¬ Own ad B a) => h1.no p q
  obtain ⟨a1, a2, a3, a4, a5, ⟨a6, a9⟩, a7, a8⟩ := h1
  obtain ⟨b1, b2, b3, b4, b5, ⟨b6, b9⟩, b7, b8⟩ := h2
  refine ⟨b1, fun a o h => b2 a o (a2 a o h), fun a h => ?_, fun a p q => (b4 a (by omega) (hno a p q)).trans (a4 a p q), by omega, ⟨by omega, fun a p q => b9 a (by omega) (a9 a p q)⟩, by omega, b8.trans a8⟩
  rcases b3 a h with h | h
  · exact a3 a h
  · exact Or.inr (by omega)
theorem MF.le {u v : Nat} (h : MF ad X B X' B' u) (hv : u ≤ v) : MF ad X B X' B' v := by
  obtain ⟨a1, a2, a3, a4, a5, ⟨a6, a9⟩, a7, a8⟩ := h
  exact ⟨a1, a2, a3, a4, a5, ⟨by omega, a9⟩, by omega, a8⟩
/-- a fresh frozen object -/
theorem MF.ov (hA : AdOK ad B) {o : Ob} {s : Nat} (hs : s ≤ 8) : MF ad X B X (ovl B [o] s) 1 := ⟨ov_ad hA, ov_gr hA, fun _ h => ov_own h, fun _ _ _ => rfl, Nat.le_add_right _ _, ⟨Nat.le_refl _, fun a h q => (ov_lo h).trans q⟩, by show B.2.2.1 + s ≤ B.2.2.1 + 8 * 1; omega, rfl⟩
/-- a fresh object that may change -/
theorem MF.nb (hA : AdOK ad B) {o : Ob} {s : Nat} (hs : s ≤ 8) : MF ad X B (mX X B.2.1 o) (nB B s) 1 := ⟨nB_ad hA, fun _ _ h => h, fun _ h => Or.inl h, fun a h _ => mX_n (by omega), Nat.le_succ _, ⟨Nat.le_refl _, fun _ _ q => q⟩, by show B.2.2.1 + s ≤ B.2.2.1 + 8 * 1; omega, rfl⟩
/-- a fresh object (since B0), frozen now -/
theorem MF.fr {u a : Nat} {o : Ob} (h : MF ad X B X' B' u) (ha : B.2.1 ≤ a) (hl : a < B'.2.1) (hn : ¬ Own ad B' a) : MF ad X B (mX X' a o) (frB B' a o) u := by
  obtain ⟨a1, a2, a3, a4, a5, ⟨a6, a9⟩, a7, a8⟩ := h
  refine ⟨fr_ad a1 hn hl, fun q o' hq => fr_gr hn q o' (a2 q o' hq), fun q hq => ?_, fun q p r => (mX_n (by omega)).trans (a4 q p r), a5, ⟨a6, fun q p r => (mup_ne (by omega)).trans (a9 q p r)⟩, a7, a8⟩
  rcases fr_own hq with hq | hq
  · exact a3 q hq
  · exact Or.inr (by omega)
def EF (σ σ' : Cs) : Prop := (∀ z, z ≠ 31 → z ≠ 32 → σ'.1 z = σ.1 z) ∧ σ'.2 = σ.2
theorem EF.rf : EF σ σ := ⟨fun _ _ _ => rfl, rfl⟩
theorem EF.tr (h1 : EF σ σ') (h2 : EF σ' σ2) : EF σ σ2 := ⟨fun z p q => (h2.1 z p q).trans (h1.1 z p q), h2.2.trans h1.2⟩
theorem EF.i31 {v : Int32} : EF σ (csI σ 31 v) := ⟨fun z p _ => csI_n _ _ _ _ p, rfl⟩
theorem EF.i32 {v : Int32} : EF σ (csI σ 32 v) := ⟨fun z _ p => csI_n _ _ _ _ p, rfl⟩
theorem ET.i7 {m w : Nat} {v : Int32} : ET m w τ (tsI τ 7 v) := ⟨fun z p _ _ _ => tsI_n _ _ _ _ p, fun _ _ _ _ _ => rfl, rfl, fun _ _ => ⟨rfl, rfl⟩, fun _ _ => rfl, rfl⟩
theorem ET.i30 {m w : Nat} {v : Int32} : ET m w τ (tsI τ 30 v) := ⟨fun z _ _ _ p => tsI_n _ _ _ _ p, fun _ _ _ _ _ => rfl, rfl, fun _ _ => ⟨rfl, rfl⟩, fun _ _ => rfl, rfl⟩
theorem ET.wr {m w : Nat} {k v : Int32} : ET m w τ (tsI (tsI τ 8 k) 9 v) := ⟨fun z _ p q _ => (tsI_n _ _ _ _ q).trans (tsI_n _ _ _ _ p), fun _ _ _ _ _ => rfl, rfl, fun _ _ => ⟨rfl, rfl⟩, fun _ _ => rfl, rfl⟩
theorem TKS.of {σ' : Cs} {τ' : Tw} (h : TKS c pl last σ τ) (h3 : σ'.2.1 3 = σ.2.1 3) (h4 : σ'.2.1 4 = σ.2.1 4) (h5 : σ'.2.2.1 5 = σ.2.2.1 5) (t2 : τ'.2.1 2 = τ.2.1 2) (t3 : τ'.2.1 3 = τ.2.1 3) (t4 : τ'.2.1 4 = τ.2.1 4) (t5 : τ'.2.2 5 = τ.2.2 5) : TKS c pl last σ' τ' := by
  obtain ⟨a1, a2, a3⟩ := h
  refine ⟨a1, fun i hi => ?_, a3⟩
  rw [h3, h4, h5, t2, t3, t4, t5]
  exact a2 i hi
theorem TKS.e {m w : Nat} (h : TKS c pl last σ τ) (h1 : EF σ σ') (h2 : ET m w τ τ') : TKS c pl last σ' τ' := h.of (by rw [h1.2]) (by rw [h1.2]) (by rw [h1.2]) (h2.2.1 2 (by decide) (by decide) (by decide) (by decide)) (h2.2.1 3 (by decide) (by decide) (by decide) (by decide)) (h2.2.1 4 (by decide) (by decide) (by decide) (by decide)) (by rw [h2.2.2.2.2.2])
/-- either side fails, at the same place -/
def FL {R : Type} (ad : Nat → Nat) (X : Nat → Option Ob) (B : Sw) (σ : Cs) (τ : Tw) (u m w : Nat) (rC : Option ((R ⊕ Nat) × Sw)) (rT : Option (Int32 × Tw)) : Prop := ∃ (e : Nat) (X' : Nat → Option Ob) (B' : Sw) (σ' : Cs) (τ' : Tw) (k : Int32) (p : Nat), rC = some (.inr e, cM X' ad σ' B') ∧ rT = some (0, τ') ∧ B'.1 e = some (fltO k p) ∧ τ'.1 8 = k ∧ τ'.1 9 = Int32.ofNat p ∧ k ≠ 0 ∧ MF ad X B X' B' u ∧ EF σ σ' ∧ ET m w τ τ'
theorem FL.pre {R : Type} {u v m w m1 w1 : Nat} {rC : Option ((R ⊕ Nat) × Sw)} {rT : Option (Int32 × Tw)} (h1 : MF ad X B X' B' u) (h2 : EF σ σ') (h3 : ET m w τ τ') (hm : m ≤ m1) (hw : w ≤ w1) (h : FL ad X' B' σ' τ' v m1 w1 rC rT) : FL ad X B σ τ (u + v) m w rC rT := by
  obtain ⟨e, X2, B2, σ2, τ2, k, p, a1, a2, a3, a4, a5, a6, a7, a8, a9⟩ := h
  exact ⟨e, X2, B2, σ2, τ2, k, p, a1, a2, a3, a4, a5, a6, h1.tr a7, h2.tr a8, h3.tr a9 hm hw⟩
theorem FL.le {R : Type} {u v m w : Nat} {rC : Option ((R ⊕ Nat) × Sw)} {rT : Option (Int32 × Tw)} (h : FL ad X B σ τ u m w rC rT) (hv : u ≤ v) : FL ad X B σ τ v m w rC rT := by
  obtain ⟨e, X2, B2, σ2, τ2, k, p, a1, a2, a3, a4, a5, a6, a7, a8, a9⟩ := h
  exact ⟨e, X2, B2, σ2, τ2, k, p, a1, a2, a3, a4, a5, a6, a7.le hv, a8, a9⟩
theorem ov_1 {o : Ob} {s : Nat} : (ovl B [o] s).1 B.2.1 = some o := ov_at (i := 0) rfl
/-- the fault that stands at this token -/
theorem FL.at {R : Type} {m w : Nat} {k : Int32} (hA : AdOK ad B) (h : PK c pl last j σ τ) (hk : k ≠ 0) : FL (R := R) ad X B σ τ 1 m w (some (.inr B.2.1, cM X ad σ (ovl B [fltO k (pl j)] 8))) (some (0, tsI (tsI τ 8 k) 9 (Int32.ofNat (pl j)))) := ⟨B.2.1, X, _, σ, _, k, pl j, rfl, rfl, ov_1, (tsI_n _ _ _ _ (by decide)).trans (tsI_s _ _ _), tsI_s _ _ _, hk, MF.ov hA (by decide), EF.rf, ET.wr⟩
theorem oc_flt (hA : AdOK ad B) {k : Int32} {p : Nat} : oc (cM X ad σ (ovl B [fltO k p] 8)) B.2.1 10 = some () := m_oc (cM_fz ov_1)
theorem PK.go (h : PK c pl last j σ τ) (hl : j + 1 ≤ last) : PK c pl last (j + 1) (csI σ 31 (Int32.ofNat (j + 1))) (tsI τ 7 (Int32.ofNat (j + 1))) := ⟨h.1.of rfl rfl rfl rfl rfl rfl rfl, csI_s _ _ _, tsI_s _ _ _, hl⟩
theorem PK.lt (h : PK c pl last j σ τ) (h2 : c j ≠ 2) (h3 : c j ≠ 3) : j = 400 ∨ j + 1 ≤ last := by
  obtain ⟨⟨a1, -, -, a4, -⟩, -, -, a5⟩ := h
  by_cases e : j = last
  · rcases a4 with q | q | q
    · exact Or.inl (e.trans q)
    · rw [← e] at q
      exact absurd q h2
    · rw [← e] at q
      exact absurd q h3
  · exact Or.inr (by omega)
/-- on to the next token -/
theorem go_CT (hA : AdOK ad B) (h : PK c pl last j σ τ) (h2 : c j ≠ 2) (h3 : c j ≠ 3) : (j + 1 ≤ last ∧ f_X2_go F (ad 6) (cM X ad σ B) = some (.inl (Int32.ofNat j), cM X ad (csI σ 31 (Int32.ofNat (j + 1))) B) ∧ t_X9_pass F τ = some (1, tsI τ 7 (Int32.ofNat (j + 1)))) ∨ (f_X2_go F (ad 6) (cM X ad σ B) = some (.inr B.2.1, cM X ad σ (ovl B [fltO 2 (pl j)] 8)) ∧ t_X9_pass F τ = some (0, tsI (tsI τ 8 2) 9 (Int32.ofNat (pl j)))) := by
  have hj := h.1.1
  have h31 := h.2.1
  have h7 := h.2.2.1
  have hl := h.2.2.2
  rcases h.lt h2 h3 with e | e
  · refine Or.inr ⟨?_, ?_⟩
    · unfold f_X2_go
      rw [o6_1 hA, Option.bind_some, h31, if_pos (by rw [e]; rfl), oc6 hA, Option.bind_some, fault_C hA h, Option.bind_some, oc_flt hA, Option.bind_some]
    · unfold t_X9_pass
      have g : ¬ Int32.ofNat j < 400 := fun q => by
        have := (c_lt j 400 (by omega) (by decide)).1 q
        omega
      rw [h7, if_neg g, wrong_T h, Option.bind_some, if_pos (Or.inl rfl)]
  · refine Or.inl ⟨e, ?_, ?_⟩
    · have g : ¬ Int32.ofNat j = 400 := fun q => by
        have := (c_eq j 400 (by omega) (by decide)).1 q
        omega
      unfold f_X2_go
      rw [o6_1 hA, Option.bind_some, h31, if_neg g, Option.bind_some, n_lp, p6_1 hA, Option.bind_some, o6_1 hA, Option.bind_some, csI_s]
      have : Int32.ofNat (j + 1) - 1 = Int32.ofNat j := by
        rw [n_sl 1 (j + 1) (Nat.le_add_left 1 j)]
        rfl
      rw [this]
    · unfold t_X9_pass
      have g : Int32.ofNat j < 400 := (c_lt j 400 (by omega) (by decide)).2 (by omega)
      rw [h7, if_pos g, nmE, n_lp]
