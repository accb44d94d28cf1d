set_option maxRecDepth 100000
/-! conditions, read: frames, the rows of relations -/
variable {X X' X2 : Nat → Option Ob} {ad : Nat → Nat} {B B' B2 : Sw} {A : Av} {σ σ' σ2 : Cs} {τ τ' τ2 : Tw} {F : Nat} {c pl : Nat → Nat} {last j : Nat}
/-- the town that is told, as if it were the one that holds -/
def VW (τ : Tw) : Av := fun r k => if r = 6 then τ.2.1 6 (210 + k) else if r = 9 ∨ r = 10 then τ.2.1 r (500 + k) else if 12 ≤ r ∧ r ≤ 17 then τ.2.1 r (200 + k) else τ.2.1 r k
/-- what a condition's reading leaves alone: codes below m, rows below l -/
def CX (m l : Nat) (τ τ' : Tw) : Prop := (∀ z, z ≠ 7 → z ≠ 8 → z ≠ 9 → z ≠ 30 → z ≠ 32 → τ'.1 z = τ.1 z) ∧ (∀ r, r ≠ 8 → r ≠ 9 → r ≠ 10 → r ≠ 22 → r ≠ 11 → ¬ (12 ≤ r ∧ r ≤ 17) → τ'.2.1 r = τ.2.1 r) ∧ (τ'.2.1 8 0 = τ.2.1 8 0 ∧ τ'.2.1 11 0 = τ.2.1 11 0) ∧ (∀ k, k < 500 + m → τ'.2.1 9 k = τ.2.1 9 k ∧ τ'.2.1 10 k = τ.2.1 10 k) ∧ (∀ r k, 12 ≤ r → r ≤ 17 → k < 200 + l → τ'.2.1 r k = τ.2.1 r k) ∧ τ'.2.2 = τ.2.2
theorem EX.cc {m l : Nat} (h : EX m τ τ') : CX m l τ τ' := ⟨h.1, fun r a b c d _ _ => h.2.1 r a b c d, ⟨h.2.2.1, by rw [h.2.1 11 (by decide) (by decide) (by decide) (by decide)]⟩, h.2.2.2.1, fun r k h1 h2 _ => by rw [h.2.1 r (by omega) (by omega) (by omega) (by omega)], h.2.2.2.2⟩
theorem CX.tr {m l m1 l1 : Nat} (h1 : CX m l τ τ') (h2 : CX m1 l1 τ' τ2) (hm : m ≤ m1) (hl : l ≤ l1) : CX m l τ τ2 := by
  obtain ⟨a1, a2, a3, a4, a5, a6⟩ := h1
  obtain ⟨b1, b2, b3, b4, b5, b6⟩ := h2
  refine ⟨fun z p q r s t => (b1 z p q r s t).trans (a1 z p q r s t), fun z p q r s t u => (b2 z p q r s t u).trans (a2 z p q r s t u), ⟨b3.1.trans a3.1, b3.2.trans a3.2⟩, fun k hk => ?_, fun r k x y hk => (b5 r k x y (by omega)).trans (a5 r k x y hk), b6.trans a6⟩
  have x := b4 k (by omega)
  have y := a4 k hk
  exact ⟨x.1.trans y.1, x.2.trans y.2⟩
theorem CX.rf {m l : Nat} : CX m l τ τ := ⟨fun _ _ _ _ _ _ => rfl, fun _ _ _ _ _ _ _ => rfl, ⟨rfl, rfl⟩, fun _ _ => ⟨rfl, rfl⟩, fun _ _ _ _ _ => rfl, rfl⟩
/-- a row of the lits, set -/
theorem CX.lit {m l r k : Nat} {v : Int32} (h1 : 12 ≤ r) (h2 : r ≤ 17) (hk : 200 + l ≤ k) : CX m l τ (twA τ r (upd (τ.2.1 r) k v)) := by
  refine ⟨fun _ _ _ _ _ _ => rfl, fun q _ _ _ _ _ h => twA_n _ _ _ _ (fun e => h ⟨by omega, by omega⟩), ⟨?_, ?_⟩, fun q _ => ⟨?_, ?_⟩, fun q i x y hi => ?_, rfl⟩
  · rw [twA_n _ _ _ _ (by omega)]
  · rw [twA_n _ _ _ _ (by omega)]
  · rw [twA_n _ _ _ _ (by omega)]
  · rw [twA_n _ _ _ _ (by omega)]
  · by_cases e : q = r
    · subst e
      rw [twA_s, up_n _ _ _ _ (by omega)]
    · rw [twA_n _ _ _ _ e]
theorem CX.n11 {m l : Nat} {v : Int32} : CX m l τ (twA τ 11 (upd (τ.2.1 11) 1 v)) := by
  refine ⟨fun _ _ _ _ _ _ => rfl, fun q _ _ _ _ h _ => twA_n _ _ _ _ h, ⟨?_, ?_⟩, fun q _ => ⟨?_, ?_⟩, fun q i x y hi => ?_, rfl⟩
  · rw [twA_n _ _ _ _ (by decide)]
  · rw [twA_s, up_n _ _ _ _ (by decide)]
  · rw [twA_n _ _ _ _ (by decide)]
  · rw [twA_n _ _ _ _ (by decide)]
  · rw [twA_n _ _ _ _ (by omega)]
theorem TKS.cc {m l : Nat} (h : TKS c pl last σ τ) (h1 : EF σ σ') (h2 : CX m l τ τ') : TKS c pl last σ' τ' := h.of (by rw [h1.2]) (by rw [h1.2]) (by rw [h1.2]) (h2.2.1 2 (by decide) (by decide) (by decide) (by decide) (by decide) (by decide)) (h2.2.1 3 (by decide) (by decide) (by decide) (by decide) (by decide) (by decide)) (h2.2.1 4 (by decide) (by decide) (by decide) (by decide) (by decide) (by decide)) (by rw [h2.2.2.2.2.2])
theorem PK.cc {m l : Nat} (h : PK c pl last j σ τ) (h2 : CX m l τ τ') (e2 : τ'.1 7 = τ.1 7) : PK c pl last j σ τ' := ⟨h.1.cc EF.rf h2, h.2.1, e2.trans h.2.2.1, h.2.2.2⟩
/-- behind a relation -/
noncomputable def RST (F : Nat) (self : Int32 → Int32 → Tw → Option (Int32 × Tw)) (v1 : Int32) (τ : Tw) : Option (Int32 × Tw) := Option.bind (t_X9_isWord F 11 τ) fun q24 => if q24 = 0 then Option.bind (t_X9_isWord F 12 τ) fun q27 => if q27 = 0 then t_X9_cond_j244 F self v1 0 τ else t_X9_cond_j239 F self v1 τ else t_X9_cond_j239 F self v1 τ
/-- both sides fail within a condition -/
def CNO {R : Type} (last : Nat) (ad : Nat → Nat) (X : Nat → Option Ob) (B : Sw) (σ : Cs) (τ : Tw) (u m l : Nat) (rC : Option ((R ⊕ Nat) × Sw)) (rT : Option (Int32 × Tw)) : Prop := ∃ (e : Nat) (X' : Nat → Option Ob) (B' : Sw) (σ' : Cs) (τ' : Tw) (k : Int32) (p : Nat), rC = some (.inr e, cM X' ad σ' B') ∧ rT = some (0, τ') ∧ B'.1 e = some (fltO k p) ∧ τ'.1 8 = k ∧ τ'.1 9 = Int32.ofNat p ∧ k ≠ 0 ∧ MF ad X B X' B' u ∧ EF σ σ' ∧ CX m l τ τ'
theorem FL.cc {R : Type} {u m w l : Nat} {rC : Option ((R ⊕ Nat) × Sw)} {rT : Option (Int32 × Tw)} (h : FL ad X B σ τ u m w rC rT) : CNO last ad X B σ τ u m l rC rT := by
  obtain ⟨e, X2, B2, σ2, τ2, k, p, a1, a2, a3, a4, a5, a6, a7, a8, a9⟩ := h
  exact ⟨e, X2, B2, σ2, τ2, k, p, a1, a2, a3, a4, a5, a6, a7, a8, a9.x.cc⟩
theorem CNO.pre {R : Type} {u v m l m1 l1 : Nat} {rC : Option ((R ⊕ Nat) × Sw)} {rT : Option (Int32 × Tw)} (h1 : MF ad X B X' B' u) (h2 : EF σ σ') (h3 : CX m l τ τ') (hm : m ≤ m1) (hl : l ≤ l1) (h : CNO last ad X' B' σ' τ' v m1 l1 rC rT) : CNO last ad X B σ τ (u + v) m l rC rT := by
  obtain ⟨e, X2, B2, σ2, τ2, k, p, a1, a2, a3, a4, a5, a6, a7, a8, a9⟩ := h
  exact ⟨e, X2, B2, σ2, τ2, k, p, a1, a2, a3, a4, a5, a6, h1.tr a7, h2.tr a8, h3.tr a9 hm hl⟩
theorem CNO.le {R : Type} {u v m l : Nat} {rC : Option ((R ⊕ Nat) × Sw)} {rT : Option (Int32 × Tw)} (h : CNO last ad X B σ τ u m l rC rT) (hv : u ≤ v) : CNO last ad X B σ τ v m l rC rT := by
  obtain ⟨e, X2, B2, σ2, τ2, k, p, a1, a2, a3, a4, a5, a6, a7, a8, a9⟩ := h
  exact ⟨e, X2, B2, σ2, τ2, k, p, a1, a2, a3, a4, a5, a6, a7.le hv, a8, a9⟩
theorem XNO.cc {R : Type} {m l : Nat} {rC : Option ((R ⊕ Nat) × Sw)} {rT : Option (Int32 × Tw)} (h : XNO last ad X B σ τ j m rC rT) : CNO last ad X B σ τ (2 * (last + 1 - j)) m l rC rT := by
  obtain ⟨e, X2, B2, σ2, τ2, k, p, a1, a2, a3, a4, a5, a6, a7, a8, a9⟩ := h
  exact ⟨e, X2, B2, σ2, τ2, k, p, a1, a2, a3, a4, a5, a6, a7, a8, a9.cc⟩
