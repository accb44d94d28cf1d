set_option maxRecDepth 100000
/-! the telling: faults of what is told; where both stand -/
variable {X X' X2 : Nat → Option Ob} {ad : Nat → Nat} {B B' B2 : Sw} {A A' : Av} {σ σ' σ2 : Cs} {τ τ' τ2 : Tw} {F : Nat} {c pl : Nat → Nat} {last j : Nat}
/-- what the telling changes of the component's ints and arrays -/
def RF (σ σ' : Cs) : Prop := (∀ z, z ≠ 31 → z ≠ 32 → z ≠ 33 → z ≠ 34 → z ≠ 38 → σ'.1 z = σ.1 z) ∧ (∀ r, r ≠ 8 → σ'.2.1 r = σ.2.1 r) ∧ (∀ r, r ≠ 7 → σ'.2.2.1 r = σ.2.2.1 r) ∧ σ'.2.2.2 = σ.2.2.2
theorem RF.rf : RF σ σ := ⟨fun _ _ _ _ _ _ => rfl, fun _ _ => rfl, fun _ _ => rfl, rfl⟩
theorem RF.tr (h1 : RF σ σ') (h2 : RF σ' σ2) : RF σ σ2 := ⟨fun z p q r s t => (h2.1 z p q r s t).trans (h1.1 z p q r s t), fun r h => (h2.2.1 r h).trans (h1.2.1 r h), fun r h => (h2.2.2.1 r h).trans (h1.2.2.1 r h), h2.2.2.2.trans h1.2.2.2⟩
theorem EF.r (h : EF σ σ') : RF σ σ' := ⟨fun z p q _ _ _ => h.1 z p q, fun _ _ => by rw [h.2], fun _ _ => by rw [h.2], by rw [h.2]⟩
theorem RF.i {z : Nat} {v : Int32} (h : z = 31 ∨ z = 32 ∨ z = 33 ∨ z = 34 ∨ z = 38) : RF σ (csI σ z v) := ⟨fun i _ _ _ _ _ => csI_n _ _ _ _ (by omega), fun _ _ => rfl, fun _ _ => rfl, rfl⟩
/-- and of the reference's: the town that is read -/
def TX (τ τ' : Tw) : Prop := (∀ z, z ≠ 7 → z ≠ 8 → z ≠ 9 → z ≠ 10 → z ≠ 11 → z ≠ 25 → z ≠ 29 → z ≠ 30 → z ≠ 32 → z ≠ 33 → τ'.1 z = τ.1 z) ∧ (∀ r, r ≠ 6 → r ≠ 8 → r ≠ 9 → r ≠ 10 → r ≠ 11 → ¬ (12 ≤ r ∧ r ≤ 17) → r ≠ 20 → r ≠ 21 → r ≠ 22 → τ'.2.1 r = τ.2.1 r) ∧ (∀ k, k < 210 → τ'.2.1 6 k = τ.2.1 6 k) ∧ (∀ k, k < 500 → τ'.2.1 9 k = τ.2.1 9 k ∧ τ'.2.1 10 k = τ.2.1 10 k) ∧ (∀ r k, 12 ≤ r → r ≤ 17 → k < 200 → τ'.2.1 r k = τ.2.1 r k) ∧ ∀ r, r ≠ 19 → τ'.2.2 r = τ.2.2 r
theorem TX.rf : TX τ τ := ⟨fun _ _ _ _ _ _ _ _ _ _ _ => rfl, fun _ _ _ _ _ _ _ _ _ _ => rfl, fun _ _ => rfl, fun _ _ => ⟨rfl, rfl⟩, fun _ _ _ _ _ => rfl, fun _ _ => rfl⟩
theorem TX.tr (h1 : TX τ τ') (h2 : TX τ' τ2) : TX τ τ2 := by
  obtain ⟨a1, a2, a3, a4, a5, a6⟩ := h1
  obtain ⟨b1, b2, b3, b4, b5, b6⟩ := h2
  exact ⟨fun z p q r s t u v w x y => (b1 z p q r s t u v w x y).trans (a1 z p q r s t u v w x y), fun z p q r s t u v w x => (b2 z p q r s t u v w x).trans (a2 z p q r s t u v w x), fun k hk => (b3 k hk).trans (a3 k hk), fun k hk => ⟨(b4 k hk).1.trans (a4 k hk).1, (b4 k hk).2.trans (a4 k hk).2⟩, fun r k x y hk => (b5 r k x y hk).trans (a5 r k x y hk), fun r h => (b6 r h).trans (a6 r h)⟩
theorem CX.x {m l : Nat} (h : CX m l τ τ') : TX τ τ' := ⟨fun z p q r _ _ _ _ s t _ => h.1 z p q r s t, fun r _ q s t u v _ _ w => h.2.1 r q s t w u v, fun k _ => by rw [h.2.1 6 (by decide) (by decide) (by decide) (by decide) (by decide) (by decide)], fun k hk => h.2.2.2.1 k (by omega), fun r k x y hk => h.2.2.2.2.1 r k x y (by omega), fun r _ => by rw [h.2.2.2.2.2]⟩
theorem TX.i {z : Nat} {v : Int32} (h : z = 7 ∨ z = 8 ∨ z = 9 ∨ z = 10 ∨ z = 11 ∨ z = 25 ∨ z = 29 ∨ z = 30 ∨ z = 32 ∨ z = 33) : TX τ (tsI τ z v) := ⟨fun i _ _ _ _ _ _ _ _ _ _ => tsI_n _ _ _ _ (by omega), fun _ _ _ _ _ _ _ _ _ _ => rfl, fun _ _ => rfl, fun _ _ => ⟨rfl, rfl⟩, fun _ _ _ _ _ => rfl, fun _ _ => rfl⟩
/-- a cell of the town that is read -/
theorem TX.c6 {k : Nat} {v : Int32} (h : 210 ≤ k) : TX τ (twA τ 6 (upd (τ.2.1 6) k v)) := by
  refine ⟨fun _ _ _ _ _ _ _ _ _ _ _ => rfl, fun r p _ _ _ _ _ _ _ _ => twA_n _ _ _ _ p, fun i hi => ?_, fun _ _ => ⟨rfl, rfl⟩, fun r i p q _ => ?_, fun _ _ => rfl⟩
  · rw [twA_s, up_n _ _ _ _ (by omega)]
  · rw [twA_n _ _ _ _ (by omega)]
theorem TX.nm {r : Nat} {f : Nat → Int32} (h : r = 20 ∨ r = 21) : TX τ (twA τ r f) := ⟨fun _ _ _ _ _ _ _ _ _ _ _ => rfl, fun i _ _ _ _ _ _ p q _ => twA_n _ _ _ _ (by omega), fun i hi => by rw [twA_n _ _ _ _ (by omega)], fun _ _ => ⟨by rw [twA_n _ _ _ _ (by omega)], by rw [twA_n _ _ _ _ (by omega)]⟩, fun i k p q _ => by rw [twA_n _ _ _ _ (by omega)], fun _ _ => rfl⟩
theorem TX.l {f : Nat → Int64} : TX τ (twL τ 19 f) := ⟨fun _ _ _ _ _ _ _ _ _ _ _ => rfl, fun _ _ _ _ _ _ _ _ _ _ => rfl, fun _ _ => rfl, fun _ _ => ⟨rfl, rfl⟩, fun _ _ _ _ _ => rfl, fun r h => twL_n _ _ _ _ h⟩
theorem TKS.rx (h : TKS c pl last σ τ) (h1 : RF σ σ') (h2 : TX τ τ') : TKS c pl last σ' τ' := h.of (h1.2.1 3 (by decide)) (h1.2.1 4 (by decide)) (h1.2.2.1 5 (by decide)) (h2.2.1 2 (by decide) (by decide) (by decide) (by decide) (by decide) (by decide) (by decide) (by decide) (by decide)) (h2.2.1 3 (by decide) (by decide) (by decide) (by decide) (by decide) (by decide) (by decide) (by decide) (by decide)) (h2.2.1 4 (by decide) (by decide) (by decide) (by decide) (by decide) (by decide) (by decide) (by decide) (by decide)) (h2.2.2.2.2.2 5 (by decide))
theorem PK.rx (h : PK c pl last j σ τ) (h1 : RF σ σ') (h2 : TX τ τ') (e1 : σ'.1 31 = σ.1 31) (e2 : τ'.1 7 = τ.1 7) : PK c pl last j σ' τ' := ⟨h.1.rx h1 h2, e1.trans h.2.1, e2.trans h.2.2.1, h.2.2.2⟩
/-- the same, and no fault is set -/
def TZ (τ τ' : Tw) : Prop := TX τ τ' ∧ q89 τ τ'
theorem TZ.i {z : Nat} {v : Int32} (h : z = 7 ∨ z = 10 ∨ z = 11 ∨ z = 25 ∨ z = 29 ∨ z = 30 ∨ z = 32 ∨ z = 33) : TZ τ (tsI τ z v) := ⟨TX.i (by omega), q89.i (by omega) (by omega)⟩
theorem TZ.rf : TZ τ τ := ⟨TX.rf, q89.rf⟩
/-- a fault of what is told is noted, if it is the worst -/
def wlC (n : Int32) (p : Nat) (σ : Cs) : Cs := if σ.1 33 = 0 then csI (csI σ 33 n) 34 (Int32.ofNat p) else if σ.1 34 < Int32.ofNat p then σ else if Int32.ofNat p = σ.1 34 then (if n < σ.1 33 then csI (csI σ 33 n) 34 (Int32.ofNat p) else σ) else csI (csI σ 33 n) 34 (Int32.ofNat p)
def tlT (n : Int32) (p : Nat) (τ : Tw) : Tw := if τ.1 10 = 0 then tsI (tsI τ 10 n) 11 (Int32.ofNat p) else if τ.1 11 < Int32.ofNat p then τ else if Int32.ofNat p = τ.1 11 then (if n < τ.1 10 then tsI (tsI τ 10 n) 11 (Int32.ofNat p) else τ) else tsI (tsI τ 10 n) 11 (Int32.ofNat p)
theorem wlC_or (n : Int32) (p : Nat) (σ : Cs) : wlC n p σ = σ ∨ wlC n p σ = csI (csI σ 33 n) 34 (Int32.ofNat p) := by
  unfold wlC
  repeat' split
  all_goals first | exact Or.inl rfl | exact Or.inr rfl
theorem tlT_or (n : Int32) (p : Nat) (τ : Tw) : tlT n p τ = τ ∨ tlT n p τ = tsI (tsI τ 10 n) 11 (Int32.ofNat p) := by
  unfold tlT
  repeat' split
  all_goals first | exact Or.inl rfl | exact Or.inr rfl
theorem wlC_RF {n : Int32} {p : Nat} : RF σ (wlC n p σ) := by
  rcases wlC_or n p σ with e | e
  · rw [e]; exact RF.rf
  · rw [e]; exact (RF.i (by decide)).tr (RF.i (by decide))
theorem tlT_TX {n : Int32} {p : Nat} : TX τ (tlT n p τ) := by
  rcases tlT_or n p τ with e | e
  · rw [e]; exact TX.rf
  · rw [e]; exact (TX.i (by decide)).tr (TX.i (by decide))
theorem tlT_TZ {n : Int32} {p : Nat} : TZ τ (tlT n p τ) := by
  rcases tlT_or n p τ with e | e
  · rw [e]; exact TZ.rf
  · rw [e]; exact ⟨(TX.i (by decide)).tr (TX.i (by decide)), (q89.i (by decide) (by decide)).tr (q89.i (by decide) (by decide))⟩
theorem wlC_2 {n : Int32} {p : Nat} : (wlC n p σ).2 = σ.2 := by
  rcases wlC_or n p σ with e | e <;> rw [e] <;> rfl
theorem tlT_2 {n : Int32} {p : Nat} : (tlT n p τ).2 = τ.2 := by
  rcases tlT_or n p τ with e | e <;> rw [e] <;> rfl
theorem wlC_i {n : Int32} {p z : Nat} (h1 : z ≠ 33) (h2 : z ≠ 34) : (wlC n p σ).1 z = σ.1 z := by
  rcases wlC_or n p σ with e | e
  · rw [e]
  · rw [e, csI_n _ _ _ _ h2, csI_n _ _ _ _ h1]
theorem tlT_i {n : Int32} {p z : Nat} (h1 : z ≠ 10) (h2 : z ≠ 11) : (tlT n p τ).1 z = τ.1 z := by
  rcases tlT_or n p τ with e | e
  · rw [e]
  · rw [e, tsI_n _ _ _ _ h2, tsI_n _ _ _ _ h1]
theorem tlT_tl {n : Int32} {p : Nat} (hn : n ≠ 0) : tlT n p (tlT n p τ) = tlT n p τ := by
  rcases tlT_or n p τ with e | e
  · rw [e, e]
  · rw [e]
    have a : (tsI (tsI τ 10 n) 11 (Int32.ofNat p)).1 10 = n := (tsI_n _ _ _ _ (by decide)).trans (tsI_s _ _ _)
    have b : (tsI (tsI τ 10 n) 11 (Int32.ofNat p)).1 11 = Int32.ofNat p := tsI_s _ _ _
    show (if (tsI (tsI τ 10 n) 11 (Int32.ofNat p)).1 10 = 0 then _ else if (tsI (tsI τ 10 n) 11 (Int32.ofNat p)).1 11 < Int32.ofNat p then _ else if Int32.ofNat p = (tsI (tsI τ 10 n) 11 (Int32.ofNat p)).1 11 then (if n < (tsI (tsI τ 10 n) 11 (Int32.ofNat p)).1 10 then _ else _) else _) = _
    rw [a, b, if_neg hn, if_neg (Int32.lt_irrefl _), if_pos rfl, if_neg (Int32.lt_irrefl _)]
theorem wrong_C (hA : AdOK ad B) (h : TKS c pl last σ τ) {t : Nat} (ht : t ≤ last) {n : Int32} : f_X2_wrong F (ad 6) n (Int32.ofNat t) (cM X ad σ B) = some (cM X ad (wlC n (pl t) σ) B) := by
  have hl := h.1
  have e := (h.2.1 t ht).2.1.1
  unfold f_X2_wrong wlC
  rw [o6_0 hA, Option.bind_some, o1_3 hA, Option.bind_some, a4 hA σ t (by omega), Option.bind_some, o6_3 hA, Option.bind_some, e]
  by_cases h1 : σ.1 33 = 0
  · rw [if_pos h1, if_pos h1, p6_3 hA, Option.bind_some, p6_4 hA, Option.bind_some]
  · rw [if_neg h1, if_neg h1, o6_4 hA, Option.bind_some]
    by_cases h2 : σ.1 34 < Int32.ofNat (pl t)
    · rw [if_pos h2, if_pos h2]
    · rw [if_neg h2, if_neg h2, Option.bind_some]
      by_cases h3 : Int32.ofNat (pl t) = σ.1 34
      · rw [if_pos h3, if_pos h3, Option.bind_some]
        by_cases h4 : n < σ.1 33
        · rw [if_pos h4, if_pos h4, p6_3 hA, Option.bind_some, p6_4 hA, Option.bind_some]
        · rw [if_neg h4, if_neg h4]
      · rw [if_neg h3, if_neg h3, p6_3 hA, Option.bind_some, p6_4 hA, Option.bind_some]
theorem tells_T (h : TKS c pl last σ τ) {t : Nat} (ht : t ≤ last) {n : Int32} : t_X9_tells F n (Int32.ofNat t) τ = some (tlT n (pl t) τ) := by
  have hl := h.1
  have e := (h.2.1 t ht).2.1.2
  unfold t_X9_tells tlT
  rw [taI_n τ 3 2001 t (by omega) (by decide), Option.bind_some, e]
  by_cases h1 : τ.1 10 = 0
  · rw [if_pos h1, if_pos h1, nmE, nmE]
  · rw [if_neg h1, if_neg h1]
    by_cases h2 : τ.1 11 < Int32.ofNat (pl t)
    · rw [if_pos h2, if_pos h2]
    · rw [if_neg h2, if_neg h2]
      by_cases h3 : Int32.ofNat (pl t) = τ.1 11
      · rw [if_pos h3, if_pos h3]
        by_cases h4 : n < τ.1 10
        · rw [if_pos h4, if_pos h4, nmE, nmE]
        · rw [if_neg h4, if_neg h4]
      · rw [if_neg h3, if_neg h3, nmE, nmE]
/-- nothing is noted -/
def CLN (σ : Cs) (τ : Tw) : Prop := σ.1 33 = 0 ∧ τ.1 10 = 0
/-- the same fault is noted, at a token before t -/
def DY (pl : Nat → Nat) (t : Nat) (σ : Cs) (τ : Tw) : Prop := ∃ (i : Nat) (k : Int32), i < t ∧ k ≠ 0 ∧ σ.1 33 = k ∧ τ.1 10 = k ∧ σ.1 34 = Int32.ofNat (pl i) ∧ τ.1 11 = Int32.ofNat (pl i)
def WR (pl : Nat → Nat) (t : Nat) (σ : Cs) (τ : Tw) : Prop := CLN σ τ ∨ DY pl t σ τ
theorem DY.up {t t' : Nat} (h : DY pl t σ τ) (ht : t ≤ t') : DY pl t' σ τ := by
  obtain ⟨i, k, h1, h2⟩ := h
  exact ⟨i, k, by omega, h2⟩
theorem WR.up {t t' : Nat} (h : WR pl t σ τ) (ht : t ≤ t') : WR pl t' σ τ := by
  rcases h with h | h
  · exact Or.inl h
  · exact Or.inr (h.up ht)
theorem DY.n {t : Nat} (h : DY pl t σ τ) : σ.1 33 ≠ 0 := by
  obtain ⟨i, k, h1, h2, h3, -⟩ := h
  rw [h3]
  exact h2
theorem WR.of {t : Nat} (h : WR pl t σ τ) (a : σ'.1 33 = σ.1 33) (b : σ'.1 34 = σ.1 34) (a' : τ'.1 10 = τ.1 10) (b' : τ'.1 11 = τ.1 11) : WR pl t σ' τ' := by
  unfold WR CLN DY at *
  rw [a, b, a', b']
  exact h
theorem DY.of {t : Nat} (h : DY pl t σ τ) (a : σ'.1 33 = σ.1 33) (b : σ'.1 34 = σ.1 34) (a' : τ'.1 10 = τ.1 10) (b' : τ'.1 11 = τ.1 11) : DY pl t σ' τ' := by
  unfold DY at *
  rw [a, b, a', b']
  exact h
theorem CLN.of (h : CLN σ τ) (a : σ'.1 33 = σ.1 33) (a' : τ'.1 10 = τ.1 10) : CLN σ' τ' := ⟨a.trans h.1, a'.trans h.2⟩
theorem pl_lt {σ : Cs} {τ : Tw} (h : TKS c pl last σ τ) {i t : Nat} (hi : i < t) (ht : t ≤ last) : Int32.ofNat (pl i) < Int32.ofNat (pl t) := by
  have h1 := h.2.2.2.2.1 i t hi ht
  have h2 := h.2.2.2.2.2 t ht
  exact (c_lt _ _ (by omega) (by omega)).2 h1
theorem DY.w (h : TKS c pl last σ τ) {t : Nat} (d : DY pl t σ τ) (ht : t ≤ last) {n : Int32} : wlC n (pl t) σ = σ := by
  obtain ⟨i, k, h1, h2, h3, h4, h5, h6⟩ := d
  unfold wlC
  rw [h3, if_neg h2, h5, if_pos (pl_lt h h1 ht)]
theorem DY.t (h : TKS c pl last σ τ) {t : Nat} (d : DY pl t σ τ) (ht : t ≤ last) {n : Int32} : tlT n (pl t) τ = τ := by
  obtain ⟨i, k, h1, h2, h3, h4, h5, h6⟩ := d
  unfold tlT
  rw [h4, if_neg h2, h6, if_pos (pl_lt h h1 ht)]
theorem CLN.w (h : CLN σ τ) {n : Int32} {p : Nat} : wlC n p σ = csI (csI σ 33 n) 34 (Int32.ofNat p) := if_pos h.1
theorem CLN.t (h : CLN σ τ) {n : Int32} {p : Nat} : tlT n p τ = tsI (tsI τ 10 n) 11 (Int32.ofNat p) := if_pos h.2
theorem CLN.d (h : CLN σ τ) {n : Int32} {t : Nat} (hn : n ≠ 0) : DY pl (t + 1) (wlC n (pl t) σ) (tlT n (pl t) τ) := by
  rw [h.w, h.t]
  exact ⟨t, n, Nat.lt_succ_self _, hn, (csI_n _ _ _ _ (by decide)).trans (csI_s _ _ _), (tsI_n _ _ _ _ (by decide)).trans (tsI_s _ _ _), csI_s _ _ _, tsI_s _ _ _⟩
/-- both note the same -/
theorem WR.both (h : TKS c pl last σ τ) {t : Nat} (w : WR pl t σ τ) (ht : t ≤ last) {n : Int32} (hn : n ≠ 0) : DY pl (t + 1) (wlC n (pl t) σ) (tlT n (pl t) τ) := by
  rcases w with w | w
  · exact w.d hn
  · rw [w.w h ht, w.t h ht]
    exact w.up (Nat.le_succ _)
/-- where both stand in the telling, since the reading's begin: at token j, with u cells used -/
def AT (c pl : Nat → Nat) (last : Nat) (ad : Nat → Nat) (X0 : Nat → Option Ob) (B0 : Sw) (σ0 : Cs) (τ0 : Tw) (u : Nat) (X : Nat → Option Ob) (B : Sw) (σ : Cs) (τ : Tw) (j : Nat) : Prop := MF ad X0 B0 X B u ∧ KB B ∧ RF σ0 σ ∧ TX τ0 τ ∧ PK c pl last j σ τ ∧ σ.1 32 = 0 ∧ WR pl j σ τ ∧ q89 τ0 τ
/-- both fail alike -/
def TNO {R : Type} (ad : Nat → Nat) (X0 : Nat → Option Ob) (B0 : Sw) (σ0 : Cs) (τ0 : Tw) (u : Nat) (rC : Option ((R ⊕ Nat) × Sw)) (rT : Option (Int32 × Tw)) : Prop := ∃ (e : Nat) (X' : Nat → Option Ob) (B' : Sw) (σ' : Cs) (τ' : Tw) (k : Int32) (p : Nat), rC = some (.inr e, cM X' ad σ' B') ∧ rT = some (0, τ') ∧ B'.1 e = some (fltO k p) ∧ τ'.1 8 = k ∧ τ'.1 9 = Int32.ofNat p ∧ k ≠ 0 ∧ MF ad X0 B0 X' B' u ∧ RF σ0 σ' ∧ TX τ0 τ'
theorem TNO.le {R : Type} {X0 : Nat → Option Ob} {B0 : Sw} {σ0 : Cs} {τ0 : Tw} {u v : Nat} {rC : Option ((R ⊕ Nat) × Sw)} {rT : Option (Int32 × Tw)} (h : TNO ad X0 B0 σ0 τ0 u rC rT) (hv : u ≤ v) : TNO ad X0 B0 σ0 τ0 v rC rT := by
  obtain ⟨e, X2, B2, σ2, τ2, k, p, a1, a2, a3, a4, a5, a6, a7, a8, a9⟩ := h
  exact ⟨e, X2, B2, σ2, τ2, k, p, a1, a2, a3, a4, a5, a6, a7.le hv, a8, a9⟩
section AT
variable {X0 : Nat → Option Ob} {B0 : Sw} {σ0 : Cs} {τ0 : Tw} {u : Nat}
theorem AT.a (h : AT c pl last ad X0 B0 σ0 τ0 u X B σ τ j) : AdOK ad B := h.1.1
theorem AT.p (h : AT c pl last ad X0 B0 σ0 τ0 u X B σ τ j) : PK c pl last j σ τ := h.2.2.2.2.1
theorem AT.w (h : AT c pl last ad X0 B0 σ0 τ0 u X B σ τ j) : WR pl j σ τ := h.2.2.2.2.2.2.1
theorem AT.le {v : Nat} (h : AT c pl last ad X0 B0 σ0 τ0 u X B σ τ j) (hv : u ≤ v) : AT c pl last ad X0 B0 σ0 τ0 v X B σ τ j := ⟨h.1.le hv, h.2⟩
/-- the fault that stands here -/
theorem AT.no {R : Type} {k : Int32} (h : AT c pl last ad X0 B0 σ0 τ0 u X B σ τ j) (hk : k ≠ 0) : TNO (R := R) ad X0 B0 σ0 τ0 (u + 1) (some (.inr B.2.1, cM X ad σ (ovl B [fltO k (pl j)] 8))) (some (0, tsI (tsI τ 8 k) 9 (Int32.ofNat (pl j)))) := by
  obtain ⟨h1, h2, h3, h4, h5, h6, h7⟩ := h
  exact ⟨B.2.1, X, _, σ, _, k, pl j, rfl, rfl, ov_1, (tsI_n _ _ _ _ (by decide)).trans (tsI_s _ _ _), tsI_s _ _ _, hk, h1.tr (MF.ov h1.1 (by decide)), h3, (h4.tr (TX.i (by decide))).tr (TX.i (by decide))⟩
/-- ints of both change, none that matters there -/
theorem AT.st (h : AT c pl last ad X0 B0 σ0 τ0 u X B σ τ j) (h1 : RF σ σ') (h2 : TZ τ τ') (e31 : σ'.1 31 = σ.1 31) (e32 : σ'.1 32 = σ.1 32) (e7 : τ'.1 7 = τ.1 7) (hw : WR pl j σ' τ') : AT c pl last ad X0 B0 σ0 τ0 u X B σ' τ' j := ⟨h.1, h.2.1, h.2.2.1.tr h1, h.2.2.2.1.tr h2.1, h.p.rx h1 h2.1 e31 e7, e32.trans h.2.2.2.2.2.1, hw, h.2.2.2.2.2.2.2.tr h2.2⟩
/-- on to the next token -/
theorem AT.go (h : AT c pl last ad X0 B0 σ0 τ0 u X B σ τ j) (h2 : c j ≠ 2) (h3 : c j ≠ 3) : (j + 1 ≤ last ∧ f_X2_go F (ad 6) (cM X ad σ B) = some (.inl (Int32.ofNat j), cM X ad (csI σ 31 (Int32.ofNat (j + 1))) B) ∧ t_X9_pass F τ = some (1, tsI τ 7 (Int32.ofNat (j + 1))) ∧ AT c pl last ad X0 B0 σ0 τ0 u X B (csI σ 31 (Int32.ofNat (j + 1))) (tsI τ 7 (Int32.ofNat (j + 1))) (j + 1)) ∨ TNO ad X0 B0 σ0 τ0 (u + 1) (f_X2_go F (ad 6) (cM X ad σ B)) (t_X9_pass F τ) := by
  rcases go_CT (F := F) (X := X) h.a h.p h2 h3 with ⟨k1, k2, k3⟩ | ⟨k2, k3⟩
  · refine Or.inl ⟨k1, k2, k3, h.1, h.2.1, h.2.2.1.tr (RF.i (by decide)), h.2.2.2.1.tr (TX.i (by decide)), h.p.go k1, (csI_n _ _ _ _ (by decide)).trans h.2.2.2.2.2.1, ?_, h.2.2.2.2.2.2.2.tr (q89.i (by decide) (by decide))⟩
    exact (h.w.of (csI_n _ _ _ _ (by decide)) (csI_n _ _ _ _ (by decide)) (tsI_n _ _ _ _ (by decide)) (tsI_n _ _ _ _ (by decide))).up (Nat.le_succ _)
  · rw [k2, k3]
    exact Or.inr (h.no (by decide))
theorem th_u {R R2 : Type} {v : R} {M : Sw} {q : Option ((R ⊕ Nat) × Sw)} {f : (R ⊕ Nat) × Sw → R → Option ((R2 ⊕ Nat) × Sw)} (h : q = some (.inl v, M)) : (Option.bind q fun q => thr q.1 q.2 (f q)) = f (Sum.inl v, M) v := by
  rw [h]
  rfl
/-- a token of a sort must stand here -/
theorem AT.must {q : Nat} (h : AT c pl last ad X0 B0 σ0 τ0 u X B σ τ j) (hq : q < 42) (q2 : q ≠ 2) (q3 : q ≠ 3) : (c j = q ∧ j + 1 ≤ last ∧ f_X2_must F (ad 6) (kT q) (cM X ad σ B) = some (.inl (Int32.ofNat j), cM X ad (csI σ 31 (Int32.ofNat (j + 1))) B) ∧ t_X9_pass F τ = some (1, tsI τ 7 (Int32.ofNat (j + 1))) ∧ AT c pl last ad X0 B0 σ0 τ0 u X B (csI σ 31 (Int32.ofNat (j + 1))) (tsI τ 7 (Int32.ofNat (j + 1))) (j + 1)) ∨ (c j = q ∧ TNO ad X0 B0 σ0 τ0 (u + 1) (f_X2_must F (ad 6) (kT q) (cM X ad σ B)) (t_X9_pass F τ)) ∨ (c j ≠ q ∧ TNO ad X0 B0 σ0 τ0 (u + 1) (f_X2_must F (ad 6) (kT q) (cM X ad σ B)) (some (0, tsI (tsI τ 8 1) 9 (Int32.ofNat (pl j))))) := by
  have is := is_CC (X := X) (F := F) h.a h.p hq
  unfold f_X2_must
  rw [oc6 h.a, Option.bind_some, is, Option.bind_some]
  by_cases e : c j = q
  · rw [if_pos e, if_neg (show ¬ (1 : Int32) = 0 by decide), Option.bind_some]
    rcases h.go (F := F) (by omega) (by omega) with ⟨k1, k2, k3, k4⟩ | hN
    · refine Or.inl ⟨e, k1, ?_, k3, k4⟩
      rw [k2]
      rfl
    · refine Or.inr (Or.inl ⟨e, ?_⟩)
      obtain ⟨e, X2, B2, σ2, τ2, k, p, a1, a2, a3⟩ := hN
      rw [a1, a2]
      exact ⟨e, X2, B2, σ2, τ2, k, p, rfl, rfl, a3⟩
  · rw [if_neg e, if_pos rfl, Option.bind_some, fault_C h.a h.p, Option.bind_some, oc_flt h.a, Option.bind_some]
    exact Or.inr (Or.inr ⟨e, h.no (by decide)⟩)
/-- a token of one of the first two sorts -/
theorem AT.takes {q : Nat} (h : AT c pl last ad X0 B0 σ0 τ0 u X B σ τ j) (hq : q < 2) : (c j = q ∧ j + 1 ≤ last ∧ f_X2_must F (ad 6) (kT q) (cM X ad σ B) = some (.inl (Int32.ofNat j), cM X ad (csI σ 31 (Int32.ofNat (j + 1))) B) ∧ t_X9_takes F (Int32.ofNat q) τ = some (1, tsI τ 7 (Int32.ofNat (j + 1))) ∧ AT c pl last ad X0 B0 σ0 τ0 u X B (csI σ 31 (Int32.ofNat (j + 1))) (tsI τ 7 (Int32.ofNat (j + 1))) (j + 1)) ∨ TNO ad X0 B0 σ0 τ0 (u + 1) (f_X2_must F (ad 6) (kT q) (cM X ad σ B)) (t_X9_takes F (Int32.ofNat q) τ) := by
  have hcl := (h.p.1.2.1 j h.p.2.2.2).1.1
  have hs : sT (c j) = Int32.ofNat q ↔ c j = q := by
    have : ∀ x, x < 42 → ∀ q, q < 2 → (sT x = Int32.ofNat q ↔ x = q) := by decide +kernel
    exact this _ hcl q hq
  unfold t_X9_takes
  rw [sort_T h.p, Option.bind_some]
  rcases h.must (F := F) (q := q) (by omega) (by omega) (by omega) with ⟨k1, k2, k3, k4, k5⟩ | ⟨k1, hN⟩ | ⟨k1, hN⟩
  · rw [if_pos (hs.2 k1), k4, Option.bind_some, if_pos (Or.inr rfl)]
    exact Or.inl ⟨k1, k2, k3, rfl, k5⟩
  · rw [if_pos (hs.2 k1)]
    obtain ⟨e, X2, B2, σ2, τ2, k, p, a1, a2, a3⟩ := hN
    rw [a2, Option.bind_some, if_pos (Or.inl rfl)]
    exact Or.inr ⟨e, X2, B2, σ2, τ2, k, p, a1, rfl, a3⟩
  · rw [if_neg (fun z => k1 (hs.1 z)), wrong_T h.p, Option.bind_some, if_pos (Or.inl rfl)]
    exact Or.inr hN
/-- a number between two bounds -/
theorem AT.num {lo hi : Nat} (h : AT c pl last ad X0 B0 σ0 τ0 u X B σ τ j) (hl : lo ≤ 1) (hh : hi ≤ 99) : (∃ σ' τ' v, f_X2_bounded F (ad 6) (Int32.ofNat lo) (Int32.ofNat hi) (cM X ad σ B) = some (.inl v, cM X ad σ' B) ∧ t_X9_takesInt F (Int32.ofNat lo) (Int32.ofNat hi) τ = some (1, τ') ∧ c j = 1 ∧ AT c pl last ad X0 B0 σ0 τ0 u X B σ' τ' (j + 1) ∧ τ'.1 29 = v ∧ (∀ z, z ≠ 31 → z ≠ 33 → z ≠ 34 → σ'.1 z = σ.1 z) ∧ σ'.2 = σ.2 ∧ (∀ z, z ≠ 7 → z ≠ 10 → z ≠ 11 → z ≠ 29 → τ'.1 z = τ.1 z) ∧ τ'.2 = τ.2 ∧ (CLN σ' τ' → CLN σ τ ∧ ∃ k, lo ≤ k ∧ k ≤ hi ∧ v = Int32.ofNat k)) ∨ TNO ad X0 B0 σ0 τ0 (u + 1) (f_X2_bounded F (ad 6) (Int32.ofNat lo) (Int32.ofNat hi) (cM X ad σ B)) (t_X9_takesInt F (Int32.ofNat lo) (Int32.ofNat hi) τ) := by
  have hj := h.p.1.1
  have hjl := h.p.2.2.2
  have h7 := h.p.2.2.1
  unfold f_X2_bounded t_X9_takesInt
  rw [oc6 h.a, Option.bind_some, nmE, h7]
  rcases h.takes (F := F) (q := 1) (by decide) with ⟨k1, k2, k3, k4, k5⟩ | hN
  · have k3' : f_X2_must F (ad 6) 2 (cM X ad σ B) = _ := k3
    have k4' : t_X9_takes F 1 τ = _ := k4
    obtain ⟨v, v1, v2, v3⟩ := (h.p.1.2.1 j hjl).2.2.2.1 k1
    rw [k3', th_l, k4', Option.bind_some, if_neg (show ¬ (1 : Int32) = 0 by decide)]
    obtain ⟨σ1, e1⟩ : ∃ σ1, σ1 = csI σ 31 (Int32.ofNat (j + 1)) := ⟨_, rfl⟩
    obtain ⟨τ1, e2⟩ : ∃ τ1, τ1 = tsI (tsI τ 7 (Int32.ofNat (j + 1))) 29 (Int32.ofNat v) := ⟨_, rfl⟩
    have f1 : ∀ z, z ≠ 31 → σ1.1 z = σ.1 z := fun z hz => by rw [e1]; exact csI_n _ _ _ _ hz
    have f2 : σ1.2 = σ.2 := by rw [e1]; rfl
    have g1 : ∀ z, z ≠ 7 → z ≠ 29 → τ1.1 z = τ.1 z := fun z a b => by rw [e2, tsI_n _ _ _ _ b, tsI_n _ _ _ _ a]
    have g2 : τ1.2 = τ.2 := by rw [e2]; rfl
    have g29 : τ1.1 29 = Int32.ofNat v := by rw [e2]; exact tsI_s _ _ _
    have hT1 : AT c pl last ad X0 B0 σ0 τ0 u X B σ1 τ1 (j + 1) := by
      rw [e1, e2]
      exact k5.st RF.rf (TZ.i (by decide)) rfl rfl (tsI_n _ _ _ _ (by decide)) (k5.w.of rfl rfl (tsI_n _ _ _ _ (by decide)) (tsI_n _ _ _ _ (by decide)))
    have w1 : WR pl j σ1 τ1 := h.w.of (f1 33 (by decide)) (f1 34 (by decide)) (g1 10 (by decide) (by decide)) (g1 11 (by decide) (by decide))
    have hvT : taI (tsI τ 7 (Int32.ofNat (j + 1))) 4 2001 (Int32.ofNat j) = some (Int32.ofNat v) := by
      rw [taI_n _ 4 2001 j (by omega) (by decide)]
      exact congrArg some v2
    rw [hvT, Option.bind_some, nmE, ← e2, g29, ← e1]
    have hvC : aL (cM X ad σ1 B) 1 (ad 5) (Int32.ofNat j) = some (Int32.ofNat v).toInt64 := by
      rw [aL5 h.a σ1 j (by omega), f2]
      exact congrArg some v3
    have e64 : (Int32.ofNat v).toInt64.toInt32 = Int32.ofNat v := Int32.toInt32_toInt64 _
    have hwi : p_X0_within F (Int32.ofNat v) (Int32.ofNat lo) (Int32.ofNat hi) = some (if lo ≤ v ∧ v ≤ hi then 1 else 0) := within_v _ (by rw [i_tn (by omega), i_tn (by omega), i_tn (by omega)]; omega)
    simp only [o6_0 h.a, o1_4 h.a, hvC, Option.bind_some, e64, hwi]
    by_cases hb : lo ≤ v ∧ v ≤ hi
    · have n1 : ¬ Int32.ofNat v < Int32.ofNat lo := fun z => by
        have := (c_lt v lo (by omega) (by omega)).1 z
        omega
      rw [if_pos hb, if_neg (show ¬ (1 : Int32) = 0 by decide), if_neg n1, if_pos ((c_le v hi (by omega) (by omega)).2 hb.2)]
      exact Or.inl ⟨σ1, τ1, _, rfl, rfl, k1, hT1, g29, fun z a _ _ => f1 z a, f2, fun z a _ _ b => g1 z a b, g2, fun hc => ⟨hc.of (f1 33 (by decide)).symm (g1 10 (by decide) (by decide)).symm, v, hb.1, hb.2, rfl⟩⟩
    · have hno : (if Int32.ofNat v < Int32.ofNat lo then Option.bind (t_X9_tells F 5 (Int32.ofNat j) τ1) fun q11 => some ((1 : Int32), q11) else if Int32.ofNat v ≤ Int32.ofNat hi then some (1, τ1) else Option.bind (t_X9_tells F 5 (Int32.ofNat j) τ1) fun q14 => some (1, q14)) = some (1, tlT 5 (pl j) τ1) := by
        rw [tells_T hT1.p.1 hjl, Option.bind_some]
        by_cases n1 : Int32.ofNat v < Int32.ofNat lo
        · rw [if_pos n1]
        · rw [if_neg n1, if_neg (fun z => ?_)]
          have a1 : ¬ v < lo := fun q => n1 ((c_lt v lo (by omega) (by omega)).2 q)
          have a2 := (c_le v hi (by omega) (by omega)).1 z
          exact hb ⟨by omega, a2⟩
      rw [if_neg hb, if_pos rfl, hno, oc6 h.a, Option.bind_some, wrong_C h.a hT1.p.1 hjl, Option.bind_some]
      have hd : DY pl (j + 1) (wlC 5 (pl j) σ1) (tlT 5 (pl j) τ1) := w1.both hT1.p.1 hjl (by decide)
      refine Or.inl ⟨_, _, _, rfl, rfl, k1, hT1.st wlC_RF tlT_TZ (wlC_i (by decide) (by decide)) (wlC_i (by decide) (by decide)) (tlT_i (by decide) (by decide)) (Or.inr hd), (tlT_i (by decide) (by decide)).trans g29, fun z a b d => (wlC_i b d).trans (f1 z a), wlC_2.trans f2, fun z a b d e => (tlT_i b d).trans (g1 z a e), tlT_2.trans g2, fun hc => absurd hc.1 hd.n⟩
  · obtain ⟨e, X2, B2, σ2, τ2, k, p, a1, a2, a3⟩ := hN
    have a1' : f_X2_must F (ad 6) 2 (cM X ad σ B) = _ := a1
    have a2' : t_X9_takes F 1 τ = _ := a2
    rw [a1', th_r, a2', Option.bind_some, if_pos rfl]
    exact Or.inr ⟨e, X2, B2, σ2, τ2, k, p, rfl, rfl, a3⟩
end AT
