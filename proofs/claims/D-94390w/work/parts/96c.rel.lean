set_option maxRecDepth 100000
/-! conditions, read: a relation's second half -/
variable {X X' X2 : Nat → Option Ob} {ad : Nat → Nat} {B B' B2 : Sw} {A : Av} {σ σ' σ2 : Cs} {τ τ' τ2 : Tw} {F : Nat} {c pl : Nat → Nat} {last j : Nat}
/-- the component's sign of a relation -/
def rlS (q : Nat) : Int32 := if q = 13 then 61 else if q = 14 then 33 else if q = 15 then 109 else 60
def isRl (q : Nat) : Prop := q = 13 ∨ q = 14 ∨ q = 15 ∨ q = 10
theorem isRl_n {q : Nat} (h : isRl q) : rlS q ≠ 0 ∧ 4 ≤ q ∧ q < 16 := by
  rcases h with rfl | rfl | rfl | rfl <;> decide
/-- the reference's row behind a relation -/
def rwT (τ : Tw) (l e : Nat) (s v1 : Int32) : Tw := twA (twA (twA (twA τ 16 (upd (τ.2.1 16) (200 + l) (Int32.ofNat e))) 12 (upd (τ.2.1 12) (200 + l) s)) 17 (upd (τ.2.1 17) (200 + l) v1)) 11 (upd (τ.2.1 11) 1 (Int32.ofNat (l + 1)))
theorem rwT_CX {m l e : Nat} {s v1 : Int32} : CX m l τ (rwT τ l e s v1) := by
  have h1 : CX m l τ (twA τ 16 (upd (τ.2.1 16) (200 + l) (Int32.ofNat e))) := CX.lit (by decide) (by decide) (Nat.le_refl _)
  have h2 : CX m l (twA τ 16 (upd (τ.2.1 16) (200 + l) (Int32.ofNat e))) (twA (twA τ 16 (upd (τ.2.1 16) (200 + l) (Int32.ofNat e))) 12 (upd (τ.2.1 12) (200 + l) s)) := CX.lit (by decide) (by decide) (Nat.le_refl _)
  have h3 : CX m l (twA (twA τ 16 (upd (τ.2.1 16) (200 + l) (Int32.ofNat e))) 12 (upd (τ.2.1 12) (200 + l) s)) (twA (twA (twA τ 16 (upd (τ.2.1 16) (200 + l) (Int32.ofNat e))) 12 (upd (τ.2.1 12) (200 + l) s)) 17 (upd (τ.2.1 17) (200 + l) v1)) := CX.lit (by decide) (by decide) (Nat.le_refl _)
  exact ((h1.tr h2 (Nat.le_refl _) (Nat.le_refl _)).tr h3 (Nat.le_refl _) (Nat.le_refl _)).tr CX.n11 (Nat.le_refl _) (Nat.le_refl _)
theorem rwT_at {l e : Nat} {s v1 : Int32} : (rwT τ l e s v1).2.1 16 (200 + l) = Int32.ofNat e ∧ (rwT τ l e s v1).2.1 12 (200 + l) = s ∧ (rwT τ l e s v1).2.1 17 (200 + l) = v1 ∧ (rwT τ l e s v1).2.1 11 1 = Int32.ofNat (l + 1) := ⟨(show upd (τ.2.1 16) (200 + l) (Int32.ofNat e) (200 + l) = _ from up_s _ _ _), (show upd (τ.2.1 12) (200 + l) s (200 + l) = _ from up_s _ _ _), (show upd (τ.2.1 17) (200 + l) v1 (200 + l) = _ from up_s _ _ _), (show upd (τ.2.1 11) 1 (Int32.ofNat (l + 1)) 1 = _ from up_s _ _ _)⟩
theorem rowl_T {l e : Nat} {s v1 : Int32} (h8 : τ.2.1 8 1 = Int32.ofNat e) (h11 : τ.2.1 11 1 = Int32.ofNat l) (hl : l < 200) (hs : s = 0 ∨ s = 1) {K : Tw → Option (Int32 × Tw)} : (Option.bind (taI τ 8 2 1) fun x12 => Option.bind (tsA τ 16 0 400 (Int32.ofNat (200 + l)) x12) fun τ15 => Option.bind (tsA τ15 12 4 400 (Int32.ofNat (200 + l)) s) fun τ17 => Option.bind (tsA τ17 17 0 400 (Int32.ofNat (200 + l)) v1) fun τ19 => Option.bind (taI τ19 11 2 1) fun x20 => Option.bind (tsA τ19 11 0 2 1 (x20 + 1)) fun τ23 => K τ23) = K (rwT τ l e s v1) := by
  have i1 : ∀ τ : Tw, taI τ 8 2 1 = some (τ.2.1 8 1) := fun τ => taI_n τ 8 2 1 (by decide) (by decide)
  have i2 : ∀ τ : Tw, taI τ 11 2 1 = some (τ.2.1 11 1) := fun τ => taI_n τ 11 2 1 (by decide) (by decide)
  have i3 : ∀ (τ : Tw) (x : Int32), tsA τ 11 0 2 1 x = some (twA τ 11 (upd (τ.2.1 11) 1 x)) := fun τ x => tsA_n τ 11 0 2 1 x (by decide) (by decide)
  have hn : nar 4 s = s := by rcases hs with rfl | rfl <;> rfl
  rw [i1, Option.bind_some, h8, tsA_n τ 16 0 400 _ _ (show 200 + l < 400 by omega) (by decide), Option.bind_some, tsA_n _ 12 4 400 _ _ (show 200 + l < 400 by omega) (by decide), Option.bind_some, hn, tsA_n _ 17 0 400 _ _ (show 200 + l < 400 by omega) (by decide), Option.bind_some, i2, Option.bind_some]
  have e : ∀ f g h, (twA (twA (twA τ 16 f) 12 g) 17 h).2.1 11 1 = Int32.ofNat l := fun f g h => h11
  rw [e, n_lp, i3, Option.bind_some]
  rfl
