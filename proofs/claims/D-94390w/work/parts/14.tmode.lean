set_option maxRecDepth 100000
/-! THE REFERENCE's own state: ints by field, arrays by their place behind the object (1 .. 34), longs likewise -/
abbrev Tw : Type := (Nat → Int32) × (Nat → Nat → Int32) × (Nat → Nat → Int64)
def tsI (τ : Tw) (k : Nat) (v : Int32) : Tw := (fun j => if j = k then v else τ.1 j, τ.2)
def taI (τ : Tw) (j n : Nat) (i : Int32) : Option Int32 := if ¬ (i < 0 ∨ n ≤ i.toNatClampNeg) then some (τ.2.1 j i.toNatClampNeg) else none
def tsA (τ : Tw) (j t n : Nat) (i x : Int32) : Option Tw := if ¬ (i < 0 ∨ n ≤ i.toNatClampNeg) then some (τ.1, (fun q => if q = j then upd (τ.2.1 j) i.toNatClampNeg (nar t x) else τ.2.1 q), τ.2.2) else none
def taL (τ : Tw) (j n : Nat) (i : Int32) : Option Int64 := if ¬ (i < 0 ∨ n ≤ i.toNatClampNeg) then some (τ.2.2 j i.toNatClampNeg) else none
def tsL (τ : Tw) (j t n : Nat) (i : Int32) (x : Int64) : Option Tw := if ¬ (i < 0 ∨ n ≤ i.toNatClampNeg) then some (τ.1, τ.2.1, (fun q => if q = j then vp_updL (τ.2.2 j) i.toNatClampNeg x else τ.2.2 q)) else none
def tF (tw : Nat) (τ : Tw) : List Value := [.int (τ.1 0), .ref (tw + 1), .int (τ.1 2), .ref (tw + 2), .ref (tw + 3), .ref (tw + 4), .ref (tw + 5), .int (τ.1 7), .int (τ.1 8), .int (τ.1 9), .int (τ.1 10), .int (τ.1 11), .ref (tw + 6), .ref (tw + 7), .ref (tw + 8), .ref (tw + 9), .ref (tw + 10), .ref (tw + 11), .ref (tw + 12), .ref (tw + 13), .ref (tw + 14), .ref (tw + 15), .ref (tw + 16), .ref (tw + 17), .ref (tw + 18), .int (τ.1 25), .ref (tw + 19), .ref (tw + 20), .ref (tw + 21), .int (τ.1 29), .int (τ.1 30), .ref (tw + 22), .int (τ.1 32), .int (τ.1 33), .ref (tw + 23), .int (τ.1 35), .ref (tw + 24), .ref (tw + 25), .ref (tw + 26), .ref (tw + 27), .int (τ.1 40), .int (τ.1 41), .int (τ.1 42), .ref (tw + 28), .ref (tw + 29), .ref (tw + 30), .ref (tw + 31), .ref (tw + 32), .int (τ.1 48), .int (τ.1 49), .int (τ.1 50), .ref (tw + 33), .ref (tw + 34)]
/-- kind, length, whether of longs -/
def tk : Nat → Nat × Nat × Bool := fun j => match j with
  | 1 => (0, 2000, false)
  | 2 => (0, 2001, false)
  | 3 => (0, 2001, false)
  | 4 => (0, 2001, false)
  | 5 => (1, 2001, true)
  | 6 => (0, 420, false)
  | 7 => (0, 1260, false)
  | 8 => (0, 2, false)
  | 9 => (0, 1000, false)
  | 10 => (0, 1000, false)
  | 11 => (0, 2, false)
  | 12 => (4, 400, false)
  | 13 => (0, 400, false)
  | 14 => (0, 400, false)
  | 15 => (0, 400, false)
  | 16 => (0, 400, false)
  | 17 => (0, 400, false)
  | 18 => (4, 3, false)
  | 19 => (1, 30, true)
  | 20 => (0, 30, false)
  | 21 => (0, 30, false)
  | 22 => (0, 500, false)
  | 23 => (0, 9, false)
  | 24 => (0, 500, false)
  | 25 => (0, 900, false)
  | 26 => (0, 8, false)
  | 27 => (0, 504, false)
  | 28 => (0, 16, false)
  | 29 => (0, 16, false)
  | 30 => (4, 256, false)
  | 31 => (0, 256, false)
  | 32 => (0, 16, false)
  | 33 => (0, 12, false)
  | 34 => (0, 1300, false)
  | _ => (0, 0, false)
def tB (tw : Nat) (τ : Tw) (j : Nat) : Ob := match j with
  | 0 => .inr (9, tF tw τ)
  | j + 1 => .inl ((tk (j + 1)).1, ((tk (j + 1)).2.1, if (tk (j + 1)).2.2 = true then .inr (.inl (τ.2.2 (j + 1))) else .inl (τ.2.1 (j + 1))))
/-- the memory with the reference at tw .. tw + 34 -/
def mT (tw : Nat) (τ : Tw) (μ : Sw) : Sw := (fun a => if tw ≤ a ∧ a ≤ tw + 34 then some (tB tw τ (a - tw)) else μ.1 a, μ.2)
theorem mT_at {tw j : Nat} {τ : Tw} {μ : Sw} (hj : j ≤ 34) : (mT tw τ μ).1 (tw + j) = some (tB tw τ j) := by
  show (if tw ≤ tw + j ∧ tw + j ≤ tw + 34 then some (tB tw τ (tw + j - tw)) else μ.1 (tw + j)) = _
  rw [if_pos ⟨by omega, by omega⟩, Nat.add_sub_cancel_left]
theorem mT_off {tw a : Nat} {τ : Tw} {μ : Sw} (h : ¬ (tw ≤ a ∧ a ≤ tw + 34)) : (mT tw τ μ).1 a = μ.1 a := if_neg h
theorem mT_set {tw j : Nat} {τ τ' : Tw} {μ : Sw} {o : Ob} (hj : j ≤ 34) (h1 : tB tw τ' j = o) (h2 : ∀ i, i ≤ 34 → i ≠ j → tB tw τ' i = tB tw τ i) : (mup (mT tw τ μ).1 (tw + j) o, (mT tw τ μ).2) = mT tw τ' μ := by
  refine Prod.ext (funext fun a => ?_) rfl
  show mup (mT tw τ μ).1 (tw + j) o a = (mT tw τ' μ).1 a
  by_cases ha : tw ≤ a ∧ a ≤ tw + 34
  · obtain ⟨i, rfl⟩ : ∃ i, a = tw + i := ⟨a - tw, by omega⟩
    by_cases hi : i = j
    · subst hi
      rw [mup_eq, mT_at hj, h1]
    · rw [mup_ne (by omega), mT_at (by omega), mT_at (by omega), h2 i (by omega) hi]
  · rw [mup_ne (by omega), mT_off ha, mT_off ha]
theorem mT_obj {tw : Nat} {τ : Tw} {μ : Sw} : (mT tw τ μ).1 tw = some (.inr (9, tF tw τ)) := mT_at (j := 0) (by omega)
theorem T_gf {tw k : Nat} {τ : Tw} {μ : Sw} {v : Value} (h : (tF tw τ)[k]? = some v) : gf (mT tw τ μ) tw 9 k = some v := by
  unfold gf
  rw [mT_obj]
  exact h
theorem T_oc {tw : Nat} {τ : Tw} {μ : Sw} : oc (mT tw τ μ) tw 9 = some () := by
  unfold oc
  rw [mT_obj]
  rfl
theorem T_put {tw k : Nat} {τ τ1 : Tw} {μ : Sw} {v : Int32} (h : (tF tw τ).set k (.int v) = tF tw (tsI τ k v)) (hk : k < 53) (e : tsI τ k v = τ1) : pf (mT tw τ μ) tw 9 k (.int v) = some (mT tw τ1 μ) := by
  subst e
  have hl : k < (tF tw τ).length := hk
  unfold pf
  rw [mT_obj]
  show (if 9 = 9 ∧ k < (tF tw τ).length then some (mup (mT tw τ μ).1 tw (.inr (9, (tF tw τ).set k (.int v))), (mT tw τ μ).2) else none) = _
  rw [if_pos ⟨rfl, hl⟩, h]
  refine congrArg some (mT_set (j := 0) (by omega) rfl fun i hi h0 => ?_)
  cases i with
  | zero => exact absurd rfl h0
  | succ i => rfl
theorem tB_s {tw j : Nat} {τ : Tw} : tB tw τ (j + 1) = .inl ((tk (j + 1)).1, ((tk (j + 1)).2.1, if (tk (j + 1)).2.2 = true then .inr (.inl (τ.2.2 (j + 1))) else .inl (τ.2.1 (j + 1)))) := rfl
theorem tB_i {tw j t n : Nat} {τ : Tw} (hj : tk (j + 1) = (t, n, false)) : tB tw τ (j + 1) = .inl (t, (n, .inl (τ.2.1 (j + 1)))) := by
  rw [tB_s, hj]
  rfl
theorem tB_l {tw j t n : Nat} {τ : Tw} (hj : tk (j + 1) = (t, n, true)) : tB tw τ (j + 1) = .inl (t, (n, .inr (.inl (τ.2.2 (j + 1))))) := by
  rw [tB_s, hj]
  rfl
theorem T_aI {tw j t n : Nat} {τ : Tw} {μ : Sw} {i x : Int32} (hj : tk (j + 1) = (t, n, false)) (h : taI τ (j + 1) n i = some x) (h34 : j + 1 ≤ 34 := by decide) : aI (mT tw τ μ) t (tw + (j + 1)) i = some x := by
  unfold taI at h
  split at h
  · next hin =>
    unfold aI
    rw [mT_at h34, tB_i hj]
    show (if t = t ∧ ¬ (i < 0 ∨ n ≤ i.toNatClampNeg) then some (τ.2.1 (j + 1) i.toNatClampNeg) else none) = _
    rw [if_pos ⟨rfl, hin⟩]
    exact h
  · cases h
theorem T_aL {tw j t n : Nat} {τ : Tw} {μ : Sw} {i : Int32} {x : Int64} (hj : tk (j + 1) = (t, n, true)) (h : taL τ (j + 1) n i = some x) (h34 : j + 1 ≤ 34 := by decide) : aL (mT tw τ μ) t (tw + (j + 1)) i = some x := by
  unfold taL at h
  split at h
  · next hin =>
    unfold aL
    rw [mT_at h34, tB_l hj]
    show (if t = t ∧ ¬ (i < 0 ∨ n ≤ i.toNatClampNeg) then some (τ.2.2 (j + 1) i.toNatClampNeg) else none) = _
    rw [if_pos ⟨rfl, hin⟩]
    exact h
  · cases h
theorem T_sA {tw j t n : Nat} {τ τ1 : Tw} {μ : Sw} {i x : Int32} (hj : tk (j + 1) = (t, n, false)) (h34 : j + 1 ≤ 34) (h : tsA τ (j + 1) t n i x = some τ1) : sI (mT tw τ μ) t (tw + (j + 1)) i x = some (mT tw τ1 μ) := by
  unfold tsA at h
  split at h
  · next hin =>
    cases h
    unfold sI
    rw [mT_at h34, tB_i hj]
    show (if t = t ∧ ¬ (i < 0 ∨ n ≤ i.toNatClampNeg) then some (mup (mT tw τ μ).1 (tw + (j + 1)) (.inl (t, (n, .inl (upd (τ.2.1 (j + 1)) i.toNatClampNeg (nar t x))))), (mT tw τ μ).2) else none) = _
    rw [if_pos ⟨rfl, hin⟩]
    refine congrArg some (mT_set (j := j + 1) h34 ?_ fun i' hi h0 => ?_)
    · rw [tB_i hj]
      show Sum.inl (t, (n, Sum.inl (if j + 1 = j + 1 then _ else _))) = _
      rw [if_pos rfl]
    · cases i' with
      | zero => rfl
      | succ i' =>
        rw [tB_s, tB_s]
        show Sum.inl (_, (_, if _ = true then _ else Sum.inl (if i' + 1 = j + 1 then _ else _))) = _
        rw [if_neg h0]
  · cases h
theorem T_sL {tw j t n : Nat} {τ τ1 : Tw} {μ : Sw} {i : Int32} {x : Int64} (hj : tk (j + 1) = (t, n, true)) (h34 : j + 1 ≤ 34) (h : tsL τ (j + 1) t n i x = some τ1) : sL (mT tw τ μ) t (tw + (j + 1)) i x = some (mT tw τ1 μ) := by
  unfold tsL at h
  split at h
  · next hin =>
    cases h
    unfold sL
    rw [mT_at h34, tB_l hj]
    show (if t = t ∧ ¬ (i < 0 ∨ n ≤ i.toNatClampNeg) then some (mup (mT tw τ μ).1 (tw + (j + 1)) (.inl (t, (n, .inr (.inl (vp_updL (τ.2.2 (j + 1)) i.toNatClampNeg x))))), (mT tw τ μ).2) else none) = _
    rw [if_pos ⟨rfl, hin⟩]
    refine congrArg some (mT_set (j := j + 1) h34 ?_ fun i' hi h0 => ?_)
    · rw [tB_l hj]
      show Sum.inl (t, (n, Sum.inr (Sum.inl (if j + 1 = j + 1 then _ else _)))) = _
      rw [if_pos rfl]
    · cases i' with
      | zero => rfl
      | succ i' =>
        rw [tB_s, tB_s]
        show Sum.inl (_, (_, if _ = true then Sum.inr (Sum.inl (if i' + 1 = j + 1 then _ else _)) else _)) = _
        rw [if_neg h0]
  · cases h
