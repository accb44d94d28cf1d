set_option maxRecDepth 100000
/-! the reference's codes and waits -/
variable {X : Nat → Option Ob} {ad : Nat → Nat} {B B' : Sw} {A : Av} {σ σ' : Cs} {τ τ' : Tw} {F : Nat} {c pl : Nat → Nat} {last j : Nat}
theorem TrB.up {B : Sw} : ∀ {d d' t : Nat} {c : Cd}, TrB B d t c → d ≤ d' → TrB B d' t c := by
  intro d
  induction d with
  | zero => intro d' t c h; exact absurd h (fun q => q)
  | succ d ih =>
    intro d' t c h hd
    obtain ⟨e, rfl⟩ : ∃ e, d' = e + 1 := ⟨d' - 1, by omega⟩
    rcases h with h | h | ⟨s, o, l, r, cl, cr, h1, h2, h3, h4, h5⟩
    · exact Or.inl h
    · exact Or.inr (Or.inl h)
    · exact Or.inr (Or.inr ⟨s, o, l, r, cl, cr, h1, h2, ih h3 (by omega), ih h4 (by omega), h5⟩)
/-- the codes that are told -/
def vT (τ : Tw) : Av := fun r k => τ.2.1 r (500 + k)
/-- what a sum's reading leaves alone: codes below m, waits below w -/
def ET (m w : Nat) (τ τ' : Tw) : Prop := (∀ z, z ≠ 7 → z ≠ 8 → z ≠ 9 → z ≠ 30 → τ'.1 z = τ.1 z) ∧ (∀ r, r ≠ 8 → r ≠ 9 → r ≠ 10 → r ≠ 22 → τ'.2.1 r = τ.2.1 r) ∧ τ'.2.1 8 0 = τ.2.1 8 0 ∧ (∀ k, k < 500 + m → τ'.2.1 9 k = τ.2.1 9 k ∧ τ'.2.1 10 k = τ.2.1 10 k) ∧ (∀ k, k < w → τ'.2.1 22 k = τ.2.1 22 k) ∧ τ'.2.2 = τ.2.2
theorem ET.rf {m w : Nat} : ET m w τ τ := ⟨fun _ _ _ _ _ => rfl, fun _ _ _ _ _ => rfl, rfl, fun _ _ => ⟨rfl, rfl⟩, fun _ _ => rfl, rfl⟩
theorem ET.tr {m w m1 w1 : Nat} {τ2 : Tw} (h1 : ET m w τ τ') (h2 : ET m1 w1 τ' τ2) (hm : m ≤ m1) (hw : w ≤ w1) : ET m w τ τ2 := by
  obtain ⟨a1, a2, a3, a4, a5, a6⟩ := h1
  obtain ⟨b1, b2, b3, b4, b5, b6⟩ := h2
  refine ⟨fun z p q r s => (b1 z p q r s).trans (a1 z p q r s), fun z p q r s => (b2 z p q r s).trans (a2 z p q r s), b3.trans a3, fun k hk => ?_, fun k hk => (b5 k (by omega)).trans (a5 k hk), b6.trans a6⟩
  have x := b4 k (by omega)
  have y := a4 k hk
  exact ⟨x.1.trans y.1, x.2.trans y.2⟩
theorem ET.le {m w m1 w1 : Nat} (h : ET m1 w1 τ τ') (hm : m ≤ m1) (hw : w ≤ w1) : ET m w τ τ' := ET.tr ET.rf h hm hw
def emT (τ : Tw) (m : Nat) (o v : Int32) : Tw := twA (twA (twA τ 9 (upd (τ.2.1 9) (500 + m) o)) 10 (upd (τ.2.1 10) (500 + m) v)) 8 (upd (τ.2.1 8) 1 (Int32.ofNat (m + 1)))
def awT (τ : Tw) (w : Nat) (o : Int32) : Tw := tsI (twA τ 22 (upd (τ.2.1 22) w o)) 30 (Int32.ofNat (w + 1))
theorem emit_T {m : Nat} {o v : Int32} (h : τ.2.1 8 1 = Int32.ofNat m) (hm : m < 500) : t_X9_emit F o v τ = some (emT τ m o v) := by
  unfold t_X9_emit
  have i1 : ∀ τ : Tw, taI τ 8 2 1 = some (τ.2.1 8 1) := fun τ => taI_n τ 8 2 1 (by decide) (by decide)
  rw [i1, Option.bind_some, h, n_pl, tsA_n τ 9 0 1000 _ _ (show 500 + m < 1000 by omega) (by decide), Option.bind_some, i1, Option.bind_some]
  have e1 : ∀ f, (twA τ 9 f).2.1 8 1 = Int32.ofNat m := fun f => h
  rw [e1, n_pl, tsA_n _ 10 0 1000 _ _ (show 500 + m < 1000 by omega) (by decide), Option.bind_some, i1, Option.bind_some]
  have e2 : ∀ f g, (twA (twA τ 9 f) 10 g).2.1 8 1 = Int32.ofNat m := fun f g => h
  rw [e2, n_lp]
  have e3 : ∀ (τ : Tw) (x : Int32), tsA τ 8 0 2 1 x = some (twA τ 8 (upd (τ.2.1 8) 1 x)) := fun τ x => tsA_n τ 8 0 2 1 x (by decide) (by decide)
  rw [e3, Option.bind_some]
  rfl
theorem await_T {w : Nat} {o : Int32} (h : τ.1 30 = Int32.ofNat w) (hw : w < 500) : t_X9_await F o τ = some (awT τ w o) := by
  unfold t_X9_await
  rw [h, tsA_n τ 22 0 500 w o hw (by decide), Option.bind_some, nmE]
  have e : ∀ f, (twA τ 22 f).1 30 = Int32.ofNat w := fun f => h
  rw [e, n_lp]
  rfl
theorem emT_8 {m : Nat} {o v : Int32} : (emT τ m o v).2.1 8 1 = Int32.ofNat (m + 1) := by
  show upd (τ.2.1 8) 1 (Int32.ofNat (m + 1)) 1 = _
  exact up_s _ _ _
theorem emT_1 {m : Nat} {o v : Int32} : (emT τ m o v).1 = τ.1 := rfl
theorem emT_at {m : Nat} {o v : Int32} : vT (emT τ m o v) 9 m = o ∧ vT (emT τ m o v) 10 m = v := ⟨(show upd (τ.2.1 9) (500 + m) o (500 + m) = o from up_s _ _ _), (show upd (τ.2.1 10) (500 + m) v (500 + m) = v from up_s _ _ _)⟩
theorem emT_ET {m w : Nat} {o v : Int32} : ET m w τ (emT τ m o v) := by
  refine ⟨fun _ _ _ _ _ => rfl, fun r h8 h9 h10 _ => ?_, (show upd (τ.2.1 8) 1 (Int32.ofNat (m + 1)) 0 = _ from up_n _ _ _ _ (by decide)), fun k hk => ⟨(show upd (τ.2.1 9) (500 + m) o k = _ from up_n _ _ _ _ (by omega)), (show upd (τ.2.1 10) (500 + m) v k = _ from up_n _ _ _ _ (by omega))⟩, fun _ _ => rfl, rfl⟩
  show (twA (twA (twA τ 9 (upd (τ.2.1 9) (500 + m) o)) 10 (upd (τ.2.1 10) (500 + m) v)) 8 (upd (τ.2.1 8) 1 (Int32.ofNat (m + 1)))).2.1 r = _
  rw [twA_n _ _ _ _ h8, twA_n _ _ _ _ h10, twA_n _ _ _ _ h9]
theorem awT_30 {w : Nat} {o : Int32} : (awT τ w o).1 30 = Int32.ofNat (w + 1) := tsI_s _ _ _
theorem awT_at {w : Nat} {o : Int32} : (awT τ w o).2.1 22 w = o := (show upd (τ.2.1 22) w o w = o from up_s _ _ _)
theorem awT_ET {m w : Nat} {o : Int32} : ET m w τ (awT τ w o) := by
  refine ⟨fun z _ _ _ h => tsI_n _ _ _ _ h, fun r _ _ _ h => twA_n _ _ _ _ h, rfl, fun _ _ => ⟨rfl, rfl⟩, fun k hk => (show upd (τ.2.1 22) w o k = _ from up_n _ _ _ _ (by omega)), rfl⟩
/-- an operator's rank -/
def rk (o : Int32) : Nat := if o ≤ 3 then (if o ≤ 1 then 0 else 1) else 2
theorem rank_T (o : Int32) : p_X9_rank F o = some (Int32.ofNat (rk o)) := by
  unfold p_X9_rank rk
  by_cases h : o ≤ 3
  · rw [if_pos h, if_pos h]
    by_cases h1 : o ≤ 1
    · rw [if_pos h1, if_pos h1]
      rfl
    · rw [if_neg h1, if_neg h1]
      rfl
  · rw [if_neg h, if_neg h]
    rfl
theorem rk_le (o : Int32) : rk o ≤ 2 := by
  unfold rk
  repeat' split
  all_goals decide
/-- operators that wait above the first w, the top one first -/
def stk (τ : Tw) (w : Nat) : List Int32 → Prop
  | [] => True
  | o :: os => τ.2.1 22 (w + os.length) = o ∧ stk τ w os
theorem stk_congr {w : Nat} : ∀ {os : List Int32}, (∀ k, k < w + os.length → τ'.2.1 22 k = τ.2.1 22 k) → stk τ w os → stk τ' w os
  | [], _, _ => trivial
  | o :: os, h, ⟨h1, h2⟩ => ⟨(h _ (by rw [List.length_cons]; omega)).trans h1, stk_congr (fun k hk => h k (by rw [List.length_cons]; omega)) h2⟩
/-- codes of operators -/
def opC (os : List Int32) : Cd := os.map fun o => (o, (0 : Int32))
/-- nothing more is taken -/
def bot (τ : Tw) (r w : Nat) : Prop := w = 0 ∨ rk (τ.2.1 22 (w - 1)) < r
theorem red_all {r : Nat} (hr : r ≤ 2) : ∀ (os : List Int32) (τ : Tw) (m w n : Nat), τ.1 30 = Int32.ofNat (w + os.length) → τ.2.1 8 1 = Int32.ofNat m → m + os.length < 500 → w + os.length < 500 → stk τ w os → (∀ o ∈ os, r ≤ rk o) → bot τ r w → os.length < n → ∃ τ', t_X9_reduce_L0 F (Int32.ofNat r) 0 n τ = some τ' ∧ τ'.1 30 = Int32.ofNat w ∧ τ'.1 7 = τ.1 7 ∧ τ'.2.1 8 1 = Int32.ofNat (m + os.length) ∧ (∀ w', ET m w' τ τ') ∧ cAt (vT τ') m (opC os) := by
  intro os
  induction os with
  | nil =>
    intro τ m w n h30 h8 hm hw hs ho hb hn
    obtain ⟨n, rfl⟩ : ∃ k, n = k + 1 := ⟨n - 1, by omega⟩
    have h30 : τ.1 30 = Int32.ofNat w := h30
    refine ⟨τ, ?_, h30, rfl, h8, fun _ => ET.rf, trivial⟩
    show t_X9_reduce_L0_b F (Int32.ofNat r) 0 (t_X9_reduce_L0 F (Int32.ofNat r) 0 n) τ = some τ
    unfold t_X9_reduce_L0_b
    rw [h30]
    rcases hb with rfl | hb
    · rw [if_pos (by decide)]
    · by_cases w0 : w = 0
      · subst w0
        rw [if_pos (by decide)]
      · have hw : w < 500 := hw
        have g : ¬ Int32.ofNat w ≤ 0 := fun q => by
          have := (c_le w 0 (by omega) (by decide)).1 q
          omega
        have g2 : Int32.ofNat w - 1 = Int32.ofNat (w - 1) := n_sl 1 w (show 1 ≤ w by omega)
        rw [if_neg g, g2, taI_n τ 22 500 (w - 1) (by omega) (by decide), Option.bind_some, rank_T, Option.bind_some, if_pos ((c_lt _ _ (by omega) (by omega)).2 hb)]
  | cons o os ih =>
    intro τ m w n h30 h8 hm hw hs ho hb hn
    rw [List.length_cons] at h30 hm hw hn
    obtain ⟨n, rfl⟩ : ∃ k, n = k + 1 := ⟨n - 1, by omega⟩
    obtain ⟨hs1, hs2⟩ := hs
    have hro := ho o List.mem_cons_self
    have hrl := rk_le o
    show ∃ τ', t_X9_reduce_L0_b F (Int32.ofNat r) 0 (t_X9_reduce_L0 F (Int32.ofNat r) 0 n) τ = some τ' ∧ _
    unfold t_X9_reduce_L0_b
    have g : ¬ Int32.ofNat (w + (os.length + 1)) ≤ 0 := fun q => by
      have := (c_le _ 0 (by omega) (by decide)).1 q
      omega
    have g2 : Int32.ofNat (w + (os.length + 1)) - 1 = Int32.ofNat (w + os.length) := n_sl 1 _ (show 1 ≤ w + (os.length + 1) by omega)
    rw [h30, if_neg g, g2, taI_n τ 22 500 (w + os.length) (by omega) (by decide), Option.bind_some, hs1, rank_T, Option.bind_some, if_neg (fun q => by have := (c_lt _ _ (by omega) (by omega)).1 q; omega), nmE]
    have e30 : (tsI τ 30 (Int32.ofNat (w + os.length))).1 30 = Int32.ofNat (w + os.length) := tsI_s _ _ _
    have e8 : (tsI τ 30 (Int32.ofNat (w + os.length))).2.1 8 1 = Int32.ofNat m := h8
    have et : (tsI τ 30 (Int32.ofNat (w + os.length))).2.1 22 (w + os.length) = o := hs1
    rw [e30, taI_n _ 22 500 (w + os.length) (by omega) (by decide), Option.bind_some, et, emit_T e8 (by omega), Option.bind_some]
    have hET0 : ∀ w', ET m w' τ (emT (tsI τ 30 (Int32.ofNat (w + os.length))) m o 0) := fun w' => ET.tr (m1 := m) (w1 := w') ⟨fun z _ _ _ h => tsI_n _ _ _ _ h, fun _ _ _ _ _ => rfl, rfl, fun _ _ => ⟨rfl, rfl⟩, fun _ _ => rfl, rfl⟩ emT_ET (Nat.le_refl _) (Nat.le_refl _)
    obtain ⟨τ', c1, c2, c3, c4, c5, c6⟩ := ih (emT (tsI τ 30 (Int32.ofNat (w + os.length))) m o 0) (m + 1) w n e30 emT_8 (by omega) (by omega) (stk_congr (τ := τ) (fun k hk => rfl) hs2) (fun x hx => ho x (List.mem_cons_of_mem _ hx)) hb (by omega)
    refine ⟨τ', c1, c2, c3.trans rfl, by rw [c4, List.length_cons]; congr 1; omega, fun w' => (hET0 w').tr (c5 w') (Nat.le_succ m) (Nat.le_refl _), ?_⟩
    · show vT τ' 9 m = o ∧ vT τ' 10 m = 0 ∧ cAt (vT τ') (m + 1) (opC os)
      have x := (c5 0).2.2.2.1 (500 + m) (by omega)
      have y := emT_at (τ := tsI τ 30 (Int32.ofNat (w + os.length))) (m := m) (o := o) (v := 0)
      exact ⟨x.1.trans y.1, x.2.trans y.2, c6⟩
