set_option maxRecDepth 100000
/-! the component's lists get an element -/
variable {X : Nat → Option Ob} {ad ad' : Nat → Nat} {B B' : Sw} {A A' : Av} {σ σ' : Cs} {τ : Tw} {F : Nat}
theorem cK_1 (σ σ' : Cs) (r : Nat) : (cK σ r).1 = (cK σ' r).1 ∧ (cK σ r).2.1 = (cK σ' r).2.1 := by
  unfold cK
  split <;> exact ⟨rfl, rfl⟩
theorem kind0 {σ : Cs} {r : Nat} (hr : r < 114) (h : (cK σ r).1 = 0) : r = 0 ∨ r = 1 ∨ r = 6 ∨ r = 10 ∨ r = 12 ∨ r = 46 ∨ r = 50 ∨ r = 52 ∨ (54 ≤ r ∧ r < 74) := by
  rw [(cK_1 σ ((fun _ => 0), (fun _ _ => 0), (fun _ _ => 0), (fun _ _ => none)) r).1] at h
  have : ∀ r, r < 114 → (cK ((fun _ => 0), (fun _ _ => 0), (fun _ _ => 0), (fun _ _ => none)) r).1 = 0 → r = 0 ∨ r = 1 ∨ r = 6 ∨ r = 10 ∨ r = 12 ∨ r = 46 ∨ r = 50 ∨ r = 52 ∨ (54 ≤ r ∧ r < 74) := by decide
  exact this r hr h
theorem cO_54 {r : Nat} (h : 54 ≤ r ∧ r < 74) : cO ad σ r = (8, [.ref (ad (r + 20)), .ref (ad (r + 40))]) := by
  unfold cO
  split <;> first | rfl | omega
theorem cK_3 {r : Nat} (σ σ' : Cs) (h1 : r ≠ 51) (h3 : r ≠ 53) : cK σ r = cK σ' r := by
  unfold cK
  split <;> first | rfl | omega
/-- the roles other than a list's -/
theorem cB_ot {r z : Nat} (hrz : (r = 50 ∧ z = 50) ∨ (r = 52 ∧ z = 60)) (ha : ∀ i, i ≠ r + 1 → ad' i = ad i) (hi : ∀ i, i ≠ z → i ≠ z + 2 → i ≠ z + 3 → σ'.1 i = σ.1 i) (h2 : σ'.2.1 = σ.2.1) (h3 : σ'.2.2.1 = σ.2.2.1) (h4 : ∀ i, i ≠ r + 1 → σ'.2.2.2 i = σ.2.2.2 i) {i : Nat} (hl : i < 114) (n1 : i ≠ r) (n2 : i ≠ r + 1) : cB ad' σ' i = cB ad σ i := by
  have hk : cK σ' i = cK σ i := by
    by_cases e1 : i = 51
    · subst e1
      show (3, 6, (σ'.1 53).toNatClampNeg) = (3, 6, (σ.1 53).toNatClampNeg)
      rw [hi 53 (by omega) (by omega) (by omega)]
    by_cases e3 : i = 53
    · subst e3
      show (3, 6, (σ'.1 63).toNatClampNeg) = (3, 6, (σ.1 63).toNatClampNeg)
      rw [hi 63 (by omega) (by omega) (by omega)]
    exact cK_3 _ _ e1 e3
  by_cases h0 : (cK σ i).1 = 0
  · rw [cB_o h0, cB_o (by rw [hk]; exact h0)]
    have g : cO ad' σ' i = cO ad σ i := by
      rcases kind0 hl h0 with e | e | e | e | e | e | e | e | e
      · subst e
        unfold cO
        rw [ha 1 (by omega), ha 6 (by omega), ha 114 (by omega), ha 46 (by omega), ha 9 (by omega), ha 10 (by omega), ha 12 (by omega), ha 15 (by omega), ha 16 (by omega), ha 17 (by omega), ha 27 (by omega), ha 28 (by omega), ha 29 (by omega), ha 30 (by omega), ha 31 (by omega), ha 32 (by omega), hi 2 (by omega) (by omega) (by omega), hi 9 (by omega) (by omega) (by omega), hi 11 (by omega) (by omega) (by omega), hi 13 (by omega) (by omega) (by omega)]
        rfl
      · subst e
        unfold cO
        rw [ha 2 (by omega), ha 3 (by omega), ha 4 (by omega), ha 5 (by omega), hi 21 (by omega) (by omega) (by omega), hi 25 (by omega) (by omega) (by omega)]
        rfl
      · subst e
        unfold cO
        rw [ha 1 (by omega), ha 130 (by omega), ha 7 (by omega), ha 8 (by omega), hi 31 (by omega) (by omega) (by omega), hi 32 (by omega) (by omega) (by omega), hi 33 (by omega) (by omega) (by omega), hi 34 (by omega) (by omega) (by omega), hi 38 (by omega) (by omega) (by omega)]
        rfl
      · subst e
        unfold cO
        rw [ha 11 (by omega), hi 41 (by omega) (by omega) (by omega)]
        rfl
      · subst e
        unfold cO
        rw [ha 13 (by omega), ha 14 (by omega)]
        rfl
      · subst e
        unfold cO
        rw [ha 47 (by omega), ha 48 (by omega), ha 49 (by omega), ha 50 (by omega), ha 52 (by omega), hi 43 (by omega) (by omega) (by omega)]
        rfl
      · subst e
        unfold cO
        rw [ha 51 (by omega), hi 50 (by omega) (by omega) (by omega), hi 52 (by omega) (by omega) (by omega)]
        rfl
      · subst e
        unfold cO
        rw [ha 53 (by omega), hi 60 (by omega) (by omega) (by omega), hi 62 (by omega) (by omega) (by omega)]
        rfl
      · rw [cO_54 e, cO_54 e, ha _ (by omega), ha _ (by omega)]
    rw [g]
  · unfold cB
    rw [hk, if_neg h0, if_neg h0, h2, h3, h4 i n2]
/-- how the memory may have changed when a list changed -/
def LA (ad : Nat → Nat) (B : Sw) (σ : Cs) (ad' : Nat → Nat) (B' : Sw) (σ' : Cs) (r z : Nat) : Prop := AdOK ad' B' ∧ Gr B B' ∧ (∀ i, i ≠ r + 1 → ad' i = ad i) ∧ (∀ i, i ≠ z → i ≠ z + 2 → i ≠ z + 3 → σ'.1 i = σ.1 i) ∧ σ'.2.1 = σ.2.1 ∧ σ'.2.2.1 = σ.2.2.1 ∧ (∀ i, i ≠ r + 1 → σ'.2.2.2 i = σ.2.2.2 i) ∧ (∀ a, Own ad' B' a → Own ad B a ∨ B.2.1 ≤ a) ∧ B.2.1 ≤ B'.2.1 ∧ B'.2.1 ≤ B.2.1 + 1 ∧ B'.2.2.1 ≤ B.2.2.1 + 200 ∧ B'.2.2.2 = B.2.2.2 ∧ (∀ i, i < 114 → i ≠ r + 1 → B.1 (ad i) = none → B'.1 (ad i) = none)
theorem AdOK.lt (hA : AdOK ad B) {a : Nat} {o : Ob} (h : B.1 a = some o) : a < B.2.1 := by
  apply Classical.byContradiction
  intro hn
  rw [hA.2.2.2 a (by omega)] at h
  cases h
theorem cO_L2 {r z : Nat} (hrz : (r = 50 ∧ z = 50) ∨ (r = 52 ∧ z = 60)) : cO ad σ r = (20, [.int (σ.1 z), .ref (ad (r + 1)), .int (σ.1 (z + 2))]) ∧ (cK σ r).1 = 0 ∧ cK σ (r + 1) = (3, 6, (σ.1 (z + 3)).toNatClampNeg) := by
  rcases hrz with ⟨rfl, rfl⟩ | ⟨rfl, rfl⟩ <;> exact ⟨rfl, rfl, rfl⟩
theorem add_C (hA : AdOK ad B) (hK : KB B) {r z : Nat} (hrz : (r = 50 ∧ z = 50) ∨ (r = 52 ∧ z = 60)) {n : Nat} {e : Nat → Nat} {ob : Nat → Ob} (hL : LR ad B σ r z n e ob) (hob : ∀ j, j < n → ∃ q, ob j = .inr q) (hn : n ≤ 60) {p : Nat} {q : Nat × List Value} (hp : B.1 p = some (.inr q)) : ∃ ad' B' σ', f_J2_add F (ad r) p (cM X ad σ B) = some (1, cM X ad' σ' B') ∧ LA ad B σ ad' B' σ' r z ∧ LR ad' B' σ' r z (n + 1) (fun j => if j = n then p else e j) (fun j => if j = n then .inr q else ob j) := by
  obtain ⟨l1, l2, l3⟩ := hL
  obtain ⟨eO, eK0, eK⟩ := cO_L2 (ad := ad) (σ := σ) hrz
  have r114 : r + 1 < 114 := by omega
  have rn : r ≠ 51 ∧ r ≠ 53 := by omega
  have hMa : (cM X ad σ B).1 (ad r) = some (.inr (20, [.int (σ.1 z), .ref (ad (r + 1)), .int (Int32.ofNat n)])) := by
    rw [cM_at hA (by omega) rn.1 rn.2, cB_o eK0, eO, l1]
  have hla : ad r < B.2.1 := hA.2.2.1 r (by omega)
  have hld : ad (r + 1) < B.2.1 := hA.2.2.1 (r + 1) r114
  have hBr : B.1 (ad r) = none := hA.2.1 r (by omega) rn.1 rn.2
  have hd : ∃ t cap f, (cM X ad σ B).1 (ad (r + 1)) = some (.inl (t, (cap, .inr (.inr f)))) ∧ (t = 6 ∨ (cap = 0 ∧ ad (r + 1) = B.2.2.2 0)) ∧ n ≤ cap ∧ cap < 1000 ∧ (∀ j, j < n → f j = σ.2.2.2 (r + 1) j) ∧ (t = 6 → B.1 (ad (r + 1)) = none) := by
    rcases l2 with ⟨a, b, c⟩ | ⟨a, b⟩
    · refine ⟨6, _, σ.2.2.2 (r + 1), ?_, Or.inl rfl, b, c, fun _ _ => rfl, fun _ => a⟩
      rw [cM_rl hA r114 a, cB_q eK]
    · refine ⟨12, 0, fun _ => none, ?_, Or.inr ⟨rfl, b⟩, by omega, by omega, fun j hj => by omega, fun h => absurd h (by decide)⟩
      rw [b]
      exact cM_fz hK.1
  obtain ⟨t, cap, f, hMd, ht, hc, hc2, hf, ht6⟩ := hd
  have hMp : (cM X ad σ B).1 p = some (.inr q) := cM_fz hp
  obtain ⟨M', dn, c2, g, m1, m2, m3, m4, m5, m6, m7, m8, m9, m10⟩ := add_m (F := F) hMa hMd ht hMp hla hld (hA.lt hp) hn hc hc2 (fun j hj => by
    obtain ⟨q2, hq2⟩ := hob j hj
    obtain ⟨h1, h2⟩ := l3 j hj
    rw [hq2] at h2
    exact ⟨e j, q2, by rw [hf j hj, h1], hA.lt h2, cM_fz h2⟩)
  have had : ad r ≠ ad (r + 1) := fun h => by rw [← h, hMa] at hMd; cases hMd
  let σ' : Cs := csQ (csI (csI (csI σ z (σ.1 z + 1)) (z + 2) (Int32.ofNat (n + 1))) (z + 3) (Int32.ofNat c2)) (r + 1) g
  have i0 : σ'.1 z = σ.1 z + 1 := by
    show (csI (csI (csI σ z (σ.1 z + 1)) (z + 2) _) (z + 3) _).1 z = _
    rw [csI_n _ _ _ _ (by omega), csI_n _ _ _ _ (by omega), csI_s]
  have i2 : σ'.1 (z + 2) = Int32.ofNat (n + 1) := by
    show (csI (csI (csI σ z (σ.1 z + 1)) (z + 2) _) (z + 3) _).1 (z + 2) = _
    rw [csI_n _ _ _ _ (by omega), csI_s]
  have i3 : σ'.1 (z + 3) = Int32.ofNat c2 := csI_s _ _ _
  have io : ∀ i, i ≠ z → i ≠ z + 2 → i ≠ z + 3 → σ'.1 i = σ.1 i := fun i a b c => by
    show (csI (csI (csI σ z (σ.1 z + 1)) (z + 2) _) (z + 3) _).1 i = _
    rw [csI_n _ _ _ _ c, csI_n _ _ _ _ b, csI_n _ _ _ _ a]
  have q1 : σ'.2.2.2 (r + 1) = g := csQ_s _ _ _
  have qo : ∀ i, i ≠ r + 1 → σ'.2.2.2 i = σ.2.2.2 i := fun i h => csQ_n _ _ _ _ h
  have c2z : (σ'.1 (z + 3)).toNatClampNeg = c2 := by rw [i3]; exact i_cl (n := 1000) m5 (by omega)
  have hobj : ∀ ad' : Nat → Nat, ad' (r + 1) = dn → cB ad' σ' r = .inr (20, [.int (σ.1 z + 1), .ref dn, .int (Int32.ofNat (n + 1))]) := fun ad' h => by
    obtain ⟨a, b, -⟩ := cO_L2 (ad := ad') (σ := σ') hrz
    rw [cB_o b, a, i0, i2, h]
  have harr : ∀ ad' : Nat → Nat, cB ad' σ' (r + 1) = .inl (6, (c2, .inr (.inr g))) := fun ad' => by
    obtain ⟨-, -, a⟩ := cO_L2 (ad := ad') (σ := σ') hrz
    rw [cB_q a, c2z, q1]
  rcases m9 with ⟨a1, a2, a3⟩ | ⟨a1, a2, a3⟩
  · refine ⟨ad, B, σ', ?_, ⟨hA, fun _ _ h => h, fun _ _ => rfl, io, rfl, rfl, qo, fun _ h => Or.inl h, Nat.le_refl _, by omega, by omega, rfl, fun _ _ _ h => h⟩, i2, ?_, ?_⟩
    · have hBd := ht6 a3
      rw [m1]
      have : M' = cM X ad σ' B := by
        refine cM_of hA a2 (fun a o h => ?_) (fun i hi hb => ?_) (fun a hb hx => ?_)
        · have n1 : a ≠ ad r := fun q => by rw [q, hBr] at h; cases h
          have n2 : a ≠ dn := fun q => by rw [q, a1, hBd] at h; cases h
          rw [m10 a n1 n2]
          exact cM_fz h
        · by_cases e1 : i = r
          · rw [e1, m2, hobj ad a1.symm]
          by_cases e2 : i = r + 1
          · rw [e2, ← a1, m3, harr]
          have n1 : ad i ≠ ad r := fun q => e1 (hA.1 i r hi (by omega) hb q)
          have n2 : ad i ≠ dn := fun q => e2 (hA.1 i (r + 1) hi r114 hb (q.trans a1))
          rw [m10 _ n1 n2, cM_rl hA hi hb, cB_ot hrz (fun _ _ => rfl) io rfl rfl qo hi e1 e2]
        · have n1 : a ≠ ad r := fun q => hx r (by omega) q.symm
          have n2 : a ≠ dn := fun q => hx (r + 1) r114 (by rw [q, a1])
          rw [m10 a n1 n2, cM_1, hb]
          cases hq : rl ad a with
          | none => rfl
          | some i =>
            obtain ⟨x, y⟩ := rl_some hq
            exact absurd y (hx i x)
      rw [this]
    · exact Or.inl ⟨ht6 a3, by rw [c2z]; exact m4, by rw [c2z]; exact m5⟩
    · intro j hj
      rw [q1]
      show g j = some (if j = n then p else e j) ∧ B.1 (if j = n then p else e j) = some (if j = n then .inr q else ob j)
      by_cases ej : j = n
      · rw [if_pos ej, if_pos ej, ej]
        exact ⟨m7, hp⟩
      · rw [if_neg ej, if_neg ej, m6 j (by omega), hf j (by omega)]
        exact l3 j (by omega)
  · have a1 : dn = B.2.1 := a1
    have hnew : B.1 dn = none := by rw [a1]; exact hA.2.2.2 _ (Nat.le_refl _)
    have ndd : ad (r + 1) ≠ dn := by omega
    let ad' : Nat → Nat := fun i => if i = r + 1 then dn else ad i
    have adn : ad' (r + 1) = dn := if_pos rfl
    have ado : ∀ i, i ≠ r + 1 → ad' i = ad i := fun i h => if_neg h
    let B' : Sw := (fun a => if a = ad (r + 1) then (cM X ad σ B).1 a else B.1 a, M'.2)
    have bd : B'.1 (ad (r + 1)) = some (.inl (t, (cap, .inr (.inr f)))) := (if_pos rfl).trans hMd
    have bo : ∀ a, a ≠ ad (r + 1) → B'.1 a = B.1 a := fun a h => if_neg h
    have hG : Gr B B' := fun a o h => by
      by_cases q : a = ad (r + 1)
      · rw [q, bd]
        rw [q] at h
        rw [← hMd]
        exact cM_fz h
      · rw [bo a q]; exact h
    have bno : ∀ a, B'.1 a = none → B.1 a = none := fun a h => by
      cases hb : B.1 a with
      | none => rfl
      | some o => rw [hG a o hb] at h; cases h
    have bn : ∀ a, B.2.1 ≤ a → B'.1 a = none := fun a h => by
      rw [bo a (by omega)]
      exact hA.2.2.2 a h
    have hA' : AdOK ad' B' := by
      refine ⟨fun r1 r2 h1 h2 hb he => ?_, fun i hi x1 x3 => ?_, fun i hi => ?_, fun a ha => bn a (by
        have ha : M'.2.1 ≤ a := ha
        have a2 : M'.2.1 = B.2.1 + 1 := a2
        omega)⟩
      · by_cases e1 : r1 = r + 1
        · by_cases e2 : r2 = r + 1
          · omega
          · rw [e1, adn, ado r2 e2] at he
            have := hA.2.2.1 r2 h2
            omega
        · rw [ado r1 e1] at hb he
          by_cases e2 : r2 = r + 1
          · rw [e2, adn] at he
            have := hA.2.2.1 r1 h1
            omega
          · rw [ado r2 e2] at he
            exact hA.1 r1 r2 h1 h2 (bno _ hb) he
      · by_cases e1 : i = r + 1
        · omega
        · rw [ado i e1]
          have h0 := hA.2.1 i hi x1 x3
          rw [bo]
          · exact h0
          · intro q
            exact e1 (hA.1 i (r + 1) hi r114 h0 q)
      · show ad' i < M'.2.1
        have a2 : M'.2.1 = B.2.1 + 1 := a2
        by_cases e1 : i = r + 1
        · rw [e1, adn]; omega
        · rw [ado i e1]
          have := hA.2.2.1 i hi
          omega
    refine ⟨ad', B', σ', ?_, ⟨hA', hG, ado, io, rfl, rfl, qo, fun a h => ?_, ?_, ?_, a3, m8, fun i hi e1 h0 => by rw [bo _ (fun q => e1 (hA.1 i (r + 1) hi r114 h0 q))]; exact h0⟩, i2, ?_, ?_⟩
    · rw [m1]
      have : M' = cM X ad' σ' B' := by
        refine cM_of hA' rfl (fun a o h => ?_) (fun i hi hb => ?_) (fun a hb hx => ?_)
        · by_cases e1 : a = ad (r + 1)
          · rw [e1, bd] at h
            rw [e1, m10 _ (Ne.symm had) ndd, hMd]
            exact h
          · rw [bo a e1] at h
            have n1 : a ≠ ad r := fun q => by rw [q, hBr] at h; cases h
            have n2 : a ≠ dn := fun q => by rw [q, hnew] at h; cases h
            rw [m10 a n1 n2]
            exact cM_fz h
        · by_cases e1 : i = r
          · rw [e1, ado r (by omega), m2, hobj ad' adn]
          by_cases e2 : i = r + 1
          · rw [e2, adn, m3, harr]
          rw [ado i e2] at hb ⊢
          have hb0 := bno _ hb
          have n1 : ad i ≠ ad r := fun q => e1 (hA.1 i r hi (by omega) hb0 q)
          have n2 : ad i ≠ dn := by
            have := hA.2.2.1 i hi
            omega
          rw [m10 _ n1 n2, cM_rl hA hi hb0, cB_ot hrz ado io rfl rfl qo hi e1 e2]
        · have n1 : a ≠ ad r := fun q => hx r (by omega) (by rw [ado r (by omega), q])
          have n2 : a ≠ dn := fun q => hx (r + 1) r114 (by rw [adn, q])
          have n3 : a ≠ ad (r + 1) := fun q => by rw [q, bd] at hb; cases hb
          rw [m10 a n1 n2, cM_1, bno a hb]
          cases hq : rl ad a with
          | none => rfl
          | some i =>
            obtain ⟨x, y⟩ := rl_some hq
            have e2 : i ≠ r + 1 := fun q => n3 (by rw [← y, q])
            exact absurd ((ado i e2).trans y) (hx i x)
      rw [this]
    · rcases h with h | ⟨i, hi, h⟩
      · by_cases e1 : a = ad (r + 1)
        · exact Or.inl (Or.inr ⟨r + 1, r114, e1.symm⟩)
        · rw [bo a e1] at h
          exact Or.inl (Or.inl h)
      · by_cases e1 : i = r + 1
        · rw [e1, adn] at h
          exact Or.inr (by omega)
        · rw [ado i e1] at h
          exact Or.inl (Or.inr ⟨i, hi, h⟩)
    · show B.2.1 ≤ M'.2.1
      have a2 : M'.2.1 = B.2.1 + 1 := a2
      omega
    · show M'.2.1 ≤ B.2.1 + 1
      have a2 : M'.2.1 = B.2.1 + 1 := a2
      omega
    · refine Or.inl ⟨?_, by rw [c2z]; exact m4, by rw [c2z]; exact m5⟩
      rw [adn]
      exact bn dn (by omega)
    · intro j hj
      rw [q1]
      show g j = some (if j = n then p else e j) ∧ B'.1 (if j = n then p else e j) = some (if j = n then .inr q else ob j)
      by_cases ej : j = n
      · rw [if_pos ej, if_pos ej, ej]
        exact ⟨m7, hG _ _ hp⟩
      · rw [if_neg ej, if_neg ej, m6 j (by omega), hf j (by omega)]
        exact ⟨(l3 j (by omega)).1, hG _ _ (l3 j (by omega)).2⟩
