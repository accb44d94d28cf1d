set_option maxRecDepth 100000
/-! another state becomes the one that is now -/
variable {X : Nat → Option Ob} {ad ad' : Nat → Nat} {B B' : Sw} {A A' : Av} {σ σ' : Cs} {τ : Tw} {F : Nat}
/-- the addresses with other ones for the state now -/
def nwA (ad nn : Nat → Nat) : Nat → Nat := fun r => if 46 ≤ r ∧ r < 54 then nn r else ad r
theorem nwA_i {nn : Nat → Nat} {r : Nat} (h : 46 ≤ r ∧ r < 54) : nwA ad nn r = nn r := if_pos h
theorem nwA_o {nn : Nat → Nat} {r : Nat} (h : r < 46 ∨ 54 ≤ r) : nwA ad nn r = ad r := if_neg (by omega)
theorem cK_sw {r : Nat} (h1 : r ≠ 51) (h3 : r ≠ 53) : cK σ' r = cK σ r := cK_3 σ' σ h1 h3
/-- the roles outside -/
theorem cB_sw {nn : Nat → Nat} (h1 : ∀ i, i ≠ 43 → (i < 50 ∨ 64 ≤ i) → σ'.1 i = σ.1 i) (h2 : ∀ r, r < 46 ∨ 54 ≤ r → σ'.2.1 r = σ.2.1 r) (h3 : σ'.2.2.1 = σ.2.2.1) (h4 : ∀ r, r < 46 ∨ 54 ≤ r → σ'.2.2.2 r = σ.2.2.2 r) {i : Nat} (hl : i < 114) (n0 : i ≠ 0) (hi : i < 46 ∨ 54 ≤ i) : cB (nwA ad nn) σ' i = cB ad σ i := by
  have hk : cK σ' i = cK σ i := cK_sw (by omega) (by omega)
  by_cases h0 : (cK σ i).1 = 0
  · rw [cB_o h0, cB_o (by rw [hk]; exact h0)]
    have g : cO (nwA ad nn) σ' i = cO ad σ i := by
      rcases kind0 hl h0 with e | e | e | e | e | e | e | e | e
      · omega
      · subst e
        unfold cO
        rw [nwA_o (show 2 < 46 ∨ 54 ≤ 2 by decide), nwA_o (show 3 < 46 ∨ 54 ≤ 3 by decide), nwA_o (show 4 < 46 ∨ 54 ≤ 4 by decide), nwA_o (show 5 < 46 ∨ 54 ≤ 5 by decide), h1 21 (by omega) (by omega), h1 25 (by omega) (by omega)]
        rfl
      · subst e
        unfold cO
        rw [nwA_o (show 1 < 46 ∨ 54 ≤ 1 by decide), nwA_o (show 130 < 46 ∨ 54 ≤ 130 by decide), nwA_o (show 7 < 46 ∨ 54 ≤ 7 by decide), nwA_o (show 8 < 46 ∨ 54 ≤ 8 by decide), h1 31 (by omega) (by omega), h1 32 (by omega) (by omega), h1 33 (by omega) (by omega), h1 34 (by omega) (by omega), h1 38 (by omega) (by omega)]
        rfl
      · subst e
        unfold cO
        rw [nwA_o (show 11 < 46 ∨ 54 ≤ 11 by decide), h1 41 (by omega) (by omega)]
        rfl
      · subst e
        unfold cO
        rw [nwA_o (show 13 < 46 ∨ 54 ≤ 13 by decide), nwA_o (show 14 < 46 ∨ 54 ≤ 14 by decide)]
        rfl
      · omega
      · omega
      · omega
      · rw [cO_54 e, cO_54 e, nwA_o (by omega), nwA_o (by omega)]
    rw [g]
  · unfold cB
    rw [hk, if_neg h0, if_neg h0, h2 i hi, h3, h4 i hi]
theorem cB_nn {nn : Nat → Nat} {r : Nat} (h : 46 ≤ r ∧ r < 54) : cB (nwA ad nn) σ r = cB nn σ r := by
  have : r = 46 ∨ r = 47 ∨ r = 48 ∨ r = 49 ∨ r = 50 ∨ r = 51 ∨ r = 52 ∨ r = 53 := by omega
  rcases this with rfl | rfl | rfl | rfl | rfl | rfl | rfl | rfl <;> rfl
theorem cM_some (hA : AdOK ad B) {r : Nat} (hr : r < 114) : ∃ o, (cM X ad σ B).1 (ad r) = some o := by
  cases h : B.1 (ad r) with
  | some o => exact ⟨o, cM_fz h⟩
  | none => exact ⟨_, cM_rl hA hr h⟩
theorem swap_now {nn : Nat → Nat} {fr : Nat → Prop} (hA : AdOK ad B) (hf1 : ∀ r, fr r → 46 ≤ r ∧ r < 54) (hf2 : ∀ r, 46 ≤ r → r < 54 → r ≠ 51 → r ≠ 53 → fr r) (hin : ∀ r r', fr r → 46 ≤ r' → r' < 54 → nn r = nn r' → r = r') (hc : ∀ r, fr r → B.1 (nn r) = some (cB nn σ' r)) (hz : ∀ r, 46 ≤ r → r < 54 → ¬ fr r → ∃ o, B.1 (nn r) = some o) (hnew : ∀ r, fr r → ∀ q, q < 114 → nn r ≠ ad q) (h1 : ∀ i, i ≠ 43 → (i < 50 ∨ 64 ≤ i) → σ'.1 i = σ.1 i) (h2 : ∀ r, r < 46 ∨ 54 ≤ r → σ'.2.1 r = σ.2.1 r) (h3 : σ'.2.2.1 = σ.2.2.1) (h4 : ∀ r, r < 46 ∨ 54 ≤ r → σ'.2.2.2 r = σ.2.2.2 r) : ∃ B', pf (cM X ad σ B) (ad 0) 0 4 (.ref (nn 46)) = some (cM X (nwA ad nn) σ' B') ∧ AdOK (nwA ad nn) B' ∧ (∀ a o, B.1 a = some o → (∀ r, fr r → nn r ≠ a) → B'.1 a = some o) ∧ (∀ r, fr r → B'.1 (nn r) = none) ∧ (∀ a, Own (nwA ad nn) B' a → Own ad B a) ∧ B'.2 = B.2 := by
  let B' : Sw := (fun a => @ite _ (∃ r, fr r ∧ nn r = a) (Classical.propDecidable _) none (@ite _ (∃ q, 46 ≤ q ∧ q < 54 ∧ ad q = a) (Classical.propDecidable _) ((cM X ad σ B).1 a) (B.1 a)), B.2)
  have b1 : ∀ a, (∃ r, fr r ∧ nn r = a) → B'.1 a = none := fun a h => if_pos h
  have b2 : ∀ a, (¬ ∃ r, fr r ∧ nn r = a) → (∃ q, 46 ≤ q ∧ q < 54 ∧ ad q = a) → B'.1 a = (cM X ad σ B).1 a := fun a h g => (if_neg h).trans (if_pos g)
  have b3 : ∀ a, (¬ ∃ r, fr r ∧ nn r = a) → (¬ ∃ q, 46 ≤ q ∧ q < 54 ∧ ad q = a) → B'.1 a = B.1 a := fun a h g => (if_neg h).trans (if_neg g)
  have inj0 : ∀ q q', q < 114 → q' < 114 → q ≠ 51 → q ≠ 53 → ad q = ad q' → q = q' := fun q q' a b c d e => hA.1 q q' a b (hA.2.1 q a c d) e
  have nof : ∀ q, q < 114 → ¬ ∃ r, fr r ∧ nn r = ad q := fun q hq h => by
    obtain ⟨r, h, e⟩ := h
    exact hnew r h q hq e
  have bno : ∀ q, q < 114 → B'.1 (ad q) = none → B.1 (ad q) = none ∧ ¬ (46 ≤ q ∧ q < 54) := fun q hq h => by
    by_cases g : ∃ q', 46 ≤ q' ∧ q' < 54 ∧ ad q' = ad q
    · rw [b2 _ (nof q hq) g] at h
      obtain ⟨o, ho⟩ := cM_some (X := X) (σ := σ) hA hq
      rw [ho] at h
      cases h
    · rw [b3 _ (nof q hq) g] at h
      exact ⟨h, fun z => g ⟨q, z.1, z.2, rfl⟩⟩
  have keep : ∀ a o, B.1 a = some o → (∀ r, fr r → nn r ≠ a) → B'.1 a = some o := fun a o h g => by
    have n1 : ¬ ∃ r, fr r ∧ nn r = a := fun z => by
      obtain ⟨r, x, y⟩ := z
      exact g r x y
    by_cases z : ∃ q, 46 ≤ q ∧ q < 54 ∧ ad q = a
    · rw [b2 _ n1 z]; exact cM_fz h
    · rw [b3 _ n1 z]; exact h
  have lt' : ∀ a o, B.1 a = some o → a < B.2.1 := fun a o h => hA.lt h
  have hA' : AdOK (nwA ad nn) B' := by
    refine ⟨fun r r' hr hr' hb he => ?_, fun r hr x y => ?_, fun r hr => ?_, fun a ha => ?_⟩
    · by_cases c : 46 ≤ r ∧ r < 54
      · rw [nwA_i c] at hb he
        have fr0 : fr r := by
          apply Classical.byContradiction
          intro nf
          obtain ⟨o, ho⟩ := hz r c.1 c.2 nf
          rw [keep _ o ho (fun q hq e => nf (by rw [← hin q r hq c.1 c.2 e]; exact hq))] at hb
          cases hb
        by_cases c' : 46 ≤ r' ∧ r' < 54
        · rw [nwA_i c'] at he
          exact hin r r' fr0 c'.1 c'.2 he
        · rw [nwA_o (by omega)] at he
          exact absurd he (hnew r fr0 r' hr')
      · rw [nwA_o (by omega)] at hb he
        obtain ⟨hb0, -⟩ := bno r hr hb
        by_cases c' : 46 ≤ r' ∧ r' < 54
        · rw [nwA_i c'] at he
          by_cases f' : fr r'
          · exact absurd he.symm (hnew r' f' r hr)
          · obtain ⟨o, ho⟩ := hz r' c'.1 c'.2 f'
            rw [he, ho] at hb0
            cases hb0
        · rw [nwA_o (by omega)] at he
          exact hA.1 r r' hr hr' hb0 he
    · by_cases c : 46 ≤ r ∧ r < 54
      · rw [nwA_i c]
        exact b1 _ ⟨r, hf2 r c.1 c.2 x y, rfl⟩
      · rw [nwA_o (by omega), b3 _ (nof r hr)]
        · exact hA.2.1 r hr x y
        · rintro ⟨q, q1, q2, q3⟩
          have := inj0 r q hr (by omega) x y q3.symm
          omega
    · by_cases c : 46 ≤ r ∧ r < 54
      · rw [nwA_i c]
        by_cases f : fr r
        · exact lt' _ _ (hc r f)
        · obtain ⟨o, ho⟩ := hz r c.1 c.2 f
          exact lt' _ _ ho
      · rw [nwA_o (by omega)]
        exact hA.2.2.1 r hr
    · have ha : B.2.1 ≤ a := ha
      rw [b3 a]
      · exact hA.2.2.2 a ha
      · rintro ⟨r, x, y⟩
        have := lt' _ _ (hc r x)
        omega
      · rintro ⟨q, q1, q2, q3⟩
        have := hA.2.2.1 q (by omega)
        omega
  have e0 : nwA ad nn 0 = ad 0 := nwA_o (by omega)
  have hpf : pf (cM X ad σ B) (ad 0) 0 4 (.ref (nn 46)) = some (mup (cM X ad σ B).1 (ad 0) (.inr (0, (cO ad σ 0).2.set 4 (.ref (nn 46)))), (cM X ad σ B).2) := m_pf (by rw [cM_at hA (by decide) (by decide) (by decide), cB_o rfl]; rfl) (show 4 < 20 by decide)
  refine ⟨B', ?_, hA', keep, fun r h => b1 _ ⟨r, h, rfl⟩, fun a h => ?_, rfl⟩
  · rw [hpf]
    refine congrArg some (cM_of hA' rfl (fun a o h => ?_) (fun r hr hb => ?_) (fun a hb hx => ?_))
    · have n1 : ¬ ∃ r, fr r ∧ nn r = a := fun z => by rw [b1 a z] at h; cases h
      by_cases z : ∃ q, 46 ≤ q ∧ q < 54 ∧ ad q = a
      · rw [b2 _ n1 z] at h
        obtain ⟨q, q1, q2, q3⟩ := z
        have : a ≠ ad 0 := fun e => by
          have := inj0 0 q (by omega) (by omega) (by omega) (by omega) (e.symm.trans q3.symm)
          omega
        show mup (cM X ad σ B).1 (ad 0) _ a = _
        rw [mup_ne this]
        exact h
      · rw [b3 _ n1 z] at h
        have : a ≠ ad 0 := fun e => by rw [e, hA.2.1 0 (by decide) (by decide) (by decide)] at h; cases h
        show mup (cM X ad σ B).1 (ad 0) _ a = _
        rw [mup_ne this]
        exact cM_fz h
    · by_cases r0 : r = 0
      · subst r0
        rw [e0]
        show mup (cM X ad σ B).1 (ad 0) _ (ad 0) = _
        rw [mup_eq, cB_o rfl]
        have : cO (nwA ad nn) σ' 0 = (0, (cO ad σ 0).2.set 4 (.ref (nn 46))) := by
          unfold cO
          rw [nwA_o (show 1 < 46 ∨ 54 ≤ 1 by decide), nwA_o (show 6 < 46 ∨ 54 ≤ 6 by decide), nwA_o (show 114 < 46 ∨ 54 ≤ 114 by decide), nwA_i (show 46 ≤ 46 ∧ 46 < 54 by decide), nwA_o (show 9 < 46 ∨ 54 ≤ 9 by decide), nwA_o (show 10 < 46 ∨ 54 ≤ 10 by decide), nwA_o (show 12 < 46 ∨ 54 ≤ 12 by decide), nwA_o (show 15 < 46 ∨ 54 ≤ 15 by decide), nwA_o (show 16 < 46 ∨ 54 ≤ 16 by decide), nwA_o (show 17 < 46 ∨ 54 ≤ 17 by decide), nwA_o (show 27 < 46 ∨ 54 ≤ 27 by decide), nwA_o (show 28 < 46 ∨ 54 ≤ 28 by decide), nwA_o (show 29 < 46 ∨ 54 ≤ 29 by decide), nwA_o (show 30 < 46 ∨ 54 ≤ 30 by decide), nwA_o (show 31 < 46 ∨ 54 ≤ 31 by decide), nwA_o (show 32 < 46 ∨ 54 ≤ 32 by decide), h1 2 (by omega) (by omega), h1 9 (by omega) (by omega), h1 11 (by omega) (by omega), h1 13 (by omega) (by omega)]
          rfl
        rw [this]
      by_cases c : 46 ≤ r ∧ r < 54
      · rw [nwA_i c] at hb ⊢
        have fr0 : fr r := by
          apply Classical.byContradiction
          intro nf
          obtain ⟨o, ho⟩ := hz r c.1 c.2 nf
          rw [keep _ o ho (fun q hq e => nf (by rw [← hin q r hq c.1 c.2 e]; exact hq))] at hb
          cases hb
        show mup (cM X ad σ B).1 (ad 0) _ (nn r) = _
        rw [mup_ne (hnew r fr0 0 (by decide)), cM_fz (hc r fr0), cB_nn c]
      · rw [nwA_o (by omega)] at hb ⊢
        obtain ⟨hb0, -⟩ := bno r hr hb
        have : ad r ≠ ad 0 := fun e => r0 (hA.1 r 0 hr (by omega) hb0 e)
        show mup (cM X ad σ B).1 (ad 0) _ (ad r) = _
        rw [mup_ne this, cM_rl hA hr hb0, cB_sw h1 h2 h3 h4 hr r0 (by omega)]
    · have n1 : ¬ ∃ r, fr r ∧ nn r = a := fun z => by
        obtain ⟨r, x, y⟩ := z
        have := hf1 r x
        exact hx r (by omega) (by rw [nwA_i this]; exact y)
      have n2 : ¬ ∃ q, 46 ≤ q ∧ q < 54 ∧ ad q = a := fun z => by
        have z' := z
        obtain ⟨q, q1, q2, q3⟩ := z
        obtain ⟨o, ho⟩ := cM_some (X := X) (σ := σ) hA (show q < 114 by omega)
        rw [b2 a n1 z', ← q3, ho] at hb
        cases hb
      rw [b3 a n1 n2] at hb
      have n0 : a ≠ ad 0 := fun e => hx 0 (by decide) (by rw [e0, e])
      show mup (cM X ad σ B).1 (ad 0) _ a = _
      rw [mup_ne n0, cM_1, hb]
      cases hq : rl ad a with
      | none => rfl
      | some i =>
        obtain ⟨x, y⟩ := rl_some hq
        by_cases c : 46 ≤ i ∧ i < 54
        · exact absurd ⟨i, c.1, c.2, y⟩ n2
        · exact absurd ((nwA_o (by omega)).trans y) (hx i x)
  · rcases h with h | ⟨r, hr, h⟩
    · by_cases n1 : ∃ r, fr r ∧ nn r = a
      · rw [b1 a n1] at h
        exact absurd rfl h
      · by_cases z : ∃ q, 46 ≤ q ∧ q < 54 ∧ ad q = a
        · obtain ⟨q, q1, q2, q3⟩ := z
          exact Or.inr ⟨q, by omega, q3⟩
        · rw [b3 a n1 z] at h
          exact Or.inl h
    · by_cases c : 46 ≤ r ∧ r < 54
      · rw [nwA_i c] at h
        rw [← h]
        by_cases f : fr r
        · exact Or.inl (by rw [hc r f]; exact fun z => by cases z)
        · obtain ⟨o, ho⟩ := hz r c.1 c.2 f
          exact Or.inl (by rw [ho]; exact fun z => by cases z)
      · rw [nwA_o (by omega)] at h
        exact Or.inr ⟨r, hr, h⟩
