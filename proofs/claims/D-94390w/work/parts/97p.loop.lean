set_option maxRecDepth 100000
/-! the telling: one after the other -/
variable {X X' X2 : Nat → Option Ob} {ad : Nat → Nat} {B B' B2 : Sw} {A A' : Av} {σ σ' σ2 : Cs} {τ τ' τ2 : Tw} {F : Nat} {c pl : Nat → Nat} {last j : Nat}
variable {X0 : Nat → Option Ob} {B0 : Sw} {σ0 : Cs} {τ0 : Tw} {u : Nat} {g : Nat → Nat} {ob : Nat → Ob} {D : Dn}
theorem tell_CT (hF : 100000 ≤ F) (h : TI c pl last ad X0 B0 σ0 τ0 X B σ τ j) : TOK F c pl last ad X0 B0 σ0 τ0 j (f_X2_tell F (ad 6) (cM X ad σ B)) (t_X9_tellOne F τ) := by
  have h0 := h
  obtain ⟨g, ob, D, m, l, hT, -⟩ := h0
  have hP := hT.p
  by_cases e16 : c j = 16
  · rw [one_T (q := 0) hP e16 (by decide), show wtL.getD 0 0 = 0 from rfl]
    unfold t_X9_tellOne_j26
    rw [if_pos rfl]
    exact (house_CT hF h e16).b
  by_cases e17 : c j = 17
  · rw [one_T (q := 1) hP e17 (by decide), show wtL.getD 1 0 = 1 from rfl]
    unfold t_X9_tellOne_j26
    rw [if_neg (by decide), if_pos rfl]
    exact (office_CT hF h e17).b
  by_cases e18 : c j = 18
  · rw [one_T (q := 2) hP e18 (by decide), show wtL.getD 2 0 = 2 from rfl]
    unfold t_X9_tellOne_j26
    rw [if_neg (by decide), if_neg (by decide), if_pos rfl]
    exact (in_CT hF h e18).b
  by_cases e19 : c j = 19
  · rw [one_T (q := 3) hP e19 (by decide), show wtL.getD 3 0 = 3 from rfl]
    unfold t_X9_tellOne_j26
    rw [if_neg (by decide), if_neg (by decide), if_neg (by decide), if_pos rfl]
    exact (stair_CT hF h e19).b
  by_cases e21 : c j = 21
  · rw [one_T (q := 5) hP e21 (by decide), show wtL.getD 5 0 = 5 from rfl]
    unfold t_X9_tellOne_j26
    rw [if_neg (by decide), if_neg (by decide), if_neg (by decide), if_neg (by decide), if_pos rfl]
    exact (quay_CT hF h e21).b
  by_cases e22 : c j = 22
  · rw [one_T (q := 6) hP e22 (by decide), show wtL.getD 6 0 = 6 from rfl]
    unfold t_X9_tellOne_j26
    rw [if_neg (by decide), if_neg (by decide), if_neg (by decide), if_neg (by decide), if_neg (by decide), if_pos rfl]
    exact (wood_CT hF h e22).b
  by_cases e23 : c j = 23
  · rw [one_T (q := 7) hP e23 (by decide), show wtL.getD 7 0 = 7 from rfl]
    unfold t_X9_tellOne_j26
    rw [if_neg (by decide), if_neg (by decide), if_neg (by decide), if_neg (by decide), if_neg (by decide), if_neg (by decide), if_pos rfl]
    exact (number_CT (z := 6) (hi := 9) h (Or.inl ⟨e23, rfl, rfl, rfl, rfl⟩)).b
  by_cases e24 : c j = 24
  · rw [one_T (q := 8) hP e24 (by decide), show wtL.getD 8 0 = 9 from rfl]
    unfold t_X9_tellOne_j26
    rw [if_neg (by decide), if_neg (by decide), if_neg (by decide), if_neg (by decide), if_neg (by decide), if_neg (by decide), if_neg (by decide), if_pos rfl]
    exact (number_CT (z := 7) (hi := 99) h (Or.inr ⟨e24, rfl, rfl, rfl, rfl⟩)).b
  by_cases e25 : c j = 25
  · rw [one_T (q := 9) hP e25 (by decide), show wtL.getD 9 0 = 30 from rfl]
    unfold t_X9_tellOne_j26
    rw [if_neg (by decide), if_neg (by decide), if_neg (by decide), if_neg (by decide), if_neg (by decide), if_neg (by decide), if_neg (by decide), if_neg (by decide), if_pos rfl]
    exact (law_CT (w := 0) hF h (by decide) e25 (by decide)).b
  by_cases e26 : c j = 26
  · rw [one_T (q := 10) hP e26 (by decide), show wtL.getD 10 0 = 31 from rfl]
    unfold t_X9_tellOne_j26
    rw [if_neg (by decide), if_neg (by decide), if_neg (by decide), if_neg (by decide), if_neg (by decide), if_neg (by decide), if_neg (by decide), if_neg (by decide), if_neg (by decide), if_pos rfl]
    exact (law_CT (w := 1) hF h (by decide) e26 (by decide)).b
  by_cases e27 : c j = 27
  · rw [one_T (q := 11) hP e27 (by decide), show wtL.getD 11 0 = 21 from rfl]
    unfold t_X9_tellOne_j26
    rw [if_neg (by decide), if_neg (by decide), if_neg (by decide), if_neg (by decide), if_neg (by decide), if_neg (by decide), if_neg (by decide), if_neg (by decide), if_neg (by decide), if_neg (by decide), if_pos rfl]
    exact (law_CT (w := 2) hF h (by decide) e27 rfl).b
  by_cases e28 : c j = 28
  · rw [one_T (q := 12) hP e28 (by decide), show wtL.getD 12 0 = 32 from rfl]
    unfold t_X9_tellOne_j26
    rw [if_neg (by decide), if_neg (by decide), if_neg (by decide), if_neg (by decide), if_neg (by decide), if_neg (by decide), if_neg (by decide), if_neg (by decide), if_neg (by decide), if_neg (by decide), if_neg (by decide), if_pos rfl]
    exact (rule_CT (z := 8) (base := 190) (i := 3) hF h (Or.inl ⟨e28, rfl, rfl, rfl⟩) rfl rfl).b
  by_cases e29 : c j = 29
  · rw [one_T (q := 13) hP e29 (by decide), show wtL.getD 13 0 = 33 from rfl]
    unfold t_X9_tellOne_j26
    rw [if_neg (by decide), if_neg (by decide), if_neg (by decide), if_neg (by decide), if_neg (by decide), if_neg (by decide), if_neg (by decide), if_neg (by decide), if_neg (by decide), if_neg (by decide), if_neg (by decide), if_neg (by decide), if_pos rfl]
    exact (rule_CT (z := 9) (base := 200) (i := 4) hF h (Or.inr ⟨e29, rfl, rfl, rfl⟩) rfl rfl).b
  exact other_CT h (by omega)
theorem TI.go (h : TI c pl last ad X0 B0 σ0 τ0 X B σ τ j) (h5 : AT c pl last ad X0 B0 σ0 τ0 (40 + 24 * j) X B (csI σ 31 (Int32.ofNat (j + 1))) (tsI τ 7 (Int32.ofNat (j + 1))) (j + 1)) : TI c pl last ad X0 B0 σ0 τ0 X B (csI σ 31 (Int32.ofNat (j + 1))) (tsI τ 7 (Int32.ofNat (j + 1))) (j + 1) := by
  obtain ⟨g, ob, D, m, l, hT, h130, hW, hC, hN, hD, ⟨h8, hm⟩, h11, hl⟩ := h
  exact ⟨g, ob, D, m, l, h5.le (by omega), h130, hW, hC, hN.go, fun q => ⟨(hD q.go).1.of rfl, (hD q.go).2⟩, ⟨h8, by omega⟩, h11, by omega⟩
/-- the reading's end: nothing noted, or what was told fails on both sides -/
def RED (c pl : Nat → Nat) (last : Nat) (ad : Nat → Nat) (X0 : Nat → Option Ob) (B0 : Sw) (σ0 : Cs) (τ0 : Tw) (rC : Option ((Nat ⊕ Nat) × Sw)) (rT : Option (Int32 × Tw)) : Prop := (∃ t X' B' σ' τ' j', ad 130 = t + 1 ∧ rC = some (.inl t, cM X' ad σ' B') ∧ rT = some (1, τ') ∧ TI c pl last ad X0 B0 σ0 τ0 X' B' σ' τ' j' ∧ CLN σ' τ') ∨ (∃ e X' B' σ' τ' k p, rC = some (.inr e, cM X' ad σ' B') ∧ rT = some (1, τ') ∧ B'.1 e = some (fltO k p) ∧ τ'.1 10 = k ∧ τ'.1 11 = Int32.ofNat p ∧ k ≠ 0 ∧ MF ad X0 B0 X' B' 9800 ∧ RF σ0 σ' ∧ TX τ0 τ') ∨ TNO ad X0 B0 σ0 τ0 9800 rC rT
theorem read_loop (hF : 100000 ≤ F) : ∀ (k f g : Nat) (X : Nat → Option Ob) (B : Sw) (σ : Cs) (τ : Tw) (j : Nat), last - j < k → k ≤ f → k ≤ g → TI c pl last ad X0 B0 σ0 τ0 X B σ τ j → RED c pl last ad X0 B0 σ0 τ0 (f_X2_read_L31 F (ad 6) f (cM X ad σ B)) (t_X9_parses_L10 F g τ) := by
  intro k
  induction k with
  | zero => intro f g X B σ τ j hk; exact absurd hk (Nat.not_lt_zero _)
  | succ k ih =>
    intro f g X B σ τ j hk hf hg h
    obtain ⟨f, rfl⟩ : ∃ f', f = f' + 1 := ⟨f - 1, by omega⟩
    obtain ⟨g, rfl⟩ : ∃ g', g = g' + 1 := ⟨g - 1, by omega⟩
    have h0 := h
    obtain ⟨gg, ob, D, m, l, hT, h130, hW, hC, hN, hD, ⟨h8, hm⟩, h11, hl⟩ := h0
    have hA := hT.a
    have hP := hT.p
    have hj := hP.1.1
    have hjl := hP.2.2.2
    have hcl := (hP.1.2.1 j hjl).1.1
    have hs : sT (c j) = 4 ↔ c j = 2 := by
      have : ∀ x, x < 42 → (sT x = 4 ↔ x = 2) := by decide
      exact this _ hcl
    have is := is_CC (X := X) (F := F) hA hP (q := 2) (by decide)
    rw [show kT 2 = 0 from rfl] at is
    show RED c pl last ad X0 B0 σ0 τ0 (f_X2_read_L31_b F (ad 6) (f_X2_read_L31 F (ad 6) f) (cM X ad σ B)) (t_X9_parses_L10_b F (t_X9_parses_L10 F g) τ)
    unfold f_X2_read_L31_b t_X9_parses_L10_b
    rw [oc6 hA, Option.bind_some, is, Option.bind_some, sort_T hP, Option.bind_some]
    by_cases e : c j = 2
    · rw [if_pos e, if_neg (show ¬ (1 : Int32) = 0 by decide), if_pos (hs.2 e), o6_3 hA, Option.bind_some]
      rcases hT.w with hc | ⟨i, k, d1, d2, d3, d4, d5, d6⟩
      · rw [if_pos hc.1, o6_5 hA σ h130, Option.bind_some]
        exact Or.inl ⟨_, X, B, σ, τ, j, h130, rfl, rfl, h, hc⟩
      · have hno : ¬ σ.1 33 = 0 := by rw [d3]; exact d2
        have hA' : AdOK ad (ovl B [.inr (10, dfX10)] 8) := ov_ad hA
        have fx := i_X10 (F := F) (M := cM X ad σ B) (k := k) (p := Int32.ofNat (pl i))
        rw [if_neg hno, nmE, ov_new, ov_cM, o6_3 hA', Option.bind_some, o6_4 hA', Option.bind_some, d3, d5, ← ov_cM, fx, Option.bind_some, ov_cM]
        have ho : oc (cM X ad σ (ovl B [fltO k (pl i)] 8)) B.2.1 10 = some () := oc_flt hA
        refine Or.inr (Or.inl ⟨B.2.1, X, ovl B [fltO k (pl i)] 8, σ, τ, k, pl i, ?_, rfl, ov_1, d4, d6, d2, (hT.1.tr (MF.ov hA (by decide))).le (by omega), hT.2.2.1, hT.2.2.2.1⟩)
        show Option.bind (oc (cM X ad σ (ovl B [fltO k (pl i)] 8)) B.2.1 10) _ = _
        rw [ho]
        rfl
    · rw [if_neg e, if_pos rfl, if_neg (fun z => e (hs.1 z)), Option.bind_some]
      rcases tell_CT hF h with ⟨X1, B1, σ1, τ1, j1, a1, a2, a3, a4⟩ | ⟨x, X2, B2, σ2, τ2, k, p, a1, a2, a3⟩
      · have a4' := a4
        obtain ⟨gg, ob, D, m, l, hT1, -⟩ := a4'
        have hj1 := hT1.p.2.2.2
        have sg := sign_TT (F := F) hT1.p (q := 4) (by decide)
        rw [show wT 4 = 59 from rfl] at sg
        rw [a1, a2, Option.bind_some, if_neg (show ¬ (1 : Int32) = 0 by decide), sg, Option.bind_some]
        unfold SEM
        rw [oc6 hT1.a, Option.bind_some]
        rcases hT1.must (F := F) (q := 4) (by decide) (by decide) (by decide) with ⟨b1, b2, b3, b4, b5⟩ | ⟨b1, x, X2, B2, σ2, τ2, k, p, c1, c2, c3⟩ | ⟨b1, x, X2, B2, σ2, τ2, k, p, c1, c2, c3⟩
        · have b3' : f_X2_must F (ad 6) 59 (cM X1 ad σ1 B1) = _ := b3
          rw [if_pos b1, if_neg (show ¬ (1 : Int32) = 0 by decide), b3', th_l, th_l, b4, Option.bind_some, if_neg (show ¬ (1 : Int32) = 0 by decide)]
          exact ih f g X1 B1 _ _ (j1 + 1) (by omega) (by omega) (by omega) (a4.go b5)
        · have c1' : f_X2_must F (ad 6) 59 (cM X1 ad σ1 B1) = _ := c1
          rw [if_pos b1, if_neg (show ¬ (1 : Int32) = 0 by decide), c1', th_r, th_r, c2, Option.bind_some, if_pos rfl]
          exact Or.inr (Or.inr (TNO.le ⟨x, X2, B2, σ2, τ2, k, p, rfl, rfl, c3⟩ (by omega)))
        · have c1' : f_X2_must F (ad 6) 59 (cM X1 ad σ1 B1) = _ := c1
          rw [if_neg b1, if_pos rfl, wrong_T hT1.p, Option.bind_some, if_pos (Or.inl rfl), c1', th_r, th_r, c2]
          exact Or.inr (Or.inr (TNO.le ⟨x, X2, B2, σ2, τ2, k, p, rfl, rfl, c3⟩ (by omega)))
      · rw [a1, th_r, a2, Option.bind_some, if_pos rfl]
        exact Or.inr (Or.inr ⟨x, X2, B2, σ2, τ2, k, p, rfl, rfl, a3⟩)
