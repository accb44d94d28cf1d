set_option maxRecDepth 100000
/-! conditions, read: all rows -/
variable {X X' X2 : Nat → Option Ob} {ad : Nat → Nat} {B B' B2 : Sw} {A A' : Av} {σ σ' σ2 : Cs} {τ τ' τ2 : Tw} {F : Nat} {c pl : Nat → Nat} {last j : Nat}
/-- a condition was read on both sides -/
def COK (c pl : Nat → Nat) (last : Nat) (ad : Nat → Nat) (X0 : Nat → Option Ob) (B0 : Sw) (σ0 : Cs) (τ0 : Tw) (m0 l0 jm u j : Nat) (rC : Option ((Nat ⊕ Nat) × Sw)) (rT : Option (Int32 × Tw)) : Prop := ∃ (t : Nat) (q : Nat × List Value) (X' : Nat → Option Ob) (B' : Sw) (σ' : Cs) (τ' : Tw) (j' m' : Nat) (ns : List Nat), rC = some (.inl t, cM X' ad σ' B') ∧ rT = some (1, τ') ∧ j + jm ≤ j' ∧ PK c pl last j' σ' τ' ∧ σ'.1 32 = 0 ∧ τ'.2.1 8 1 = Int32.ofNat m' ∧ m0 ≤ m' ∧ m' ≤ j' ∧ τ'.2.1 11 1 = Int32.ofNat (l0 + ns.sum) ∧ 3 * (l0 + ns.sum) ≤ j' ∧ AnyU (VW τ') B' t l0 ns m' ∧ B'.1 t = some (.inr q) ∧ MF ad X0 B0 X' B' (u + 20 * (j' - j)) ∧ EF σ0 σ' ∧ CX m0 l0 τ0 τ'
theorem cond_loop (hF : 100000 ≤ F) {X0 : Nat → Option Ob} {B0 : Sw} {σ0 : Cs} {τ0 : Tw} {m0 l0 a : Nat} : ∀ (k f g : Nat) (X : Nat → Option Ob) (B : Sw) (σ : Cs) (τ : Tw) (j n m u : Nat) (ns : List Nat) (e : Nat → Nat), last - j < k → k ≤ f → last - j < g → KB B → MF ad X0 B0 X B u → EF σ0 σ → CX m0 l0 τ0 τ → LX ad B0.2.1 X B a (n + 1) e → ns.length = n + 1 → 4 * (n + 1) ≤ j + 1 → 3 * (l0 + ns.sum) ≤ j → PK c pl last j σ τ → c j ≠ 32 → σ.1 32 = 0 → τ.2.1 8 1 = Int32.ofNat m → m0 ≤ m → m ≤ j → τ.2.1 11 1 = Int32.ofNat (l0 + ns.sum) → RowsU (VW τ) B e m 0 l0 ns → COK c pl last ad X0 B0 σ0 τ0 m0 l0 0 (u + 1) j (f_X2_condition_L17 F (ad 6) a f (cM X ad σ B)) (RST F (t_X9_cond_L14 F g) (Int32.ofNat n) τ) ∨ CNO last ad X0 B0 σ0 τ0 (u + 1 + 20 * (last + 1 - j)) m0 l0 (f_X2_condition_L17 F (ad 6) a f (cM X ad σ B)) (RST F (t_X9_cond_L14 F g) (Int32.ofNat n) τ) := by
  intro k
  induction k with
  | zero => intro f g X B σ τ j n m u ns e hk; exact absurd hk (Nat.not_lt_zero _)
  | succ k ih =>
    intro f g X B σ τ j n m u ns e hk hf hg hK hM hE hC hL hns hn4 hl3 hP h32c h32 h8 hm0 hmj h11 hR
    obtain ⟨f, rfl⟩ : ∃ f', f = f' + 1 := ⟨f - 1, by omega⟩
    obtain ⟨g, rfl⟩ : ∃ g', g = g' + 1 := ⟨g - 1, by omega⟩
    have hj := hP.1.1
    have hjl := hP.2.2.2
    have hA := hM.1
    show COK c pl last ad X0 B0 σ0 τ0 m0 l0 0 (u + 1) j (f_X2_condition_L17_b F (ad 6) a (f_X2_condition_L17 F (ad 6) a f) (cM X ad σ B)) (RST F (t_X9_cond_L14 F (g + 1)) (Int32.ofNat n) τ) ∨ CNO last ad X0 B0 σ0 τ0 (u + 1 + 20 * (last + 1 - j)) m0 l0 (f_X2_condition_L17_b F (ad 6) a (f_X2_condition_L17 F (ad 6) a f) (cM X ad σ B)) (RST F (t_X9_cond_L14 F (g + 1)) (Int32.ofNat n) τ)
    by_cases hq : c j = 31
    · have is := is_CC (X := X) (F := F) hA hP (q := 31) (by decide)
      rw [show kT 31 = 215 from rfl, if_pos hq] at is
      rw [rst_or hP hq, show Int32.ofNat n + 1 = Int32.ofNat (n + 1) from n_lp 1 n]
      unfold f_X2_condition_L17_b
      rw [oc6 hA, Option.bind_some, is, Option.bind_some, if_neg (show ¬ (1 : Int32) = 0 by decide), Option.bind_some]
      have hC1 : CX m0 l0 τ0 (tsI τ 7 (Int32.ofNat (j + 1))) := hC.tr (ET.i7 (m := m0) (w := 0)).x.cc (Nat.le_refl _) (Nat.le_refl _)
      rcases go_CT (F := F) (X := X) hA hP (by omega) (by omega) with ⟨k1, k2, k3⟩ | ⟨k2, k3⟩
      · have hP1 := hP.go k1
        rw [k2, th_l, k3, Option.bind_some, if_neg (show ¬ (1 : Int32) = 0 by decide), oc6 hA, Option.bind_some]
        rcases allR_CT (X := X) (v := Int32.ofNat (n + 1)) (g := g) hF hA hK hP1 ((csI_n _ _ _ _ (by decide)).trans h32) (m := m) (l := l0 + ns.sum) h8 h11 (by omega) (by omega) (by omega) with ⟨t, q, X2, B2, σ2, τ2, j2, n2, m2, g2, d1, d2, d3, d4, d5, d6, d7, d8, d9, d10, d11, d12, d13, d14, d15, d16, d17⟩ | hN
        · have hj2 := d6.2.2.2
          have hM2 := hM.tr d15
          have hL2 : LX ad B0.2.1 X2 B2 a (n + 1) e := hL.mf d15
          obtain ⟨X3, B3, c1, c2, c3, c4⟩ := hL2.add (F := F) (σ := σ2) (hK.mf d15) hM2 d14 (by omega)
          have hag : AG m (l0 + ns.sum) (VW τ) (VW τ2) := d17.ag
          rw [d1, th_l, d2, hL2.oc, Option.bind_some, c1, Option.bind_some]
          have hs : (ns ++ [n2]).sum = ns.sum + n2 := by
            rw [List.sum_append, List.sum_cons, List.sum_nil, Nat.add_zero]
          have hR3 : RowsU (VW τ2) B3 (fun i => if i = n + 1 then t else e i) m2 0 l0 (ns ++ [n2]) := by
            refine RowsU.snoc ?_ ?_
            · refine RowsU.cg (e := e) (fun q _ x => if_neg (by omega)) ?_
              exact (((hR.ag hag (Nat.le_refl _)).up d9).gr d15.2.1).gr (gr_eq c3)
            · rw [Nat.zero_add, hns, if_pos rfl]
              exact d13.gr (gr_eq c3)
          rcases ih f g2 X3 B3 σ2 τ2 j2 (n + 1) m2 _ (ns ++ [n2]) _ (by omega) (by omega) (by omega) ((hK.mf d15).gr (gr_eq c3) (c2.2.2.2.2.2.2.2.trans hM2.2.2.2.2.2.2.2.symm)) c2 (hE.tr (EF.i31.tr d16)) (hC1.tr d17 (by omega) (by omega)) c4 (by rw [List.length_append, hns]; rfl) (by omega) (by omega) d6 d5 d7 d8 (by omega) (by omega) (by rw [d11, hs]; congr 1; omega) hR3 with ⟨t4, q4, X4, B4, σ4, τ4, j4, m4, ns4, e1, e2, e3, e4, e5, e6, e7, e8, e9, e10, e11, e12, e13, e14, e15⟩ | hN
          · have hj4 := e4.2.2.2
            exact Or.inl ⟨t4, q4, X4, B4, σ4, τ4, j4, m4, ns4, e1, e2, by omega, e4, e5, e6, e7, e8, e9, e10, e11, e12, e13.le (by omega), e14, e15⟩
          · exact Or.inr (hN.le (by omega))
        · obtain ⟨e, X3, B3, σ4, τ6, kk, p, f1, f2, f3, f4, f5, f6, f7, f8, f9⟩ := hN
          rw [f1, th_r, f2]
          exact Or.inr ⟨e, X3, B3, σ4, τ6, kk, p, rfl, rfl, f3, f4, f5, f6, (hM.tr f7).le (by omega), hE.tr (EF.i31.tr f8), hC1.tr f9 (by omega) (by omega)⟩
      · rw [k2, th_r, k3, Option.bind_some, if_pos rfl]
        exact Or.inr ((CNO.pre hM hE hC (Nat.le_refl _) (Nat.le_refl _) (FL.at (R := Nat) (X := X) (m := m0) (w := 0) (k := 2) hA hP (by decide)).cc).le (by omega))
    · obtain ⟨B2, f1, f2, f3, f4, f5⟩ := hL.fz (σ := σ) hK hM (by omega)
      have hA2 := f2.1
      have is := is_CC (X := X) (F := F) hA2 hP (q := 31) (by decide)
      rw [show kT 31 = 215 from rfl, if_neg hq] at is
      rw [f1, rst_end hP h32c hq]
      unfold f_X2_condition_L17_b
      rw [oc6 hA2, Option.bind_some, is, Option.bind_some, if_pos rfl, many_C (Or.inl rfl)]
      refine Or.inl ⟨B2.2.1, _, X, _, σ, τ, j, m, ns, rfl, rfl, Nat.le_refl _, hP, h32, h8, hm0, hmj, h11, hl3, ⟨a, e, ov_1, ?_, by omega, (hR.gr f3).gr (ov_gr hA2)⟩, ov_1, (f2.tr (MF.ov hA2 (by decide))).le (by omega), hE, hC⟩
      rw [hns]
      exact f4.gr (ov_gr hA2)
theorem cond_CT (hF : 100000 ≤ F) (hA : AdOK ad B) (hK : KB B) (hP : PK c pl last j σ τ) (h32 : σ.1 32 = 0) {m l : Nat} (h8 : τ.2.1 8 1 = Int32.ofNat m) (h11 : τ.2.1 11 1 = Int32.ofNat l) (hm : m ≤ j) (hl : 3 * l ≤ j) : COK c pl last ad X B σ (tsI τ 33 (Int32.ofNat l)) m l 3 0 j (f_X2_condition F (ad 6) (cM X ad σ B)) (t_X9_cond F τ) ∨ CNO last ad X B σ (tsI τ 33 (Int32.ofNat l)) (20 * (last + 1 - j)) m l (f_X2_condition F (ad 6) (cM X ad σ B)) (t_X9_cond F τ) := by
  have hj := hP.1.1
  have hjl := hP.2.2.2
  obtain ⟨hM1, hL1⟩ := LX.new (X := X) hA
  have hA1 : AdOK ad (nB B 3) := hM1.1
  have hK1 : KB (nB B 3) := hK.mf hM1
  have i2 : taI τ 11 2 1 = some (τ.2.1 11 1) := taI_n τ 11 2 1 (by decide) (by decide)
  obtain ⟨τ1, e1⟩ : ∃ τ1, τ1 = tsI τ 33 (Int32.ofNat l) := ⟨_, rfl⟩
  have hP1 : PK c pl last j σ τ1 := by
    rw [e1]
    exact ⟨hP.1.of rfl rfl rfl rfl rfl rfl rfl, hP.2.1, (tsI_n _ _ _ _ (by decide)).trans hP.2.2.1, hjl⟩
  have h81 : τ1.2.1 8 1 = Int32.ofNat m := by rw [e1]; exact h8
  have h111 : τ1.2.1 11 1 = Int32.ofNat l := by rw [e1]; exact h11
  unfold f_X2_condition t_X9_cond
  rw [i2, Option.bind_some, h11, ← e1, nmE, nmE, new_J2 hA, Option.bind_some, oc6 hA1, Option.bind_some]
  rcases allR_CT (X := mX X B.2.1 (zE (B.2.2.2 0))) (v := Int32.ofNat 0) (g := F) hF hA1 hK1 hP1 h32 h81 h111 hm hl (by omega) with ⟨t, q, X2, B2, σ2, τ2, j2, n2, m2, g2, d1, d2, d3, d4, d5, d6, d7, d8, d9, d10, d11, d12, d13, d14, d15, d16, d17⟩ | hN
  · have hj2 := d6.2.2.2
    have hM2 := hM1.tr d15
    have hL2 := hL1.mf d15
    obtain ⟨X3, B3, c1, c2, c3, c4⟩ := hL2.add (F := F) (σ := σ2) (hK1.mf d15) hM2 d14 (by omega)
    simp only [cM_2]
    have d2' : t_X9_cond_L14 F F 0 1 τ1 = RST F (t_X9_cond_L14 F g2) (Int32.ofNat 0) τ2 := d2
    rw [d1, th_l, d2', hL2.oc, Option.bind_some, c1, Option.bind_some]
    rcases cond_loop (X0 := X) (σ0 := σ) (τ0 := τ1) (m0 := m) (l0 := l) (a := B.2.1) (c := c) (pl := pl) (last := last) hF (last - j2 + 1) F g2 X3 B3 σ2 τ2 j2 0 m2 _ [n2] _ (by omega) (by omega) (by omega) ((hK1.mf d15).gr (gr_eq c3) (c2.2.2.2.2.2.2.2.trans hM2.2.2.2.2.2.2.2.symm)) c2 d16 d17 c4 rfl (by omega) (by rw [List.sum_cons, List.sum_nil]; exact d12) d6 d5 d7 d8 d9 d10 (by rw [List.sum_cons, List.sum_nil]; exact d11) ⟨d13.gr (gr_eq c3), trivial⟩ with ⟨t4, q4, X4, B4, σ4, τ4, j4, m4, ns4, e1, e2, e3, e4, e5, e6, e7, e8, e9, e10, e11, e12, e13, e14, e15⟩ | hN
    · have hj4 := e4.2.2.2
      exact Or.inl ⟨t4, q4, X4, B4, σ4, τ4, j4, m4, ns4, e1, e2, by omega, e4, e5, e6, e7, e8, e9, e10, e11, e12, e13.le (by omega), e14, e15⟩
    · exact Or.inr (hN.le (by omega))
  · obtain ⟨e, X3, B3, σ4, τ6, kk, p, f1, f2, f3, f4, f5, f6, f7, f8, f9⟩ := hN
    have f2' : t_X9_cond_L14 F F 0 1 τ1 = _ := f2
    rw [f1, th_r, f2']
    exact Or.inr ⟨e, X3, B3, σ4, τ6, kk, p, rfl, rfl, f3, f4, f5, f6, (hM1.tr f7).le (by omega), f8, f9⟩
