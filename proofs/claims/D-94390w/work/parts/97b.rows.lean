set_option maxRecDepth 100000
/-! conditions, read: a row of relations -/
variable {X X' X2 : Nat → Option Ob} {ad : Nat → Nat} {B B' B2 : Sw} {A A' : Av} {σ σ' σ2 : Cs} {τ τ' τ2 : Tw} {F : Nat} {c pl : Nat → Nat} {last j : Nat}
theorem LX.oc {lo a n : Nat} {e : Nat → Nat} (h : LX ad lo X B a n e) : oc (cM X ad σ B) a 20 = some () := by
  obtain ⟨md, d, cap, f, h1, ⟨h2, -⟩, -⟩ := h
  exact m_oc ((cM_X h2).trans h1)
theorem i_X17 {M : Sw} {v : Int32} {p : Nat} (hv : v = 0 ∨ v = 1) : f_X17_init F M.2.1 v p (ovl M [.inr (17, dfX17)] 2) = some (ovl M [.inr (17, [.int v, .ref p])] 2) := by
  unfold f_X17_init f_J3_init pfZ
  rw [Option.bind_some, if_pos hv, iI rfl, Option.bind_some, iI rfl, Option.bind_some]
  rfl
theorem many_C {v : Int32} {p : Nat} (hv : v = 0 ∨ v = 1) : (nm (nw (cM X ad σ B) (.inr (17, dfX17)) 2) fun μ6 => Option.bind (f_X17_init F (cM X ad σ B).2.1 v p μ6) fun q8 => some ((.inl (cM X ad σ B).2.1 : Nat ⊕ Nat), q8)) = some (.inl B.2.1, cM X ad σ (ovl B [.inr (17, [.int v, .ref p])] 2)) := by
  rw [nmE, ov_new, i_X17 hv, Option.bind_some, ov_cM]
  rfl
theorem rst_and {self : Int32 → Int32 → Tw → Option (Int32 × Tw)} {v : Int32} (hP : PK c pl last j σ τ) (hc : c j = 32) : RST F self v τ = Option.bind (t_X9_pass F τ) fun q => if q.1 = 0 then some (0, q.2) else self v 1 q.2 := by
  have a := word_TT (F := F) hP (q := 16) (by decide)
  rw [show wtL.getD 16 0 = 11 from rfl, show 16 + 16 = 32 from rfl, if_pos hc] at a
  have o := word_TT (F := F) hP (q := 15) (by decide)
  rw [show wtL.getD 15 0 = 12 from rfl, show 16 + 15 = 31 from rfl, if_neg (by omega)] at o
  unfold RST t_X9_cond_j239 t_X9_cond_j244
  rw [a, Option.bind_some, if_neg (show ¬ (1 : Int32) = 0 by decide), o, Option.bind_some, if_pos rfl, if_neg (show ¬ (1 : Int32) = 0 by decide)]
theorem rst_or {self : Int32 → Int32 → Tw → Option (Int32 × Tw)} {v : Int32} (hP : PK c pl last j σ τ) (hc : c j = 31) : RST F self v τ = Option.bind (t_X9_pass F τ) fun q => if q.1 = 0 then some (0, q.2) else self (v + 1) 1 q.2 := by
  have a := word_TT (F := F) hP (q := 16) (by decide)
  rw [show wtL.getD 16 0 = 11 from rfl, show 16 + 16 = 32 from rfl, if_neg (by omega)] at a
  have o := word_TT (F := F) hP (q := 15) (by decide)
  rw [show wtL.getD 15 0 = 12 from rfl, show 16 + 15 = 31 from rfl, if_pos hc] at o
  unfold RST t_X9_cond_j239 t_X9_cond_j244
  rw [a, Option.bind_some, if_pos rfl, o, Option.bind_some, if_neg (show ¬ (1 : Int32) = 0 by decide), Option.bind_some, if_neg (show ¬ (1 : Int32) = 0 by decide), nmE, if_neg (show ¬ (1 : Int32) = 0 by decide)]
theorem rst_end {g : Nat} {v : Int32} (hP : PK c pl last j σ τ) (h1 : c j ≠ 32) (h2 : c j ≠ 31) : RST F (t_X9_cond_L14 F (g + 1)) v τ = some (1, τ) := by
  have a := word_TT (F := F) hP (q := 16) (by decide)
  rw [show wtL.getD 16 0 = 11 from rfl, show 16 + 16 = 32 from rfl, if_neg h1] at a
  have o := word_TT (F := F) hP (q := 15) (by decide)
  rw [show wtL.getD 15 0 = 12 from rfl, show 16 + 15 = 31 from rfl, if_neg h2] at o
  unfold RST t_X9_cond_j239 t_X9_cond_j244
  rw [a, Option.bind_some, if_pos rfl, o, Option.bind_some, if_pos rfl, Option.bind_some, if_pos rfl, if_pos rfl]
  show t_X9_cond_L14_b F (t_X9_cond_L14 F g) v 0 τ = _
  unfold t_X9_cond_L14_b
  rw [if_pos rfl]
theorem gr_eq (h : B'.1 = B.1) : Gr B B' := fun a o q => by rw [h]; exact q
/-- a row was read on both sides -/
def ALO (F : Nat) (c pl : Nat → Nat) (last : Nat) (ad : Nat → Nat) (X0 : Nat → Option Ob) (B0 : Sw) (σ0 : Cs) (τ0 : Tw) (m0 l0 : Nat) (v : Int32) (jm um u j : Nat) (rC : Option ((Nat ⊕ Nat) × Sw)) (rT : Option (Int32 × Tw)) : Prop := ∃ (t : Nat) (q : Nat × List Value) (X' : Nat → Option Ob) (B' : Sw) (σ' : Cs) (τ' : Tw) (j' n' m' g' : Nat), rC = some (.inl t, cM X' ad σ' B') ∧ rT = RST F (t_X9_cond_L14 F g') v τ' ∧ last - j' < g' ∧ j + jm ≤ j' ∧ c j' ≠ 32 ∧ PK c pl last j' σ' τ' ∧ σ'.1 32 = 0 ∧ τ'.2.1 8 1 = Int32.ofNat m' ∧ m0 ≤ m' ∧ m' ≤ j' ∧ τ'.2.1 11 1 = Int32.ofNat (l0 + n') ∧ 3 * (l0 + n') ≤ j' ∧ AllU (VW τ') B' t l0 n' v m' ∧ B'.1 t = some (.inr q) ∧ MF ad X0 B0 X' B' (u + 20 * (j' - j) - um) ∧ EF σ0 σ' ∧ CX m0 l0 τ0 τ'
theorem all_loop (hF : 100000 ≤ F) {X0 : Nat → Option Ob} {B0 : Sw} {σ0 : Cs} {τ0 : Tw} {m0 l0 a : Nat} {v : Int32} : ∀ (k f g : Nat) (X : Nat → Option Ob) (B : Sw) (σ : Cs) (τ : Tw) (j n m u : Nat) (e : Nat → Nat), last - j < k → k ≤ f → k ≤ g → KB B → MF ad X0 B0 X B u → EF σ0 σ → CX m0 l0 τ0 τ → LX ad B0.2.1 X B a n e → 1 ≤ n → 4 * n ≤ j + 1 → 3 * (l0 + n) ≤ j → PK c pl last j σ τ → σ.1 32 = 0 → τ.2.1 8 1 = Int32.ofNat m → m0 ≤ m → m ≤ j → τ.2.1 11 1 = Int32.ofNat (l0 + n) → (∀ i, i < n → LitU (VW τ) B (e i) (l0 + i) m ∧ VW τ 17 (l0 + i) = v) → ALO F c pl last ad X0 B0 σ0 τ0 m0 l0 v 0 0 (u + 1) j (f_X2_all_L17 F (ad 6) a f (cM X ad σ B)) (RST F (t_X9_cond_L14 F g) v τ) ∨ CNO last ad X0 B0 σ0 τ0 (u + 1 + 20 * (last + 1 - j)) m0 l0 (f_X2_all_L17 F (ad 6) a f (cM X ad σ B)) (RST F (t_X9_cond_L14 F g) v τ) := by
  intro k
  induction k with
  | zero => intro f g X B σ τ j n m u e hk; exact absurd hk (Nat.not_lt_zero _)
  | succ k ih =>
    intro f g X B σ τ j n m u e hk hf hg hK hM hE hC hL hn1 hn4 hl3 hP h32 h8 hm0 hmj h11 hlit
    obtain ⟨f, rfl⟩ : ∃ f', f = f' + 1 := ⟨f - 1, by omega⟩
    obtain ⟨g, rfl⟩ : ∃ g', g = g' + 1 := ⟨g - 1, by omega⟩
    have hj := hP.1.1
    have hjl := hP.2.2.2
    have hA := hM.1
    show ALO F c pl last ad X0 B0 σ0 τ0 m0 l0 v 0 0 (u + 1) j (f_X2_all_L17_b F (ad 6) a (f_X2_all_L17 F (ad 6) a f) (cM X ad σ B)) (RST F (t_X9_cond_L14 F (g + 1)) v τ) ∨ CNO last ad X0 B0 σ0 τ0 (u + 1 + 20 * (last + 1 - j)) m0 l0 (f_X2_all_L17_b F (ad 6) a (f_X2_all_L17 F (ad 6) a f) (cM X ad σ B)) (RST F (t_X9_cond_L14 F (g + 1)) v τ)
    by_cases hq : c j = 32
    · have is := is_CC (X := X) (F := F) hA hP (q := 32) (by decide)
      rw [show kT 32 = 216 from rfl, if_pos hq] at is
      rw [rst_and hP hq]
      unfold f_X2_all_L17_b
      rw [oc6 hA, Option.bind_some, is, Option.bind_some, if_neg (show ¬ (1 : Int32) = 0 by decide), Option.bind_some]
      have hC1 : CX m0 l0 τ0 (tsI τ 7 (Int32.ofNat (j + 1))) := hC.tr (ET.i7 (m := m0) (w := 0)).x.cc (Nat.le_refl _) (Nat.le_refl _)
      rcases go_CT (F := F) (X := X) hA hP (by omega) (by omega) with ⟨k1, k2, k3⟩ | ⟨k2, k3⟩
      · have hP1 := hP.go k1
        rw [k2, th_l, k3, Option.bind_some, if_neg (show ¬ (1 : Int32) = 0 by decide), oc6 hA, Option.bind_some]
        show ALO F c pl last ad X0 B0 σ0 τ0 m0 l0 v 0 0 (u + 1) j _ (t_X9_cond_L14_b F (t_X9_cond_L14 F g) v 1 (tsI τ 7 (Int32.ofNat (j + 1)))) ∨ CNO last ad X0 B0 σ0 τ0 (u + 1 + 20 * (last + 1 - j)) m0 l0 _ (t_X9_cond_L14_b F (t_X9_cond_L14 F g) v 1 (tsI τ 7 (Int32.ofNat (j + 1))))
        rcases litR_CT (X := X) (v1 := v) (self := t_X9_cond_L14 F g) hF hA hP1 ((csI_n _ _ _ _ (by decide)).trans h32) (m := m) (l := l0 + n) h8 h11 (by omega) (by omega) with ⟨p, q, X2, B2, σ2, τ2, j2, m2, l1, l2, l3, l4, l5, l6, ⟨l7, l8⟩, l9, l10, l11, l12, l13, l14, l15⟩ | hN
        · have hj2 := l4.2.2.2
          have hM2 : MF ad X0 B0 X2 B2 (u + 2 * (j2 - (j + 1))) := hM.tr l13
          have hL2 : LX ad B0.2.1 X2 B2 a n e := hL.mf l13
          obtain ⟨X3, B3, c1, c2, c3, c4⟩ := hL2.add (F := F) (σ := σ2) (hK.mf l13) hM2 l12 (by omega)
          have hag : AG m (l0 + n) (VW τ) (VW τ2) := l15.ag
          rw [l1, th_l, l2, hL2.oc, Option.bind_some, c1, Option.bind_some]
          rcases ih f g X3 B3 σ2 τ2 j2 (n + 1) m2 _ _ (by omega) (by omega) (by omega) ((hK.mf l13).gr (gr_eq c3) (c2.2.2.2.2.2.2.2.trans hM2.2.2.2.2.2.2.2.symm)) c2 (hE.tr (EF.i31.tr l14)) (hC1.tr l15 (by omega) (by omega)) c4 (by omega) (by omega) (by omega) l4 l5 l6 (by omega) (by omega) (by rw [l9]; congr 1) (fun i hi => ?_) with ⟨t, q, X4, B4, σ4, τ4, j4, n4, m4, g4, d1, d2, d3, d4, d5, d6, d7, d8, d9, d10, d11, d12, d13, d14, d15, d16, d17⟩ | hN
          · have hj4 := d6.2.2.2
            exact Or.inl ⟨t, q, X4, B4, σ4, τ4, j4, n4, m4, g4, d1, d2, d3, by omega, d5, d6, d7, d8, d9, d10, d11, d12, d13, d14, d15.le (by omega), d16, d17⟩
          · exact Or.inr (hN.le (by omega))
          · by_cases e0 : i = n
            · subst e0
              rw [if_pos rfl]
              exact ⟨l10.gr (gr_eq c3), l11⟩
            · rw [if_neg e0]
              obtain ⟨x1, x2⟩ := hlit i (by omega)
              refine ⟨(((x1.ag hag (by omega)).up l7).gr l13.2.1).gr (gr_eq c3), ?_⟩
              rw [hag.2.1 17 (l0 + i) (by decide) (by decide) (by omega)]
              exact x2
        · obtain ⟨e, X3, B3, σ4, τ6, kk, p, f1, f2, f3, f4, f5, f6, f7, f8, f9⟩ := hN
          rw [f1, th_r, f2]
          exact Or.inr ⟨e, X3, B3, σ4, τ6, kk, p, rfl, rfl, f3, f4, f5, f6, (hM.tr f7).le (by omega), hE.tr (EF.i31.tr f8), hC1.tr f9 (by omega) (by omega)⟩
      · rw [k2, th_r, k3, Option.bind_some, if_pos rfl]
        exact Or.inr ((CNO.pre hM hE hC (Nat.le_refl _) (Nat.le_refl _) (FL.at (R := Nat) (X := X) (m := m0) (w := 0) (k := 2) hA hP (by decide)).cc).le (by omega))
    · obtain ⟨B2, f1, f2, f3, f4, f5⟩ := hL.fz (σ := σ) hK hM (by omega)
      have hA2 := f2.1
      have is := is_CC (X := X) (F := F) hA2 hP (q := 32) (by decide)
      rw [show kT 32 = 216 from rfl, if_neg hq] at is
      rw [f1]
      unfold f_X2_all_L17_b
      rw [oc6 hA2, Option.bind_some, is, Option.bind_some, if_pos rfl, many_C (Or.inr rfl)]
      refine Or.inl ⟨B2.2.1, _, X, _, σ, τ, j, n, m, g + 1, rfl, rfl, by omega, Nat.le_refl _, hq, hP, h32, h8, hm0, hmj, h11, hl3, ⟨hn1, a, e, ov_1, f4.gr (ov_gr hA2), fun i hi => ⟨((hlit i hi).1.gr f3).gr (ov_gr hA2), (hlit i hi).2⟩⟩, ov_1, (f2.tr (MF.ov hA2 (by decide))).le (by omega), hE, hC⟩
theorem allR_CT (hF : 100000 ≤ F) (hA : AdOK ad B) (hK : KB B) (hP : PK c pl last j σ τ) (h32 : σ.1 32 = 0) {m l g : Nat} {v : Int32} (h8 : τ.2.1 8 1 = Int32.ofNat m) (h11 : τ.2.1 11 1 = Int32.ofNat l) (hm : m ≤ j) (hl : 3 * l ≤ j) (hg : last - j < g) : ALO F c pl last ad X B σ τ m l v 3 27 0 j (f_X2_all F (ad 6) (cM X ad σ B)) (t_X9_cond_L14 F g v 1 τ) ∨ CNO last ad X B σ τ (20 * (last + 1 - j)) m l (f_X2_all F (ad 6) (cM X ad σ B)) (t_X9_cond_L14 F g v 1 τ) := by
  have hj := hP.1.1
  have hjl := hP.2.2.2
  obtain ⟨g, rfl⟩ : ∃ g', g = g' + 1 := ⟨g - 1, by omega⟩
  obtain ⟨hM1, hL1⟩ := LX.new (X := X) hA
  have hA1 : AdOK ad (nB B 3) := hM1.1
  have hK1 : KB (nB B 3) := hK.mf hM1
  unfold f_X2_all
  rw [nmE, new_J2 hA, Option.bind_some, oc6 hA1, Option.bind_some]
  show ALO F c pl last ad X B σ τ m l v 3 27 0 j _ (t_X9_cond_L14_b F (t_X9_cond_L14 F g) v 1 τ) ∨ CNO last ad X B σ τ (20 * (last + 1 - j)) m l _ (t_X9_cond_L14_b F (t_X9_cond_L14 F g) v 1 τ)
  rcases litR_CT (X := mX X B.2.1 (zE (B.2.2.2 0))) (v1 := v) (self := t_X9_cond_L14 F g) hF hA1 hP h32 h8 h11 hm (by omega) with ⟨p, q, X2, B2, σ2, τ2, j2, m2, l1, l2, l3, l4, l5, l6, ⟨l7, l8⟩, l9, l10, l11, l12, l13, l14, l15⟩ | hN
  · have hj2 := l4.2.2.2
    have hM2 := hM1.tr l13
    have hL2 := hL1.mf l13
    obtain ⟨X3, B3, c1, c2, c3, c4⟩ := hL2.add (F := F) (σ := σ2) (hK1.mf l13) hM2 l12 (by omega)
    simp only [cM_2]
    rw [l1, th_l, l2, hL2.oc, Option.bind_some, c1, Option.bind_some]
    rcases all_loop (X0 := X) (σ0 := σ) (τ0 := τ) (m0 := m) (l0 := l) (a := B.2.1) (v := v) (c := c) (pl := pl) (last := last) hF (last - j2 + 1) F g X3 B3 σ2 τ2 j2 (0 + 1) m2 _ _ (by omega) (by omega) (by omega) ((hK1.mf l13).gr (gr_eq c3) (c2.2.2.2.2.2.2.2.trans hM2.2.2.2.2.2.2.2.symm)) c2 l14 l15 c4 (by omega) (by omega) (by omega) l4 l5 l6 l7 (by omega) l9 (fun i hi => ?_) with ⟨t, q, X4, B4, σ4, τ4, j4, n4, m4, g4, d1, d2, d3, d4, d5, d6, d7, d8, d9, d10, d11, d12, d13, d14, d15, d16, d17⟩ | hN
    · have hj4 := d6.2.2.2
      exact Or.inl ⟨t, q, X4, B4, σ4, τ4, j4, n4, m4, g4, d1, d2, d3, by omega, d5, d6, d7, d8, d9, d10, d11, d12, d13, d14, d15.le (by omega), d16, d17⟩
    · exact Or.inr (hN.le (by omega))
    · have e0 : i = 0 := by omega
      subst e0
      rw [if_pos rfl]
      exact ⟨l10.gr (gr_eq c3), l11⟩
  · obtain ⟨e, X3, B3, σ4, τ6, kk, p, f1, f2, f3, f4, f5, f6, f7, f8, f9⟩ := hN
    rw [f1, th_r, f2]
    exact Or.inr ⟨e, X3, B3, σ4, τ6, kk, p, rfl, rfl, f3, f4, f5, f6, (hM1.tr f7).le (by omega), f8, f9⟩
