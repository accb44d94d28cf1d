set_option maxRecDepth 100000
/-! the telling: an office, a piece of wood, a number -/
variable {X X' X2 : Nat → Option Ob} {ad : Nat → Nat} {B B' B2 : Sw} {A A' : Av} {σ σ' σ2 : Cs} {τ τ' τ2 : Tw} {F : Nat} {c pl : Nat → Nat} {last j : Nat}
variable {X0 : Nat → Option Ob} {B0 : Sw} {σ0 : Cs} {τ0 : Tw} {u : Nat}
theorem office_CT (hF : 100000 ≤ F) (h : TI c pl last ad X0 B0 σ0 τ0 X B σ τ j) (hc : c j = 17) : TOK F c pl last ad X0 B0 σ0 τ0 j (f_X2_tell F (ad 6) (cM X ad σ B)) (t_X9_tellOffice F τ) := by
  obtain ⟨g, ob, D, m, l, hT, h130, hW, hC, hN, hD, ⟨h8, hm⟩, h11, hl⟩ := h
  have hA := hT.a
  have hj := hT.p.1.1
  have hjl := hT.p.2.2.2
  obtain ⟨⟨c0, n0⟩, ⟨c1, n1⟩, ⟨c2, n2⟩, ⟨c3, n3⟩, ⟨c4, n4⟩, ⟨c5, n5⟩, ⟨c8, n8⟩, c9, n9⟩ := hC
  have t0 : t_X9_told F 1 τ = some (Int32.ofNat (D.1 1)) := by rw [← c1]; exact told_T (k := 1) (by decide)
  have f5 : ∀ σ, gfR (cM X ad σ B) (ad 6) 2 5 = some (g 0) := fun σ => o6_5 hA σ h130
  have fn : ∀ σ, gfI (cM X ad σ B) (g 0) 3 6 = some (Int32.ofNat (D.1 1)) := fun σ => m_I (k := 6) hW.t rfl
  have fr : ∀ σ, gfR (cM X ad σ B) (g 0) 3 5 = some (g 11) := fun σ => m_R (k := 5) hW.t rfl
  unfold f_X2_tell t_X9_tellOffice
  rw [oc6 hA, Option.bind_some, kind_C hA hT.p, Option.bind_some, hc, show kT 17 = 201 from rfl, if_neg (show ¬ (201 : Int32) = 200 by decide), if_pos rfl, f5, Option.bind_some, fn, Option.bind_some, Option.bind_some, t0, Option.bind_some]
  rcases hT.room (F := F) (z := 1) (n := D.1 1) (most := 12) (base := 70) (size := 1) (pm := 12) (pz := 1) (pb := 70) (ps := 1) rfl rfl rfl rfl (by omega) (by omega) (by decide) c1 n1 (by decide) with ⟨r1, r2, r3, r4, r5, r6⟩ | ⟨τw, r1, r2, e, X2, B2, σ2, τ2, k, p, a1, a2, a3⟩ | ⟨τw, r0, r1, r2, e, X2, B2, σ2, τ2, k, p, a1, a2, a3⟩
  · rw [r3, th_l, r4, Option.bind_some, if_pos (ofNat_nn (by omega)), r5, Option.bind_some, if_neg (show ¬ (1 : Int32) = 0 by decide)]
    obtain ⟨σ1, e1⟩ : ∃ σ1, σ1 = csI σ 31 (Int32.ofNat (j + 1)) := ⟨_, rfl⟩
    obtain ⟨τ1, e2⟩ : ∃ τ1, τ1 = tsI (cT τ 1 (Int32.ofNat (D.1 1 + 1))) 7 (Int32.ofNat (j + 1)) := ⟨_, rfl⟩
    have v1 : CHV τ τ1 (upd (VW τ 6) 1 (Int32.ofNat (D.1 1 + 1))) := by rw [e2]; exact CHV.rf.c.i
    have nm1 : NMS σ1 τ1 (D.1 0) (D.1 1) := by rw [e1, e2]; exact hN.c.go
    have cl1 : CLN σ1 τ1 → CLN σ τ := fun q => by rw [e1, e2] at q; exact q.go
    have s1 : σ1.2 = σ.2 := by rw [e1]; rfl
    rw [← e1, ← e2] at r6
    rw [← e1, ← e2, f5, Option.bind_some, fn, Option.bind_some, n_pl, oc6 hA, Option.bind_some]
    rcases r6.nameO hF nm1 r1 (fun q => ((hD (cl1 q)).1).of s1) with ⟨σ2, τ2, a1, a2, a3, a4, a5, a6⟩ | ⟨e, X2, B2, σ2, τ2, a1, a2, a3⟩
    · have v2 := v1.nm a6
      rw [a1, th_l, a2, Option.bind_some, if_neg (show ¬ (1 : Int32) = 0 by decide), f5, Option.bind_some, fr, Option.bind_some, Option.bind_some, fn, Option.bind_some, oc6 hA, Option.bind_some]
      rcases a3.num2 (F := F) (lo := 0) (hi := 99) (a := 0) (b := 99) rfl rfl (by decide) (by decide) with ⟨σ3, τ3, w1, b1, b2, b3, b4, b5, b6⟩ | ⟨e, X2, B2, σ2, τ2, a1, a2, a3⟩
      · have v3 := (v2.kf b5).c (k := 70 + 1 * D.1 1) (v := w1)
        obtain ⟨x1, x2, x3, x4⟩ := hW.1.at (x := 11) (by omega) (by omega)
        rw [hW.2.2.2.1] at x4
        have hs : sI (cM X ad σ3 B) 0 (g 11) (Int32.ofNat (D.1 1)) w1 = some (cM (mX X (g 11) (.inl (0, (12, .inl (upd (D.2.2.1 11) (D.1 1) w1))))) ad σ3 B) := sI_X x1 x4 (by omega) (by decide)
        obtain ⟨hM1, hW1⟩ := hW.arr (x := 11) (t := 0) (n := 12) (f := upd (D.2.2.1 11) (D.1 1) w1) hT.1 (Or.inl ⟨rfl, rfl, rfl⟩)
        obtain ⟨X6, ob', k1, k2, k6⟩ := hW1.fld (σ := σ3) (k := 6) (v := .int (Int32.ofNat (D.1 1 + 1))) (D' := dN (dA D 11 (upd (D.2.2.1 11) (D.1 1) w1)) 1 (D.1 1 + 1)) hM1 (by decide) rfl (fun i hi => if_neg (cx_n hi).1) rfl rfl
        have f5' : gfR (cM (mX X (g 11) (.inl (0, (12, .inl (upd (D.2.2.1 11) (D.1 1) w1))))) ad σ3 B) (ad 6) 2 5 = some (g 0) := o6_5 hA σ3 h130
        have fn' : gfI (cM (mX X (g 11) (.inl (0, (12, .inl (upd (D.2.2.1 11) (D.1 1) w1))))) ad σ3 B) (g 0) 3 6 = some (Int32.ofNat (D.1 1)) := m_I (k := 6) hW1.t rfl
        rw [b1, th_l, b2, Option.bind_some, if_neg (show ¬ (1 : Int32) = 0 by decide), b4, tell_T (show 70 + 1 * D.1 1 < 210 by omega), Option.bind_some, hs, Option.bind_some, f5', Option.bind_some, fn', Option.bind_some, n_lp, k1, Option.bind_some]
        have hT6 : AT c pl last ad X0 B0 σ0 τ0 (40 + 24 * (j + 3)) X6 B σ3 (cT τ3 (70 + 1 * D.1 1) w1) (j + 3) := ((b3.cell).mem (X' := X6) (B' := B) k2 (fun _ _ q => q) rfl).le (by omega)
        refine Or.inl ⟨X6, B, σ3, _, j + 3, rfl, rfl, by omega, g, ob', _, m, l, hT6, h130, k6, ?_, (a4.kf b5).c, fun q => ?_, ⟨?_, by omega⟩, ?_, by omega⟩
        · unfold CNT
          rw [v3.2]
          refine ⟨⟨?_, n0⟩, ⟨?_, ?_⟩, ⟨?_, n2⟩, ⟨?_, n3⟩, ⟨?_, n4⟩, ⟨?_, n5⟩, ⟨?_, n8⟩, ?_, n9⟩
          · rw [up_n _ _ _ _ (by omega), up_n _ _ _ _ (by omega)]; exact c0
          · rw [up_n _ _ _ _ (by omega), up_s]; rfl
          · show D.1 1 + 1 ≤ 12; omega
          · rw [up_n _ _ _ _ (by omega), up_n _ _ _ _ (by omega)]; exact c2
          · rw [up_n _ _ _ _ (by omega), up_n _ _ _ _ (by omega)]; exact c3
          · rw [up_n _ _ _ _ (by omega), up_n _ _ _ _ (by omega)]; exact c4
          · rw [up_n _ _ _ _ (by omega), up_n _ _ _ _ (by omega)]; exact c5
          · rw [up_n _ _ _ _ (by omega), up_n _ _ _ _ (by omega)]; exact c8
          · rw [up_n _ _ _ _ (by omega), up_n _ _ _ _ (by omega)]; exact c9
        · obtain ⟨q2, x, x1, x2, x3⟩ := b6 q
          obtain ⟨q1, nd⟩ := a5 q2
          obtain ⟨-, dt⟩ := hD (cl1 q1)
          refine ⟨nd.of b5.2.1, ?_⟩
          obtain ⟨D1, D2, D3, D4, D5, D6, D7, D8, D9⟩ := dt
          have eo : ∀ k, k ≠ 1 → k ≠ 70 + D.1 1 → VW (cT τ3 (70 + 1 * D.1 1) w1) 6 k = VW τ 6 k := fun k a b => by
            rw [v3.2, up_n _ _ _ _ (by omega), up_n _ _ _ _ (by omega)]
          have ag : AG m l (VW τ) (VW (cT τ3 (70 + 1 * D.1 1) w1)) := v3.ag
          have hG : Gr B B := fun _ _ q => q
          refine ⟨D1.of (eo 6 (by omega) (by omega)) (eo 7 (by omega) (by omega)) rfl, D2.of hG ag (fun k a b => eo k (by omega) (by omega)) rfl (Nat.le_refl _), D3.of hG (fun k a b => eo k (by omega) (by omega)) n0 rfl rfl, D4.add (x := x) r1 (fun k a b d => eo k (by omega) d) ?_ x2 rfl ?_, D5.of (fun k a b => eo k (by omega) (by omega)) n2 rfl rfl (Nat.le_refl _) (Nat.le_succ _), D6.of hG (fun k a b => eo k (by omega) (by omega)) n3 rfl rfl (Nat.le_refl _), D7.of (fun k a b => eo k (by omega) (by omega)) n4 rfl rfl (Nat.le_refl _), D8.of hG (fun k a b => eo k (by omega) (by omega)) n5 rfl rfl, D9.of hG ag (fun k a b => eo k (by omega) (by omega)) n8 n9 rfl rfl rfl rfl (Nat.le_refl _) (Nat.le_refl _)⟩
          · rw [v3.2, show 70 + D.1 1 = 70 + 1 * D.1 1 by omega, up_s, x3]
          · rw [← x3]
            rfl
        · rw [v3.1 8 (by decide) (by decide) (by decide)]; exact h8
        · rw [v3.1 11 (by decide) (by decide) (by decide)]; exact h11
      · rw [a1, th_r, a2, Option.bind_some, if_pos rfl]
        exact Or.inr (a3.le (by omega))
    · rw [a1, th_r, a2, Option.bind_some, if_pos rfl]
      exact Or.inr (a3.le (by omega))
  · rw [a1, th_r, r1, Option.bind_some, if_neg (show ¬ (0 : Int32) ≤ -1 by decide), r2, Option.bind_some, if_pos (Or.inl rfl)]
    exact Or.inr (TNO.le ⟨e, X2, B2, σ2, τ2, k, p, rfl, a2, a3⟩ (by omega))
  · rw [a1, th_r, r1, Option.bind_some, if_pos (ofNat_nn (by omega)), r2, Option.bind_some, if_pos rfl]
    exact Or.inr (TNO.le ⟨e, X2, B2, σ2, τ2, k, p, rfl, a2, a3⟩ (by omega))
theorem wood_CT (hF : 100000 ≤ F) (h : TI c pl last ad X0 B0 σ0 τ0 X B σ τ j) (hc : c j = 22) : TOK F c pl last ad X0 B0 σ0 τ0 j (f_X2_tell F (ad 6) (cM X ad σ B)) (t_X9_tellWood F τ) := by
  obtain ⟨g, ob, D, m, l, hT, h130, hW, hC, hN, hD, ⟨h8, hm⟩, h11, hl⟩ := h
  have hA := hT.a
  have hj := hT.p.1.1
  have hjl := hT.p.2.2.2
  obtain ⟨⟨c0, n0⟩, ⟨c1, n1⟩, ⟨c2, n2⟩, ⟨c3, n3⟩, ⟨c4, n4⟩, ⟨c5, n5⟩, ⟨c8, n8⟩, c9, n9⟩ := hC
  have ol0 : ∀ σ, oc (cM X ad σ B) (g 3) 20 = some () := fun σ => hW.ol (i := 2) (by decide)
  have sz0 : ∀ σ, f_J2_size F (g 3) (cM X ad σ B) = some (Int32.ofNat (D.1 5)) := fun σ => hW.sz (i := 2) (by decide)
  have f0 : ∀ σ, gfR (cM X ad σ B) (g 0) 3 2 = some (g 3) := fun σ => m_R (k := 2) hW.t rfl
  have f5 : ∀ σ, gfR (cM X ad σ B) (ad 6) 2 5 = some (g 0) := fun σ => o6_5 hA σ h130
  unfold f_X2_tell t_X9_tellWood
  rw [oc6 hA, Option.bind_some, kind_C hA hT.p, Option.bind_some, hc, show kT 22 = 206 from rfl, if_neg (show ¬ (206 : Int32) = 200 by decide), if_neg (show ¬ (206 : Int32) = 201 by decide), if_neg (show ¬ (206 : Int32) = 202 by decide), if_neg (show ¬ (206 : Int32) = 203 by decide), if_neg (show ¬ (206 : Int32) = 205 by decide), if_pos rfl, f5, Option.bind_some, f0, Option.bind_some, ol0, Option.bind_some, sz0, Option.bind_some, Option.bind_some]
  rcases hT.room (F := F) (z := 5) (n := D.1 5) (most := 8) (base := 170) (size := 2) (pm := 8) (pz := 5) (pb := 170) (ps := 2) rfl rfl rfl rfl (by omega) (by omega) (by decide) c5 n5 (by decide) with ⟨r1, r2, r3, r4, r5, r6⟩ | ⟨τw, r1, r2, e, X2, B2, σ2, τ2, k, p, a1, a2, a3⟩ | ⟨τw, r0, r1, r2, e, X2, B2, σ2, τ2, k, p, a1, a2, a3⟩
  · rw [r3, th_l, r4, Option.bind_some, if_pos (ofNat_nn (by omega)), r5, Option.bind_some, if_neg (show ¬ (1 : Int32) = 0 by decide)]
    obtain ⟨σ1, e1⟩ : ∃ σ1, σ1 = csI σ 31 (Int32.ofNat (j + 1)) := ⟨_, rfl⟩
    obtain ⟨τ1, e2⟩ : ∃ τ1, τ1 = tsI (cT τ 5 (Int32.ofNat (D.1 5 + 1))) 7 (Int32.ofNat (j + 1)) := ⟨_, rfl⟩
    have v1 : CHV τ τ1 (upd (VW τ 6) 5 (Int32.ofNat (D.1 5 + 1))) := by rw [e2]; exact CHV.rf.c.i
    have nm1 : NMS σ1 τ1 (D.1 0) (D.1 1) := by rw [e1, e2]; exact hN.c.go
    have cl1 : CLN σ1 τ1 → CLN σ τ := fun q => by rw [e1, e2] at q; exact q.go
    have s1 : σ1.2 = σ.2 := by rw [e1]; rfl
    rw [← e1, ← e2] at r6
    rw [← e1, ← e2, oc6 hA, Option.bind_some]
    rcases r6.num2 (F := F) (lo := 1) (hi := 60) (a := 1) (b := 60) rfl rfl (by decide) (by decide) with ⟨σ4, τ4, w2, d1, d2, d3, d4, d5, d6⟩ | ⟨e, X2, B2, σ2, τ2, a1, a2, a3⟩
    · have v4 := (v1.kf d5).c (k := 170 + 2 * D.1 5) (v := w2)
      rw [d1, th_l, d2, Option.bind_some, if_neg (show ¬ (1 : Int32) = 0 by decide), d4, tell_T (show 170 + 2 * D.1 5 < 210 by omega), Option.bind_some, f5, Option.bind_some, f0, Option.bind_some, nmE, nw_X hA]
      have hA1 : AdOK ad (nB B 2) := nB_ad hA
      have hno : ¬ Own ad (nB B 2) B.2.1 := new_no hA (Nat.le_refl _)
      have d3' := (d3.cell (k := 170 + 2 * D.1 5) (v := w2)).mem (d3.1.tr (MF.nb hA (o := .inr (13, dfX13)) (s := 2) (by decide))) (fun _ _ q => q) rfl
      simp only [cM_2]
      rw [oc6 hA1, Option.bind_some]
      rcases d3'.num2 (F := F) (lo := 0) (hi := 99) (a := 0) (b := 99) rfl rfl (by decide) (by decide) with ⟨σ5, τ5, w3, g1, g2, g3, g4, g5, g6⟩ | ⟨e, X2, B2, σ2, τ2, a1, a2, a3⟩
      · have v5 := (v4.kf g5).c (k := 170 + 2 * D.1 5 + 1) (v := w3)
        have hmf := newO (X := X) hA (o := .inr (13, dfX13)) (o' := .inr (13, [.int w2, .int w3])) (s := 2) (by decide)
        have hW1 := hW.mf hmf
        have hM1 := hT.1.tr hmf
        have hK1 : KB (frB (nB B 2) B.2.1 (.inr (13, [.int w2, .int w3]))) := hT.2.1.mf hmf
        obtain ⟨X6, B6, g', ob', k1, k2, k3, k4, k5, k6⟩ := hW1.add (F := F) (σ := σ5) (i := 2) (p := B.2.1) hM1.1 hK1 hM1 (by decide) fr_at (show D.1 5 ≤ 100 by omega)
        have k1' : f_J2_add F (g 3) B.2.1 (cM (mX X B.2.1 (.inr (13, [.int w2, .int w3]))) ad σ5 (frB (nB B 2) B.2.1 (.inr (13, [.int w2, .int w3])))) = _ := k1
        have ol1 : oc (cM (mX X B.2.1 (.inr (13, [.int w2, .int w3]))) ad σ5 (frB (nB B 2) B.2.1 (.inr (13, [.int w2, .int w3])))) (g 3) 20 = some () := hW1.ol (i := 2) (by decide)
        rw [g1, th_l, g2, Option.bind_some, if_neg (show ¬ (1 : Int32) = 0 by decide), g4, show Int32.ofNat (170 + 2 * D.1 5) + 1 = Int32.ofNat (170 + 2 * D.1 5 + 1) from n_lp 1 _, tell_T (show 170 + 2 * D.1 5 + 1 < 210 by omega), Option.bind_some, init_13 hno mX_s, Option.bind_some, mX_mX, ol1, Option.bind_some, k1', Option.bind_some]
        have hG : Gr B B6 := fun a o q => (gr_eq k3) a o (hmf.2.1 a o q)
        have hT6 : AT c pl last ad X0 B0 σ0 τ0 (40 + 24 * (j + 3)) X6 B6 σ5 (cT τ5 (170 + 2 * D.1 5 + 1) w3) (j + 3) := ((g3.cell).mem (X' := X6) (B' := B6) k2 (fun a o q => (gr_eq k3) a o (fr_gr hno a o q)) k4).le (by omega)
        refine Or.inl ⟨X6, B6, σ5, _, j + 3, rfl, rfl, by omega, g', ob', _, m, l, hT6, by rw [k5]; exact h130, k6, ?_, ((nm1.kf d5).c.kf g5).c, fun q => ?_, ⟨?_, by omega⟩, ?_, by omega⟩
        · unfold CNT
          rw [v5.2]
          refine ⟨⟨?_, n0⟩, ⟨?_, n1⟩, ⟨?_, n2⟩, ⟨?_, n3⟩, ⟨?_, n4⟩, ⟨?_, ?_⟩, ⟨?_, n8⟩, ?_, n9⟩
          · rw [up_n _ _ _ _ (by omega), up_n _ _ _ _ (by omega), up_n _ _ _ _ (by omega)]; exact c0
          · rw [up_n _ _ _ _ (by omega), up_n _ _ _ _ (by omega), up_n _ _ _ _ (by omega)]; exact c1
          · rw [up_n _ _ _ _ (by omega), up_n _ _ _ _ (by omega), up_n _ _ _ _ (by omega)]; exact c2
          · rw [up_n _ _ _ _ (by omega), up_n _ _ _ _ (by omega), up_n _ _ _ _ (by omega)]; exact c3
          · rw [up_n _ _ _ _ (by omega), up_n _ _ _ _ (by omega), up_n _ _ _ _ (by omega)]; exact c4
          · rw [up_n _ _ _ _ (by omega), up_n _ _ _ _ (by omega), up_s]; rfl
          · show D.1 5 + 1 ≤ 8; omega
          · rw [up_n _ _ _ _ (by omega), up_n _ _ _ _ (by omega), up_n _ _ _ _ (by omega)]; exact c8
          · rw [up_n _ _ _ _ (by omega), up_n _ _ _ _ (by omega), up_n _ _ _ _ (by omega)]; exact c9
        · obtain ⟨q4, z, z1, z2, z3⟩ := g6 q
          obtain ⟨q3, y, y1, y2, y3⟩ := d6 q4
          obtain ⟨nd, dt⟩ := hD (cl1 q3)
          refine ⟨nd.of (g5.2.1.trans (d5.2.1.trans s1)), ?_⟩
          obtain ⟨D1, D2, D3, D4, D5, D6, D7, D8, D9⟩ := dt
          have eo : ∀ k, k ≠ 5 → ¬ (170 + 2 * D.1 5 ≤ k ∧ k < 172 + 2 * D.1 5) → VW (cT τ5 (170 + 2 * D.1 5 + 1) w3) 6 k = VW τ 6 k := fun k a b => by
            rw [v5.2, up_n _ _ _ _ (by omega), up_n _ _ _ _ (by omega), up_n _ _ _ _ (by omega)]
          have ag : AG m l (VW τ) (VW (cT τ5 (170 + 2 * D.1 5 + 1) w3)) := v5.ag
          refine ⟨D1.of (eo 6 (by omega) (by omega)) (eo 7 (by omega) (by omega)) rfl, D2.of hG ag (fun k a b => eo k (by omega) (by omega)) rfl (Nat.le_refl _), D3.of hG (fun k a b => eo k (by omega) (by omega)) n0 rfl rfl, D4.of (fun k a b => eo k (by omega) (by omega)) n1 rfl rfl, D5.of (fun k a b => eo k (by omega) (by omega)) n2 rfl rfl (Nat.le_refl _) (Nat.le_refl _), D6.of hG (fun k a b => eo k (by omega) (by omega)) n3 rfl rfl (Nat.le_refl _), D7.of (fun k a b => eo k (by omega) (by omega)) n4 rfl rfl (Nat.le_refl _), D8.add (p := B.2.1) (x := y) (y := z) hG r1 (fun k a b d => eo k (by omega) d) ?_ ?_ ⟨y1, y2⟩ z2 ?_ rfl rfl, D9.of hG ag (fun k a b => eo k (by omega) (by omega)) n8 n9 rfl rfl rfl rfl (Nat.le_refl _) (Nat.le_refl _)⟩
          · rw [v5.2, up_n _ _ _ _ (by omega), up_s, y3]
          · rw [v5.2, up_s, z3]
          · rw [← y3, ← z3]
            exact (gr_eq k3) _ _ fr_at
        · rw [v5.1 8 (by decide) (by decide) (by decide)]; exact h8
        · rw [v5.1 11 (by decide) (by decide) (by decide)]; exact h11
      · rw [a1, th_r, a2, Option.bind_some, if_pos rfl]
        exact Or.inr (a3.le (by omega))
    · rw [a1, th_r, a2, Option.bind_some, if_pos rfl]
      exact Or.inr (a3.le (by omega))
  · rw [a1, th_r, r1, Option.bind_some, if_neg (show ¬ (0 : Int32) ≤ -1 by decide), r2, Option.bind_some, if_pos (Or.inl rfl)]
    exact Or.inr (TNO.le ⟨e, X2, B2, σ2, τ2, k, p, rfl, a2, a3⟩ (by omega))
  · rw [a1, th_r, r1, Option.bind_some, if_pos (ofNat_nn (by omega)), r2, Option.bind_some, if_pos rfl]
    exact Or.inr (TNO.le ⟨e, X2, B2, σ2, τ2, k, p, rfl, a2, a3⟩ (by omega))
/-- crews (z 6) or jack (z 7) -/
theorem number_CT {z hi : Nat} {pz ph : Int32} (h : TI c pl last ad X0 B0 σ0 τ0 X B σ τ j) (hc : (c j = 23 ∧ z = 6 ∧ hi = 9 ∧ pz = 6 ∧ ph = 9) ∨ (c j = 24 ∧ z = 7 ∧ hi = 99 ∧ pz = 7 ∧ ph = 99)) : TOK F c pl last ad X0 B0 σ0 τ0 j (f_X2_tell F (ad 6) (cM X ad σ B)) (t_X9_tellNumber F pz ph τ) := by
  obtain ⟨g, ob, D, m, l, hT, h130, hW, hC, hN, hD, ⟨h8, hm⟩, h11, hl⟩ := h
  have hA := hT.a
  have hj := hT.p.1.1
  have hjl := hT.p.2.2.2
  obtain ⟨⟨c0, n0⟩, ⟨c1, n1⟩, ⟨c2, n2⟩, ⟨c3, n3⟩, ⟨c4, n4⟩, ⟨c5, n5⟩, ⟨c8, n8⟩, c9, n9⟩ := hC
  have f5 : ∀ σ, gfR (cM X ad σ B) (ad 6) 2 5 = some (g 0) := fun σ => o6_5 hA σ h130
  have pre : f_X2_tell F (ad 6) (cM X ad σ B) = Option.bind (f_X2_go F (ad 6) (cM X ad σ B)) fun q => thr q.1 q.2 fun _ => Option.bind (gfR q.2 (ad 6) 2 5) fun x => Option.bind (oc q.2 (ad 6) 2) fun _ => Option.bind (f_X2_bounded F (ad 6) 1 ph q.2) fun q' => thr q'.1 q'.2 fun y => Option.bind (pf q'.2 x 3 (z + 5) (.int y)) fun μ => SEM F (ad 6) μ := by
    unfold f_X2_tell SEM
    rcases hc with ⟨hc, rfl, rfl, rfl, rfl⟩ | ⟨hc, rfl, rfl, rfl, rfl⟩
    · rw [oc6 hA, Option.bind_some, kind_C hA hT.p, Option.bind_some, hc, show kT 23 = 207 from rfl, if_neg (show ¬ (207 : Int32) = 200 by decide), if_neg (show ¬ (207 : Int32) = 201 by decide), if_neg (show ¬ (207 : Int32) = 202 by decide), if_neg (show ¬ (207 : Int32) = 203 by decide), if_neg (show ¬ (207 : Int32) = 205 by decide), if_neg (show ¬ (207 : Int32) = 206 by decide), if_pos rfl, Option.bind_some]
    · rw [oc6 hA, Option.bind_some, kind_C hA hT.p, Option.bind_some, hc, show kT 24 = 208 from rfl, if_neg (show ¬ (208 : Int32) = 200 by decide), if_neg (show ¬ (208 : Int32) = 201 by decide), if_neg (show ¬ (208 : Int32) = 202 by decide), if_neg (show ¬ (208 : Int32) = 203 by decide), if_neg (show ¬ (208 : Int32) = 205 by decide), if_neg (show ¬ (208 : Int32) = 206 by decide), if_neg (show ¬ (208 : Int32) = 207 by decide), if_pos rfl, Option.bind_some]
  have hz : (z = 6 ∧ hi = 9) ∨ (z = 7 ∧ hi = 99) := by
    rcases hc with ⟨-, h1, h2, -⟩ | ⟨-, h1, h2, -⟩
    · exact Or.inl ⟨h1, h2⟩
    · exact Or.inr ⟨h1, h2⟩
  have hpz : pz = Int32.ofNat z := by
    rcases hc with ⟨-, rfl, -, rfl, -⟩ | ⟨-, rfl, -, rfl, -⟩ <;> rfl
  have hph : ph = Int32.ofNat hi := by
    rcases hc with ⟨-, -, rfl, -, rfl⟩ | ⟨-, -, rfl, -, rfl⟩ <;> rfl
  rw [pre]
  unfold t_X9_tellNumber
  rcases hT.go (F := F) (by omega) (by omega) with ⟨k1, k2, k3, k4⟩ | ⟨e, X2, B2, σ2, τ2, k, p, a1, a2, a3⟩
  · rw [k2, th_l, k3, Option.bind_some, if_neg (show ¬ (1 : Int32) = 0 by decide), f5, Option.bind_some, oc6 hA, Option.bind_some]
    obtain ⟨σ1, e1⟩ : ∃ σ1, σ1 = csI σ 31 (Int32.ofNat (j + 1)) := ⟨_, rfl⟩
    obtain ⟨τ1, e2⟩ : ∃ τ1, τ1 = tsI τ 7 (Int32.ofNat (j + 1)) := ⟨_, rfl⟩
    have v1 : CHV τ τ1 (VW τ 6) := by rw [e2]; exact CHV.rf.i
    have nm1 : NMS σ1 τ1 (D.1 0) (D.1 1) := by rw [e1, e2]; exact hN.go
    have cl1 : CLN σ1 τ1 → CLN σ τ := fun q => by rw [e1, e2] at q; exact q.go
    have s1 : σ1.2 = σ.2 := by rw [e1]; rfl
    rw [← e1, ← e2] at k4
    rw [← e1, ← e2]
    rcases k4.num2 (F := F) (lo := 1) (hi := hi) (a := 1) (b := ph) rfl hph (by decide) (by omega) with ⟨σ4, τ4, w2, d1, d2, d3, d4, d5, d6⟩ | ⟨e, X2, B2, σ2, τ2, a1, a2, a3⟩
    · have v4 := (v1.kf d5).c (k := z) (v := w2)
      obtain ⟨X6, ob', x1, x2, x3⟩ := hW.fld (σ := σ4) (k := z + 5) (v := .int w2) (D' := dC D z w2) hT.1 (by omega) (by rcases hz with ⟨rfl, -⟩ | ⟨rfl, -⟩ <;> rfl) (fun i hi => rfl) rfl rfl
      rw [d1, th_l, d2, Option.bind_some, if_neg (show ¬ (1 : Int32) = 0 by decide), d4, hpz, tell_T (show z < 210 by omega), Option.bind_some, x1, Option.bind_some]
      have hT6 : AT c pl last ad X0 B0 σ0 τ0 (40 + 24 * (j + 2)) X6 B σ4 (cT τ4 z w2) (j + 2) := ((d3.cell).mem (X' := X6) (B' := B) x2 (fun _ _ q => q) rfl).le (by omega)
      refine Or.inl ⟨X6, B, σ4, _, j + 2, rfl, rfl, by omega, g, ob', _, m, l, hT6, h130, x3, ?_, (nm1.kf d5).c, fun q => ?_, ⟨?_, by omega⟩, ?_, by omega⟩
      · unfold CNT
        rw [v4.2]
        refine ⟨⟨?_, n0⟩, ⟨?_, n1⟩, ⟨?_, n2⟩, ⟨?_, n3⟩, ⟨?_, n4⟩, ⟨?_, n5⟩, ⟨?_, n8⟩, ?_, n9⟩
        · rw [up_n _ _ _ _ (by omega)]; exact c0
        · rw [up_n _ _ _ _ (by omega)]; exact c1
        · rw [up_n _ _ _ _ (by omega)]; exact c2
        · rw [up_n _ _ _ _ (by omega)]; exact c3
        · rw [up_n _ _ _ _ (by omega)]; exact c4
        · rw [up_n _ _ _ _ (by omega)]; exact c5
        · rw [up_n _ _ _ _ (by omega)]; exact c8
        · rw [up_n _ _ _ _ (by omega)]; exact c9
      · obtain ⟨q3, y, y1, y2, y3⟩ := d6 q
        obtain ⟨nd, dt⟩ := hD (cl1 q3)
        refine ⟨nd.of (d5.2.1.trans s1), ?_⟩
        obtain ⟨D1, D2, D3, D4, D5, D6, D7, D8, D9⟩ := dt
        have eo : ∀ k, k ≠ z → VW (cT τ4 z w2) 6 k = VW τ 6 k := fun k a => by
          rw [v4.2, up_n _ _ _ _ a]
        have ez : VW (cT τ4 z w2) 6 z = Int32.ofNat y := by rw [v4.2, up_s, y3]
        have ag : AG m l (VW τ) (VW (cT τ4 z w2)) := v4.ag
        have hG : Gr B B := fun _ _ q => q
        refine ⟨?_, D2.of hG ag (fun k a b => eo k (by omega)) rfl (Nat.le_refl _), D3.of hG (fun k a b => eo k (by omega)) n0 rfl rfl, D4.of (fun k a b => eo k (by omega)) n1 rfl rfl, D5.of (fun k a b => eo k (by omega)) n2 rfl rfl (Nat.le_refl _) (Nat.le_refl _), D6.of hG (fun k a b => eo k (by omega)) n3 rfl rfl (Nat.le_refl _), D7.of (fun k a b => eo k (by omega)) n4 rfl rfl (Nat.le_refl _), D8.of hG (fun k a b => eo k (by omega)) n5 rfl rfl, D9.of hG ag (fun k a b => eo k (by omega)) n8 n9 rfl rfl rfl rfl (Nat.le_refl _) (Nat.le_refl _)⟩
        obtain ⟨⟨p1, p2, p3⟩, p4, p5, p6⟩ := D1
        rcases hz with ⟨rfl, rfl⟩ | ⟨rfl, rfl⟩
        · unfold DTc zN
          rw [ez, eo 7 (by decide), i_cl (n := 10) (by omega) (by decide)]
          exact ⟨⟨y3, isN.of y2 (by decide), y1⟩, p4, p5, p6⟩
        · unfold DTc zN
          rw [ez, eo 6 (by decide), i_cl (n := 100) (by omega) (by decide)]
          exact ⟨⟨p1, p2, p3⟩, y3, isN.of y2 (by decide), y1⟩
      · rw [v4.1 8 (by decide) (by decide) (by decide)]; exact h8
      · rw [v4.1 11 (by decide) (by decide) (by decide)]; exact h11
    · rw [a1, th_r, a2, Option.bind_some, if_pos rfl]
      exact Or.inr (a3.le (by omega))
  · rw [a1, th_r, a2, Option.bind_some, if_pos rfl]
    exact Or.inr (TNO.le ⟨e, X2, B2, σ2, τ2, k, p, rfl, rfl, a3⟩ (by omega))
