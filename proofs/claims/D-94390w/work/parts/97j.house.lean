set_option maxRecDepth 100000
/-! the telling: a house, an office -/
variable {X X' X2 : Nat → Option Ob} {ad : Nat → Nat} {B B' B2 : Sw} {A A' : Av} {σ σ' σ2 : Cs} {τ τ' τ2 : Tw} {F : Nat} {c pl : Nat → Nat} {last j : Nat}
/-- the reference's state since τ: but cells of the town and names, the same arrays; the town's cells are f -/
def CHV (τ τ' : Tw) (f : Nat → Int32) : Prop := (∀ r, r ≠ 6 → r ≠ 20 → r ≠ 21 → τ'.2.1 r = τ.2.1 r) ∧ VW τ' 6 = f
theorem CHV.rf : CHV τ τ (VW τ 6) := ⟨fun _ _ _ _ => rfl, rfl⟩
theorem CHV.kf {f : Nat → Int32} (h : CHV τ τ' f) (k : KF σ σ' τ' τ2) : CHV τ τ2 f := ⟨fun r a b d => by rw [k.2.2.2]; exact h.1 r a b d, (VW_66 (by rw [k.2.2.2])).trans h.2⟩
theorem CHV.c {f : Nat → Int32} {k : Nat} {v : Int32} (h : CHV τ τ' f) : CHV τ (cT τ' k v) (upd f k v) := by
  refine ⟨fun r a b d => (cT_o a).trans (h.1 r a b d), funext fun i => ?_⟩
  by_cases e : i = k
  · subst e
    rw [cT_s, up_s]
  · rw [cT_n e, up_n _ _ _ _ e, h.2]
theorem CHV.nm {f : Nat → Int32} (h : CHV τ τ' f) (k : ∀ r, r ≠ 20 → r ≠ 21 → τ2.2.1 r = τ'.2.1 r) : CHV τ τ2 f := ⟨fun r a b d => (k r b d).trans (h.1 r a b d), (VW_66 (k 6 (by decide) (by decide))).trans h.2⟩
theorem CHV.i {f : Nat → Int32} {z : Nat} {v : Int32} (h : CHV τ τ' f) : CHV τ (tsI τ' z v) f := h
theorem CHV.ag {f : Nat → Int32} {m l : Nat} (h : CHV τ τ' f) : AG m l (VW τ) (VW τ') := VW_ag h.1
theorem NMS.c {nh no k : Nat} {v : Int32} (h : NMS σ τ nh no) : NMS σ (cT τ k v) nh no := h.of rfl rfl rfl rfl rfl rfl
theorem NMS.go {nh no : Nat} {v w : Int32} (h : NMS σ τ nh no) : NMS (csI σ 31 v) (tsI τ 7 w) nh no := h.of (csI_n _ _ _ _ (by decide)) rfl (tsI_n _ _ _ _ (by decide)) rfl rfl rfl
theorem CLN.go {v w : Int32} (h : CLN (csI σ 31 v) (tsI τ 7 w)) : CLN σ τ := h.of (csI_n _ _ _ _ (by decide)).symm (tsI_n _ _ _ _ (by decide)).symm
/-- a fresh object, filled and frozen -/
theorem newO (hA : AdOK ad B) {o o' : Ob} {s : Nat} (hs : s ≤ 8) : MF ad X B (mX X B.2.1 o') (frB (nB B s) B.2.1 o') 1 := by
  have h := (MF.nb (X := X) hA (o := o) hs).fr (a := B.2.1) (o := o') (Nat.le_refl _) (Nat.lt_succ_self _) (new_no hA (Nat.le_refl _))
  rw [mX_mX] at h
  exact h
theorem init_11 {x y z : Int32} {p : Nat} (h : ¬ Own ad B p) (hx : X p = some (.inr (11, dfX11))) : f_X11_init F p x y z (cM X ad σ B) = some (cM (mX X p (.inr (11, [.int x, .int y, .int z]))) ad σ (frB B p (.inr (11, [.int x, .int y, .int z])))) := by
  unfold f_X11_init f_J3_init
  rw [Option.bind_some, pf_X h hx (show 0 < 3 by decide), Option.bind_some, pf_X h mX_s (show 1 < 3 by decide), Option.bind_some, mX_mX, pf_X h mX_s (show 2 < 3 by decide), Option.bind_some, mX_mX]
  exact congrArg some (fr_X h mX_s)
theorem init_12 {x y z : Int32} {p : Nat} (h : ¬ Own ad B p) (hx : X p = some (.inr (12, dfX12))) : f_X12_init F p x y z (cM X ad σ B) = some (cM (mX X p (.inr (12, [.int x, .int y, .int z]))) ad σ (frB B p (.inr (12, [.int x, .int y, .int z])))) := by
  unfold f_X12_init f_J3_init
  rw [Option.bind_some, pf_X h hx (show 0 < 3 by decide), Option.bind_some, pf_X h mX_s (show 1 < 3 by decide), Option.bind_some, mX_mX, pf_X h mX_s (show 2 < 3 by decide), Option.bind_some, mX_mX]
  exact congrArg some (fr_X h mX_s)
theorem init_13 {x y : Int32} {p : Nat} (h : ¬ Own ad B p) (hx : X p = some (.inr (13, dfX13))) : f_X13_init F p x y (cM X ad σ B) = some (cM (mX X p (.inr (13, [.int x, .int y]))) ad σ (frB B p (.inr (13, [.int x, .int y])))) := by
  unfold f_X13_init f_J3_init
  rw [Option.bind_some, pf_X h hx (show 0 < 2 by decide), Option.bind_some, pf_X h mX_s (show 1 < 2 by decide), Option.bind_some, mX_mX]
  exact congrArg some (fr_X h mX_s)
section AT
variable {X0 : Nat → Option Ob} {B0 : Sw} {σ0 : Cs} {τ0 : Tw} {u : Nat}
theorem house_CT (hF : 100000 ≤ F) (h : TI c pl last ad X0 B0 σ0 τ0 X B σ τ j) (hc : c j = 16) : TOK F c pl last ad X0 B0 σ0 τ0 j (f_X2_tell F (ad 6) (cM X ad σ B)) (t_X9_tellHouse F τ) := by
  obtain ⟨g, ob, D, m, l, hT, h130, hW, hC, hN, hD, ⟨h8, hm⟩, h11, hl⟩ := h
  have hA := hT.a
  have hj := hT.p.1.1
  have hjl := hT.p.2.2.2
  obtain ⟨⟨c0, n0⟩, ⟨c1, n1⟩, ⟨c2, n2⟩, ⟨c3, n3⟩, ⟨c4, n4⟩, ⟨c5, n5⟩, ⟨c8, n8⟩, c9, n9⟩ := hC
  have t0 : t_X9_told F 0 τ = some (Int32.ofNat (D.1 0)) := by rw [← c0]; exact told_T (k := 0) (by decide)
  have ol0 : ∀ σ, oc (cM X ad σ B) (g 1) 20 = some () := fun σ => hW.ol (i := 0) (by decide)
  have sz0 : ∀ σ, f_J2_size F (g 1) (cM X ad σ B) = some (Int32.ofNat (D.1 0)) := fun σ => hW.sz (i := 0) (by decide)
  have f0 : ∀ σ, gfR (cM X ad σ B) (g 0) 3 0 = some (g 1) := fun σ => m_R (k := 0) hW.t rfl
  have f5 : ∀ σ, gfR (cM X ad σ B) (ad 6) 2 5 = some (g 0) := fun σ => o6_5 hA σ h130
  unfold f_X2_tell t_X9_tellHouse
  rw [oc6 hA, Option.bind_some, kind_C hA hT.p, Option.bind_some, hc, show kT 16 = 200 from rfl, if_pos rfl, f5, Option.bind_some, f0, Option.bind_some, ol0, Option.bind_some, sz0, Option.bind_some, Option.bind_some, t0, Option.bind_some]
  rcases hT.room (F := F) (z := 0) (n := D.1 0) (most := 16) (base := 20) (size := 3) (pm := 16) (pz := 0) (pb := 20) (ps := 3) rfl rfl rfl rfl (by omega) (by omega) (by decide) c0 n0 (by decide) with ⟨r1, r2, r3, r4, r5, r6⟩ | ⟨τw, r1, r2, e, X2, B2, σ2, τ2, k, p, a1, a2, a3⟩ | ⟨τw, r0, r1, r2, e, X2, B2, σ2, τ2, k, p, a1, a2, a3⟩
  · rw [r3, th_l, r4, Option.bind_some, if_pos (ofNat_nn (by omega)), r5, Option.bind_some, if_neg (show ¬ (1 : Int32) = 0 by decide)]
    obtain ⟨σ1, e1⟩ : ∃ σ1, σ1 = csI σ 31 (Int32.ofNat (j + 1)) := ⟨_, rfl⟩
    obtain ⟨τ1, e2⟩ : ∃ τ1, τ1 = tsI (cT τ 0 (Int32.ofNat (D.1 0 + 1))) 7 (Int32.ofNat (j + 1)) := ⟨_, rfl⟩
    have v1 : CHV τ τ1 (upd (VW τ 6) 0 (Int32.ofNat (D.1 0 + 1))) := by rw [e2]; exact CHV.rf.c.i
    have nm1 : NMS σ1 τ1 (D.1 0) (D.1 1) := by rw [e1, e2]; exact hN.c.go
    have cl1 : CLN σ1 τ1 → CLN σ τ := fun q => by rw [e1, e2] at q; exact q.go
    have s1 : σ1.2 = σ.2 := by rw [e1]; rfl
    rw [← e1, ← e2] at r6
    rw [← e1, ← e2, f5, Option.bind_some, f0, Option.bind_some, ol0, Option.bind_some, sz0, Option.bind_some, oc6 hA, Option.bind_some]
    rcases r6.nameH hF nm1 r1 (fun q => ((hD (cl1 q)).1).of s1) with ⟨σ2, τ2, a1, a2, a3, a4, a5, a6⟩ | ⟨e, X2, B2, σ2, τ2, a1, a2, a3⟩
    · have v2 := v1.nm a6
      rw [a1, th_l, a2, Option.bind_some, if_neg (show ¬ (1 : Int32) = 0 by decide), oc6 hA, Option.bind_some]
      rcases a3.num2 (F := F) (lo := 0) (hi := 40) (a := 0) (b := 40) rfl rfl (by decide) (by decide) with ⟨σ3, τ3, w1, b1, b2, b3, b4, b5, b6⟩ | ⟨e, X2, B2, σ2, τ2, a1, a2, a3⟩
      · have v3 := (v2.kf b5).c (k := 20 + 3 * D.1 0) (v := w1)
        rw [b1, th_l, b2, Option.bind_some, if_neg (show ¬ (1 : Int32) = 0 by decide), b4, tell_T (show 20 + 3 * D.1 0 < 210 by omega), Option.bind_some, oc6 hA, Option.bind_some]
        have b3' := b3.cell (k := 20 + 3 * D.1 0) (v := w1)
        rcases b3'.num2 (F := F) (lo := 0) (hi := 99) (a := 0) (b := 99) rfl rfl (by decide) (by decide) with ⟨σ4, τ4, w2, d1, d2, d3, d4, d5, d6⟩ | ⟨e, X2, B2, σ2, τ2, a1, a2, a3⟩
        · have v4 := (v3.kf d5).c (k := 20 + 3 * D.1 0 + 1) (v := w2)
          rw [d1, th_l, d2, Option.bind_some, if_neg (show ¬ (1 : Int32) = 0 by decide), d4, show Int32.ofNat (20 + 3 * D.1 0) + 1 = Int32.ofNat (20 + 3 * D.1 0 + 1) from n_lp 1 _, tell_T (show 20 + 3 * D.1 0 + 1 < 210 by omega), Option.bind_some, f5, Option.bind_some, f0, Option.bind_some, nmE, nw_X hA]
          have hA1 : AdOK ad (nB B 3) := nB_ad hA
          have hno : ¬ Own ad (nB B 3) B.2.1 := new_no hA (Nat.le_refl _)
          have d3' := (d3.cell (k := 20 + 3 * D.1 0 + 1) (v := w2)).mem (d3.1.tr (MF.nb hA (o := .inr (11, dfX11)) (s := 3) (by decide))) (fun _ _ q => q) rfl
          simp only [cM_2]
          rw [oc6 hA1, Option.bind_some]
          rcases d3'.num2 (F := F) (lo := 1) (hi := 9) (a := 1) (b := 9) rfl rfl (by decide) (by decide) with ⟨σ5, τ5, w3, g1, g2, g3, g4, g5, g6⟩ | ⟨e, X2, B2, σ2, τ2, a1, a2, a3⟩
          · have v5 := (v4.kf g5).c (k := 20 + 3 * D.1 0 + 2) (v := w3)
            have hmf := newO (X := X) hA (o := .inr (11, dfX11)) (o' := .inr (11, [.int w1, .int w2, .int w3])) (s := 3) (by decide)
            have hW1 := hW.mf hmf
            have hM1 := hT.1.tr hmf
            have hK1 : KB (frB (nB B 3) B.2.1 (.inr (11, [.int w1, .int w2, .int w3]))) := hT.2.1.mf hmf
            obtain ⟨X6, B6, g', ob', k1, k2, k3, k4, k5, k6⟩ := hW1.add (F := F) (σ := σ5) (i := 0) (p := B.2.1) hM1.1 hK1 hM1 (by decide) fr_at (show D.1 0 ≤ 100 by omega)
            have k1' : f_J2_add F (g 1) B.2.1 (cM (mX X B.2.1 (.inr (11, [.int w1, .int w2, .int w3]))) ad σ5 (frB (nB B 3) B.2.1 (.inr (11, [.int w1, .int w2, .int w3])))) = _ := k1
            rw [g1, th_l, g2, Option.bind_some, if_neg (show ¬ (1 : Int32) = 0 by decide), g4, show Int32.ofNat (20 + 3 * D.1 0) + 2 = Int32.ofNat (20 + 3 * D.1 0 + 2) from n_lp 2 _, tell_T (show 20 + 3 * D.1 0 + 2 < 210 by omega), Option.bind_some, init_11 hno mX_s, Option.bind_some, mX_mX, hW1.ol (i := 0) (by decide), Option.bind_some, k1', Option.bind_some]
            have hG : Gr B B6 := fun a o q => (gr_eq k3) a o (hmf.2.1 a o q)
            have hT6 : AT c pl last ad X0 B0 σ0 τ0 (40 + 24 * (j + 5)) X6 B6 σ5 (cT τ5 (20 + 3 * D.1 0 + 2) w3) (j + 5) := ((g3.cell).mem (X' := X6) (B' := B6) k2 (fun a o q => (gr_eq k3) a o (fr_gr hno a o q)) k4).le (by omega)
            have nm5 : NMS σ5 (cT τ5 (20 + 3 * D.1 0 + 2) w3) (D.1 0 + 1) (D.1 1) := ((((a4.kf b5).c.kf d5).c).kf g5).c
            refine Or.inl ⟨X6, B6, σ5, _, j + 5, rfl, rfl, by omega, g', ob', _, m, l, hT6, by rw [k5]; exact h130, k6, ?_, nm5, fun q => ?_, ⟨?_, by omega⟩, ?_, by omega⟩
            · unfold CNT
              rw [v5.2]
              refine ⟨⟨?_, ?_⟩, ⟨?_, n1⟩, ⟨?_, n2⟩, ⟨?_, n3⟩, ⟨?_, n4⟩, ⟨?_, n5⟩, ⟨?_, n8⟩, ?_, n9⟩
              · rw [up_n _ _ _ _ (by omega), up_n _ _ _ _ (by omega), up_n _ _ _ _ (by omega), up_s]; rfl
              · show D.1 0 + 1 ≤ 16; omega
              · rw [up_n _ _ _ _ (by omega), up_n _ _ _ _ (by omega), up_n _ _ _ _ (by omega), up_n _ _ _ _ (by omega)]; exact c1
              · rw [up_n _ _ _ _ (by omega), up_n _ _ _ _ (by omega), up_n _ _ _ _ (by omega), up_n _ _ _ _ (by omega)]; exact c2
              · rw [up_n _ _ _ _ (by omega), up_n _ _ _ _ (by omega), up_n _ _ _ _ (by omega), up_n _ _ _ _ (by omega)]; exact c3
              · rw [up_n _ _ _ _ (by omega), up_n _ _ _ _ (by omega), up_n _ _ _ _ (by omega), up_n _ _ _ _ (by omega)]; exact c4
              · rw [up_n _ _ _ _ (by omega), up_n _ _ _ _ (by omega), up_n _ _ _ _ (by omega), up_n _ _ _ _ (by omega)]; exact c5
              · rw [up_n _ _ _ _ (by omega), up_n _ _ _ _ (by omega), up_n _ _ _ _ (by omega), up_n _ _ _ _ (by omega)]; exact c8
              · rw [up_n _ _ _ _ (by omega), up_n _ _ _ _ (by omega), up_n _ _ _ _ (by omega), up_n _ _ _ _ (by omega)]; exact c9
            · obtain ⟨q4, z, z1, z2, z3⟩ := g6 q
              obtain ⟨q3, y, y1, y2, y3⟩ := d6 q4
              obtain ⟨q2, x, x1, x2, x3⟩ := b6 q3
              obtain ⟨q1, nd⟩ := a5 q2
              obtain ⟨-, dt⟩ := hD (cl1 q1)
              refine ⟨nd.of (g5.2.1.trans (d5.2.1.trans b5.2.1)), ?_⟩
              obtain ⟨D1, D2, D3, D4, D5, D6, D7, D8, D9⟩ := dt
              have eo : ∀ k, k ≠ 0 → ¬ (20 + 3 * D.1 0 ≤ k ∧ k < 23 + 3 * D.1 0) → VW (cT τ5 (20 + 3 * D.1 0 + 2) w3) 6 k = VW τ 6 k := fun k a b => by
                rw [v5.2, up_n _ _ _ _ (by omega), up_n _ _ _ _ (by omega), up_n _ _ _ _ (by omega), up_n _ _ _ _ (by omega)]
              have ag : AG m l (VW τ) (VW (cT τ5 (20 + 3 * D.1 0 + 2) w3)) := v5.ag
              have N0 : D.1 0 ≤ D.1 0 + 1 := Nat.le_succ _
              refine ⟨D1.of (eo 6 (by omega) (by omega)) (eo 7 (by omega) (by omega)) rfl, D2.of hG ag (fun k a b => eo k (by omega) (by omega)) rfl (Nat.le_refl _), D3.add (p := B.2.1) (x := x) (y := y) (z := z) hG r1 (fun k a b d => eo k (by omega) d) ?_ ?_ ?_ x2 y2 z2 ?_ rfl rfl, D4.of (fun k a b => eo k (by omega) (by omega)) n1 rfl rfl, D5.of (fun k a b => eo k (by omega) (by omega)) n2 rfl rfl N0 (Nat.le_refl _), D6.of hG (fun k a b => eo k (by omega) (by omega)) n3 rfl rfl N0, D7.of (fun k a b => eo k (by omega) (by omega)) n4 rfl rfl N0, D8.of hG (fun k a b => eo k (by omega) (by omega)) n5 rfl rfl, D9.of hG ag (fun k a b => eo k (by omega) (by omega)) n8 n9 rfl rfl rfl rfl (Nat.le_refl _) (Nat.le_refl _)⟩
              · rw [v5.2, up_n _ _ _ _ (by omega), up_n _ _ _ _ (by omega), up_s, x3]
              · rw [v5.2, up_n _ _ _ _ (by omega), up_s, y3]
              · rw [v5.2, up_s, z3]
              · rw [← x3, ← y3, ← z3]
                exact (gr_eq k3) _ _ fr_at
            · rw [v5.1 8 (by decide) (by decide) (by decide)]; exact h8
            · rw [v5.1 11 (by decide) (by decide) (by decide)]; exact h11
          · rw [a1, th_r, a2, Option.bind_some, if_pos rfl]
            exact Or.inr (a3.le (by omega))
        · rw [a1, th_r, a2, Option.bind_some, if_pos rfl]
          exact Or.inr (a3.le (by omega))
      · rw [a1, th_r, a2, Option.bind_some, if_pos rfl]
        exact Or.inr (a3.le (by omega))
    · rw [a1, th_r, a2, Option.bind_some, if_pos rfl]
      exact Or.inr (a3.le (by omega))
  · rw [a1, th_r, r1, Option.bind_some, if_neg (show ¬ (0 : Int32) ≤ -1 by decide), r2, Option.bind_some, if_pos (Or.inl rfl)]
    exact Or.inr (TNO.le ⟨e, X2, B2, σ2, τ2, k, p, rfl, a2, a3⟩ (by omega))
  · rw [a1, th_r, r1, Option.bind_some, if_pos (ofNat_nn (by omega)), r2, Option.bind_some, if_pos rfl]
    exact Or.inr (TNO.le ⟨e, X2, B2, σ2, τ2, k, p, rfl, a2, a3⟩ (by omega))
end AT
