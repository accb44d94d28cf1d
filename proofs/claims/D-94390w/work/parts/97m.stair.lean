set_option maxRecDepth 100000
/-! the telling: a stair -/
variable {X X' X2 : Nat → Option Ob} {ad : Nat → Nat} {B B' B2 : Sw} {A A' : Av} {σ σ' σ2 : Cs} {τ τ' τ2 : Tw} {F : Nat} {c pl : Nat → Nat} {last j : Nat}
variable {X0 : Nat → Option Ob} {B0 : Sw} {σ0 : Cs} {τ0 : Tw} {u : Nat} {g : Nat → Nat} {ob : Nat → Ob} {D : Dn}
/-- a stair's last number, and the stair -/
theorem stair_end {cc : Nat} {x y : Int32} (hT : AT c pl last ad X0 B0 σ0 τ0 u X B σ τ j) (h130 : ad 130 = g 0 + 1) (hW : TWD ad B0.2.1 X B g ob D) (hn : D.1 3 ≤ 100) (hcc : cc + 2 < 210) : (∃ X6 B6 g' ob' σ5 τ5 w p, f_X2_tellStair_j53 F (ad 6) x y (cM X ad σ B) = some (.inl (), cM X6 ad σ5 B6) ∧ t_X9_tellStair_j123 F (Int32.ofNat cc) τ = some (1, cT τ5 (cc + 2) w) ∧ AT c pl last ad X0 B0 σ0 τ0 (u + 26) X6 B6 σ5 (cT τ5 (cc + 2) w) (j + 1) ∧ KF σ σ5 τ τ5 ∧ g' 0 = g 0 ∧ TWD ad B0.2.1 X6 B6 g' ob' (dE (dN D 3 (D.1 3 + 1)) 1 (fun k => if k = D.1 3 then p else D.2.1 1 k)) ∧ B6.1 p = some (.inr (12, [.int x, .int y, .int w])) ∧ Gr B B6 ∧ (CLN σ5 τ5 → CLN σ τ ∧ ∃ z, z ≤ 99 ∧ w = Int32.ofNat z)) ∨ ∃ e X2 B2 σ2 τ2, f_X2_tellStair_j53 F (ad 6) x y (cM X ad σ B) = some (.inr e, cM X2 ad σ2 B2) ∧ t_X9_tellStair_j123 F (Int32.ofNat cc) τ = some (0, τ2) ∧ ∀ {R : Type}, TNO (R := R) ad X0 B0 σ0 τ0 (u + 2) (some (.inr e, cM X2 ad σ2 B2)) (some (0, τ2)) := by
  have hA := hT.a
  have f0 : ∀ σ, gfR (cM X ad σ B) (g 0) 3 1 = some (g 2) := fun σ => m_R (k := 1) hW.t rfl
  have f5 : ∀ σ, gfR (cM X ad σ B) (ad 6) 2 5 = some (g 0) := fun σ => o6_5 hA σ h130
  have hA1 : AdOK ad (nB B 3) := nB_ad hA
  have hno : ¬ Own ad (nB B 3) B.2.1 := new_no hA (Nat.le_refl _)
  have d3' := hT.mem (hT.1.tr (MF.nb hA (o := .inr (12, dfX12)) (s := 3) (by decide))) (fun _ _ q => q) rfl
  unfold f_X2_tellStair_j53 t_X9_tellStair_j123
  rw [f5, Option.bind_some, f0, Option.bind_some, nmE, nw_X hA]
  simp only [cM_2]
  rw [oc6 hA1, Option.bind_some]
  rcases d3'.num2 (F := F) (lo := 0) (hi := 99) (a := 0) (b := 99) rfl rfl (by decide) (by decide) with ⟨σ5, τ5, w3, g1, g2, g3, g4, g5, g6⟩ | ⟨e, X2, B2, σ2, τ2, a1, a2, a3⟩
  · have hmf := newO (X := X) hA (o := .inr (12, dfX12)) (o' := .inr (12, [.int x, .int y, .int w3])) (s := 3) (by decide)
    have hW1 := hW.mf hmf
    have hM1 := hT.1.tr hmf
    have hK1 : KB (frB (nB B 3) B.2.1 (.inr (12, [.int x, .int y, .int w3]))) := hT.2.1.mf hmf
    obtain ⟨X6, B6, g', ob', k1, k2, k3, k4, k5, k6⟩ := hW1.add (F := F) (σ := σ5) (i := 1) (p := B.2.1) hM1.1 hK1 hM1 (by decide) fr_at hn
    have k1' : f_J2_add F (g 2) B.2.1 (cM (mX X B.2.1 (.inr (12, [.int x, .int y, .int w3]))) ad σ5 (frB (nB B 3) B.2.1 (.inr (12, [.int x, .int y, .int w3])))) = _ := k1
    have ol1 : oc (cM (mX X B.2.1 (.inr (12, [.int x, .int y, .int w3]))) ad σ5 (frB (nB B 3) B.2.1 (.inr (12, [.int x, .int y, .int w3])))) (g 2) 20 = some () := hW1.ol (i := 1) (by decide)
    rw [g1, th_l, g2, Option.bind_some, if_neg (show ¬ (1 : Int32) = 0 by decide), g4, show Int32.ofNat cc + 2 = Int32.ofNat (cc + 2) from n_lp 2 _, tell_T (show cc + 2 < 210 by omega), Option.bind_some, init_12 hno mX_s, Option.bind_some, mX_mX, ol1, Option.bind_some, k1', Option.bind_some]
    have hG : Gr B B6 := fun a o q => (gr_eq k3) a o (hmf.2.1 a o q)
    refine Or.inl ⟨X6, B6, g', ob', σ5, τ5, w3, B.2.1, rfl, rfl, ((g3.cell).mem (X' := X6) (B' := B6) k2 (fun a o q => (gr_eq k3) a o (fr_gr hno a o q)) k4).le (by omega), g5, k5, k6, (gr_eq k3) _ _ fr_at, hG, fun q => ?_⟩
    obtain ⟨q1, z, z1, z2, z3⟩ := g6 q
    exact ⟨q1, z, z2, z3⟩
  · rw [a1, th_r, a2, Option.bind_some, if_pos rfl]
    exact Or.inr ⟨e, X2, B2, σ2, τ2, rfl, rfl, a3.le (by omega)⟩
/-- a stair's second house, looked at -/
theorem stair_mid (hF : 100000 ≤ F) {cc : Nat} {x y : Int32} (hT : AT c pl last ad X0 B0 σ0 τ0 u X B σ τ (j + 1)) (hcc : cc < 200) (hjl : j ≤ last) (h6 : (CLN σ τ ∧ τ.1 29 = y ∧ y ≠ -1 ∧ x ≠ -1 ∧ VW τ 6 cc = x) ∨ (DY pl (j + 1) σ τ ∧ ((y = -1 ∧ τ.1 29 = -1) ∨ DY pl j σ τ))) (hy : y = -1 ∨ ∃ i, i < 100 ∧ y = Int32.ofNat i) : ∃ σ4 τ4, f_X2_tellStair_j37 F (ad 6) x (Int32.ofNat j) y (cM X ad σ B) = f_X2_tellStair_j53 F (ad 6) x y (cM X ad σ4 B) ∧ (if τ.1 29 < 0 then t_X9_tellStair_j112 F (Int32.ofNat cc) τ else Option.bind (t_X9_told F (Int32.ofNat cc) τ) fun q23 => if τ.1 29 = q23 then Option.bind (t_X9_tells F 5 (Int32.ofNat j) τ) fun q26 => t_X9_tellStair_j112 F (Int32.ofNat cc) q26 else t_X9_tellStair_j112 F (Int32.ofNat cc) τ) = t_X9_tellStair_j112 F (Int32.ofNat cc) τ4 ∧ AT c pl last ad X0 B0 σ0 τ0 u X B σ4 τ4 (j + 1) ∧ (∀ z, z ≠ 33 → z ≠ 34 → σ4.1 z = σ.1 z) ∧ σ4.2 = σ.2 ∧ (∀ z, z ≠ 10 → z ≠ 11 → τ4.1 z = τ.1 z) ∧ τ4.2 = τ.2 ∧ (CLN σ4 τ4 → CLN σ τ) := by
  have hA := hT.a
  have hP := hT.p
  unfold f_X2_tellStair_j37
  rw [told_T (show cc < 210 by omega), Option.bind_some, tells_T hP.1 hjl, Option.bind_some, oc6 hA, Option.bind_some, wrong_C hA hP.1 hjl, Option.bind_some]
  have same : ∃ σ4 τ4, f_X2_tellStair_j53 F (ad 6) x y (cM X ad σ B) = f_X2_tellStair_j53 F (ad 6) x y (cM X ad σ4 B) ∧ t_X9_tellStair_j112 F (Int32.ofNat cc) τ = t_X9_tellStair_j112 F (Int32.ofNat cc) τ4 ∧ AT c pl last ad X0 B0 σ0 τ0 u X B σ4 τ4 (j + 1) ∧ (∀ z, z ≠ 33 → z ≠ 34 → σ4.1 z = σ.1 z) ∧ σ4.2 = σ.2 ∧ (∀ z, z ≠ 10 → z ≠ 11 → τ4.1 z = τ.1 z) ∧ τ4.2 = τ.2 ∧ (CLN σ4 τ4 → CLN σ τ) := ⟨σ, τ, rfl, rfl, hT, fun _ _ _ => rfl, rfl, fun _ _ _ => rfl, rfl, fun q => q⟩
  rcases h6 with ⟨q1, q2, q3, q4, q5⟩ | ⟨q1, q2⟩
  · obtain ⟨i, hi, ey⟩ := hy.resolve_left q3
    have n0 : ¬ τ.1 29 < 0 := by
      rw [q2, ey]
      exact Int32.not_lt.2 (ofNat_nn (by omega))
    rw [if_neg q4, if_neg n0, q2, q5]
    by_cases e : x = y
    · rw [if_pos e, if_pos e.symm]
      have dd : DY pl (j + 1) (wlC 5 (pl j) σ) (tlT 5 (pl j) τ) := q1.d (by decide)
      exact ⟨_, _, rfl, rfl, hT.st wlC_RF tlT_TZ (wlC_i (by decide) (by decide)) (wlC_i (by decide) (by decide)) (tlT_i (by decide) (by decide)) (Or.inr dd), fun z a b => wlC_i a b, wlC_2, fun z a b => tlT_i a b, tlT_2, fun q => (nc_d q dd).elim⟩
    · rw [if_neg e, if_neg (fun z => e z.symm)]
      exact same
  · rcases q2 with ⟨p1, p2⟩ | p1
    · subst p1
      rw [p2, if_pos (show (-1 : Int32) < 0 by decide)]
      by_cases e : x = -1
      · rw [if_pos e]
        exact same
      · rw [if_neg e, if_neg e]
        exact same
    · rw [p1.w hP.1 hjl, p1.t hP.1 hjl, ite_self, ite_self, ite_self, ite_self]
      exact same
theorem stair_CT (hF : 100000 ≤ F) (h : TI c pl last ad X0 B0 σ0 τ0 X B σ τ j) (hc : c j = 19) : TOK F c pl last ad X0 B0 σ0 τ0 j (f_X2_tell F (ad 6) (cM X ad σ B)) (t_X9_tellStair F τ) := by
  obtain ⟨g, ob, D, m, l, hT, h130, hW, hC, hN, hD, ⟨h8, hm⟩, h11, hl⟩ := h
  have hA := hT.a
  have hj := hT.p.1.1
  have hjl := hT.p.2.2.2
  obtain ⟨⟨c0, n0⟩, ⟨c1, n1⟩, ⟨c2, n2⟩, ⟨c3, n3⟩, ⟨c4, n4⟩, ⟨c5, n5⟩, ⟨c8, n8⟩, c9, n9⟩ := hC
  have ol0 : ∀ σ, oc (cM X ad σ B) (g 2) 20 = some () := fun σ => hW.ol (i := 1) (by decide)
  have sz0 : ∀ σ, f_J2_size F (g 2) (cM X ad σ B) = some (Int32.ofNat (D.1 3)) := fun σ => hW.sz (i := 1) (by decide)
  have f0 : ∀ σ, gfR (cM X ad σ B) (g 0) 3 1 = some (g 2) := fun σ => m_R (k := 1) hW.t rfl
  have f5 : ∀ σ, gfR (cM X ad σ B) (ad 6) 2 5 = some (g 0) := fun σ => o6_5 hA σ h130
  unfold f_X2_tell t_X9_tellStair
  rw [oc6 hA, Option.bind_some, kind_C hA hT.p, Option.bind_some, hc, show kT 19 = 203 from rfl, if_neg (show ¬ (203 : Int32) = 200 by decide), if_neg (show ¬ (203 : Int32) = 201 by decide), if_neg (show ¬ (203 : Int32) = 202 by decide), if_pos rfl, f5, Option.bind_some, f0, Option.bind_some, ol0, Option.bind_some, sz0, Option.bind_some, Option.bind_some]
  rcases hT.room (F := F) (z := 3) (n := D.1 3) (most := 12) (base := 120) (size := 3) (pm := 12) (pz := 3) (pb := 120) (ps := 3) rfl rfl rfl rfl (by omega) (by omega) (by decide) c3 n3 (by decide) with ⟨r1, r2, r3, r4, r5, r6⟩ | ⟨τw, r1, r2, e, X2, B2, σ2, τ2, k, p, a1, a2, a3⟩ | ⟨τw, r0, r1, r2, e, X2, B2, σ2, τ2, k, p, a1, a2, a3⟩
  · rw [r3, th_l, r4, Option.bind_some, if_pos (ofNat_nn (by omega)), r5, Option.bind_some, if_neg (show ¬ (1 : Int32) = 0 by decide)]
    obtain ⟨σ1, e1⟩ : ∃ σ1, σ1 = csI σ 31 (Int32.ofNat (j + 1)) := ⟨_, rfl⟩
    obtain ⟨τ1, e2⟩ : ∃ τ1, τ1 = tsI (cT τ 3 (Int32.ofNat (D.1 3 + 1))) 7 (Int32.ofNat (j + 1)) := ⟨_, rfl⟩
    have v1 : CHV τ τ1 (upd (VW τ 6) 3 (Int32.ofNat (D.1 3 + 1))) := by rw [e2]; exact CHV.rf.c.i
    have nm1 : NMS σ1 τ1 (D.1 0) (D.1 1) := by rw [e1, e2]; exact hN.c.go
    have cl1 : CLN σ1 τ1 → CLN σ τ := fun q => by rw [e1, e2] at q; exact q.go
    have s1 : σ1.2 = σ.2 := by rw [e1]; rfl
    rw [← e1, ← e2] at r6
    rw [← e1, ← e2, oc6 hA, Option.bind_some]
    unfold f_X2_tellStair
    rw [oc6 hA, Option.bind_some]
    rcases r6.known2 (F := F) hF (q := 0) (a := 0) (b := 0) rfl rfl (by decide) nm1 (fun q => ((hD (cl1 q)).1).of s1) with ⟨σ2, τ2, x, a1, a2, a3, a4, a5, a6⟩ | ⟨e, X2, B2, σ2, τ2, a1, a2, a3⟩
    · obtain ⟨w1, ew1⟩ : ∃ w1, w1 = τ2.1 29 := ⟨_, rfl⟩
      obtain ⟨cc, ecc⟩ : ∃ cc, cc = 120 + 3 * D.1 3 := ⟨_, rfl⟩
      have v2 := ((v1.kf a4).c (k := cc) (v := w1)).c (k := cc + 1) (v := -1)
      have a3' := (a3.cell (k := cc) (v := w1)).cell (k := cc + 1) (v := -1)
      obtain ⟨τ2', eτ2⟩ : ∃ τ2', τ2' = cT (cT τ2 cc w1) (cc + 1) (-1) := ⟨_, rfl⟩
      rw [← eτ2] at v2 a3'
      have nm2 : NMS σ2 τ2' (D.1 0) (D.1 1) := by rw [eτ2]; exact ((nm1.kf a4).c).c
      have c12 : CLN σ2 τ2' → CLN σ2 τ2 := fun q => by rw [eτ2] at q; exact q
      have cl2 : CLN σ2 τ2 → CLN σ1 τ1 ∧ w1 = x ∧ x ≠ -1 := fun q => by
        rcases a6 with ⟨-, b1, b2, b3⟩ | ⟨b1, -⟩
        · exact ⟨b1, by rw [ew1]; exact b2, b3⟩
        · exact (nc_d q b1).elim
      have hd2 : CLN σ2 τ2' → NMD σ2 (D.1 0 + D.1 1) := fun q => ((hD (cl1 (cl2 (c12 q)).1)).1).of (a4.2.1.trans s1)
      have h31 : gfI (cM X ad σ2 B) (ad 6) 2 1 = some (Int32.ofNat (j + 2)) := by
        rw [o6_1 hA, a3.p.2.1]
      have h7 : τ2'.1 7 = Int32.ofNat (j + 2) := a3'.p.2.2.1
      have is := is_CC (X := X) (F := F) hA a3'.p (q := 20) (by decide)
      rw [show kT 20 = 204 from rfl] at is
      have iw := word_TT (F := F) a3'.p (q := 4) (by decide)
      rw [show wtL.getD 4 0 = 4 from rfl, show 16 + 4 = 20 from rfl] at iw
      rw [a1, th_l, a2, Option.bind_some, if_neg (show ¬ (1 : Int32) = 0 by decide), ← ew1, ← ecc, tell_T (show cc < 210 by omega), Option.bind_some, show Int32.ofNat cc + 1 = Int32.ofNat (cc + 1) from n_lp 1 _, tell_T (show cc + 1 < 210 by omega), Option.bind_some, ← eτ2, iw, Option.bind_some, h31, Option.bind_some, oc6 hA, Option.bind_some, is, Option.bind_some]
      -- the end, behind the second house
      have fin : ∀ (σ4 : Cs) (τ4 : Tw) (y w2 : Int32) (j4 : Nat), AT c pl last ad X0 B0 σ0 τ0 (40 + 24 * j) X B σ4 τ4 j4 → j + 3 ≤ j4 → CHV τ τ4 (upd (upd (upd (upd (VW τ 6) 3 (Int32.ofNat (D.1 3 + 1))) cc w1) (cc + 1) (-1)) (cc + 1) w2) → NMS σ4 τ4 (D.1 0) (D.1 1) → σ4.2 = σ.2 → (CLN σ4 τ4 → CLN σ2 τ2 ∧ w2 = y ∧ (y = -1 ∨ ∃ h, h < D.1 0 ∧ y = Int32.ofNat h)) → TOK F c pl last ad X0 B0 σ0 τ0 j (Option.bind (f_X2_tellStair_j53 F (ad 6) x y (cM X ad σ4 B)) fun q179 => thr q179.1 q179.2 fun x184 => Option.bind (oc q179.2 (ad 6) 2) fun u188 => Option.bind (f_X2_must F (ad 6) 59 q179.2) fun q186 => thr q186.1 q186.2 fun x191 => some (.inl (), q186.2)) (t_X9_tellStair_j123 F (Int32.ofNat cc) τ4) := by
        intro σ4 τ4 y w2 j4 b1 b2 b3 b4 b5 b6
        have hjl4 := b1.p.2.2.2
        rcases stair_end (F := F) (cc := cc) (x := x) (y := y) b1 h130 hW (by omega) (by omega) with ⟨X6, B6, g', ob', σ5, τ5, w, p, k1, k2, k3, k4, k5, k6, k7, k8, k9⟩ | ⟨e, X2, B2, σ2, τ2, a1, a2, a3⟩
        · have v5 := (b3.kf k4).c (k := cc + 2) (v := w)
          rw [k1, k2]
          refine Or.inl ⟨X6, B6, σ5, _, j4 + 1, rfl, rfl, by omega, g', ob', _, m, l, k3.le (by omega), by rw [k5]; exact h130, k6, ?_, (b4.kf k4).c, fun q => ?_, ⟨?_, by omega⟩, ?_, by omega⟩
          · unfold CNT
            rw [v5.2]
            refine ⟨⟨?_, n0⟩, ⟨?_, n1⟩, ⟨?_, n2⟩, ⟨?_, ?_⟩, ⟨?_, n4⟩, ⟨?_, n5⟩, ⟨?_, n8⟩, ?_, n9⟩
            · rw [up_n _ _ _ _ (by omega), up_n _ _ _ _ (by omega), up_n _ _ _ _ (by omega), up_n _ _ _ _ (by omega), up_n _ _ _ _ (by omega)]; exact c0
            · rw [up_n _ _ _ _ (by omega), up_n _ _ _ _ (by omega), up_n _ _ _ _ (by omega), up_n _ _ _ _ (by omega), up_n _ _ _ _ (by omega)]; exact c1
            · rw [up_n _ _ _ _ (by omega), up_n _ _ _ _ (by omega), up_n _ _ _ _ (by omega), up_n _ _ _ _ (by omega), up_n _ _ _ _ (by omega)]; exact c2
            · rw [up_n _ _ _ _ (by omega), up_n _ _ _ _ (by omega), up_n _ _ _ _ (by omega), up_n _ _ _ _ (by omega), up_s]; rfl
            · show D.1 3 + 1 ≤ 12; omega
            · rw [up_n _ _ _ _ (by omega), up_n _ _ _ _ (by omega), up_n _ _ _ _ (by omega), up_n _ _ _ _ (by omega), up_n _ _ _ _ (by omega)]; exact c4
            · rw [up_n _ _ _ _ (by omega), up_n _ _ _ _ (by omega), up_n _ _ _ _ (by omega), up_n _ _ _ _ (by omega), up_n _ _ _ _ (by omega)]; exact c5
            · rw [up_n _ _ _ _ (by omega), up_n _ _ _ _ (by omega), up_n _ _ _ _ (by omega), up_n _ _ _ _ (by omega), up_n _ _ _ _ (by omega)]; exact c8
            · rw [up_n _ _ _ _ (by omega), up_n _ _ _ _ (by omega), up_n _ _ _ _ (by omega), up_n _ _ _ _ (by omega), up_n _ _ _ _ (by omega)]; exact c9
          · obtain ⟨q4, z, z1, z2⟩ := k9 q
            obtain ⟨q3, hwy, hy⟩ := b6 q4
            obtain ⟨q1, q5, q6⟩ := cl2 q3
            obtain ⟨nd, dt⟩ := hD (cl1 q1)
            obtain ⟨xi, xi1, xi2⟩ := a5.resolve_left q6
            rw [if_pos rfl] at xi1
            refine ⟨nd.of (k4.2.1.trans b5), ?_⟩
            obtain ⟨D1, D2, D3, D4, D5, D6, D7, D8, D9⟩ := dt
            have eo : ∀ k, k ≠ 3 → ¬ (120 + 3 * D.1 3 ≤ k ∧ k < 123 + 3 * D.1 3) → VW (cT τ5 (cc + 2) w) 6 k = VW τ 6 k := fun k a b => by
              rw [v5.2, up_n _ _ _ _ (by omega), up_n _ _ _ _ (by omega), up_n _ _ _ _ (by omega), up_n _ _ _ _ (by omega), up_n _ _ _ _ (by omega)]
            have ag : AG m l (VW τ) (VW (cT τ5 (cc + 2) w)) := v5.ag
            refine ⟨D1.of (eo 6 (by omega) (by omega)) (eo 7 (by omega) (by omega)) rfl, D2.of k8 ag (fun k a b => eo k (by omega) (by omega)) rfl (Nat.le_refl _), D3.of k8 (fun k a b => eo k (by omega) (by omega)) n0 rfl rfl, D4.of (fun k a b => eo k (by omega) (by omega)) n1 rfl rfl, D5.of (fun k a b => eo k (by omega) (by omega)) n2 rfl rfl (Nat.le_refl _) (Nat.le_refl _), D6.add (p := p) (x := xi) (y := y) (z := z) k8 r1 (fun k a b d => eo k (by omega) d) ?_ ?_ ?_ xi1 hy z1 ?_ rfl rfl rfl, D7.of (fun k a b => eo k (by omega) (by omega)) n4 rfl rfl (Nat.le_refl _), D8.of k8 (fun k a b => eo k (by omega) (by omega)) n5 rfl rfl, D9.of k8 ag (fun k a b => eo k (by omega) (by omega)) n8 n9 rfl rfl rfl rfl (Nat.le_refl _) (Nat.le_refl _)⟩
            · rw [v5.2, ← ecc, up_n _ _ _ _ (by omega), up_n _ _ _ _ (by omega), up_n _ _ _ _ (by omega), up_s, q5, xi2]
            · rw [v5.2, ← ecc, up_n _ _ _ _ (by omega), up_s]
              exact hwy
            · rw [v5.2, ← ecc, up_s, z2]
            · rw [k7, xi2, z2]
          · rw [v5.1 8 (by decide) (by decide) (by decide)]; exact h8
          · rw [v5.1 11 (by decide) (by decide) (by decide)]; exact h11
        · rw [a1, th_r, a2]
          exact Or.inr (a3.le (by omega))
      by_cases hg : c (j + 2) = 20
      · have hg' : c (j + 1 + 1) = 20 := hg
        rw [if_pos hg', if_pos hg', if_neg (show ¬ (1 : Int32) = 0 by decide), if_neg (show ¬ (1 : Int32) = 0 by decide), oc6 hA, Option.bind_some]
        rcases a3'.go (F := F) (by omega) (by omega) with ⟨k1, k2, k3, k4⟩ | ⟨e, X2, B2, σ2, τ2, k, p, a1, a2, a3⟩
        · rw [k2, th_l, k3, Option.bind_some, if_neg (show ¬ (1 : Int32) = 0 by decide)]
          have ej : ∀ M, f_X2_tellStair_j37 F (ad 6) x (Int32.ofNat (j + 2)) (-1) M = f_X2_tellStair_j53 F (ad 6) x (-1) M := fun M => by
            unfold f_X2_tellStair_j37
            by_cases ex : x = -1
            · rw [if_pos ex]
            · rw [if_neg ex, if_neg ex]
          rw [ej]
          refine fin _ _ (-1) (-1) (j + 3) k4 (by omega) ?_ nm2.go (a4.2.1.trans s1) (fun q => ⟨c12 q.go, rfl, Or.inl rfl⟩)
          refine ⟨v2.1, v2.2.trans ?_⟩
          funext i
          by_cases ei : i = cc + 1
          · rw [ei, up_s, up_s]
          · rw [up_n _ _ _ _ ei, up_n _ _ _ _ ei, up_n _ _ _ _ ei]
        · rw [a1, th_r, th_r, a2, Option.bind_some, if_pos rfl]
          exact Or.inr (TNO.le ⟨e, X2, B2, σ2, τ2, k, p, rfl, rfl, a3⟩ (by omega))
      · have hg' : ¬ c (j + 1 + 1) = 20 := hg
        rw [if_neg hg', if_neg hg', if_pos rfl, if_pos rfl, oc6 hA, Option.bind_some, nmE, h7]
        rcases a3'.known2 (F := F) hF (q := 0) (a := 0) (b := 0) rfl rfl (by decide) nm2 hd2 with ⟨σ3, τ3, y, b1, b2, b3, b4, b5, b6⟩ | ⟨e, X2, B2, σ2, τ2, a1, a2, a3⟩
        · have hjl3 := b3.p.2.2.2
          rw [b1, th_l, b2, Option.bind_some, if_neg (show ¬ (1 : Int32) = 0 by decide)]
          have v3 := v2.kf b4
          have hcell : VW τ3 6 cc = w1 := by
            rw [v3.2, up_n _ _ _ _ (by omega), up_s]
          have pre : (CLN σ3 τ3 ∧ τ3.1 29 = y ∧ y ≠ -1 ∧ x ≠ -1 ∧ VW τ3 6 cc = x) ∨ (DY pl (j + 2 + 1) σ3 τ3 ∧ ((y = -1 ∧ τ3.1 29 = -1) ∨ DY pl (j + 2) σ3 τ3)) := by
            rcases b6 with ⟨d1, d2, d3, d4⟩ | d
            · obtain ⟨-, f2, f3⟩ := cl2 (c12 d2)
              exact Or.inl ⟨d1, d3, d4, f3, by rw [hcell]; exact f2⟩
            · exact Or.inr d
          obtain ⟨σ4, τ4, k1, k2, k3, k4, k5, k6, k7, k8⟩ := stair_mid (F := F) (j := j + 2) (cc := cc) (x := x) (y := y) hF b3 (by omega) (by omega) pre (by
            rcases b5 with b5 | ⟨i, i1, i2⟩
            · exact Or.inl b5
            · rw [if_pos rfl] at i1
              exact Or.inr ⟨i, by omega, i2⟩)
          rw [k1, k2]
          unfold t_X9_tellStair_j112
          rw [show Int32.ofNat cc + 1 = Int32.ofNat (cc + 1) from n_lp 1 _, tell_T (show cc + 1 < 210 by omega), Option.bind_some, k6 29 (by decide) (by decide)]
          obtain ⟨w2, ew2⟩ : ∃ w2, w2 = τ3.1 29 := ⟨_, rfl⟩
          rw [← ew2]
          have v4 : CHV τ τ4 (upd (upd (upd (VW τ 6) 3 (Int32.ofNat (D.1 3 + 1))) cc w1) (cc + 1) (-1)) := ⟨fun r a b d => by rw [k7]; exact v3.1 r a b d, (VW_66 (by rw [k7])).trans v3.2⟩
          have nm4 : NMS σ4 τ4 (D.1 0) (D.1 1) := (nm2.kf b4).of (k4 38 (by decide) (by decide)) k5 (k6 25 (by decide) (by decide)) (by rw [k7]) (by rw [k7]) (by rw [k7])
          have cl4 : CLN σ4 τ4 → CLN σ2 τ2 ∧ w2 = y ∧ ∃ h, h < D.1 0 ∧ y = Int32.ofNat h := fun q => by
            rcases b6 with ⟨d1, d2, d3, d4⟩ | ⟨d1, -⟩
            · obtain ⟨i, i1, i2⟩ := b5.resolve_left d4
              rw [if_pos rfl] at i1
              exact ⟨c12 d2, by rw [ew2]; exact d3, i, i1, i2⟩
            · exact (nc_d (k8 q) d1).elim
          refine fin σ4 (cT τ4 (cc + 1) w2) y w2 (j + 3) k3.cell (by omega) v4.c nm4.c (k5.trans (b4.2.1.trans (a4.2.1.trans s1))) (fun q => ?_)
          obtain ⟨f1, f2, f3⟩ := cl4 q
          exact ⟨f1, f2, Or.inr f3⟩
        · rw [a1, th_r, th_r, a2, Option.bind_some, if_pos rfl]
          exact Or.inr (a3.le (by omega))
    · rw [a1, th_r, th_r, a2, Option.bind_some, if_pos rfl]
      exact Or.inr (a3.le (by omega))
  · rw [a1, th_r, r1, Option.bind_some, if_neg (show ¬ (0 : Int32) ≤ -1 by decide), r2, Option.bind_some, if_pos (Or.inl rfl)]
    exact Or.inr (TNO.le ⟨e, X2, B2, σ2, τ2, k, p, rfl, a2, a3⟩ (by omega))
  · rw [a1, th_r, r1, Option.bind_some, if_pos (ofNat_nn (by omega)), r2, Option.bind_some, if_pos rfl]
    exact Or.inr (TNO.le ⟨e, X2, B2, σ2, τ2, k, p, rfl, a2, a3⟩ (by omega))
