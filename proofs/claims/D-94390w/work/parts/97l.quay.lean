set_option maxRecDepth 100000
/-! the telling: who is in an office, a quay -/
variable {X X' X2 : Nat → Option Ob} {ad : Nat → Nat} {B B' B2 : Sw} {A A' : Av} {σ σ' σ2 : Cs} {τ τ' τ2 : Tw} {F : Nat} {c pl : Nat → Nat} {last j : Nat}
theorem aI_X {a t n k : Nat} {f : Nat → Int32} (h : ¬ Own ad B a) (hx : X a = some (.inl (t, (n, .inl f)))) (hk : k < n) (hn : n ≤ 2147483648) : aI (cM X ad σ B) t a (Int32.ofNat k) = some (f k) := by
  unfold aI
  rw [cM_X h, hx]
  show (if t = t ∧ ¬ (Int32.ofNat k < 0 ∨ n ≤ (Int32.ofNat k).toNatClampNeg) then some (f (Int32.ofNat k).toNatClampNeg) else none) = _
  rw [if_pos ⟨rfl, i_in hk hn⟩, i_cl hk hn]
theorem gives_X (hF : 100 ≤ F) {a h : Nat} {v : Int32} {f : Nat → Int32} (ho : ¬ Own ad B a) (hx : X a = some (.inl (0, (16, .inl f)))) (hh : h < 16) : f_X0_gives F a (Int32.ofNat h) v (cM X ad σ B) = some (cM (mX X a (.inl (0, (16, .inl (upd (if v = -1 then f else gvF v f) h v))))) ad σ B) := by
  have h1 : f_X0_gives F a (Int32.ofNat h) v (cM (mX X a (.inl (0, (16, .inl f)))) ad σ B) = some (cM (mX X a (.inl (0, (16, .inl (upd (if v = -1 then f else gvF v f) h v))))) ad σ B) := gives_m (F := F) (M := fun f => cM (mX X a (.inl (0, (16, .inl f)))) ad σ B) (a := a) (h := h) (c := v) hF hh (fun f k hk => aI_X ho mX_s hk (by decide)) (fun f k v hk => by
    show sI (cM (mX X a (.inl (0, (16, .inl f)))) ad σ B) 0 a (Int32.ofNat k) v = _
    rw [sI_X ho mX_s hk (by decide), mX_mX]
    rfl) f
  rw [mX_me hx] at h1
  exact h1
theorem dA_me (D : Dn) (x : Nat) : dA D x (D.2.2.1 x) = D := by
  refine Prod.ext rfl (Prod.ext rfl (Prod.ext (funext fun y => ?_) rfl))
  show (if y = x then D.2.2.1 x else D.2.2.1 y) = _
  by_cases e : y = x
  · rw [if_pos e, e]
  · rw [if_neg e]
variable {X0 : Nat → Option Ob} {B0 : Sw} {σ0 : Cs} {τ0 : Tw} {u : Nat}
section TWD
variable {g : Nat → Nat} {ob : Nat → Ob} {D : Dn}
theorem j245_C {n : Nat} (hA : AdOK ad B) (h130 : ad 130 = g 0 + 1) (hW : TWD ad B0.2.1 X B g ob D) (hM : MF ad X0 B0 X B u) (hn : D.1 2 = n) : ∃ X6 ob6, f_X2_tell_j245 F (ad 6) (cM X ad σ B) = SEM F (ad 6) (cM X6 ad σ B) ∧ MF ad X0 B0 X6 B u ∧ TWD ad B0.2.1 X6 B g ob6 (dN D 2 (n + 1)) := by
  subst hn
  obtain ⟨X6, ob6, k1, k2, k3⟩ := hW.fld (σ := σ) (k := 8) (v := .int (Int32.ofNat (D.1 2 + 1))) (D' := dN D 2 (D.1 2 + 1)) hM (by decide) rfl (fun i hi => if_neg (cx_n hi).2.1) rfl rfl
  have f5 : gfR (cM X ad σ B) (ad 6) 2 5 = some (g 0) := o6_5 hA σ h130
  have fn : gfI (cM X ad σ B) (g 0) 3 8 = some (Int32.ofNat (D.1 2)) := m_I (k := 8) hW.t rfl
  refine ⟨X6, ob6, ?_, k2, k3⟩
  unfold f_X2_tell_j245
  rw [f5, Option.bind_some, fn, Option.bind_some, n_lp, k1, Option.bind_some]
  rfl
theorem j317_C {n : Nat} (hA : AdOK ad B) (h130 : ad 130 = g 0 + 1) (hW : TWD ad B0.2.1 X B g ob D) (hM : MF ad X0 B0 X B u) (hn : D.1 4 = n) : ∃ X6 ob6, f_X2_tell_j317 F (ad 6) (cM X ad σ B) = SEM F (ad 6) (cM X6 ad σ B) ∧ MF ad X0 B0 X6 B u ∧ TWD ad B0.2.1 X6 B g ob6 (dN D 4 (n + 1)) := by
  subst hn
  obtain ⟨X6, ob6, k1, k2, k3⟩ := hW.fld (σ := σ) (k := 10) (v := .int (Int32.ofNat (D.1 4 + 1))) (D' := dN D 4 (D.1 4 + 1)) hM (by decide) rfl (fun i hi => if_neg (cx_n hi).2.2) rfl rfl
  have f5 : gfR (cM X ad σ B) (ad 6) 2 5 = some (g 0) := o6_5 hA σ h130
  have fn : gfI (cM X ad σ B) (g 0) 3 10 = some (Int32.ofNat (D.1 4)) := m_I (k := 10) hW.t rfl
  refine ⟨X6, ob6, ?_, k2, k3⟩
  unfold f_X2_tell_j317
  rw [f5, Option.bind_some, fn, Option.bind_some, n_lp, k1, Option.bind_some]
  rfl
end TWD
theorem nc_d {t : Nat} (h : CLN σ τ) (d : DY pl t σ τ) : False := d.n h.1
theorem in_CT (hF : 100000 ≤ F) (h : TI c pl last ad X0 B0 σ0 τ0 X B σ τ j) (hc : c j = 18) : TOK F c pl last ad X0 B0 σ0 τ0 j (f_X2_tell F (ad 6) (cM X ad σ B)) (t_X9_tellIn F τ) := by
  obtain ⟨g, ob, D, m, l, hT, h130, hW, hC, hN, hD, ⟨h8, hm⟩, h11, hl⟩ := h
  have hA := hT.a
  have hj := hT.p.1.1
  have hjl := hT.p.2.2.2
  obtain ⟨⟨c0, n0⟩, ⟨c1, n1⟩, ⟨c2, n2⟩, ⟨c3, n3⟩, ⟨c4, n4⟩, ⟨c5, n5⟩, ⟨c8, n8⟩, c9, n9⟩ := hC
  have f5 : ∀ σ, gfR (cM X ad σ B) (ad 6) 2 5 = some (g 0) := fun σ => o6_5 hA σ h130
  have fn : ∀ σ, gfI (cM X ad σ B) (g 0) 3 8 = some (Int32.ofNat (D.1 2)) := fun σ => m_I (k := 8) hW.t rfl
  have fr : ∀ σ, gfR (cM X ad σ B) (g 0) 3 7 = some (g 12) := fun σ => m_R (k := 7) hW.t rfl
  unfold f_X2_tell t_X9_tellIn
  rw [oc6 hA, Option.bind_some, kind_C hA hT.p, Option.bind_some, hc, show kT 18 = 202 from rfl, if_neg (show ¬ (202 : Int32) = 200 by decide), if_neg (show ¬ (202 : Int32) = 201 by decide), if_pos rfl, f5, Option.bind_some, fn, Option.bind_some, Option.bind_some]
  rcases hT.room (F := F) (z := 2) (n := D.1 2) (most := 12) (base := 90) (size := 2) (pm := 12) (pz := 2) (pb := 90) (ps := 2) rfl rfl rfl rfl (by omega) (by omega) (by decide) c2 n2 (by decide) with ⟨r1, r2, r3, r4, r5, r6⟩ | ⟨τw, r1, r2, e, X2, B2, σ2, τ2, k, p, a1, a2, a3⟩ | ⟨τw, r0, r1, r2, e, X2, B2, σ2, τ2, k, p, a1, a2, a3⟩
  · rw [r3, th_l, r4, Option.bind_some, if_pos (ofNat_nn (by omega)), r5, Option.bind_some, if_neg (show ¬ (1 : Int32) = 0 by decide)]
    obtain ⟨σ1, e1⟩ : ∃ σ1, σ1 = csI σ 31 (Int32.ofNat (j + 1)) := ⟨_, rfl⟩
    obtain ⟨τ1, e2⟩ : ∃ τ1, τ1 = tsI (cT τ 2 (Int32.ofNat (D.1 2 + 1))) 7 (Int32.ofNat (j + 1)) := ⟨_, rfl⟩
    have v1 : CHV τ τ1 (upd (VW τ 6) 2 (Int32.ofNat (D.1 2 + 1))) := by rw [e2]; exact CHV.rf.c.i
    have nm1 : NMS σ1 τ1 (D.1 0) (D.1 1) := by rw [e1, e2]; exact hN.c.go
    have cl1 : CLN σ1 τ1 → CLN σ τ := fun q => by rw [e1, e2] at q; exact q.go
    have s1 : σ1.2 = σ.2 := by rw [e1]; rfl
    rw [← e1, ← e2] at r6
    rw [← e1, ← e2, oc6 hA, Option.bind_some]
    rcases r6.known2 (F := F) hF (q := 0) (a := 0) (b := 0) rfl rfl (by decide) nm1 (fun q => ((hD (cl1 q)).1).of s1) with ⟨σ2, τ2, x, a1, a2, a3, a4, a5, a6⟩ | ⟨e, X2, B2, σ2, τ2, a1, a2, a3⟩
    · obtain ⟨w1, ew1⟩ : ∃ w1, w1 = τ2.1 29 := ⟨_, rfl⟩
      have v2 := (v1.kf a4).c (k := 90 + 2 * D.1 2) (v := w1)
      rw [a1, th_l, a2, Option.bind_some, if_neg (show ¬ (1 : Int32) = 0 by decide), ← ew1, tell_T (show 90 + 2 * D.1 2 < 210 by omega), Option.bind_some, oc6 hA, Option.bind_some]
      have a3' := a3.cell (k := 90 + 2 * D.1 2) (v := w1)
      have nm2 : NMS σ2 (cT τ2 (90 + 2 * D.1 2) w1) (D.1 0) (D.1 1) := (nm1.kf a4).c
      have cl2 : CLN σ2 τ2 → CLN σ1 τ1 ∧ w1 = x ∧ x ≠ -1 := fun q => by
        rcases a6 with ⟨-, b1, b2, b3⟩ | ⟨b1, -⟩
        · exact ⟨b1, by rw [ew1]; exact b2, b3⟩
        · exact (nc_d q b1).elim
      rcases a3'.known2 (F := F) hF (q := 1) (a := 100) (b := 1) rfl rfl (by decide) nm2 (fun q => ((hD (cl1 (cl2 q).1)).1).of (a4.2.1.trans s1)) with ⟨σ3, τ3, y, b1, b2, b3, b4, b5, b6⟩ | ⟨e, X2, B2, σ2, τ2, a1, a2, a3⟩
      · obtain ⟨w2, ew2⟩ : ∃ w2, w2 = τ3.1 29 := ⟨_, rfl⟩
        have v3 := (v2.kf b4).c (k := 90 + 2 * D.1 2 + 1) (v := w2)
        rw [b1, th_l, b2, Option.bind_some, if_neg (show ¬ (1 : Int32) = 0 by decide), ← ew2, show Int32.ofNat (90 + 2 * D.1 2) + 1 = Int32.ofNat (90 + 2 * D.1 2 + 1) from n_lp 1 _, tell_T (show 90 + 2 * D.1 2 + 1 < 210 by omega), Option.bind_some]
        have cl3 : CLN σ3 τ3 → CLN σ1 τ1 ∧ w1 = x ∧ x ≠ -1 ∧ w2 = y ∧ y ≠ -1 := fun q => by
          rcases b6 with ⟨-, d1, d2, d3⟩ | ⟨d1, -⟩
          · obtain ⟨f1, f2, f3⟩ := cl2 d1
            exact ⟨f1, f2, f3, by rw [ew2]; exact d2, d3⟩
          · exact (nc_d q d1).elim
        have key : ∃ X6 ob6 f, (if x = -1 then f_X2_tell_j245 F (ad 6) (cM X ad σ3 B) else if y = -1 then f_X2_tell_j245 F (ad 6) (cM X ad σ3 B) else Option.bind (gfR (cM X ad σ3 B) (ad 6) 2 5) fun x157 => Option.bind (gfR (cM X ad σ3 B) x157 3 7) fun x159 => Option.bind (f_X0_gives F x159 x y (cM X ad σ3 B)) fun q161 => f_X2_tell_j245 F (ad 6) q161) = SEM F (ad 6) (cM X6 ad σ3 B) ∧ MF ad X0 B0 X6 B (40 + 24 * j) ∧ TWD ad B0.2.1 X6 B g ob6 (dN (dA D 12 f) 2 (D.1 2 + 1)) ∧ (x ≠ -1 → y ≠ -1 → ∃ h o, h < D.1 0 ∧ o < D.1 1 ∧ x = Int32.ofNat h ∧ y = Int32.ofNat o ∧ f = upd (gvF (Int32.ofNat o) (D.2.2.1 12)) h (Int32.ofNat o)) := by
          by_cases hx : x = -1
          · rw [if_pos hx]
            obtain ⟨X6, ob6, k1, k2, k3⟩ := j245_C (F := F) (σ := σ3) hA h130 hW hT.1 rfl
            exact ⟨X6, ob6, D.2.2.1 12, k1, k2, by rw [dA_me]; exact k3, fun q => absurd hx q⟩
          · rw [if_neg hx]
            by_cases hy : y = -1
            · rw [if_pos hy]
              obtain ⟨X6, ob6, k1, k2, k3⟩ := j245_C (F := F) (σ := σ3) hA h130 hW hT.1 rfl
              exact ⟨X6, ob6, D.2.2.1 12, k1, k2, by rw [dA_me]; exact k3, fun _ q => absurd hy q⟩
            · rw [if_neg hy]
              obtain ⟨h, hh, rfl⟩ := a5.resolve_left hx
              obtain ⟨o, ho, rfl⟩ := b5.resolve_left hy
              rw [if_pos rfl] at hh
              rw [if_neg (by decide)] at ho
              obtain ⟨x1, x2, x3, x4⟩ := hW.1.at (x := 12) (by omega) (by omega)
              rw [hW.2.2.2.2.1] at x4
              have hg := gives_X (F := F) (σ := σ3) (v := Int32.ofNat o) (h := h) (by omega) x1 x4 (by omega)
              rw [if_neg hy] at hg
              obtain ⟨hM1, hW1⟩ := hW.arr (x := 12) (t := 0) (n := 16) (f := upd (gvF (Int32.ofNat o) (D.2.2.1 12)) h (Int32.ofNat o)) hT.1 (Or.inr (Or.inl ⟨rfl, rfl, rfl⟩))
              obtain ⟨X6, ob6, k1, k2, k3⟩ := j245_C (F := F) (σ := σ3) hA h130 hW1 hM1 rfl
              rw [f5, Option.bind_some, fr, Option.bind_some, hg, Option.bind_some]
              exact ⟨X6, ob6, _, k1, k2, k3, fun _ _ => ⟨h, o, hh, ho, rfl, rfl, rfl⟩⟩
        obtain ⟨X6, ob6, f, k1, k2, k3, k4⟩ := key
        have hT6 : AT c pl last ad X0 B0 σ0 τ0 (40 + 24 * (j + 3)) X6 B σ3 (cT τ3 (90 + 2 * D.1 2 + 1) w2) (j + 3) := ((b3.cell).mem (X' := X6) (B' := B) k2 (fun _ _ q => q) rfl).le (by omega)
        refine Or.inl ⟨X6, B, σ3, _, j + 3, k1, rfl, by omega, g, ob6, _, m, l, hT6, h130, k3, ?_, (nm2.kf b4).c, fun q => ?_, ⟨?_, by omega⟩, ?_, by omega⟩
        · unfold CNT
          rw [v3.2]
          refine ⟨⟨?_, n0⟩, ⟨?_, n1⟩, ⟨?_, ?_⟩, ⟨?_, n3⟩, ⟨?_, n4⟩, ⟨?_, n5⟩, ⟨?_, n8⟩, ?_, n9⟩
          · rw [up_n _ _ _ _ (by omega), up_n _ _ _ _ (by omega), up_n _ _ _ _ (by omega)]; exact c0
          · rw [up_n _ _ _ _ (by omega), up_n _ _ _ _ (by omega), up_n _ _ _ _ (by omega)]; exact c1
          · rw [up_n _ _ _ _ (by omega), up_n _ _ _ _ (by omega), up_s]; rfl
          · show D.1 2 + 1 ≤ 12; omega
          · rw [up_n _ _ _ _ (by omega), up_n _ _ _ _ (by omega), up_n _ _ _ _ (by omega)]; exact c3
          · rw [up_n _ _ _ _ (by omega), up_n _ _ _ _ (by omega), up_n _ _ _ _ (by omega)]; exact c4
          · rw [up_n _ _ _ _ (by omega), up_n _ _ _ _ (by omega), up_n _ _ _ _ (by omega)]; exact c5
          · rw [up_n _ _ _ _ (by omega), up_n _ _ _ _ (by omega), up_n _ _ _ _ (by omega)]; exact c8
          · rw [up_n _ _ _ _ (by omega), up_n _ _ _ _ (by omega), up_n _ _ _ _ (by omega)]; exact c9
        · obtain ⟨q1, q2, q3, q4, q5⟩ := cl3 q
          obtain ⟨nd, dt⟩ := hD (cl1 q1)
          obtain ⟨h, o, hh, ho, ex, ey, ef⟩ := k4 q3 q5
          refine ⟨nd.of (b4.2.1.trans (a4.2.1.trans s1)), ?_⟩
          obtain ⟨D1, D2, D3, D4, D5, D6, D7, D8, D9⟩ := dt
          have eo : ∀ k, k ≠ 2 → ¬ (90 + 2 * D.1 2 ≤ k ∧ k < 92 + 2 * D.1 2) → VW (cT τ3 (90 + 2 * D.1 2 + 1) w2) 6 k = VW τ 6 k := fun k a b => by
            rw [v3.2, up_n _ _ _ _ (by omega), up_n _ _ _ _ (by omega), up_n _ _ _ _ (by omega)]
          have ag : AG m l (VW τ) (VW (cT τ3 (90 + 2 * D.1 2 + 1) w2)) := v3.ag
          have hG : Gr B B := fun _ _ q => q
          refine ⟨D1.of (eo 6 (by omega) (by omega)) (eo 7 (by omega) (by omega)) rfl, D2.of hG ag (fun k a b => eo k (by omega) (by omega)) rfl (Nat.le_refl _), D3.of hG (fun k a b => eo k (by omega) (by omega)) n0 rfl rfl, D4.of (fun k a b => eo k (by omega) (by omega)) n1 rfl rfl, D5.add (x := h) (y := o) r1 (fun k a b d => eo k (by omega) d) ?_ ?_ hh (by omega) ho rfl rfl rfl ?_, D6.of hG (fun k a b => eo k (by omega) (by omega)) n3 rfl rfl (Nat.le_refl _), D7.of (fun k a b => eo k (by omega) (by omega)) n4 rfl rfl (Nat.le_refl _), D8.of hG (fun k a b => eo k (by omega) (by omega)) n5 rfl rfl, D9.of hG ag (fun k a b => eo k (by omega) (by omega)) n8 n9 rfl rfl rfl rfl (Nat.le_refl _) (Nat.le_refl _)⟩
          · rw [v3.2, up_n _ _ _ _ (by omega), up_s, q2, ex]
          · rw [v3.2, up_s, q4, ey]
          · rw [← ef]
            rfl
        · rw [v3.1 8 (by decide) (by decide) (by decide)]; exact h8
        · rw [v3.1 11 (by decide) (by decide) (by decide)]; exact h11
      · rw [a1, th_r, a2, Option.bind_some, if_pos rfl]
        exact Or.inr (a3.le (by omega))
    · rw [a1, th_r, a2, Option.bind_some, if_pos rfl]
      exact Or.inr (a3.le (by omega))
  · rw [a1, th_r, r1, Option.bind_some, if_neg (show ¬ (0 : Int32) ≤ -1 by decide), r2, Option.bind_some, if_pos (Or.inl rfl)]
    exact Or.inr (TNO.le ⟨e, X2, B2, σ2, τ2, k, p, rfl, a2, a3⟩ (by omega))
  · rw [a1, th_r, r1, Option.bind_some, if_pos (ofNat_nn (by omega)), r2, Option.bind_some, if_pos rfl]
    exact Or.inr (TNO.le ⟨e, X2, B2, σ2, τ2, k, p, rfl, a2, a3⟩ (by omega))
theorem quay_CT (hF : 100000 ≤ F) (h : TI c pl last ad X0 B0 σ0 τ0 X B σ τ j) (hc : c j = 21) : TOK F c pl last ad X0 B0 σ0 τ0 j (f_X2_tell F (ad 6) (cM X ad σ B)) (t_X9_tellQuay F τ) := by
  obtain ⟨g, ob, D, m, l, hT, h130, hW, hC, hN, hD, ⟨h8, hm⟩, h11, hl⟩ := h
  have hA := hT.a
  have hj := hT.p.1.1
  have hjl := hT.p.2.2.2
  obtain ⟨⟨c0, n0⟩, ⟨c1, n1⟩, ⟨c2, n2⟩, ⟨c3, n3⟩, ⟨c4, n4⟩, ⟨c5, n5⟩, ⟨c8, n8⟩, c9, n9⟩ := hC
  have f5 : ∀ σ, gfR (cM X ad σ B) (ad 6) 2 5 = some (g 0) := fun σ => o6_5 hA σ h130
  have fn : ∀ σ, gfI (cM X ad σ B) (g 0) 3 10 = some (Int32.ofNat (D.1 4)) := fun σ => m_I (k := 10) hW.t rfl
  have fr : ∀ σ, gfR (cM X ad σ B) (g 0) 3 9 = some (g 13) := fun σ => m_R (k := 9) hW.t rfl
  unfold f_X2_tell t_X9_tellQuay
  rw [oc6 hA, Option.bind_some, kind_C hA hT.p, Option.bind_some, hc, show kT 21 = 205 from rfl, if_neg (show ¬ (205 : Int32) = 200 by decide), if_neg (show ¬ (205 : Int32) = 201 by decide), if_neg (show ¬ (205 : Int32) = 202 by decide), if_neg (show ¬ (205 : Int32) = 203 by decide), if_pos rfl, f5, Option.bind_some, fn, Option.bind_some, Option.bind_some]
  rcases hT.room (F := F) (z := 4) (n := D.1 4) (most := 4) (base := 160) (size := 1) (pm := 4) (pz := 4) (pb := 160) (ps := 1) rfl rfl rfl rfl (by omega) (by omega) (by decide) c4 n4 (by decide) with ⟨r1, r2, r3, r4, r5, r6⟩ | ⟨τw, r1, r2, e, X2, B2, σ2, τ2, k, p, a1, a2, a3⟩ | ⟨τw, r0, r1, r2, e, X2, B2, σ2, τ2, k, p, a1, a2, a3⟩
  · rw [r3, th_l, r4, Option.bind_some, if_pos (ofNat_nn (by omega)), r5, Option.bind_some, if_neg (show ¬ (1 : Int32) = 0 by decide)]
    obtain ⟨σ1, e1⟩ : ∃ σ1, σ1 = csI σ 31 (Int32.ofNat (j + 1)) := ⟨_, rfl⟩
    obtain ⟨τ1, e2⟩ : ∃ τ1, τ1 = tsI (cT τ 4 (Int32.ofNat (D.1 4 + 1))) 7 (Int32.ofNat (j + 1)) := ⟨_, rfl⟩
    have v1 : CHV τ τ1 (upd (VW τ 6) 4 (Int32.ofNat (D.1 4 + 1))) := by rw [e2]; exact CHV.rf.c.i
    have nm1 : NMS σ1 τ1 (D.1 0) (D.1 1) := by rw [e1, e2]; exact hN.c.go
    have cl1 : CLN σ1 τ1 → CLN σ τ := fun q => by rw [e1, e2] at q; exact q.go
    have s1 : σ1.2 = σ.2 := by rw [e1]; rfl
    rw [← e1, ← e2] at r6
    rw [← e1, ← e2, oc6 hA, Option.bind_some]
    rcases r6.known2 (F := F) hF (q := 0) (a := 0) (b := 0) rfl rfl (by decide) nm1 (fun q => ((hD (cl1 q)).1).of s1) with ⟨σ2, τ2, x, a1, a2, a3, a4, a5, a6⟩ | ⟨e, X2, B2, σ2, τ2, a1, a2, a3⟩
    · obtain ⟨w1, ew1⟩ : ∃ w1, w1 = τ2.1 29 := ⟨_, rfl⟩
      have v2 := (v1.kf a4).c (k := 160 + 1 * D.1 4) (v := w1)
      rw [a1, th_l, a2, Option.bind_some, if_neg (show ¬ (1 : Int32) = 0 by decide), ← ew1, tell_T (show 160 + 1 * D.1 4 < 210 by omega), Option.bind_some]
      have cl2 : CLN σ2 τ2 → CLN σ1 τ1 ∧ w1 = x ∧ x ≠ -1 := fun q => by
        rcases a6 with ⟨-, b1, b2, b3⟩ | ⟨b1, -⟩
        · exact ⟨b1, by rw [ew1]; exact b2, b3⟩
        · exact (nc_d q b1).elim
      have key : ∃ X6 ob6 f, (if x = -1 then f_X2_tell_j317 F (ad 6) (cM X ad σ2 B) else Option.bind (gfR (cM X ad σ2 B) (ad 6) 2 5) fun x213 => Option.bind (gfR (cM X ad σ2 B) x213 3 9) fun x215 => Option.bind (sI (cM X ad σ2 B) 4 x215 x 1) fun μ218 => f_X2_tell_j317 F (ad 6) μ218) = SEM F (ad 6) (cM X6 ad σ2 B) ∧ MF ad X0 B0 X6 B (40 + 24 * j) ∧ TWD ad B0.2.1 X6 B g ob6 (dN (dA D 13 f) 4 (D.1 4 + 1)) ∧ (x ≠ -1 → ∃ h, h < D.1 0 ∧ x = Int32.ofNat h ∧ f = upd (D.2.2.1 13) h 1) := by
        by_cases hx : x = -1
        · rw [if_pos hx]
          obtain ⟨X6, ob6, k1, k2, k3⟩ := j317_C (F := F) (σ := σ2) hA h130 hW hT.1 rfl
          exact ⟨X6, ob6, D.2.2.1 13, k1, k2, by rw [dA_me]; exact k3, fun q => absurd hx q⟩
        · rw [if_neg hx]
          obtain ⟨h, hh, rfl⟩ := a5.resolve_left hx
          rw [if_pos rfl] at hh
          obtain ⟨x1, x2, x3, x4⟩ := hW.1.at (x := 13) (by omega) (by omega)
          rw [hW.2.2.2.2.2] at x4
          have hg : sI (cM X ad σ2 B) 4 (g 13) (Int32.ofNat h) 1 = some (cM (mX X (g 13) (.inl (4, (16, .inl (upd (D.2.2.1 13) h 1))))) ad σ2 B) := sI_X x1 x4 (by omega) (by decide)
          obtain ⟨hM1, hW1⟩ := hW.arr (x := 13) (t := 4) (n := 16) (f := upd (D.2.2.1 13) h 1) hT.1 (Or.inr (Or.inr ⟨rfl, rfl, rfl⟩))
          obtain ⟨X6, ob6, k1, k2, k3⟩ := j317_C (F := F) (σ := σ2) hA h130 hW1 hM1 rfl
          rw [f5, Option.bind_some, fr, Option.bind_some, hg, Option.bind_some]
          exact ⟨X6, ob6, _, k1, k2, k3, fun _ => ⟨h, hh, rfl, rfl⟩⟩
      obtain ⟨X6, ob6, f, k1, k2, k3, k4⟩ := key
      have hT6 : AT c pl last ad X0 B0 σ0 τ0 (40 + 24 * (j + 2)) X6 B σ2 (cT τ2 (160 + 1 * D.1 4) w1) (j + 2) := ((a3.cell).mem (X' := X6) (B' := B) k2 (fun _ _ q => q) rfl).le (by omega)
      refine Or.inl ⟨X6, B, σ2, _, j + 2, k1, rfl, by omega, g, ob6, _, m, l, hT6, h130, k3, ?_, (nm1.kf a4).c, fun q => ?_, ⟨?_, by omega⟩, ?_, by omega⟩
      · unfold CNT
        rw [v2.2]
        refine ⟨⟨?_, n0⟩, ⟨?_, n1⟩, ⟨?_, n2⟩, ⟨?_, n3⟩, ⟨?_, ?_⟩, ⟨?_, n5⟩, ⟨?_, n8⟩, ?_, n9⟩
        · rw [up_n _ _ _ _ (by omega), up_n _ _ _ _ (by omega)]; exact c0
        · rw [up_n _ _ _ _ (by omega), up_n _ _ _ _ (by omega)]; exact c1
        · rw [up_n _ _ _ _ (by omega), up_n _ _ _ _ (by omega)]; exact c2
        · rw [up_n _ _ _ _ (by omega), up_n _ _ _ _ (by omega)]; exact c3
        · rw [up_n _ _ _ _ (by omega), up_s]; rfl
        · show D.1 4 + 1 ≤ 4; omega
        · rw [up_n _ _ _ _ (by omega), up_n _ _ _ _ (by omega)]; exact c5
        · rw [up_n _ _ _ _ (by omega), up_n _ _ _ _ (by omega)]; exact c8
        · rw [up_n _ _ _ _ (by omega), up_n _ _ _ _ (by omega)]; exact c9
      · obtain ⟨q1, q2, q3⟩ := cl2 q
        obtain ⟨nd, dt⟩ := hD (cl1 q1)
        obtain ⟨h, hh, ex, ef⟩ := k4 q3
        refine ⟨nd.of (a4.2.1.trans s1), ?_⟩
        obtain ⟨D1, D2, D3, D4, D5, D6, D7, D8, D9⟩ := dt
        have eo : ∀ k, k ≠ 4 → k ≠ 160 + D.1 4 → VW (cT τ2 (160 + 1 * D.1 4) w1) 6 k = VW τ 6 k := fun k a b => by
          rw [v2.2, up_n _ _ _ _ (by omega), up_n _ _ _ _ (by omega)]
        have ag : AG m l (VW τ) (VW (cT τ2 (160 + 1 * D.1 4) w1)) := v2.ag
        have hG : Gr B B := fun _ _ q => q
        refine ⟨D1.of (eo 6 (by omega) (by omega)) (eo 7 (by omega) (by omega)) rfl, D2.of hG ag (fun k a b => eo k (by omega) (by omega)) rfl (Nat.le_refl _), D3.of hG (fun k a b => eo k (by omega) (by omega)) n0 rfl rfl, D4.of (fun k a b => eo k (by omega) (by omega)) n1 rfl rfl, D5.of (fun k a b => eo k (by omega) (by omega)) n2 rfl rfl (Nat.le_refl _) (Nat.le_refl _), D6.of hG (fun k a b => eo k (by omega) (by omega)) n3 rfl rfl (Nat.le_refl _), D7.add (x := h) r1 (fun k a b d => eo k (by omega) d) ?_ hh (by omega) rfl rfl ?_, D8.of hG (fun k a b => eo k (by omega) (by omega)) n5 rfl rfl, D9.of hG ag (fun k a b => eo k (by omega) (by omega)) n8 n9 rfl rfl rfl rfl (Nat.le_refl _) (Nat.le_refl _)⟩
        · rw [v2.2, show 160 + D.1 4 = 160 + 1 * D.1 4 by omega, up_s, q2, ex]
        · rw [← ef]
          rfl
      · rw [v2.1 8 (by decide) (by decide) (by decide)]; exact h8
      · rw [v2.1 11 (by decide) (by decide) (by decide)]; exact h11
    · rw [a1, th_r, a2, Option.bind_some, if_pos rfl]
      exact Or.inr (a3.le (by omega))
  · rw [a1, th_r, r1, Option.bind_some, if_neg (show ¬ (0 : Int32) ≤ -1 by decide), r2, Option.bind_some, if_pos (Or.inl rfl)]
    exact Or.inr (TNO.le ⟨e, X2, B2, σ2, τ2, k, p, rfl, a2, a3⟩ (by omega))
  · rw [a1, th_r, r1, Option.bind_some, if_pos (ofNat_nn (by omega)), r2, Option.bind_some, if_pos rfl]
    exact Or.inr (TNO.le ⟨e, X2, B2, σ2, τ2, k, p, rfl, a2, a3⟩ (by omega))
