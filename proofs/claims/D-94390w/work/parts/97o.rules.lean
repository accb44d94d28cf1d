set_option maxRecDepth 100000
/-! the telling: a rule, anything else -/
variable {X X' X2 : Nat → Option Ob} {ad : Nat → Nat} {B B' B2 : Sw} {A A' : Av} {σ σ' σ2 : Cs} {τ τ' τ2 : Tw} {F : Nat} {c pl : Nat → Nat} {last j : Nat}
variable {X0 : Nat → Option Ob} {B0 : Sw} {σ0 : Cs} {τ0 : Tw} {u : Nat} {g : Nat → Nat} {ob : Nat → Ob} {D : Dn}
/-- falls (z 8, list 3) or bad (z 9, list 4) -/
theorem rule_CT (hF : 100000 ≤ F) {z base i : Nat} {pz pb : Int32} (h : TI c pl last ad X0 B0 σ0 τ0 X B σ τ j) (hc : (c j = 28 ∧ z = 8 ∧ base = 190 ∧ i = 3) ∨ (c j = 29 ∧ z = 9 ∧ base = 200 ∧ i = 4)) (hpz : pz = Int32.ofNat z) (hpb : pb = Int32.ofNat base) : TOK F c pl last ad X0 B0 σ0 τ0 j (f_X2_tell F (ad 6) (cM X ad σ B)) (t_X9_tellRule F pz pb τ) := by
  obtain ⟨g, ob, D, m, l, hT, h130, hW, hC, hN, hD, ⟨h8, hm⟩, h11, hl⟩ := h
  have hA := hT.a
  have hj := hT.p.1.1
  have hjl := hT.p.2.2.2
  obtain ⟨⟨c0, n0⟩, ⟨c1, n1⟩, ⟨c2, n2⟩, ⟨c3, n3⟩, ⟨c4, n4⟩, ⟨c5, n5⟩, ⟨c8, n8⟩, c9, n9⟩ := hC
  have hz : (z = 8 ∧ base = 190 ∧ i = 3) ∨ (z = 9 ∧ base = 200 ∧ i = 4) := by
    rcases hc with ⟨-, h⟩ | ⟨-, h⟩
    · exact Or.inl h
    · exact Or.inr h
  have hcz : cx i = z := by
    rcases hz with ⟨rfl, -, rfl⟩ | ⟨rfl, -, rfl⟩ <;> rfl
  have hcv : VW τ 6 z = Int32.ofNat (D.1 z) := by
    rcases hz with ⟨rfl, -, -⟩ | ⟨rfl, -, -⟩
    · exact c8
    · exact c9
  have hnv : D.1 z ≤ 4 := by
    rcases hz with ⟨rfl, -, -⟩ | ⟨rfl, -, -⟩
    · exact n8
    · exact n9
  have hi : i < 5 := by omega
  have ol0 : ∀ σ, oc (cM X ad σ B) (g (1 + i)) 20 = some () := fun σ => hW.ol hi
  have sz0 : ∀ σ, f_J2_size F (g (1 + i)) (cM X ad σ B) = some (Int32.ofNat (D.1 z)) := fun σ => by rw [← hcz]; exact hW.sz hi
  have f0 : ∀ σ, gfR (cM X ad σ B) (g 0) 3 i = some (g (1 + i)) := fun σ => by
    rcases hz with ⟨-, -, rfl⟩ | ⟨-, -, rfl⟩
    · exact m_R (k := 3) hW.t rfl
    · exact m_R (k := 4) hW.t rfl
  have f5 : ∀ σ, gfR (cM X ad σ B) (ad 6) 2 5 = some (g 0) := fun σ => o6_5 hA σ h130
  have pre : f_X2_tellLaw F (ad 6) (cM X ad σ B) = Option.bind (f_X2_tellRule F (ad 6) (g (1 + i)) (cM X ad σ B)) fun q => thr q.1 q.2 fun x => some (.inl (), q.2) := by
    unfold f_X2_tellLaw
    have f0' := f0 σ
    rw [oc6 hA, Option.bind_some, kind_C hA hT.p, Option.bind_some]
    rcases hc with ⟨hc, -, -, rfl⟩ | ⟨hc, -, -, rfl⟩
    · rw [hc, show kT 28 = 212 from rfl, if_neg (show ¬ (212 : Int32) = 209 by decide), if_neg (show ¬ (212 : Int32) = 210 by decide), if_neg (show ¬ (212 : Int32) = 211 by decide), if_pos rfl, f5, Option.bind_some, f0', Option.bind_some, Option.bind_some]
    · rw [hc, show kT 29 = 213 from rfl, if_neg (show ¬ (213 : Int32) = 209 by decide), if_neg (show ¬ (213 : Int32) = 210 by decide), if_neg (show ¬ (213 : Int32) = 211 by decide), if_neg (show ¬ (213 : Int32) = 212 by decide), if_pos rfl, f5, Option.bind_some, f0', Option.bind_some, Option.bind_some]
  rw [tellLaw_C hA hT.p (by omega), pre]
  unfold t_X9_tellRule f_X2_tellRule
  rw [ol0, Option.bind_some, sz0, Option.bind_some, oc6 hA, Option.bind_some]
  rcases hT.room (F := F) (z := z) (n := D.1 z) (most := 4) (base := base) (size := 2) (pm := 4) (pz := pz) (pb := pb) (ps := 2) rfl hpz hpb rfl (by omega) (by omega) (by omega) hcv hnv (by decide) with ⟨r1, r2, r3, r4, r5, r6⟩ | ⟨τw, r1, r2, e, X2, B2, σ2, τ2, k, p, a1, a2, a3⟩ | ⟨τw, r0, r1, r2, e, X2, B2, σ2, τ2, k, p, a1, a2, a3⟩
  · rw [r3, th_l, r4, Option.bind_some, if_pos (ofNat_nn (by omega)), r5, Option.bind_some, if_neg (show ¬ (1 : Int32) = 0 by decide), oc6 hA, Option.bind_some]
    obtain ⟨σ1, e1⟩ : ∃ σ1, σ1 = csI σ 31 (Int32.ofNat (j + 1)) := ⟨_, rfl⟩
    obtain ⟨τ1, e2⟩ : ∃ τ1, τ1 = tsI (cT τ z (Int32.ofNat (D.1 z + 1))) 7 (Int32.ofNat (j + 1)) := ⟨_, rfl⟩
    have v1 : CHV τ τ1 (upd (VW τ 6) z (Int32.ofNat (D.1 z + 1))) := by rw [e2]; exact CHV.rf.c.i
    have nm1 : NMS σ1 τ1 (D.1 0) (D.1 1) := by rw [e1, e2]; exact hN.c.go
    have cl1 : CLN σ1 τ1 → CLN σ τ := fun q => by rw [e1, e2] at q; exact q.go
    have s1 : σ1.2 = σ.2 := by rw [e1]; rfl
    rw [← e1, ← e2] at r6
    rw [← e1, ← e2]
    have sg := word_TT (F := F) r6.p (q := 14) (by decide)
    rw [show wtL.getD 14 0 = 8 from rfl, show 16 + 14 = 30 from rfl] at sg
    rw [sg, Option.bind_some]
    rcases r6.must (F := F) (q := 30) (by decide) (by decide) (by decide) with ⟨b1, b2, b3, b4, b5⟩ | ⟨b1, e, X2, B2, σ2, τ2, k, p, a1, a2, a3⟩ | ⟨b1, e, X2, B2, σ2, τ2, k, p, a1, a2, a3⟩
    · have b3' : f_X2_must F (ad 6) 214 (cM X ad σ1 B) = _ := b3
      rw [if_pos b1, if_neg (show ¬ (1 : Int32) = 0 by decide), b3', th_l, b4, Option.bind_some, if_neg (show ¬ (1 : Int32) = 0 by decide), oc6 hA, Option.bind_some]
      obtain ⟨σ2, e3⟩ : ∃ σ2, σ2 = csI σ1 31 (Int32.ofNat (j + 1 + 1)) := ⟨_, rfl⟩
      obtain ⟨τ2, e4⟩ : ∃ τ2, τ2 = tsI τ1 7 (Int32.ofNat (j + 1 + 1)) := ⟨_, rfl⟩
      have v2 : CHV τ τ2 (upd (VW τ 6) z (Int32.ofNat (D.1 z + 1))) := by rw [e4]; exact v1.i
      have nm2 : NMS σ2 τ2 (D.1 0) (D.1 1) := by rw [e3, e4]; exact nm1.go
      have cl2 : CLN σ2 τ2 → CLN σ1 τ1 := fun q => by rw [e3, e4] at q; exact q.go
      have s2 : σ2.2 = σ.2 := by rw [e3]; exact s1
      rw [← e3, ← e4] at b5
      rw [← e3, ← e4]
      rcases b5.cond (F := F) hF (m := m) (l := l) (by rw [v2.1 8 (by decide) (by decide) (by decide)]; exact h8) (by omega) (by rw [v2.1 11 (by decide) (by decide) (by decide)]; exact h11) (by omega) with ⟨t, q, X6, B6, σ6, τ6, j6, m6, ns, d1, d2, d3, d4, d5, d6, d7, d8, d9, d10, d11, d12, d13, d14, d15⟩ | ⟨e, X2, B2, σ2, τ2, a1, a2, a3⟩
      · have hj6 := d4.p.2.2.2
        have hW6 := hW.mf d13
        obtain ⟨X7, B7, g', ob', k1, k2, k3, k4, k5, k6⟩ := hW6.add (F := F) (σ := σ6) (i := i) (p := t) d4.a d4.2.1 d4.1 hi d12 (by rw [hcz]; omega)
        have ol6 : oc (cM X6 ad σ6 B6) (g (1 + i)) 20 = some () := hW6.ol hi
        have i11 : ∀ v, taI (cT τ6 (base + 2 * D.1 z) v) 11 2 1 = some (Int32.ofNat (l + List.sum ns)) := fun v => (taI_n _ 11 2 1 (by decide) (by decide)).trans (congrArg some ((congrFun (cT_o (by decide)) 1).trans d9))
        rw [d1, th_l, ol6, Option.bind_some, k1, Option.bind_some, th_l, th_l, d2, Option.bind_some, if_neg (show ¬ (1 : Int32) = 0 by decide), d5, tell_T (show base + 2 * D.1 z < 210 by omega), Option.bind_some, i11, Option.bind_some, n_lp, tell_T (show base + 2 * D.1 z + 1 < 210 by omega), Option.bind_some]
        obtain ⟨τ8, eτ8⟩ : ∃ τ8, τ8 = cT (cT τ6 (base + 2 * D.1 z) (Int32.ofNat l)) (base + 2 * D.1 z + 1) (Int32.ofNat (l + List.sum ns)) := ⟨_, rfl⟩
        rw [← eτ8]
        have v66 : VW τ6 6 = upd (VW τ 6) z (Int32.ofNat (D.1 z + 1)) := (VW_66 (τ := τ2) (d15.2.1 6 (by decide) (by decide) (by decide) (by decide) (by decide) (by decide))).trans v2.2
        have ag6 : AG m l (VW τ) (VW τ6) := AG.tr (v2.ag (m := m) (l := l)) (show AG m l (VW τ2) (VW τ6) from d15.ag)
        have ag68 : ∀ m l, AG m l (VW τ6) (VW τ8) := fun m l => by rw [eτ8]; exact cT_ag.tr cT_ag
        have ag : AG m l (VW τ) (VW τ8) := ag6.tr (ag68 m l)
        have eo : ∀ k, k ≠ z → k ≠ base + 2 * D.1 z → k ≠ base + 2 * D.1 z + 1 → VW τ8 6 k = VW τ 6 k := fun k a b d => by
          rw [eτ8, cT_n d, cT_n b, v66, up_n _ _ _ _ a]
        have ez : VW τ8 6 z = Int32.ofNat (D.1 z + 1) := by
          rw [eτ8, cT_n (by omega), cT_n (by omega), v66, up_s]
        have ea : VW τ8 6 (base + 2 * D.1 z) = Int32.ofNat l := by
          rw [eτ8, cT_n (by omega), cT_s]
        have eb : VW τ8 6 (base + 2 * D.1 z + 1) = Int32.ofNat (l + List.sum ns) := by
          rw [eτ8, cT_s]
        have hG6 : Gr B B6 := d13.2.1
        have hG : Gr B B7 := fun a o q => (gr_eq k3) a o (hG6 a o q)
        have hT8 : AT c pl last ad X0 B0 σ0 τ0 (40 + 24 * j6) X7 B7 σ6 τ8 j6 := by
          rw [eτ8]
          exact (((d4.cell).cell).mem (X' := X7) (B' := B7) k2 (gr_eq k3) k4).le (by omega)
        have nm8 : NMS σ6 τ8 (D.1 0) (D.1 1) := by
          rw [eτ8]
          exact ((nm2.of (d14.1 38 (by decide) (by decide)) d14.2 ((d15.1 25 (by decide) (by decide) (by decide) (by decide) (by decide)).trans (tsI_n _ _ _ _ (by decide))) (by rw [d15.2.2.2.2.2]; rfl) ((d15.2.1 20 (by decide) (by decide) (by decide) (by decide) (by decide) (by decide)).trans rfl) ((d15.2.1 21 (by decide) (by decide) (by decide) (by decide) (by decide) (by decide)).trans rfl)).c).c
        have q8 : CLN σ6 τ8 → CLN σ2 τ2 := fun q => by
          rw [eτ8] at q
          exact (show CLN σ6 τ6 from q).of (d14.1 33 (by decide) (by decide)).symm ((d15.1 10 (by decide) (by decide) (by decide) (by decide) (by decide)).trans (tsI_n _ _ _ _ (by decide))).symm
        have h88 : τ8.2.1 8 1 = Int32.ofNat m6 := by
          rw [eτ8]
          exact (congrFun (cT_o (by decide)) 1).trans ((congrFun (cT_o (by decide)) 1).trans d6)
        have h811 : τ8.2.1 11 1 = Int32.ofNat (l + List.sum ns) := by
          rw [eτ8]
          exact (congrFun (cT_o (by decide)) 1).trans ((congrFun (cT_o (by decide)) 1).trans d9)
        rw [hcz] at k6
        have e0 : ∀ y, y ≠ z → (dE (dN D z (D.1 z + 1)) i (fun k => if k = D.1 z then t else D.2.1 i k)).1 y = D.1 y := fun y hy => if_neg hy
        have e0z : (dE (dN D z (D.1 z + 1)) i (fun k => if k = D.1 z then t else D.2.1 i k)).1 z = D.1 z + 1 := if_pos rfl
        have eE : ∀ y, y ≠ i → (dE (dN D z (D.1 z + 1)) i (fun k => if k = D.1 z then t else D.2.1 i k)).2.1 y = D.2.1 y := fun y hy => if_neg hy
        have eEi : (dE (dN D z (D.1 z + 1)) i (fun k => if k = D.1 z then t else D.2.1 i k)).2.1 i = fun k => if k = D.1 z then t else D.2.1 i k := if_pos rfl
        obtain ⟨D', eD'⟩ : ∃ D', D' = dE (dN D z (D.1 z + 1)) i (fun k => if k = D.1 z then t else D.2.1 i k) := ⟨_, rfl⟩
        have eR : D'.2.2 = D.2.2 := by rw [eD']; rfl
        rw [← eD'] at e0 e0z eE eEi k6
        refine Or.inl ⟨X7, B7, σ6, τ8, j6, rfl, rfl, by omega, g', ob', D', m6, l + List.sum ns, hT8, by rw [k5]; exact h130, k6, ?_, ?_, fun q => ?_, ⟨h88, d8⟩, h811, d10⟩
        · unfold CNT
          rw [e0 0 (by omega), e0 1 (by omega), e0 2 (by omega), e0 3 (by omega), e0 4 (by omega), e0 5 (by omega), eo 0 (by omega) (by omega) (by omega), eo 1 (by omega) (by omega) (by omega), eo 2 (by omega) (by omega) (by omega), eo 3 (by omega) (by omega) (by omega), eo 4 (by omega) (by omega) (by omega), eo 5 (by omega) (by omega) (by omega)]
          refine ⟨⟨c0, n0⟩, ⟨c1, n1⟩, ⟨c2, n2⟩, ⟨c3, n3⟩, ⟨c4, n4⟩, ⟨c5, n5⟩, ?_⟩
          rcases hz with ⟨rfl, rfl, -⟩ | ⟨rfl, rfl, -⟩
          · rw [e0z, ez, e0 9 (by decide), eo 9 (by omega) (by omega) (by omega)]
            exact ⟨⟨rfl, r1⟩, c9, n9⟩
          · rw [e0z, ez, e0 8 (by decide), eo 8 (by omega) (by omega) (by omega)]
            exact ⟨⟨c8, n8⟩, rfl, r1⟩
        · rw [e0 0 (by omega), e0 1 (by omega)]
          exact nm8
        · obtain ⟨nd, dt⟩ := hD (cl1 (cl2 (q8 q)))
          rw [e0 0 (by omega), e0 1 (by omega)]
          refine ⟨nd.of (d14.2.trans s2), ?_⟩
          obtain ⟨D1, D2, D3, D4, D5, D6, D7, D8, D9⟩ := dt
          have any8 : AnyU (VW τ8) B7 t l ns m6 := (d11.ag (ag68 m6 (l + List.sum ns)) (Nat.le_refl _)).gr (gr_eq k3)
          refine ⟨D1.of (eo 6 (by omega) (by omega) (by omega)) (eo 7 (by omega) (by omega) (by omega)) (by rw [eR]), D2.of hG ag (fun k a b => eo k (by omega) (by omega) (by omega)) (by rw [eR]) d7, D3.of hG (fun k a b => eo k (by omega) (by omega) (by omega)) n0 (e0 0 (by omega)) (eE 0 (by omega)), D4.of (fun k a b => eo k (by omega) (by omega) (by omega)) n1 (e0 1 (by omega)) (by rw [eR]), D5.of (fun k a b => eo k (by omega) (by omega) (by omega)) n2 (e0 2 (by omega)) (by rw [eR]) (by rw [e0 0 (by omega)]; exact Nat.le_refl _) (by rw [e0 1 (by omega)]; exact Nat.le_refl _), D6.of hG (fun k a b => eo k (by omega) (by omega) (by omega)) n3 (e0 3 (by omega)) (eE 1 (by omega)) (by rw [e0 0 (by omega)]; exact Nat.le_refl _), D7.of (fun k a b => eo k (by omega) (by omega) (by omega)) n4 (e0 4 (by omega)) (by rw [eR]) (by rw [e0 0 (by omega)]; exact Nat.le_refl _), D8.of hG (fun k a b => eo k (by omega) (by omega) (by omega)) n5 (e0 5 (by omega)) (eE 2 (by omega)), ?_⟩
          obtain ⟨R3, R4⟩ := D9
          rcases hz with ⟨rfl, rfl, rfl⟩ | ⟨rfl, rfl, rfl⟩
          · refine ⟨?_, ?_⟩
            · rw [e0z]
              exact R3.add hG ag d7 (Nat.le_add_right _ _) (fun k hk => eo _ (by omega) (by omega) (by omega)) ea eb any8 (Nat.le_refl _) eEi
            · rw [e0 9 (by decide), eE 4 (by decide)]
              exact R4.of hG ag (fun k hk => eo _ (by omega) (by omega) (by omega)) d7 (Nat.le_add_right _ _)
          · refine ⟨?_, ?_⟩
            · rw [e0 8 (by decide), eE 3 (by decide)]
              exact R3.of hG ag (fun k hk => eo _ (by omega) (by omega) (by omega)) d7 (Nat.le_add_right _ _)
            · rw [e0z]
              exact R4.add hG ag d7 (Nat.le_add_right _ _) (fun k hk => eo _ (by omega) (by omega) (by omega)) ea eb any8 (Nat.le_refl _) eEi
      · rw [a1, th_r, th_r, th_r, a2, Option.bind_some, if_pos rfl]
        exact Or.inr (a3.le (by omega))
    · have a1' : f_X2_must F (ad 6) 214 (cM X ad σ1 B) = _ := a1
      rw [if_pos b1, if_neg (show ¬ (1 : Int32) = 0 by decide), a1', th_r, th_r, th_r, a2, Option.bind_some, if_pos rfl]
      exact Or.inr (TNO.le ⟨e, X2, B2, σ2, τ2, k, p, rfl, rfl, a3⟩ (by omega))
    · have a1' : f_X2_must F (ad 6) 214 (cM X ad σ1 B) = _ := a1
      rw [if_neg b1, if_pos rfl, wrong_T r6.p, Option.bind_some, if_pos (Or.inl rfl), a1', th_r, th_r, th_r, a2]
      exact Or.inr (TNO.le ⟨e, X2, B2, σ2, τ2, k, p, rfl, rfl, a3⟩ (by omega))
  · rw [a1, th_r, th_r, th_r, r1, Option.bind_some, if_neg (show ¬ (0 : Int32) ≤ -1 by decide), r2, Option.bind_some, if_pos (Or.inl rfl)]
    exact Or.inr (TNO.le ⟨e, X2, B2, σ2, τ2, k, p, rfl, a2, a3⟩ (by omega))
  · rw [a1, th_r, th_r, th_r, r1, Option.bind_some, if_pos (ofNat_nn (by omega)), r2, Option.bind_some, if_pos rfl]
    exact Or.inr (TNO.le ⟨e, X2, B2, σ2, τ2, k, p, rfl, a2, a3⟩ (by omega))
theorem j26_no {w : Int32} (h : w ≠ 0 ∧ w ≠ 1 ∧ w ≠ 2 ∧ w ≠ 3 ∧ w ≠ 5 ∧ w ≠ 6 ∧ w ≠ 7 ∧ w ≠ 9 ∧ w ≠ 30 ∧ w ≠ 31 ∧ w ≠ 21 ∧ w ≠ 32 ∧ w ≠ 33) : t_X9_tellOne_j26 F w τ = Option.bind (t_X9_wrong F 1 τ) fun q17 => if q17.1 = 0 ∨ q17.1 = 1 then some (q17.1, q17.2) else none := by
  obtain ⟨h1, h2, h3, h4, h5, h6, h7, h8, h9, h10, h11, h12, h13⟩ := h
  unfold t_X9_tellOne_j26
  rw [if_neg h1, if_neg h2, if_neg h3, if_neg h4, if_neg h5, if_neg h6, if_neg h7, if_neg h8, if_neg h9, if_neg h10, if_neg h11, if_neg h12, if_neg h13]
/-- nothing that can be told -/
theorem other_CT (h : TI c pl last ad X0 B0 σ0 τ0 X B σ τ j) (hc : 30 ≤ c j ∨ c j = 20 ∨ c j < 16) : TOK F c pl last ad X0 B0 σ0 τ0 j (f_X2_tell F (ad 6) (cM X ad σ B)) (t_X9_tellOne F τ) := by
  obtain ⟨g, ob, D, m, l, hT, h130, hW, hC, hN, hD, ⟨h8, hm⟩, h11, hl⟩ := h
  have hA := hT.a
  have hP := hT.p
  have hj := hP.1.1
  have hjl := hP.2.2.2
  have hcl := (hP.1.2.1 j hjl).1.1
  have n : ∀ q, q < 42 → c j ≠ q → kT (c j) ≠ kT q := fun q hq h z => h (kT_inj _ hcl _ hq z)
  have eC : f_X2_tellLaw F (ad 6) (cM X ad σ B) = some (.inr B.2.1, cM X ad σ (ovl B [fltO 1 (pl j)] 8)) := by
    unfold f_X2_tellLaw
    rw [oc6 hA, Option.bind_some, kind_C hA hP, Option.bind_some, if_neg (n 25 (by decide) (by omega)), if_neg (n 26 (by decide) (by omega)), if_neg (n 27 (by decide) (by omega)), if_neg (n 28 (by decide) (by omega)), if_neg (n 29 (by decide) (by omega)), Option.bind_some, fault_C hA hP, Option.bind_some, oc_flt hA, Option.bind_some]
  have eT : t_X9_tellOne F τ = some (0, tsI (tsI τ 8 1) 9 (Int32.ofNat (pl j))) := by
    by_cases hw : 16 ≤ c j
    · obtain ⟨q, hq⟩ : ∃ q, c j = 16 + q := ⟨c j - 16, by omega⟩
      have hne : ∀ q, q < 26 → (q = 4 ∨ 14 ≤ q) → wtL.getD q 0 ≠ 0 ∧ wtL.getD q 0 ≠ 1 ∧ wtL.getD q 0 ≠ 2 ∧ wtL.getD q 0 ≠ 3 ∧ wtL.getD q 0 ≠ 5 ∧ wtL.getD q 0 ≠ 6 ∧ wtL.getD q 0 ≠ 7 ∧ wtL.getD q 0 ≠ 9 ∧ wtL.getD q 0 ≠ 30 ∧ wtL.getD q 0 ≠ 31 ∧ wtL.getD q 0 ≠ 21 ∧ wtL.getD q 0 ≠ 32 ∧ wtL.getD q 0 ≠ 33 := by decide
      rw [one_T hP hq (by omega), j26_no (hne q (by omega) (by omega)), wrong_T hP, Option.bind_some, if_pos (Or.inl rfl)]
    · have s3 : sT (c j) ≠ 3 := fun z => hw ((sT_2 _ hcl).2.1 z)
      unfold t_X9_tellOne
      rw [sort_T hP, Option.bind_some, if_neg s3, j26_no (by decide), wrong_T hP, Option.bind_some, if_pos (Or.inl rfl)]
  rw [tellLaw_C hA hP (by omega), eC, th_r, eT]
  exact Or.inr ((hT.no (R := Unit) (k := 1) (by decide)).le (by omega))
