set_option maxRecDepth 100000
/-! the telling: a law, a rule, anything else -/
variable {X X' X2 : Nat → Option Ob} {ad : Nat → Nat} {B B' B2 : Sw} {A A' : Av} {σ σ' σ2 : Cs} {τ τ' τ2 : Tw} {F : Nat} {c pl : Nat → Nat} {last j : Nat}
variable {X0 : Nat → Option Ob} {B0 : Sw} {σ0 : Cs} {τ0 : Tw} {u : Nat} {g : Nat → Nat} {ob : Nat → Ob} {D : Dn}
theorem AT.sum (hF : 100000 ≤ F) {m : Nat} (h : AT c pl last ad X0 B0 σ0 τ0 u X B σ τ j) (h8 : τ.2.1 8 1 = Int32.ofNat m) (hm : m ≤ j) : (∃ t X' B' σ' τ' j' cl, f_sum F 9 (ad 6) (cM X ad σ B) = some (.inl t, cM X' ad σ' B') ∧ t_X9_expr F τ = some (1, τ') ∧ j < j' ∧ AT c pl last ad X0 B0 σ0 τ0 (u + 2 * (j' - j)) X' B' σ' τ' j' ∧ τ'.1 32 = Int32.ofNat m ∧ τ'.2.1 8 1 = Int32.ofNat (m + cl.length) ∧ cAt (vT τ') m cl ∧ TrB B' (j' - j) t cl ∧ cl.length ≤ j' - j ∧ MF ad X B X' B' (2 * (j' - j)) ∧ EF σ σ' ∧ EX m τ τ') ∨ ∃ e X2 B2 σ2 τ2, f_sum F 9 (ad 6) (cM X ad σ B) = some (.inr e, cM X2 ad σ2 B2) ∧ t_X9_expr F τ = some (0, τ2) ∧ ∀ {R : Type}, TNO (R := R) ad X0 B0 σ0 τ0 (u + 2 * (last + 1 - j)) (some (.inr e, cM X2 ad σ2 B2)) (some (0, τ2)) := by
  rcases expr_CT (X := X) hF h.a h.p h.2.2.2.2.2.1 h8 hm with ⟨t, X2, B2, σ3, τ7, j2, cl, b1, b2, b3, b4, b5, b6, b7, b8, b9, b10, b11, b12, b13⟩ | ⟨e, X3, B3, σ4, τ6, kk, p, f1, f2, f3, f4, f5, f6, f7, f8, f9⟩
  · refine Or.inl ⟨t, X2, B2, σ3, τ7, j2, cl, b1, b2, b3, ⟨h.1.tr b11, h.2.1.mf b11, h.2.2.1.tr b12.r, h.2.2.2.1.tr (b13.cc (l := 0)).x, b4, b5, ?_, h.2.2.2.2.2.2.2.tr (nf_expr _ _ b2 (by decide))⟩, b6, b7, b8, b9, b10, b11, b12, b13⟩
    exact (h.w.of (b12.1 33 (by decide) (by decide)) (b12.1 34 (by decide) (by decide)) (b13.1 10 (by decide) (by decide) (by decide) (by decide) (by decide)) (b13.1 11 (by decide) (by decide) (by decide) (by decide) (by decide))).up (by omega)
  · exact Or.inr ⟨e, X3, B3, σ4, τ6, f1, f2, ⟨e, X3, B3, σ4, τ6, kk, p, rfl, rfl, f3, f4, f5, f6, h.1.tr f7, h.2.2.1.tr f8.r, h.2.2.2.1.tr (f9.cc (l := 0)).x⟩⟩
theorem AT.cond (hF : 100000 ≤ F) {m l : Nat} (h : AT c pl last ad X0 B0 σ0 τ0 u X B σ τ j) (h8 : τ.2.1 8 1 = Int32.ofNat m) (hm : m ≤ j) (h11 : τ.2.1 11 1 = Int32.ofNat l) (hl : 3 * l ≤ j) : (∃ t q X' B' σ' τ' j' m' ns, f_X2_condition F (ad 6) (cM X ad σ B) = some (.inl t, cM X' ad σ' B') ∧ t_X9_cond F τ = some (1, τ') ∧ j + 3 ≤ j' ∧ AT c pl last ad X0 B0 σ0 τ0 (u + 20 * (j' - j)) X' B' σ' τ' j' ∧ τ'.1 33 = Int32.ofNat l ∧ τ'.2.1 8 1 = Int32.ofNat m' ∧ m ≤ m' ∧ m' ≤ j' ∧ τ'.2.1 11 1 = Int32.ofNat (l + List.sum ns) ∧ 3 * (l + List.sum ns) ≤ j' ∧ AnyU (VW τ') B' t l ns m' ∧ B'.1 t = some (.inr q) ∧ MF ad X B X' B' (20 * (j' - j)) ∧ EF σ σ' ∧ CX m l (tsI τ 33 (Int32.ofNat l)) τ') ∨ ∃ e X2 B2 σ2 τ2, f_X2_condition F (ad 6) (cM X ad σ B) = some (.inr e, cM X2 ad σ2 B2) ∧ t_X9_cond F τ = some (0, τ2) ∧ ∀ {R : Type}, TNO (R := R) ad X0 B0 σ0 τ0 (u + 20 * (last + 1 - j)) (some (.inr e, cM X2 ad σ2 B2)) (some (0, τ2)) := by
  have x33 : TX τ (tsI τ 33 (Int32.ofNat l)) := TX.i (by decide)
  rcases cond_CT (X := X) hF h.a h.2.1 h.p h.2.2.2.2.2.1 h8 h11 hm hl with ⟨t, q, X2, B2, σ2, τ2, j2, m2, ns, e1, e2, e3, e4, e5, e6, e7, e8, e9, e10, e11, e12, e13, e14, e15⟩ | ⟨e, X3, B3, σ4, τ6, kk, p, f1, f2, f3, f4, f5, f6, f7, f8, f9⟩
  · have e13' : MF ad X B X2 B2 (20 * (j2 - j)) := e13.le (by omega)
    refine Or.inl ⟨t, q, X2, B2, σ2, τ2, j2, m2, ns, e1, e2, e3, ⟨h.1.tr e13', h.2.1.mf e13', h.2.2.1.tr e14.r, h.2.2.2.1.tr (x33.tr e15.x), e4, e5, ?_, h.2.2.2.2.2.2.2.tr (nf_cond _ _ e2 (by decide))⟩, (e15.1 33 (by decide) (by decide) (by decide) (by decide) (by decide)).trans (tsI_s _ _ _), e6, e7, e8, e9, e10, e11, e12, e13', e14, e15⟩
    exact (h.w.of (e14.1 33 (by decide) (by decide)) (e14.1 34 (by decide) (by decide)) ((e15.1 10 (by decide) (by decide) (by decide) (by decide) (by decide)).trans (tsI_n _ _ _ _ (by decide))) ((e15.1 11 (by decide) (by decide) (by decide) (by decide) (by decide)).trans (tsI_n _ _ _ _ (by decide)))).up (by omega)
  · exact Or.inr ⟨e, X3, B3, σ4, τ6, f1, f2, ⟨e, X3, B3, σ4, τ6, kk, p, rfl, rfl, f3, f4, f5, f6, h.1.tr f7, h.2.2.1.tr f8.r, h.2.2.2.1.tr (x33.tr f9.x)⟩⟩
theorem cT_ag {m l k : Nat} {v : Int32} : AG m l (VW τ) (VW (cT τ k v)) := VW_ag fun _ a _ _ => cT_o a
theorem AG.tr {m l : Nat} {A2 : Av} (h1 : AG m l A A') (h2 : AG m l A' A2) : AG m l A A2 := ⟨fun k hk => ⟨(h2.1 k hk).1.trans (h1.1 k hk).1, (h2.1 k hk).2.trans (h1.1 k hk).2⟩, fun r k a b d => (h2.2.1 r k a b d).trans (h1.2.1 r k a b d), fun k hk q => by
  have e := h1.2.2 k hk q
  exact (h2.2.2 k hk (by rw [e]; exact q)).trans e⟩
theorem tellLaw_C (hA : AdOK ad B) (hP : PK c pl last j σ τ) (hc : 25 ≤ c j ∨ c j = 20 ∨ c j < 16) : f_X2_tell F (ad 6) (cM X ad σ B) = Option.bind (f_X2_tellLaw F (ad 6) (cM X ad σ B)) fun q => thr q.1 q.2 fun _ => SEM F (ad 6) q.2 := by
  have hcl := (hP.1.2.1 j hP.2.2.2).1.1
  have n : ∀ q, q < 42 → c j ≠ q → kT (c j) ≠ kT q := fun q hq h z => h (kT_inj _ hcl _ hq z)
  unfold f_X2_tell
  rw [oc6 hA, Option.bind_some, kind_C hA hP, Option.bind_some, if_neg (n 16 (by decide) (by omega)), if_neg (n 17 (by decide) (by omega)), if_neg (n 18 (by decide) (by omega)), if_neg (n 19 (by decide) (by omega)), if_neg (n 21 (by decide) (by omega)), if_neg (n 22 (by decide) (by omega)), if_neg (n 23 (by decide) (by omega)), if_neg (n 24 (by decide) (by omega)), Option.bind_some, ite_self]
  rfl
/-- tide (w 0), due (w 1), sway (w 2) -/
theorem law_CT (hF : 100000 ≤ F) {w : Nat} {pw : Int32} (h : TI c pl last ad X0 B0 σ0 τ0 X B σ τ j) (hw : w < 3) (hc : c j = 25 + w) (hpw : pw = Int32.ofNat w) : TOK F c pl last ad X0 B0 σ0 τ0 j (f_X2_tell F (ad 6) (cM X ad σ B)) (t_X9_tellLaw F pw τ) := by
  obtain ⟨g, ob, D, m, l, hT, h130, hW, hC, hN, hD, ⟨h8, hm⟩, h11, hl⟩ := h
  have hA := hT.a
  have hj := hT.p.1.1
  have hjl := hT.p.2.2.2
  obtain ⟨⟨c0, n0⟩, ⟨c1, n1⟩, ⟨c2, n2⟩, ⟨c3, n3⟩, ⟨c4, n4⟩, ⟨c5, n5⟩, ⟨c8, n8⟩, c9, n9⟩ := hC
  have f5 : ∀ σ, gfR (cM X ad σ B) (ad 6) 2 5 = some (g 0) := fun σ => o6_5 hA σ h130
  have pre : f_X2_tellLaw F (ad 6) (cM X ad σ B) = Option.bind (f_X2_term F (ad 6) (cM X ad σ B)) fun q => thr q.1 q.2 fun x => Option.bind (pf q.2 (g 0) 3 (13 + w) (.ref x)) fun μ => some (.inl (), μ) := by
    unfold f_X2_tellLaw
    rw [oc6 hA, Option.bind_some, kind_C hA hT.p, Option.bind_some, hc]
    have : w = 0 ∨ w = 1 ∨ w = 2 := by omega
    rcases this with rfl | rfl | rfl
    · rw [show kT (25 + 0) = 209 from rfl, if_pos rfl, f5, Option.bind_some, Option.bind_some]
    · rw [show kT (25 + 1) = 210 from rfl, if_neg (show ¬ (210 : Int32) = 209 by decide), if_pos rfl, f5, Option.bind_some, Option.bind_some]
    · rw [show kT (25 + 2) = 211 from rfl, if_neg (show ¬ (211 : Int32) = 209 by decide), if_neg (show ¬ (211 : Int32) = 210 by decide), if_pos rfl, f5, Option.bind_some, Option.bind_some]
  rw [tellLaw_C hA hT.p (by omega), pre]
  subst hpw
  unfold t_X9_tellLaw f_X2_term
  rw [oc6 hA, Option.bind_some]
  rcases hT.go (F := F) (by omega) (by omega) with ⟨k1, k2, k3, k4⟩ | ⟨e, X2, B2, σ2, τ2, k, p, a1, a2, a3⟩
  · rw [k2, th_l, k3, Option.bind_some, if_neg (show ¬ (1 : Int32) = 0 by decide), oc6 hA, Option.bind_some]
    obtain ⟨σ1, e1⟩ : ∃ σ1, σ1 = csI σ 31 (Int32.ofNat (j + 1)) := ⟨_, rfl⟩
    obtain ⟨τ1, e2⟩ : ∃ τ1, τ1 = tsI τ 7 (Int32.ofNat (j + 1)) := ⟨_, rfl⟩
    have nm1 : NMS σ1 τ1 (D.1 0) (D.1 1) := by rw [e1, e2]; exact hN.go
    have cl1 : CLN σ1 τ1 → CLN σ τ := fun q => by rw [e1, e2] at q; exact q.go
    have s1 : σ1.2 = σ.2 := by rw [e1]; rfl
    have t1 : τ1.2 = τ.2 := by rw [e2]; rfl
    rw [← e1, ← e2] at k4
    rw [← e1, ← e2]
    have sg := sign_TT (F := F) k4.p (q := 5) (by decide)
    rw [show wT 5 = 61 from rfl] at sg
    rw [sg, Option.bind_some]
    rcases k4.must (F := F) (q := 5) (by decide) (by decide) (by decide) with ⟨r1, r2, r3, r4, r5⟩ | ⟨r1, e, X2, B2, σ2, τ2, k, p, a1, a2, a3⟩ | ⟨r1, e, X2, B2, σ2, τ2, k, p, a1, a2, a3⟩
    · have r3' : f_X2_must F (ad 6) 61 (cM X ad σ1 B) = _ := r3
      rw [if_pos r1, if_neg (show ¬ (1 : Int32) = 0 by decide), r3', th_l, r4, Option.bind_some, if_neg (show ¬ (1 : Int32) = 0 by decide), oc6 hA, Option.bind_some]
      obtain ⟨σ2, e3⟩ : ∃ σ2, σ2 = csI σ1 31 (Int32.ofNat (j + 1 + 1)) := ⟨_, rfl⟩
      obtain ⟨τ2, e4⟩ : ∃ τ2, τ2 = tsI τ1 7 (Int32.ofNat (j + 1 + 1)) := ⟨_, rfl⟩
      have nm2 : NMS σ2 τ2 (D.1 0) (D.1 1) := by rw [e3, e4]; exact nm1.go
      have cl2 : CLN σ2 τ2 → CLN σ1 τ1 := fun q => by rw [e3, e4] at q; exact q.go
      have s2 : σ2.2 = σ.2 := by rw [e3]; exact s1
      have t2 : τ2.2 = τ.2 := by rw [e4]; exact t1
      rw [← e3, ← e4] at r5
      rw [← e3, ← e4]
      rcases r5.sum (F := F) hF (m := m) (by rw [t2]; exact h8) (by omega) with ⟨t, X6, B6, σ6, τ6, j6, cl, b1, b2, b3, b4, b5, b6, b7, b8, b9, b10, b11, b12⟩ | ⟨e, X2, B2, σ2, τ2, a1, a2, a3⟩
      · have hj6 := b4.p.2.2.2
        have hW6 := hW.mf b10
        obtain ⟨X7, ob', x1, x2, x3⟩ := hW6.fld (σ := σ6) (k := 13 + w) (v := .ref t) (D' := dL D w t) b4.1 (by omega) (by
          have : w = 0 ∨ w = 1 ∨ w = 2 := by omega
          rcases this with rfl | rfl | rfl <;> rfl) (fun i hi => rfl) rfl rfl
        have i8 : ∀ v, taI (cT τ6 (10 + 2 * w) v) 8 2 1 = some (Int32.ofNat (m + cl.length)) := fun v => (taI_n _ 8 2 1 (by decide) (by decide)).trans (congrArg some ((congrFun (cT_o (by decide)) 1).trans b6))
        rw [b1, th_l, th_l, x1, Option.bind_some, th_l, b2, Option.bind_some, if_neg (show ¬ (1 : Int32) = 0 by decide), b5, n_ml, n_pl, tell_T (show 10 + 2 * w < 210 by omega), Option.bind_some, i8, Option.bind_some, n_lp, tell_T (show 10 + 2 * w + 1 < 210 by omega), Option.bind_some]
        have v66 : VW τ6 6 = VW τ 6 := VW_66 ((b12.2.1 6 (by decide) (by decide) (by decide) (by decide)).trans (by rw [t2]))
        have ag6 : AG m l (VW τ) (VW τ6) := by
          have : VW τ2 = VW τ := by unfold VW; rw [t2]
          rw [← this]
          exact (b12.cc (l := l)).ag
        have hT7 : AT c pl last ad X0 B0 σ0 τ0 (40 + 24 * j6) X7 B6 σ6 (cT (cT τ6 (10 + 2 * w) (Int32.ofNat m)) (10 + 2 * w + 1) (Int32.ofNat (m + cl.length))) j6 := (((b4.cell).cell).mem (X' := X7) (B' := B6) x2 (fun _ _ q => q) rfl).le (by omega)
        have eo : ∀ k, k ≠ 10 + 2 * w → k ≠ 10 + 2 * w + 1 → VW (cT (cT τ6 (10 + 2 * w) (Int32.ofNat m)) (10 + 2 * w + 1) (Int32.ofNat (m + cl.length))) 6 k = VW τ 6 k := fun k a b => by
          rw [cT_n b, cT_n a, v66]
        have ag : AG m l (VW τ) (VW (cT (cT τ6 (10 + 2 * w) (Int32.ofNat m)) (10 + 2 * w + 1) (Int32.ofNat (m + cl.length)))) := (ag6.tr cT_ag).tr cT_ag
        refine Or.inl ⟨X7, B6, σ6, _, j6, rfl, rfl, by omega, g, ob', _, m + cl.length, l, hT7, h130, x3, ?_, ?_, fun q => ?_, ⟨b6, by omega⟩, ?_, by omega⟩
        · unfold CNT
          rw [eo 0 (by omega) (by omega), eo 1 (by omega) (by omega), eo 2 (by omega) (by omega), eo 3 (by omega) (by omega), eo 4 (by omega) (by omega), eo 5 (by omega) (by omega), eo 8 (by omega) (by omega), eo 9 (by omega) (by omega)]
          exact ⟨⟨c0, n0⟩, ⟨c1, n1⟩, ⟨c2, n2⟩, ⟨c3, n3⟩, ⟨c4, n4⟩, ⟨c5, n5⟩, ⟨c8, n8⟩, c9, n9⟩
        · exact ((nm2.of (b11.1 38 (by decide) (by decide)) b11.2 (b12.1 25 (by decide) (by decide) (by decide) (by decide) (by decide)) (by rw [b12.2.2.2.2]) (b12.2.1 20 (by decide) (by decide) (by decide) (by decide)) (b12.2.1 21 (by decide) (by decide) (by decide) (by decide))).c).c
        · have q6 : CLN σ2 τ2 := (show CLN σ6 τ6 from q).of (b11.1 33 (by decide) (by decide)).symm (b12.1 10 (by decide) (by decide) (by decide) (by decide) (by decide)).symm
          obtain ⟨nd, dt⟩ := hD (cl1 (cl2 q6))
          refine ⟨nd.of (b11.2.trans s2), ?_⟩
          obtain ⟨D1, D2, D3, D4, D5, D6, D7, D8, D9⟩ := dt
          have hG : Gr B B6 := b10.2.1
          have new : ∀ c0, LawU (VW (cT (cT τ6 (10 + 2 * w) (Int32.ofNat m)) (10 + 2 * w + 1) (Int32.ofNat (m + cl.length)))) B6 t w c0 (m + cl.length) := fun c0 => by
            refine ⟨j6 - (j + 1 + 1), cl, b8, by omega, Or.inr ⟨m, ?_, cT_s, ?_, Nat.le_refl _⟩⟩
            · rw [cT_n (by omega), cT_s]
            · exact cAt_ag (cT_ag (m := m + cl.length) (l := 0)) _ _ (Nat.le_refl _) (cAt_ag (cT_ag (m := m + cl.length) (l := 0)) _ _ (Nat.le_refl _) (cAt_VW _ _ b7))
          refine ⟨D1.of (eo 6 (by omega) (by omega)) (eo 7 (by omega) (by omega)) rfl, ?_, D3.of hG (fun k a b => eo k (by omega) (by omega)) n0 rfl rfl, D4.of (fun k a b => eo k (by omega) (by omega)) n1 rfl rfl, D5.of (fun k a b => eo k (by omega) (by omega)) n2 rfl rfl (Nat.le_refl _) (Nat.le_refl _), D6.of hG (fun k a b => eo k (by omega) (by omega)) n3 rfl rfl (Nat.le_refl _), D7.of (fun k a b => eo k (by omega) (by omega)) n4 rfl rfl (Nat.le_refl _), D8.of hG (fun k a b => eo k (by omega) (by omega)) n5 rfl rfl, D9.of hG ag (fun k a b => eo k (by omega) (by omega)) n8 n9 rfl rfl rfl rfl (Nat.le_add_right _ _) (Nat.le_refl _)⟩
          obtain ⟨L0, L1, L2⟩ := D2
          have : w = 0 ∨ w = 1 ∨ w = 2 := by omega
          rcases this with rfl | rfl | rfl
          · exact ⟨new _, L1.of hG ag (eo _ (by decide) (by decide)) (eo _ (by decide) (by decide)) (Nat.le_add_right _ _), L2.of hG ag (eo _ (by decide) (by decide)) (eo _ (by decide) (by decide)) (Nat.le_add_right _ _)⟩
          · exact ⟨L0.of hG ag (eo _ (by decide) (by decide)) (eo _ (by decide) (by decide)) (Nat.le_add_right _ _), new _, L2.of hG ag (eo _ (by decide) (by decide)) (eo _ (by decide) (by decide)) (Nat.le_add_right _ _)⟩
          · exact ⟨L0.of hG ag (eo _ (by decide) (by decide)) (eo _ (by decide) (by decide)) (Nat.le_add_right _ _), L1.of hG ag (eo _ (by decide) (by decide)) (eo _ (by decide) (by decide)) (Nat.le_add_right _ _), new _⟩
        · refine ((congrFun (cT_o (by decide)) 1).trans ((congrFun (cT_o (by decide)) 1).trans ?_))
          rw [b12.2.1 11 (by decide) (by decide) (by decide) (by decide), t2]
          exact h11
      · rw [a1, th_r, th_r, th_r, a2, Option.bind_some, if_pos rfl]
        exact Or.inr (a3.le (by omega))
    · have a1' : f_X2_must F (ad 6) 61 (cM X ad σ1 B) = _ := a1
      rw [if_pos r1, if_neg (show ¬ (1 : Int32) = 0 by decide), a1', th_r, th_r, th_r, a2, Option.bind_some, if_pos rfl]
      exact Or.inr (TNO.le ⟨e, X2, B2, σ2, τ2, k, p, rfl, rfl, a3⟩ (by omega))
    · have a1' : f_X2_must F (ad 6) 61 (cM X ad σ1 B) = _ := a1
      rw [if_neg r1, if_pos rfl, wrong_T k4.p, Option.bind_some, if_pos (Or.inl rfl), a1', th_r, th_r, th_r, a2]
      exact Or.inr (TNO.le ⟨e, X2, B2, σ2, τ2, k, p, rfl, rfl, a3⟩ (by omega))
  · rw [a1, th_r, th_r, th_r, a2, Option.bind_some, if_pos rfl]
    exact Or.inr (TNO.le ⟨e, X2, B2, σ2, τ2, k, p, rfl, rfl, a3⟩ (by omega))
