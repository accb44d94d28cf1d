set_option maxRecDepth 100000
/-! 2: read, whole -/
variable {X X' X2 : Nat → Option Ob} {ad ad' : Nat → Nat} {B B' B2 : Sw} {A A' A2 : Av} {σ σ' σ2 : Cs} {τ τ' τ2 : Tw} {F : Nat} {c pl : Nat → Nat} {last j : Nat}
theorem LT_0 {a z : Nat} {f1 f2 f3 : Nat → Int32} (ha : B.2.1 = a) (hz : B.2.2.2 0 = z) : TWN B (nsT a z f1 f2 f3) f1 f2 f3 0 0 (fun _ => 0) 0 (fun _ => 0) := by
  subst ha hz
  exact ⟨rfl, ⟨f1, rfl, fun _ _ => rfl⟩, ⟨f2, rfl, fun _ _ => rfl⟩, ⟨f3, rfl, fun _ _ => rfl⟩, 6, Nat.le_refl _, ⟨0, _, rfl, Or.inl ⟨rfl, rfl⟩⟩, ⟨0, _, rfl, Or.inl ⟨rfl, rfl⟩⟩⟩
theorem and1 {x : Int32} (h : x = 0 ∨ x = 1) : x &&& 1 = x := by
  rcases h with rfl | rfl <;> rfl
/-- the reading is good: the town takes hold on both sides -/
theorem read_ok (hF : 100000 ≤ F) (hE : EV ad B A) (hK : KB B) (hC : CR ad B A σ) (hT : TR A τ) {σc : Cs} {τc : Tw} {ad1 : Nat → Nat} {t : Nat} (lo : ∀ i, i < 114 → ad1 i = ad i) (s1 : SF σ σc) (s2 : σc.1 21 = 0) (t1 : TF τ τc) (h130 : ad1 130 = t + 1) (h : TI c pl last ad1 X B (r0C (csI σc 2 (-1))) (r0T τc) X' B' σ' τ' j) (hc : CLN σ' τ') (k8 : τ'.1 8 = 0) (k9 : τ'.1 9 = -1) : ∃ (ad2 : Nat → Nat) (B2 : Sw) (A2 : Av) (σ2 : Cs) (τ2 : Tw), (Option.bind (pf (cM X' ad1 σ' B') (ad 0) 0 3 (.ref t)) fun μ18 => nm (nw μ18 (.inr (6, dfX6)) 6) fun μ20 => Option.bind (f_X6_init F μ18.2.1 μ20) fun q22 => f_X0_read_L50 F (fun μ24 => Option.bind (gfR μ24 (ad 0) 0 3) fun x25 => Option.bind (gfR μ24 x25 3 7) fun x27 => Option.bind (gfR μ24 μ18.2.1 6 1) fun x29 => Option.bind (cpI μ24 x27 0 x29 0 16) fun μ31 => f_X0_read_L113 F (fun μ33 => Option.bind (pf μ33 (ad 0) 0 4 (.ref μ18.2.1)) fun μ34 => Option.bind (gfR μ34 (ad 0) 0 5) fun x36 => Option.bind (sQ μ34 7 x36 0 none) fun μ39 => Option.bind (gfR μ39 (ad 0) 0 5) fun x40 => Option.bind (sQ μ39 7 x40 1 none) fun μ43 => Option.bind (pf μ43 (ad 0) 0 9 (.int 0)) fun μ44 => Option.bind (pf μ44 (ad 0) 0 11 (.int 0)) fun μ46 => some ((0 : Int32), μ46)) (ad 0) μ18.2.1 F 0 μ31) (ad 0) μ18.2.1 F 0 q22) = some (0, cM X' ad2 σ2 B2) ∧ t_X9_read_j54 F τ' = some (0, τ2) ∧ INV ad2 B2 A2 σ2 τ2 ∧ XT ad B ad2 B2 ∧ ∀ a, a < B.2.1 → ¬ Own ad B a → X' a = X a := by
  obtain ⟨hA, hTB, hW⟩ := hE
  obtain ⟨g, ob, D, m, l, hAT, hg, hTW, hCN, hNM, hDT, ⟨h8, hm⟩, h11, hl⟩ := h
  obtain ⟨-, dt⟩ := hDT hc
  have hM := hAT.1
  have hR := hAT.2.2.1
  have hX := hAT.2.2.2.1
  have hj : j ≤ 400 := by
    have := hAT.p.1.1
    have := hAT.p.2.2.2
    omega
  have hA1 : AdOK ad1 B' := hM.1
  have hK1 : KB B' := hAT.2.1
  have hG1 : Gr B B' := hM.2.1
  have ht : t = g 0 := by omega
  -- frozen
  have hTC := hTW.1
  obtain ⟨Bf, eBf⟩ : ∃ Bf, Bf = frG B' X' g := ⟨_, rfl⟩
  have hAf : AdOK ad1 Bf := by rw [eBf]; exact frG_ad hA1 hTC hK1
  have hGf : Gr B' Bf := by rw [eBf]; exact frG_gr
  have eM : cM X' ad1 σ' B' = cM X' ad1 σ' Bf := by rw [eBf]; exact frG_eq hTC hK1
  have ownf : ∀ a, Own ad1 Bf a → Own ad1 B' a ∨ B.2.1 ≤ a := fun a q => by rw [eBf] at q; exact frG_own hTC hK1 q
  have f2 : Bf.2 = B'.2 := by rw [eBf]; rfl
  have nof : ∀ r, r < 114 → Bf.1 (ad1 r) = B'.1 (ad1 r) := fun r hr => by rw [eBf]; exact frG_no hTC hK1 hr
  obtain ⟨ad2, ead2⟩ : ∃ ad2, ad2 = adT ad1 g D := ⟨_, rfl⟩
  have lo2 : ∀ i, i < 114 → ad2 i = ad1 i := fun i hi => by rw [ead2]; exact adT_lo (Or.inl hi)
  have hA2 : AdOK ad2 Bf := hAf.lo lo2
  have hKf : KB Bf := hK1.gr hGf (by rw [f2])
  have p3 : pf (cM X' ad1 σ' Bf) (ad 0) 0 3 (.ref t) = some (cM X' ad2 σ' Bf) := by
    have := p0_3 (X := X') (σ := σ') hAf lo2 (by rw [ead2]; exact adT_lo (Or.inr (Or.inl (by decide))))
    have e114 : ad2 114 = t := by rw [ead2, ht]; rfl
    rw [e114, lo 0 (by decide)] at this
    exact this
  -- what the component reads of the town
  obtain ⟨D1, D2, D3, D4, D5, D6, D7, D8, D9⟩ := dt
  have dt' : DT (VW τ') B' D m l := ⟨D1, D2, D3, D4, D5, D6, D7, D8, D9⟩
  obtain ⟨⟨c0, n0⟩, ⟨c1, n1⟩, ⟨c2, n2⟩, ⟨c3, n3⟩, ⟨c4, n4⟩, ⟨c5, n5⟩, ⟨c8, n8⟩, c9, n9⟩ := hCN
  have hCN' : CNT (VW τ') D := ⟨⟨c0, n0⟩, ⟨c1, n1⟩, ⟨c2, n2⟩, ⟨c3, n3⟩, ⟨c4, n4⟩, ⟨c5, n5⟩, ⟨c8, n8⟩, c9, n9⟩
  have at0 : ∀ x, (x < 6 ∨ 11 ≤ x) → x < 14 → Bf.1 (g x) = some (ob x) := fun x hx h14 => by
    obtain ⟨a1, a2, a3, a4⟩ := hTC.at hx h14
    rw [eBf]
    exact frG_at hTC h14 a1 a4
  have tR : TWR ad2 Bf (D.1 0) (D.1 5) (D.2.1 0) (D.2.1 2) (fun k => VW τ' 6 (20 + 3 * k + 1)) (fun k => VW τ' 6 (170 + 2 * k + 1)) (D.2.2.1 12) := by
    refine ⟨⟨twF g D, ?_, ?_, ?_, ?_⟩, ⟨?_, fun k hk => ⟨_, _, hGf _ _ (D3.1 k hk).1⟩⟩, ⟨?_, fun k hk => ⟨_, hGf _ _ (D8.1 k hk).1⟩⟩, ?_, n0, n5⟩
    · rw [ead2]
      show Bf.1 (g 0) = _
      rw [at0 0 (by omega) (by omega), hTW.2.1]
    · rw [ead2]; rfl
    · rw [ead2]; rfl
    · rw [ead2]; rfl
    · rw [ead2, show (115 : Nat) = 115 + 0 from rfl, adT_l (by decide), eBf]
      exact (hTW.2.2.1 0 (by decide)).lb hTC hK1 (by decide) (show D.1 0 < 1000 by omega)
    · rw [ead2, show (117 : Nat) = 115 + 2 from rfl, adT_l (by decide), eBf]
      exact (hTW.2.2.1 2 (by decide)).lb hTC hK1 (by decide) (show D.1 5 < 1000 by omega)
    · rw [ead2]
      show Bf.1 (g 12) = _
      rw [at0 12 (by omega) (by omega), hTW.2.2.2.2.1]
  -- the reference
  have j54 : ∀ τ3, t_X9_takesHold F (tsI τ' 0 0) = some τ3 → τ3.1 8 = 0 → t_X9_read_j54 F τ' = some (0, τ3) := fun τ3 q1 q2 => by
    unfold t_X9_read_j54
    have i8 : (tsI τ' 0 0).1 8 = 0 := (tsI_n _ _ _ _ (by decide)).trans k8
    rw [nmE, i8, if_pos rfl, q1, Option.bind_some, q2]
  obtain ⟨L, τ3, v1, v2, v3, v4, v5, v6, v7, v8, v9, v10, v11, v12, v13, v14, v15⟩ := holds_T (τ := tsI τ' 0 0) (A := VW τ') (F := F) (H := D.1 0) (O := D.1 1) (n := D.1 2) (by omega) c0 n0 n1 n2 c2 (fun i hi => by
    obtain ⟨x, o, q1, q2, q3, q4⟩ := D5.1 i hi
    exact ⟨x, o, q1, q2, q3, q4⟩) (fun k hk => rfl)
  have v4' : ∀ k, k < 30 ∨ 46 ≤ k → L k = paF 10 16 (fun i => VW τ' 6 (20 + 3 * i + 1)) (paF 0 420 (fun _ => 0) (τ'.2.1 7)) k := v4
  have v5' : τ3.2.1 7 = paF 50 8 (fun i => VW τ' 6 (170 + 2 * i + 1)) L := v5
  have i14 : ∀ z, z ≠ 0 → z ≠ 40 → z ≠ 50 → τ3.1 z = τ'.1 z := fun z a b d => (v14 z b d).trans (tsI_n _ _ _ _ a)
  have i00 : τ3.1 0 = 0 := (v14 0 (by decide) (by decide)).trans (tsI_s _ _ _)
  have z7 : ∀ k, k < 420 → ¬ (10 ≤ k ∧ k < 26) → ¬ (30 ≤ k ∧ k < 46) → ¬ (50 ≤ k ∧ k < 58) → τ3.2.1 7 k = 0 := fun k q1 q2 q3 q4 => by
    rw [v5', paF_out (by omega), v4' k (by omega), paF_out (by omega)]
    have := paF_in (a := 0) (n := 420) (j := k) (v := fun _ => (0 : Int32)) (f := τ'.2.1 7) q1
    rw [Nat.zero_add] at this
    exact this
  have h7 : ∀ i, i < 16 → τ3.2.1 7 (10 + i) = VW τ' 6 (20 + 3 * i + 1) := fun i hi => by
    rw [v5', paF_out (by omega), v4' _ (by omega), paF_in hi]
  have o7 : ∀ i, i < 16 → τ3.2.1 7 (30 + i) = L (30 + i) := fun i hi => by
    rw [v5', paF_out (by omega)]
  have w7 : ∀ i, i < 8 → τ3.2.1 7 (50 + i) = VW τ' 6 (170 + 2 * i + 1) := fun i hi => by
    rw [v5', paF_in hi]
  have A7 : ∀ k, Aof τ3 7 k = τ3.2.1 7 k := fun k => by rw [Aof_n (by decide)]
  -- the town that holds, seen
  have l6 : ∀ k, k < 210 → Aof τ3 6 k = VW τ' 6 k := fun k hk => by
    rw [Aof_n (by decide)]
    exact v6 k hk
  have lag : AG m l (VW τ') (Aof τ3) := by
    refine ⟨fun k hk => ⟨?_, ?_⟩, fun r k a b hk => ?_, fun k hk q => ?_⟩
    · rw [Aof_n (by decide)]; exact (v7 k (by omega)).1
    · rw [Aof_n (by decide)]; exact (v7 k (by omega)).2
    · rw [Aof_n (by omega), VW_l (by omega) b]; exact v8 r k a b (by omega)
    · rw [Aof_n (by decide)]
      refine (v9 k (by omega)).trans ?_
      rw [VW_l (by decide) (by decide)] at q ⊢
      exact and1 q
  have hTB2 : TB ad2 Bf (Aof τ3) := by
    rw [ead2, eBf]
    exact hTW.tb hK1 hCN' dt' (by omega) (by omega) l6 lag
  obtain ⟨hWt, z60, z61⟩ := dt'.wf hCN' l6
  -- the new state's cells
  have hz : Bf.2.2.2 0 = B.2.2.2 0 := by rw [f2, hM.2.2.2.2.2.2.2]
  obtain ⟨T, eT⟩ : ∃ T, T = nsT Bf.2.1 (Bf.2.2.2 0) (rowF (fun k => VW τ' 6 (20 + 3 * k + 1)) (D.1 0)) (va_cpy (D.2.2.1 12) (fun _ => 0) 0 0 16) (rowF (fun k => VW τ' 6 (170 + 2 * k + 1)) (D.1 5)) := ⟨_, rfl⟩
  have tw : TWN Bf T (rowF (fun k => VW τ' 6 (20 + 3 * k + 1)) (D.1 0)) (va_cpy (D.2.2.1 12) (fun _ => 0) 0 0 16) (rowF (fun k => VW τ' 6 (170 + 2 * k + 1)) (D.1 5)) 0 0 (fun _ => 0) 0 (fun _ => 0) := by
    rw [eT]
    exact LT_0 rfl rfl
  have lT : T.length = 6 := by rw [eT]; rfl
  have hA3 : AdOK ad2 (ovl Bf T 52) := ov_ad hA2
  have gr3 : Gr Bf (ovl Bf T 52) := ov_gr hA2
  obtain ⟨nn, σ3, n46, hN, u1, u2, u3, u4, u5, u6, u7, u8, u9, u10, u11, u12, u13, u14⟩ := tw.ns (σ := σ') (s := 52) (by decide) (by decide) (hA2.lt hKf.1)
  obtain ⟨B2, p1, p2, p4, p5, p6, p7, p8⟩ := new_now (X := X') (e1 := fun _ => 0) (e2 := fun _ => 0) (ob1 := fun _ => .inr (0, [])) (ob2 := fun _ => .inr (0, [])) hA3 (gr3 _ _ hKf.1) hN (fun q hq => hA2.2.2.1 q hq) u1 u2 u3 u4 u6 u7 u8 u9 (by decide) (by decide) (fun k hk => absurd hk (Nat.not_lt_zero k)) (fun k hk => absurd hk (Nat.not_lt_zero k))
  obtain ⟨ad3, ead3⟩ : ∃ ad3, ad3 = nwE ad2 nn (fun _ => 0) (fun _ => 0) := ⟨_, rfl⟩
  rw [← ead3] at p1 p2 p5 p7 p8
  have alo : ∀ i, i < 46 ∨ (54 ≤ i ∧ i < 1500) → ad3 i = ad2 i := fun i hi => by rw [ead3, nwE_lo (by omega), nwA_o (by omega)]
  have ad30 : ad3 0 = ad 0 := by rw [alo 0 (by omega), lo2 0 (by decide), lo 0 (by decide)]
  obtain ⟨σ4, eσ4⟩ : ∃ σ4, σ4 = csI (csI (csQ (csQ σ3 9 (va_up (σ3.2.2.2 9) 0 none)) 9 (va_up (va_up (σ3.2.2.2 9) 0 none) 1 none)) 9 0) 11 0 := ⟨_, rfl⟩
  have tail : (Option.bind (pf (cM X' ad2 σ' (ovl Bf T 52)) (ad 0) 0 4 (.ref Bf.2.1)) fun μ34 => Option.bind (gfR μ34 (ad 0) 0 5) fun x36 => Option.bind (sQ μ34 7 x36 0 none) fun μ39 => Option.bind (gfR μ39 (ad 0) 0 5) fun x40 => Option.bind (sQ μ39 7 x40 1 none) fun μ43 => Option.bind (pf μ43 (ad 0) 0 9 (.int 0)) fun μ44 => Option.bind (pf μ44 (ad 0) 0 11 (.int 0)) fun μ46 => some ((0 : Int32), μ46)) = some (0, cM X' ad3 σ4 B2) := by
    rw [lo2 0 (by decide), lo 0 (by decide)] at p1
    have o5 := fun σ => o0_5 (X := X') p2 σ
    have p9 := fun σ => p0_9 (X := X') p2 σ 0
    have p11 := fun σ => p0_11 (X := X') p2 σ 0
    have s0 := fun σ => q9s (X := X') p2 σ 0 none (by decide)
    have s1 := fun σ => q9s (X := X') p2 σ 1 none (by decide)
    have s0' : ∀ σ, sQ (cM X' ad3 σ B2) 7 (ad3 9) 0 none = some (cM X' ad3 (csQ σ 9 (va_up (σ.2.2.2 9) 0 none)) B2) := s0
    have s1' : ∀ σ, sQ (cM X' ad3 σ B2) 7 (ad3 9) 1 none = some (cM X' ad3 (csQ σ 9 (va_up (σ.2.2.2 9) 1 none)) B2) := s1
    rw [ad30] at o5 p9 p11
    rw [← n46, p1, Option.bind_some, o5, Option.bind_some, s0', Option.bind_some, o5, Option.bind_some, s1', Option.bind_some, p9, Option.bind_some, p11, Option.bind_some, csQ_s, eσ4]
  -- the memory since the reading's begin
  have gB : Gr B B2 := fun b o q => p4 b o (gr3 _ _ (hGf _ _ (hG1 _ _ q))) fun r hr e => by
    have := (hN.1 r hr).1
    have := hA2.lt (hGf _ _ (hG1 _ _ q))
    omega
  have gBf : Gr Bf B2 := fun b o q => p4 b o (gr3 _ _ q) fun r hr e => by
    have := (hN.1 r hr).1
    have := hA2.lt q
    omega
  have e2 : B2.2 = (Bf.2.1 + 6, Bf.2.2.1 + 52, Bf.2.2.2) := by rw [p6, ← lT]; rfl
  have ms := hM.2.2.2.2
  have hTB3 : ∀ (W : WF (Aof τ3)), TB ad3 B2 (Aof τ3) := fun W => hTB2.gr W gBf (fun r hr => alo r (by unfold twA' at hr; omega))
  -- ranges
  have ar : ∀ r, r = 1 → Aof τ3 r = A r := fun r q => by
    subst q
    rw [Aof_n (by decide), v15]
    show τ'.2.1 1 = _
    rw [hX.2.1 1 (by decide) (by decide) (by decide) (by decide) (by decide) (by decide) (by decide) (by decide) (by decide), r0T_o (by decide) (by decide) (by decide), t1.2.1 1 (by decide) (by decide) (by decide), hT.2 1 rfl]
  have a00 : Aof τ3 0 0 = 0 := by rw [Aof_0]; exact i00
  have a40 : Aof τ3 0 40 = 0 := by rw [Aof_0]; exact v12
  have a50 : Aof τ3 0 50 = 0 := by rw [Aof_0]; exact v13
  have a09 : Aof τ3 0 9 = -1 := by rw [Aof_0, i14 9 (by decide) (by decide) (by decide)]; exact k9
  have z00 : zN (Aof τ3) 0 0 = 0 := by unfold zN; rw [a00]; rfl
  have z40 : zN (Aof τ3) 0 40 = 0 := by unfold zN; rw [a40]; rfl
  have z50 : zN (Aof τ3) 0 50 = 0 := by unfold zN; rw [a50]; rfl
  have a70 : Aof τ3 7 0 = 0 := by rw [A7, z7 0 (by decide) (by omega) (by omega) (by omega)]
  have a71 : Aof τ3 7 1 = 0 := by rw [A7, z7 1 (by decide) (by omega) (by omega) (by omega)]
  have a72 : Aof τ3 7 2 = 0 := by rw [A7, z7 2 (by decide) (by omega) (by omega) (by omega)]
  have z71 : zN (Aof τ3) 7 1 = 0 := by unfold zN; rw [a71]; rfl
  have z72 : zN (Aof τ3) 7 2 = 0 := by unfold zN; rw [a72]; rfl
  have s18 : ∀ s, s < 2 → Aof τ3 18 (s + 1) = 0 := fun s hs => by
    rw [Aof_n (by decide)]
    have : s = 0 ∨ s = 1 := by omega
    rcases this with rfl | rfl
    · exact v10
    · exact v11
  have hgt : ∀ i, i < 16 → isN (VW τ' 6 (20 + 3 * i + 1)) 99 := fun i hi => by
    by_cases q : i < D.1 0
    · exact (D3.1 i q).2.2.1
    · rw [D3.2 i hi (by omega)]
      exact isN.of (k := 0) (by decide) (by decide)
  have wgt : ∀ i, i < 8 → isN (VW τ' 6 (170 + 2 * i + 1)) 99 := fun i hi => by
    by_cases q : i < D.1 5
    · exact (D8.1 i q).2.2.2
    · rw [D8.2 i hi (by omega)]
      exact isN.of (k := 0) (by decide) (by decide)
  have hWl : WFl (zN (Aof τ3) 6 0) (zN (Aof τ3) 6 1) (Aof τ3 7) := by
    rw [z60, z61]
    refine ⟨⟨?_, ?_, ?_⟩, fun i hi => ?_, fun i hi => ?_, fun x y hx hy e => ?_, fun w hw => ?_, fun k hk => ?_, fun k hk => ?_⟩
    · rw [a70]; exact isN.of (k := 0) (by decide) (by decide)
    · rw [a71]; exact isN.of (k := 0) (by decide) (by decide)
    · rw [a72]; exact isN.of (k := 0) (by decide) (by decide)
    · rw [A7, h7 i hi]; exact hgt i hi
    · rw [A7, o7 i hi]
      rcases v2.1 i hi with q | ⟨o, q1, q2, q3⟩
      · exact Or.inl q
      · rw [q3, i_cl (n := 12) (by omega) (by decide)]
        exact Or.inr ⟨isN.of (by omega) (by decide), q1, q2⟩
    · rw [A7, A7, o7 x hx, o7 y hy] at e
      rw [A7, o7 x hx]
      exact v2.2 x y hx hy e
    · rw [A7, w7 w hw]; exact wgt w hw
    · have : (Aof τ3 7 1).toNatClampNeg = 0 := z71
      omega
    · have : (Aof τ3 7 2).toNatClampNeg = 0 := z72
      omega
  have hWF : WF (Aof τ3) := by
    obtain ⟨-, ⟨-, -, -, -, w5, -, -⟩, -, -⟩ := hW
    refine ⟨hWt, ⟨?_, ?_, ?_, ?_, ?_, ?_, ?_⟩, hWl, fun s hs q => ?_⟩
    · rw [a00]; exact isN.of (k := 0) (by decide) (by decide)
    · rw [a40]; exact isN.of (k := 0) (by decide) (by decide)
    · rw [a50]; exact isN.of (k := 0) (by decide) (by decide)
    · intro k hk; rw [z50] at hk; omega
    · rw [ar 1 rfl]; exact w5
    · intro i k hi; rw [z40] at hi; omega
    · intro i k hi; rw [z40] at hi; omega
    · rw [s18 s hs] at q
      exact absurd q (by decide)
  -- the frame of what lasts
  have e4 : σ'.2.2.2 = σ.2.2.2 := by
    rw [hR.2.2.2]
    show σc.2.2.2 = _
    rw [s1.2.2.2]
  have i21 : σ'.1 21 = 0 := by
    rw [hR.1 21 (by decide) (by decide) (by decide) (by decide) (by decide), r0_i (by decide) (by decide) (by decide) (by decide), csI_n _ _ _ _ (by decide)]
    exact s2
  have i2 : σ'.1 2 = -1 := by
    rw [hR.1 2 (by decide) (by decide) (by decide) (by decide) (by decide), r0_i (by decide) (by decide) (by decide) (by decide), csI_s]
  have q1 : ∀ z, z ≠ 9 → z ≠ 11 → σ4.1 z = σ3.1 z := fun z a b => by
    rw [eσ4, csI_n _ _ _ _ b, csI_n _ _ _ _ a]
    rfl
  have q9 : σ4.1 9 = 0 := by
    rw [eσ4, csI_n _ _ _ _ (by decide), csI_s]
  have q11 : σ4.1 11 = 0 := by
    rw [eσ4, csI_s]
  have q2 : σ4.2.1 = σ3.2.1 := by rw [eσ4]; rfl
  have q4 : ∀ r, r ≠ 9 → σ4.2.2.2 r = σ3.2.2.2 r := fun r a => by
    rw [eσ4]
    show (csQ (csQ σ3 9 _) 9 _).2.2.2 r = _
    rw [csQ_n _ _ _ _ a, csQ_n _ _ _ _ a]
  have q49 : ∀ s, s < 2 → σ4.2.2.2 9 s = none := fun s hs => by
    rw [eσ4]
    show (csQ (csQ σ3 9 _) 9 (va_up (va_up (σ3.2.2.2 9) 0 none) 1 none)).2.2.2 9 s = _
    rw [csQ_s]
    have : s = 0 ∨ s = 1 := by omega
    rcases this with rfl | rfl
    · rw [va_up_ne _ _ (by decide), va_up_self]
    · rw [va_up_self]
  have hCR : CR ad3 B2 (Aof τ3) σ4 := by
    obtain ⟨-, -, -, -, -, -, -, -, ⟨r9, r10, r11⟩, -, -, -⟩ := hC
    refine ⟨⟨?_, ?_, ?_, ?_, ?_⟩, ?_, ?_, fun i hi => ?_, fun i hi => ?_, fun i hi => ?_, ?_, ?_, ⟨?_, ?_, ?_⟩, ?_, ?_, ?_⟩
    · rw [q1 21 (by decide) (by decide), u1 21 (by decide) (by decide), i21, a00]
    · rw [q1 2 (by decide) (by decide), u1 2 (by decide) (by decide), i2, a09]
    · rw [q9, a40]
    · rw [q11, a50]
    · rw [q1 43 (by decide) (by decide), u5, a70]
    · intro k hk; rw [z00] at hk; omega
    · intro k hk; rw [z50] at hk; omega
    · rw [q2, u12 i hi, A7, h7 i hi]
      unfold rowF
      by_cases q : i < D.1 0
      · rw [if_pos q]
      · rw [if_neg q, D3.2 i hi (by omega)]
    · rw [q2, u13 i hi, A7, o7 i hi, pk_cpy_in (by omega) (by omega)]
      have : D.2.2.1 12 (0 + (i - 0)) = D.2.2.1 12 i := by congr 1; omega
      rw [this, D5.2]
      exact v3 i hi
    · rw [q2, u14 i hi, A7, w7 i hi]
      unfold rowF
      by_cases q : i < D.1 5
      · rw [if_pos q]
      · rw [if_neg q, D8.2 i hi (by omega)]
    · intro i k hi; rw [z40] at hi; omega
    · intro i k hi; rw [z40] at hi; omega
    · intro i hi
      rw [q4 15 (by decide), u4 15 (by omega), e4, alo _ (by omega), lo2 _ (by omega), lo _ (by omega)]
      exact r9 i hi
    · intro i hi
      rw [q4 17 (by decide), u4 17 (by omega), e4, alo _ (by omega), lo2 _ (by omega), lo _ (by omega)]
      exact r10 i hi
    · intro i hi
      rw [q4 32 (by decide), u4 32 (by omega), e4, alo _ (by omega), lo2 _ (by omega), lo _ (by omega)]
      exact r11 i hi
    · rw [z71]
      exact LR.gr p7 (fun _ _ h => h) rfl (fun h => h) rfl (q1 _ (by decide) (by decide)) (q1 _ (by decide) (by decide)) (q4 _ (by decide)) (fun k hk => absurd hk (Nat.not_lt_zero k)) (fun k hk => absurd hk (Nat.not_lt_zero k))
    · rw [z72]
      exact LR.gr p8 (fun _ _ h => h) rfl (fun h => h) rfl (q1 _ (by decide) (by decide)) (q1 _ (by decide) (by decide)) (q4 _ (by decide)) (fun k hk => absurd hk (Nat.not_lt_zero k)) (fun k hk => absurd hk (Nat.not_lt_zero k))
    · intro s hs
      exact Or.inl ⟨s18 s hs, q49 s hs⟩
  refine ⟨ad3, B2, Aof τ3, σ4, τ3, ?_, j54 τ3 v1 (by rw [i14 8 (by decide) (by decide) (by decide)]; exact k8), ⟨⟨p2, hTB3 hWF, hWF⟩, hKf.gr gBf (by rw [e2]), hCR, TR_of⟩, ⟨ad30, gB, fun a q => ?_, ?_, ?_, ?_, ?_⟩, fun a l o => hM.2.2.2.1 a l (fun z => o ((Own.lo lo).1 z))⟩
  · rw [eM, p3, Option.bind_some]
    have ad20 : ad 0 = ad2 0 := by rw [lo2 0 (by decide), lo 0 (by decide)]
    have := news_C (X := X') (σ := σ') (F := F) (K := fun μ33 => Option.bind (pf μ33 (ad2 0) 0 4 (.ref (cM X' ad2 σ' Bf).2.1)) fun μ34 => Option.bind (gfR μ34 (ad2 0) 0 5) fun x36 => Option.bind (sQ μ34 7 x36 0 none) fun μ39 => Option.bind (gfR μ39 (ad2 0) 0 5) fun x40 => Option.bind (sQ μ39 7 x40 1 none) fun μ43 => Option.bind (pf μ43 (ad2 0) 0 9 (.int 0)) fun μ44 => Option.bind (pf μ44 (ad2 0) 0 11 (.int 0)) fun μ46 => some ((0 : Int32), μ46)) (by omega) hA2 tR
    rw [ad20]
    rw [ad20] at tail
    refine this.trans ?_
    rw [← eT]
    exact tail
  · rcases ov_own (p5 a q) with q | q
    · rcases ownf a ((Own.lo lo2).1 q) with q | q
      · rcases hM.2.2.1 a q with q | q
        · exact Or.inl ((Own.lo lo).1 q)
        · exact Or.inr q
      · exact Or.inr q
    · have := ms.1
      rw [f2] at q
      exact Or.inr (by omega)
  · rw [e2]
    show B.2.1 ≤ Bf.2.1 + 6
    rw [f2]
    have := ms.1
    omega
  · rw [e2]
    show Bf.2.1 + 6 ≤ _
    rw [f2]
    have := ms.2.1.1
    omega
  · rw [e2]
    show Bf.2.2.1 + 52 ≤ _
    rw [f2]
    have := ms.2.2.1
    omega
  · rw [e2]
    show Bf.2.2.2 = _
    rw [f2]
    exact ms.2.2.2
/-- 2: read -/
theorem st_2 (hF : 1000000 ≤ F) (h : INV ad B A σ τ) (x : Nat → Int32) : STW F 2 x X ad B σ τ := by
  obtain ⟨hE, hK, hC, hT⟩ := h
  have hA := hE.1
  obtain ⟨σc, τc, c, pl, last, k1, k2, k3, k4, k5, k6⟩ := toks_CT (X := X) (F := F) (by omega) hE hK hC hT
  obtain ⟨ad1, ead⟩ : ∃ ad1, ad1 = a130 ad (B.2.1 + 1) := ⟨_, rfl⟩
  have hi : ∀ i, i ≠ 130 → ad1 i = ad i := fun i q => by rw [ead]; exact a130_n q
  have lo : ∀ i, i < 114 → ad1 i = ad i := fun i q => hi i (by omega)
  obtain ⟨X1, B1, r1, r2, r3, r4, r5, r6⟩ := read_C (X := X) (F := F) (σ := csI σc 2 (-1)) (by omega) hA hK
  have k6' : TKS c pl last (csI σc 2 (-1)) τc := k6.of rfl rfl rfl rfl rfl rfl rfl
  have ti := read_TI hA hK k6' r2 r3 r4 r5 r6
  rw [← ead] at r1 r2 r3 ti
  have hl := read_loop (F := F) (by omega) (last + 1) F F X1 B1 _ _ 0 (by omega) (by have := k6.1; omega) (by have := k6.1; omega) ti
  rw [lo 6 (by decide)] at hl
  have pre : stC F 2 (ad 0) x (cM X ad σ B) = Option.bind (f_X2_read_L31 F (ad 6) F (cM X1 ad1 (r0C (csI σc 2 (-1))) B1)) fun q11 => slt q11.1 (fun x16 => Option.bind (pf q11.2 (ad 0) 0 3 (.ref x16)) fun μ18 => nm (nw μ18 (.inr (6, dfX6)) 6) fun μ20 => Option.bind (f_X6_init F μ18.2.1 μ20) fun q22 => f_X0_read_L50 F (fun μ24 => Option.bind (gfR μ24 (ad 0) 0 3) fun x25 => Option.bind (gfR μ24 x25 3 7) fun x27 => Option.bind (gfR μ24 μ18.2.1 6 1) fun x29 => Option.bind (cpI μ24 x27 0 x29 0 16) fun μ31 => f_X0_read_L113 F (fun μ33 => Option.bind (pf μ33 (ad 0) 0 4 (.ref μ18.2.1)) fun μ34 => Option.bind (gfR μ34 (ad 0) 0 5) fun x36 => Option.bind (sQ μ34 7 x36 0 none) fun μ39 => Option.bind (gfR μ39 (ad 0) 0 5) fun x40 => Option.bind (sQ μ39 7 x40 1 none) fun μ43 => Option.bind (pf μ43 (ad 0) 0 9 (.int 0)) fun μ44 => Option.bind (pf μ44 (ad 0) 0 11 (.int 0)) fun μ46 => some ((0 : Int32), μ46)) (ad 0) μ18.2.1 F 0 μ31) (ad 0) μ18.2.1 F 0 q22) (fun x17 => Option.bind (gfI q11.2 x17 10 7) fun x48 => Option.bind (pf q11.2 (ad 0) 0 2 (.int x48)) fun μ50 => Option.bind (gfI μ50 x17 10 6) fun x52 => some (x52, μ50)) := by
    show f_X0_read F (ad 0) (cM X ad σ B) = _
    unfold f_X0_read
    rw [o0_0 hA, Option.bind_some, oc1 hA, Option.bind_some, k1, Option.bind_some, p0_2 hA, Option.bind_some, o0_1 hA, Option.bind_some, oc6 hA, Option.bind_some, r1]
  have preT : stT F 2 x τ = _ := read_T (F := F) (by omega) k2
  rcases hl with ⟨t, X2, B2, σ2, τ2, j2, a1, a2, a3, a4, a5⟩ | ⟨e, X2, B2, σ2, τ2, k, p, a1, a2, a3, a4, a5, a6, a7, a8, a9⟩ | ⟨e, X2, B2, σ2, τ2, k, p, a1, a2, a3, a4, a5, a6, a7, a8, a9⟩
  · have hX := a4
    obtain ⟨g, ob, D, m, l, hAT, -⟩ := hX
    have q8 : τ2.1 8 = 0 := by
      rw [hAT.2.2.2.2.2.2.2.1]
      unfold r0T
      rw [tsI_n _ _ _ _ (by decide), tsI_n _ _ _ _ (by decide)]
      show (tsI (tsI (tsI τc 8 0) 9 (-1)) 10 0).1 8 = _
      rw [tsI_n _ _ _ _ (by decide), tsI_n _ _ _ _ (by decide), tsI_s]
    have q9 : τ2.1 9 = -1 := by
      rw [hAT.2.2.2.2.2.2.2.2]
      unfold r0T
      rw [tsI_n _ _ _ _ (by decide), tsI_n _ _ _ _ (by decide)]
      show (tsI (tsI (tsI τc 8 0) 9 (-1)) 10 0).1 9 = _
      rw [tsI_n _ _ _ _ (by decide), tsI_s]
    obtain ⟨ad2, B3, A2, σ3, τ3, b1, b2, b3, b4, b5⟩ := read_ok (F := F) (by omega) hE hK hC hT lo k3 k4 k5 a1 a4 a5 q8 q9
    rw [a2, Option.bind_some] at pre
    rw [a3, Option.bind_some, if_neg (show ¬ (1 : Int32) = 0 by decide), if_pos a5.2] at preT
    exact ⟨0, ad2, B3, A2, σ3, τ3, X2, pre.trans b1, preT.trans b2, b3, b4, b5⟩
  · have hn : ¬ τ2.1 10 = 0 := by rw [a4]; exact a6
    rw [a1, Option.bind_some] at pre
    rw [a2, Option.bind_some, if_neg (show ¬ (1 : Int32) = 0 by decide), if_neg hn, nmE, nmE] at preT
    have i11 : (tsI τ2 8 (τ2.1 10)).1 11 = τ2.1 11 := tsI_n _ _ _ _ (by decide)
    rw [i11, a4, a5] at preT
    obtain ⟨⟨A2, hI⟩, hXT, b1, b2, b3⟩ := read_no (rC := none) (rT := none) hE hK hC hT lo hi k3 k4 k5 a7 a8 (a9.tr ((TX.i (z := 8) (v := k) (by decide)).tr (TX.i (z := 9) (v := Int32.ofNat p) (by decide)))) a3 ((tsI_n _ _ _ _ (by decide)).trans (tsI_s _ _ _)) (tsI_s _ _ _) a6
    exact ⟨k, ad1, B2, A2, _, _, X2, pre.trans b1, preT.trans b2, hI, hXT, b3⟩
  · rw [a1, Option.bind_some] at pre
    rw [a2, Option.bind_some, if_pos rfl] at preT
    obtain ⟨⟨A2, hI⟩, hXT, b1, b2, b3⟩ := read_no (rC := none) (rT := none) hE hK hC hT lo hi k3 k4 k5 a7 a8 a9 a3 a4 a5 a6
    exact ⟨k, ad1, B2, A2, _, _, X2, pre.trans b1, preT.trans b2, hI, hXT, b3⟩
