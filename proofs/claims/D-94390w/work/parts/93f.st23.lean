set_option maxRecDepth 100000
/-! 23: nights, joined -/
variable {X : Nat → Option Ob} {ad ad' : Nat → Nat} {B B' : Sw} {A A' : Av} {σ σ' : Cs} {τ : Tw} {F : Nat}
/-- what fillNights does after the list -/
noncomputable def fnK (F : Nat) (this : Nat) : Int32 → Sw → Option (Int32 × Sw) := fun w8 μ9 =>
        Option.bind (oc μ9 this 0) fun u12 =>
        Option.bind (f_X0_reachedAt F this 12 μ9) fun q10 =>
        Option.bind (gfR q10.2 this 0 7) fun x14 =>
        Option.bind (gfR q10.2 this 0 4) fun x16 =>
        Option.bind (oc q10.2 x14 8) fun u20 =>
        Option.bind (f_X8_keep F x14 x16 q10.2) fun q18 =>
        f_X0_fillNights_L88 F
          (fun μ22 =>
            Option.bind (gfR μ22 this 0 7) fun x23 =>
            Option.bind (gfR μ22 this 0 4) fun x25 =>
            Option.bind (oc μ22 x23 8) fun u29 =>
            Option.bind (f_X8_back F x23 x25 μ22) fun q27 =>
            nm (((1 : Int32) <<< (w8 &&& 31)) - 1) fun x31 =>
            f_X0_fillNights_L215 F this w8 x31 F x31 q27)
          this w8 q10.1 F 0 q18
theorem lay_CT (hF : 100000 ≤ F) (hE : EV ad B A) (hC : CR ad B A σ) (hT : TR A τ) {n : Nat} {w : Nat → Nat} (hn : n ≤ 8) (hw : ∀ j, j < n → w j < zN A 6 0) (hi : ∀ i j, i < n → j < n → w i = w j → i = j) (h28 : ∀ j, j < n → A 28 j = Int32.ofNat (w j) ∧ A 29 j = sDue A (w j)) (h42 : A 0 42 = Int32.ofNat n) (h27 : ∀ j, j < n → σ.2.1 27 j = Int32.ofNat (w j) ∧ σ.2.1 28 j = sDue A (w j)) : ∃ (A' : Av) (σ' : Cs) (τ' : Tw), fnK F (ad 0) (Int32.ofNat n) (cM X ad σ B) = some (Int32.ofNat n, cM X ad σ' B) ∧ t_X9_layNights F τ = some τ' ∧ EV ad B A' ∧ CR ad B A' σ' ∧ TR A' τ' ∧ TBL n 0 (σ'.2.1 29) (A' 31) ∧ (∀ s, s < 2 ^ n → σ'.2.1 30 s = A' 30 s) ∧ (∀ j, j < n → σ'.2.1 27 j = Int32.ofNat (w j) ∧ A' 28 j = Int32.ofNat (w j)) ∧ (∀ j, j ≠ 27 → j ≠ 30 → j ≠ 31 → A' j = A j) ∧ ∀ q, q < 480 → A' 27 q = A 27 q := by
  have hA := hE.1
  obtain ⟨p1, p2⟩ := pow_b hn
  obtain ⟨eCr, lCr⟩ : A 6 6 = Int32.ofNat (zN A 6 6) ∧ zN A 6 6 ≤ 9 := hE.2.2.1.1.2.2.2.2.2.1
  obtain ⟨σ1, c1, c2, gg, bb, c3⟩ := reachedAt_C (X := X) hF hE hC 12
  obtain ⟨τ1, t1, t2⟩ := reach_T hF hE.2.2 hT hE.l0 (hour := 12) (ns := -1) (nh := -1)
  obtain ⟨v, ev⟩ : ∃ v, v = sReach A (sTide A 12) (-1) (-1) := ⟨_, rfl⟩
  rw [← ev] at c1 t1
  have s1 : ∀ r, r ≠ 11 → σ1.2.1 r = σ.2.1 r := fun r hr => by
    rw [c3]
    show (csA σ 11 gg).2.1 r = _
    exact csA_n _ _ _ _ hr
  obtain ⟨f, g, e1, e2, e3⟩ := keep_C (X := X) (F := F) (σ := σ1) hA
  obtain ⟨gk, u1, u2, u3, u4⟩ := keep_T (F := F) (l := 20) (by omega) (by omega) t2
  have u1 : t_X9_keep F 20 τ1 = some (twA τ1 27 gk) := u1
  have lk := hE.2.2.k0.2
  obtain ⟨σ2, eσ2⟩ : ∃ σ2, σ2 = csA (csA σ1 13 f) 14 g := ⟨_, rfl⟩
  obtain ⟨A2, eA2⟩ : ∃ A2, A2 = aw A 27 gk := ⟨_, rfl⟩
  rw [← eσ2] at e1
  have a2 : ∀ j, j ≠ 27 → A2 j = A j := fun j hj => by rw [eA2]; exact aw_n _ _ _ _ hj
  have a27' : A2 27 = gk := by rw [eA2, aw_s]
  have hE2 : EV ad B A2 := by rw [eA2]; exact ⟨hA, hE.2.1.aw rfl, hE.2.2.k27 (fun q hq => u4 q (by omega))⟩
  have hC2 : CR ad B A2 σ2 := by rw [eA2, eσ2]; exact CR.k27 ((c2.a rfl).a rfl) (fun q hq => u4 q (by omega))
  have hT2 : TR A2 (twA τ1 27 gk) := by rw [eA2]; exact t2.W (by decide)
  have z6 : zN A2 6 0 = zN A 6 0 := by unfold zN; rw [a2 6 (by decide)]
  have due : ∀ h, sDue A2 h = sDue A h := sDue_cg (a2 6 (by decide)) (a2 7 (by decide)) (a2 9 (by decide)) (a2 10 (by decide))
  have so : ∀ r, r ≠ 11 → r ≠ 13 → r ≠ 14 → σ2.2.1 r = σ.2.1 r := fun r x y z => by
    rw [eσ2, csA_n _ _ _ _ z, csA_n _ _ _ _ y, s1 r x]
  have hN : NB n w A2 σ2 := by
    refine ⟨⟨hn, fun j hj => by rw [z6]; exact hw j hj, hi⟩, fun j hj => ?_, ?_, fun i hi => ?_, fun i hi => ?_, fun i hi => ?_, fun i hi => ?_, fun j hj => ?_⟩
    · rw [a2 28 (by decide), a2 29 (by decide), due]; exact h28 j hj
    · rw [a2 0 (by decide)]; exact h42
    · rw [a27', a2 7 (by decide)]; exact u2 i hi
    · rw [a27', a2 7 (by decide)]; exact u3 i hi
    · rw [eσ2, csA_n _ _ _ _ (by decide), csA_s, e2 i hi, a2 7 (by decide)]; exact c2.2.2.2.1 i hi
    · rw [eσ2, csA_s, e3 i hi, a2 7 (by decide)]; exact c2.2.2.2.2.2.1 i hi
    · rw [so 27 (by decide) (by decide) (by decide), so 28 (by decide) (by decide) (by decide), due]; exact h27 j hj
  obtain ⟨KC, eKC⟩ : ∃ KC : Sw → Option (Int32 × Sw), KC = fun μ22 =>
            Option.bind (gfR μ22 (ad 0) 0 7) fun x23 =>
            Option.bind (gfR μ22 (ad 0) 0 4) fun x25 =>
            Option.bind (oc μ22 x23 8) fun u29 =>
            Option.bind (f_X8_back F x23 x25 μ22) fun q27 =>
            nm (((1 : Int32) <<< (Int32.ofNat n &&& 31)) - 1) fun x31 =>
            f_X0_fillNights_L215 F (ad 0) (Int32.ofNat n) x31 F x31 q27 := ⟨_, rfl⟩
  obtain ⟨KT, eKT⟩ : ∃ KT : Tw → Option Tw, KT = fun τ7 =>
      Option.bind (t_X9_putBack F 20 τ7) fun q8 =>
      nm (Int32.ofNat (2 ^ n) - 1) fun x10 =>
      t_X9_layNights_L76 F (Int32.ofNat (2 ^ n)) F x10 q8 := ⟨_, rfl⟩
  obtain ⟨A3, σ3, τ3, g1, g2, g3, g4, g5, g6⟩ := good_CT (X := X) (F := F) (c3 := v) (KC := KC) (KT := KT) hF hN hE2.2.2 (2 ^ n) 0 F F A2 σ2 (twA τ1 27 gk) (Nat.zero_add _) (by omega) (by omega) ⟨fun _ _ _ => rfl, fun _ _ => rfl, fun _ _ _ => rfl, fun _ _ => rfl, fun s' h => absurd h (Nat.not_lt_zero s')⟩ hE2 hC2 hT2
  obtain ⟨i1, i2, i3, i4, i5⟩ := g3
  obtain ⟨⟨-, -, -⟩, n28, n42, n27, n27', n13, n14, nw27⟩ := hN
  obtain ⟨f', g', b1, b2, b3⟩ := back_C (X := X) (F := F) (σ := σ3) hA (Or.inl ⟨rfl, rfl, rfl⟩)
  obtain ⟨L, l1, l2, l3, l4⟩ := put_T (F := F) (l := 20) (by omega) (by omega) g6
  have l1 : t_X9_putBack F 20 τ3 = some (twA τ3 7 L) := l1
  have a327 : A3 27 = A2 27 := i1 27 (by decide) (by decide)
  have L1 : ∀ i, i < 16 → L (10 + i) = A2 7 (10 + i) := fun i hi => by rw [l2 i hi, a327]; exact n27 i hi
  have L2 : ∀ i, i < 8 → L (50 + i) = A2 7 (50 + i) := fun i hi => by rw [l3 i hi, a327]; exact n27' i hi
  have eL : L = A2 7 := by
    funext q
    by_cases q1 : 10 ≤ q ∧ q < 26
    · have := L1 (q - 10) (by omega)
      rw [show 10 + (q - 10) = q by omega] at this
      exact this
    by_cases q2 : 50 ≤ q ∧ q < 58
    · have := L2 (q - 50) (by omega)
      rw [show 50 + (q - 50) = q by omega] at this
      exact this
    · rw [l4 q (by omega)]
      exact i2 q (by omega)
  have pr := put_rel (L := L) (f := f') (g := g') g4 g5 l4 (fun i hi => by rw [b2 i hi, i4 13 (by omega), n13 i hi, L1 i hi]) (fun i hi => by rw [b3 i hi, i4 14 (by omega), n14 i hi, L2 i hi]) (fun i hi => by rw [L1 i hi]; exact hE2.2.2.2.2.1.2.1 i hi) (fun i hi => by rw [L2 i hi]; exact hE2.2.2.2.2.1.2.2.2.2.1 i hi)
  obtain ⟨A4, eA4⟩ : ∃ A4, A4 = aw A3 7 L := ⟨_, rfl⟩
  rw [← eA4] at pr
  have hT4 : TR A4 (twA τ3 7 L) := by rw [eA4]; exact g6.W (by decide)
  have a4 : ∀ j, j ≠ 7 → A4 j = A3 j := fun j hj => by rw [eA4]; exact aw_n _ _ _ _ hj
  have a47 : A4 7 = A 7 := by rw [eA4, aw_s, eL, a2 7 (by decide)]
  obtain ⟨A5, σ5, τ5, w1, w2, w3, w4, w5, w6, w7, w8⟩ := fill_CT (X := X) (F := F) (n := n) (cr := zN A 6 6) (by omega) hn lCr (2 ^ n) F F A4 (csA (csA σ3 47 f') 49 g') (twA τ3 7 L) (Nat.le_refl _) (by omega) (by omega) (by rw [a4 6 (by decide), i1 6 (by decide) (by decide), a2 6 (by decide)]; exact eCr) pr.1 pr.2 hT4 (fun s hs => by rw [csA_n _ _ _ _ (by decide), csA_n _ _ _ _ (by decide), a4 30 (by decide)]; exact (i5 s hs).2) (fun s h1 h2 => by omega)
  have e1' : Int32.ofNat (2 ^ n) - 1 = Int32.ofNat (2 ^ n - 1) := by rw [show (1 : Int32) = Int32.ofNat 1 from rfl, n_ss _ _ (by omega)]
  have e2' : Int32.ofNat (2 ^ n) + (-1) = Int32.ofNat (2 ^ n - 1) := by rw [← e1', Int32.sub_eq_add_neg]
  rw [e2'] at w1 w2
  refine ⟨A5, σ5, τ5, ?_, ?_, w3, w4, w5, w6, fun s hs => ?_, fun j hj => ⟨?_, ?_⟩, fun j q1 q2 q3 => ?_, fun q hq => ?_⟩
  · unfold fnK
    rw [oc0 hA, Option.bind_some, c1, Option.bind_some]
    show Option.bind (gfR (cM X ad σ1 B) (ad 0) 0 7) _ = _
    rw [o0_7 hA, Option.bind_some]
    show Option.bind (gfR (cM X ad σ1 B) (ad 0) 0 4) _ = _
    rw [o0_4 hA, Option.bind_some]
    show Option.bind (oc (cM X ad σ1 B) (ad 12) 8) _ = _
    rw [oc12 hA, Option.bind_some]
    show Option.bind (f_X8_keep F (ad 12) (ad 46) (cM X ad σ1 B)) _ = _
    rw [e1, Option.bind_some, ← eKC]
    have g1 : f_X0_fillNights_L88 F KC (ad 0) (Int32.ofNat n) v F 0 (cM X ad σ2 B) = KC (cM X ad σ3 B) := g1
    rw [g1, eKC]
    show Option.bind (gfR (cM X ad σ3 B) (ad 0) 0 7) _ = _
    rw [o0_7 hA, Option.bind_some, o0_4 hA, Option.bind_some, oc12 hA, Option.bind_some, b1, Option.bind_some, nmE, bit_p n hn, e1']
    exact w1
  · unfold t_X9_layNights
    rw [t1, Option.bind_some, nmE]
    have e42 : τ1.1 42 = Int32.ofNat n := by rw [t2.1 42 rfl]; exact h42
    show Option.bind (t_X9_keep F 20 τ1) (fun q5 => t_X9_layNights_L24 F (fun τ7 => Option.bind (t_X9_putBack F 20 τ7) fun q8 => nm (((1 : Int32) <<< (τ1.1 42 &&& 31)) - 1) fun x10 => t_X9_layNights_L76 F ((1 : Int32) <<< (τ1.1 42 &&& 31)) F x10 q8) v ((1 : Int32) <<< (τ1.1 42 &&& 31)) F 0 q5) = _
    rw [u1, Option.bind_some, e42, bit_p n hn, ← eKT]
    have g2 : t_X9_layNights_L24 F KT v (Int32.ofNat (2 ^ n)) F 0 (twA τ1 27 gk) = KT τ3 := g2
    rw [g2, eKT]
    show Option.bind (t_X9_putBack F 20 τ3) _ = _
    rw [l1, Option.bind_some, nmE, e1']
    exact w2
  · rw [w8 30 (by decide), csA_n _ _ _ _ (by decide), csA_n _ _ _ _ (by decide), w7 30 (by decide), a4 30 (by decide)]
    exact (i5 s hs).2
  · rw [w8 27 (by decide), csA_n _ _ _ _ (by decide), csA_n _ _ _ _ (by decide), i4 27 (by omega)]
    exact (nw27 j hj).1
  · rw [w7 28 (by decide), a4 28 (by decide), i1 28 (by decide) (by decide)]
    exact (n28 j hj).1
  · rw [w7 j q3]
    by_cases q7 : j = 7
    · rw [q7]; exact a47
    · rw [a4 j q7, i1 j q7 q2, a2 j q1]
  · rw [w7 27 (by decide), a4 27 (by decide), a327, a27']
    exact u4 q (by omega)
theorem within_2 {x : Int32} : p_X0_within F x 0 2 = some (if inN x 3 then 1 else 0) := within_v _ (by
  show ((0 : Int) ≤ x.toInt ∧ x.toInt ≤ 2) ↔ (0 : Int) ≤ x.toInt ∧ x.toInt < 3
  omega)
theorem isIn_2 {x : Int32} : p_X9_isIn F x 0 2 = some (if inN x 3 then 1 else 0) := isIn_v _ (by
  show ((0 : Int) ≤ x.toInt ∧ x.toInt ≤ 2) ↔ (0 : Int) ≤ x.toInt ∧ x.toInt < 3
  omega)
theorem L84_0 {K : Int32 → Option (Int32 × Sw)} {c : Nat} {μ : Sw} {fc : Nat} (h : 1 ≤ fc) : f_X0_nights_L84 F K c (Int32.ofNat 0) μ fc 0 1 = K 0 := by
  obtain ⟨fc, rfl⟩ : ∃ m, fc = m + 1 := ⟨fc - 1, by omega⟩
  show f_X0_nights_L84_b F K c (Int32.ofNat 0) μ (f_X0_nights_L84 F K c (Int32.ofNat 0) μ fc) 0 1 = _
  unfold f_X0_nights_L84_b
  rw [bit_p 0 (by omega), if_pos (by decide)]
theorem L157_0 {c : Nat} {b : Int32} {μ : Sw} {fc : Nat} (h : 1 ≤ fc) : f_X0_nights_L157 F c (Int32.ofNat 0) b μ fc 0 0 = some (0, μ) := by
  obtain ⟨fc, rfl⟩ : ∃ m, fc = m + 1 := ⟨fc - 1, by omega⟩
  show f_X0_nights_L157_b F c (Int32.ofNat 0) b μ (f_X0_nights_L157 F c (Int32.ofNat 0) b μ fc) 0 0 = _
  unfold f_X0_nights_L157_b
  rw [if_pos (by decide)]
/-- 23: nights -/
theorem st_23 (hF : 1000000 ≤ F) (h : INV ad B A σ τ) (x : Nat → Int32) : ST F 23 x X ad B σ τ := by
  have hI := h
  obtain ⟨hE, hK, hC, hT⟩ := h
  have hA := hE.1
  have hW := hE.2.2
  obtain ⟨eH, lH⟩ := hW.H
  obtain ⟨eCr, lCr⟩ : A 6 6 = Int32.ofNat (zN A 6 6) ∧ zN A 6 6 ≤ 9 := hW.1.1.2.2.2.2.2.1
  have lC1 : 1 ≤ zN A 6 6 := hW.1.1.2.2.2.2.2.2.2.2.2.1
  have h1 : stC F 23 (ad 0) x (cM X ad σ B) = f_X0_nights F (ad 0) (x 1) (cM X ad σ B) := rfl
  have h2 : stT F 23 x τ = t_X9_nights F (x 1) τ := rfl
  unfold f_X0_nights at h1
  unfold t_X9_nights at h2
  rw [within_2, Option.bind_some, gd] at h1
  rw [isIn_2, Option.bind_some, gd] at h2
  by_cases g0 : inN (x 1) 3
  · rw [if_pos g0] at h1 h2
    obtain ⟨S, eS⟩ : ∃ S, S = sUnt A (zN A 6 0) := ⟨_, rfl⟩
    obtain ⟨σ1, u1, hC1, -⟩ := untrue_C (X := X) (F := F) (by omega) hE hC
    obtain ⟨τ1, v1, hT1⟩ := untrue_T (F := F) (by omega) hW hE.l1 hT
    rw [← eS] at u1 v1
    have epc : pc S = Int32.ofNat (uN S (zN A 6 0)) := by rw [eS]; exact pc_uN lH
    have bS : b16 S := by rw [eS]; exact sUnt_b _ lH
    obtain ⟨n, en⟩ : ∃ n, n = uN S (zN A 6 0) := ⟨_, rfl⟩
    have ln : n ≤ 16 := by have := uN_le S (zN A 6 0); omega
    rw [← en] at epc
    rw [oc0 hA, Option.bind_some, u1, Option.bind_some, count_C bS, Option.bind_some, epc] at h1
    rw [v1, Option.bind_some, nmE] at h2
    have hr0 : irr A (aw A 0 (upd (A 0) 42 0)) := irr.i (by decide)
    have hT2 : TR (aw A 0 (upd (A 0) 42 0)) (tsI τ1 42 0) := hT1.I
    have lc0 : LawC (aw A 0 (upd (A 0) 42 0)) 1 := (hr0.ev hE).l1
    obtain ⟨KT, eKT⟩ : ∃ KT : Tw → Option (Int32 × Tw), KT = fun τ8 =>
        if x 1 = 2 then
          Option.bind (taI τ8 6 420 6) fun x22 =>
          Option.bind (taI τ8 6 420 6) fun x24 =>
          Option.bind (dvO (((τ8.1 42) + x22) - 1) x24) fun x26 =>
          some (x26, τ8)
        else
          if (τ8.1 42) ≤ 8 then
            if (τ8.1 42) = 0 then
              some (0, τ8)
            else
              Option.bind (t_X9_layNights F τ8) fun q12 =>
              Option.bind (taI q12 31 256 0) fun x14 =>
              if x14 < 1000000 then
                if x 1 = 0 then
                  Option.bind (taI q12 31 256 0) fun x20 =>
                  some (x20, q12)
                else
                  Option.bind (t_X9_firstNight F q12) fun q18 =>
                  some (q18, q12)
              else
                some ((-2), q12)
          else
            some ((-2), τ8) := ⟨_, rfl⟩
    have h2 : stT F 23 x τ = t_X9_nights_L23 F KT (x 1) S F 0 (tsI τ1 42 0) := by rw [h2, eKT]
    obtain ⟨A8, τ8, y1, y2, y3, y4, y5⟩ := col_T (F := F) (S := S) (c1 := x 1) (A0 := A) (K := KT) (by omega) (zN A 6 0) 0 F (aw A 0 (upd (A 0) 42 0)) (tsI τ1 42 0) (Nat.zero_add _) (by omega) hr0 (hr0.wf hW) lc0 hT2 (by rw [aw_s, up_s]; rfl) (fun j hj => absurd hj (Nat.not_lt_zero j))
    rw [← en] at y4 y5
    have y1 : t_X9_nights_L23 F KT (x 1) S F 0 (tsI τ1 42 0) = KT τ8 := y1
    rw [y1, eKT] at h2
    have hE8 : EV ad B A8 := y3.ev hE
    have hC8 : CR ad B A8 σ1 := y3.cr hC1
    have a6 : A8 6 = A 6 := y3.1 6 (by omega)
    have e42 : τ8.1 42 = Int32.ofNat n := by rw [y2.1 42 rfl]; exact y4
    have t66 : taI τ8 6 420 6 = some (Int32.ofNat (zN A 6 6)) := by
      rw [show (6 : Int32) = Int32.ofNat 6 from rfl, taI_n _ _ _ _ (by omega) (by omega), y2.2 6 rfl, a6, eCr]
    by_cases g2 : x 1 = 2
    · rw [if_pos g2] at h1
      have h2 : stT F 23 x τ = Option.bind (taI τ8 6 420 6) fun x22 => Option.bind (taI τ8 6 420 6) fun x24 => Option.bind (dvO (((τ8.1 42) + x22) - 1) x24) fun x26 => some (x26, τ8) := by rw [h2]; exact if_pos g2
      have nz : ¬ Int32.ofNat (zN A 6 6) = 0 := fun q => by
        have := (c_eq (zN A 6 6) 0 (by omega) (by omega)).1 q
        omega
      rw [t66, Option.bind_some, Option.bind_some, e42] at h2
      unfold dvO at h1 h2
      rw [if_neg nz, Option.bind_some] at h2
      have h1 : stC F 23 (ad 0) x (cM X ad σ B) = Option.bind (gfR (cM X ad σ1 B) (ad 0) 0 3) fun x27 =>
        Option.bind (gfI (cM X ad σ1 B) x27 3 11) fun x29 =>
        Option.bind (gfR (cM X ad σ1 B) (ad 0) 0 3) fun x31 =>
        Option.bind (gfI (cM X ad σ1 B) x31 3 11) fun x33 =>
        Option.bind (if x33 = 0 then none else some ((Int32.ofNat n + x29 - 1) / x33)) fun x35 =>
        some (x35, cM X ad σ1 B) := h1
      rw [o0_3 hA, Option.bind_some, (hE.2.1.tw σ1).2.2.2.2.2.2.2.2.2.1, Option.bind_some, Option.bind_some, eCr, (hE.2.1.tw σ1).2.2.2.2.2.2.2.2.2.1, Option.bind_some, eCr, if_neg nz, Option.bind_some] at h1
      exact ST.rw hI h1 h2 hE8.2.1 hE8.2.2 hC8 y2
    · rw [if_neg g2] at h1
      have h2 : stT F 23 x τ = if (τ8.1 42) ≤ 8 then
            if (τ8.1 42) = 0 then
              some (0, τ8)
            else
              Option.bind (t_X9_layNights F τ8) fun q12 =>
              Option.bind (taI q12 31 256 0) fun x14 =>
              if x14 < 1000000 then
                if x 1 = 0 then
                  Option.bind (taI q12 31 256 0) fun x20 =>
                  some (x20, q12)
                else
                  Option.bind (t_X9_firstNight F q12) fun q18 =>
                  some (q18, q12)
              else
                some ((-2), q12)
          else
            some ((-2), τ8) := by rw [h2]; exact if_neg g2
      rw [e42] at h2
      obtain ⟨σ2, w1, hC2, -⟩ := untrue_C (X := X) (F := F) (by omega) hE hC1
      rw [← eS] at w1
      have hC2' : CR ad B A8 σ2 := y3.cr hC2
      have h1 : stC F 23 (ad 0) x (cM X ad σ B) = Option.bind (oc (cM X ad σ1 B) (ad 0) 0) fun u13 =>
      Option.bind (f_X0_fillNights F (ad 0) (cM X ad σ1 B)) fun q11 =>
      if q11.1 < 0 then
        some ((-2), q11.2)
      else
        Option.bind (gfR q11.2 (ad 0) 0 16) fun x16 =>
        Option.bind (aI q11.2 2 x16 0) fun x18 =>
        if x18 = 99 then
          some ((-2), q11.2)
        else
          if x 1 = 0 then
            Option.bind (gfR q11.2 (ad 0) 0 16) fun x23 =>
            Option.bind (aI q11.2 2 x23 0) fun x25 =>
            some (x25, q11.2)
          else
            f_X0_nights_L84 F
              (fun w22 =>
                f_X0_nights_L157 F (ad 0) q11.1 w22 q11.2 F 0 0)
              (ad 0) q11.1 q11.2 F 0 1 := h1
      have fn : f_X0_fillNights F (ad 0) (cM X ad σ1 B) = if Int32.ofNat n ≤ 8 then f_X0_fillNights_L21 F (fnK F (ad 0)) (ad 0) S F 0 0 (cM X ad σ2 B) else some (-2, cM X ad σ2 B) := by
        unfold f_X0_fillNights
        rw [oc0 hA, Option.bind_some, w1, Option.bind_some, count_C bS, Option.bind_some, epc]
        rfl
      rw [oc0 hA, Option.bind_some, fn] at h1
      by_cases g8 : n ≤ 8
      · rw [if_pos (show Int32.ofNat n ≤ 8 from (c_le n 8 (by omega) (by omega)).2 g8)] at h1 h2
        have z6 : zN A8 6 0 = zN A 6 0 := by unfold zN; rw [a6]
        have mono : ∀ h, h ≤ zN A8 6 0 → uN S h ≤ 8 := fun h hh => by
          have : ∀ d, uN S h ≤ uN S (h + d) := by
            intro d
            induction d with
            | zero => exact Nat.le_refl _
            | succ d ih =>
              have : uN S (h + d) ≤ uN S (h + (d + 1)) := by
                show uN S (h + d) ≤ (if tb S (h + d) = true then uN S (h + d) + 1 else uN S (h + d))
                split <;> omega
              omega
          have q := this (zN A 6 0 - h)
          rw [show h + (zN A 6 0 - h) = zN A 6 0 by omega] at q
          omega
        obtain ⟨σ3, d1, hC3, d3⟩ := col_C (X := X) (F := F) (S := S) (K := fnK F (ad 0)) (by omega) hE8 mono (zN A8 6 0) 0 F σ2 (Nat.zero_add _) (by omega) hC2' (fun j hj => absurd hj (Nat.not_lt_zero j))
        rw [z6, ← en] at d1 d3
        have d1 : f_X0_fillNights_L21 F (fnK F (ad 0)) (ad 0) S F 0 0 (cM X ad σ2 B) = fnK F (ad 0) (Int32.ofNat n) (cM X ad σ3 B) := d1
        obtain ⟨wo, wi⟩ := uW_ok S (zN A 6 0)
        rw [← en] at wo wi
        obtain ⟨A9, σ9, τ9, m1, m2, m3, m4, m5, m6, m7, m8, m9, m10⟩ := lay_CT (X := X) (F := F) (n := n) (w := uW S (zN A 6 0)) (by omega) hE8 hC3 y2 g8 (fun j hj => by rw [z6]; exact (wo j hj).1) wi (fun j hj => by rw [y3.due]; exact y5 j hj) y4 d3
        rw [d1, m1, Option.bind_some] at h1
        have h1 : stC F 23 (ad 0) x (cM X ad σ B) = if Int32.ofNat n < 0 then
        some ((-2), cM X ad σ9 B)
      else
        Option.bind (gfR (cM X ad σ9 B) (ad 0) 0 16) fun x16 =>
        Option.bind (aI (cM X ad σ9 B) 2 x16 0) fun x18 =>
        if x18 = 99 then
          some ((-2), cM X ad σ9 B)
        else
          if x 1 = 0 then
            Option.bind (gfR (cM X ad σ9 B) (ad 0) 0 16) fun x23 =>
            Option.bind (aI (cM X ad σ9 B) 2 x23 0) fun x25 =>
            some (x25, cM X ad σ9 B)
          else
            f_X0_nights_L84 F
              (fun w22 =>
                f_X0_nights_L157 F (ad 0) (Int32.ofNat n) w22 (cM X ad σ9 B) F 0 0)
              (ad 0) (Int32.ofNat n) (cM X ad σ9 B) F 0 1 := h1
        have q0 : aI (cM X ad σ9 B) 2 (ad 29) 0 = some (σ9.2.1 29 0) := a29 hA σ9 0 (by omega)
        obtain ⟨p1, p2⟩ := pow_b g8
        obtain ⟨o1, o3, o4, o5, o6, o7⟩ := m6.v g8 (Nat.zero_le 0) (by omega)
        rw [if_neg (Int32.not_lt.2 (ofNat_nn (by omega))), o0_16 hA, Option.bind_some, q0, Option.bind_some, Option.bind_some, q0, Option.bind_some, o1] at h1
        have e99 : (Int32.ofNat (σ9.2.1 29 0).toNatClampNeg = 99) ↔ (σ9.2.1 29 0).toNatClampNeg = 99 := c_eq _ 99 (by omega) (by omega)
        by_cases gn : n = 0
        · rw [if_pos (show Int32.ofNat n = 0 by rw [gn]; rfl)] at h2
          have u0 : (σ9.2.1 29 0).toNatClampNeg = 0 := o7 (by rw [gn])
          rw [if_neg (fun q => by have := e99.1 q; omega), u0] at h1
          have h1' : stC F 23 (ad 0) x (cM X ad σ B) = some (0, cM X ad σ9 B) := by
            rw [h1]
            by_cases g1 : x 1 = 0
            · rw [if_pos g1]; rfl
            · rw [if_neg g1, gn, L84_0 (by omega), L157_0 (by omega)]
          have hC9 : CR ad B A8 σ9 := by
            have q := CR.k27 (g := A8 27) m4 (fun q hq => by
              have := m3.2.2.k0.2
              exact (m10 q (by omega)).symm)
            have hr : irr (aw A9 27 (A8 27)) A8 := by
              refine ⟨fun j hj => ?_, fun k hk => ?_⟩
              · by_cases e : j = 27
                · rw [e, aw_s]
                · rw [aw_n _ _ _ _ e]
                  exact (m9 j e (by omega) (by omega)).symm
              · rw [aw_n _ _ _ _ (by decide), m9 0 (by decide) (by decide) (by decide)]
            exact hr.cr q
          exact ST.rw hI h1' h2 hE8.2.1 hE8.2.2 hC9 y2
        · rw [if_neg (show ¬ Int32.ofNat n = 0 from fun q => gn ((c_eq n 0 (by omega) (by omega)).1 q)), m2, Option.bind_some] at h2
          have t310 : taI τ9 31 256 0 = some (A9 31 0) := by rw [show (0 : Int32) = Int32.ofNat 0 from rfl, taI_n _ _ _ _ (by omega) (by omega), m5.2 31 rfl]
          rw [t310, Option.bind_some, Option.bind_some, o4] at h2
          have em : (Int32.ofNat (A9 31 0).toNatClampNeg < 1000000) ↔ (A9 31 0).toNatClampNeg < 1000000 := c_lt _ 1000000 (by omega) (by omega)
          by_cases g9 : (σ9.2.1 29 0).toNatClampNeg = 99
          · rw [if_pos (e99.2 g9)] at h1
            rw [if_neg (fun q => by
              have := em.1 q
              rcases o6 with ⟨q1, q2⟩ | ⟨q1, q2⟩ <;> omega)] at h2
            exact ST.rw hI h1 h2 m3.2.1 m3.2.2 m4 m5
          · have uv : (σ9.2.1 29 0).toNatClampNeg = (A9 31 0).toNatClampNeg ∧ (A9 31 0).toNatClampNeg ≤ 8 := by
              rcases o6 with ⟨q1, q2⟩ | ⟨q1, q2⟩ <;> omega
            rw [if_neg (fun q => g9 (e99.1 q))] at h1
            rw [if_pos (em.2 (by omega))] at h2
            by_cases g1 : x 1 = 0
            · rw [if_pos g1] at h1 h2
              rw [uv.1] at h1
              exact ST.rw hI h1 h2 m3.2.1 m3.2.2 m4 m5
            · rw [if_neg g1] at h1 h2
              have a66 : A9 6 6 = Int32.ofNat (zN A 6 6) := by rw [m9 6 (by decide) (by decide) (by decide), a6]; exact eCr
              have a42 : A9 0 42 = Int32.ofNat n := by rw [m9 0 (by decide) (by decide) (by decide)]; exact y4
              obtain ⟨b', b1, b2, b3⟩ := first_CT (X := X) (F := F) (n := n) (cr := zN A 6 6) (KC := fun w22 => f_X0_nights_L157 F (ad 0) (Int32.ofNat n) w22 (cM X ad σ9 B) F 0 0) (KT := fun w1 => t_X9_firstNight_L84 F w1 τ9 F 0 0) (by omega) m3 m5 g8 lCr a66 a42 m7 m6 g9 (2 ^ n - 1) 1 F F 0 (by omega) (by omega) (by omega) (Nat.le_refl _) (by omega)
              obtain ⟨r, r1, r2⟩ := houses_CT (X := X) (F := F) (b := Int32.ofNat b') (by omega) hA m5 g8 a42 m8 n 0 F F 0 (Nat.zero_add _) (by omega) (by omega)
              have h1' : stC F 23 (ad 0) x (cM X ad σ B) = some (r, cM X ad σ9 B) := h1.trans (b2.trans r1)
              have fnT : t_X9_firstNight F τ9 = some r := by
                unfold t_X9_firstNight
                exact b3.trans r2
              rw [fnT, Option.bind_some] at h2
              exact ST.rw hI h1' h2 m3.2.1 m3.2.2 m4 m5
      · have n8 : ¬ Int32.ofNat n ≤ 8 := fun q => g8 ((c_le n 8 (by omega) (by omega)).1 q)
        rw [if_neg n8] at h1 h2
        exact ST.rw hI h1 h2 hE8.2.1 hE8.2.2 hC2' y2
  · rw [if_neg g0] at h1 h2
    exact ST.ro hI h1 h2 hC hT
