set_option maxRecDepth 100000
/-! the telling: a name comes -/
variable {X X' X2 : Nat → Option Ob} {ad : Nat → Nat} {B B' B2 : Sw} {A A' : Av} {σ σ' σ2 : Cs} {τ τ' τ2 : Tw} {F : Nat} {c pl : Nat → Nat} {last j : Nat}
theorem nms_L {K : Tw → Option (Int32 × Tw)} {a b : Int32} {t n : Nat} (h : TKS c pl last σ τ) (ht : t ≤ last) (hn : n ≤ 28) (h25 : τ.1 25 = Int32.ofNat n) {g : Nat} (hg : n < g) : ∃ s, t_X9_names_L18 F K a b (Int32.ofNat t) g 0 τ = K s ∧ ((s = τ ∧ ∀ i, i < n → τ.2.2 19 i ≠ τ.2.2 5 t) ∨ (s = tlT 3 (pl t) τ ∧ ∃ i, i < n ∧ τ.2.2 19 i = τ.2.2 5 t)) := by
  have hl := h.1
  refine for_up (L := t_X9_names_L18 F K a b (Int32.ofNat t)) (N := n) (Inv := fun k s => (s = τ ∧ ∀ i, i < k → τ.2.2 19 i ≠ τ.2.2 5 t) ∨ (s = tlT 3 (pl t) τ ∧ ∃ i, i < k ∧ τ.2.2 19 i = τ.2.2 5 t)) (Post := fun r => ∃ s, r = K s ∧ ((s = τ ∧ ∀ i, i < n → τ.2.2 19 i ≠ τ.2.2 5 t) ∨ (s = tlT 3 (pl t) τ ∧ ∃ i, i < n ∧ τ.2.2 19 i = τ.2.2 5 t))) ?_ ?_ n 0 g τ (by omega) (by omega) (Or.inl ⟨rfl, fun i hi => absurd hi (Nat.not_lt_zero i)⟩)
  · intro g k s hk hI
    have st : t_X9_names_L18 F K a b (Int32.ofNat t) (g + 1) (Int32.ofNat k) s = t_X9_names_L18_b F K a b (Int32.ofNat t) (t_X9_names_L18 F K a b (Int32.ofNat t) g) (Int32.ofNat k) s := rfl
    have s2 : s.2 = τ.2 := by
      rcases hI with ⟨e, -⟩ | ⟨e, -⟩
      · rw [e]
      · rw [e, tlT_2]
    have s25 : s.1 25 = Int32.ofNat n := by
      rcases hI with ⟨e, -⟩ | ⟨e, -⟩
      · rw [e]; exact h25
      · rw [e, tlT_i (by decide) (by decide)]; exact h25
    have hs : TKS c pl last σ s := h.of rfl rfl rfl (by rw [s2]) (by rw [s2]) (by rw [s2]) (by rw [s2])
    have hnk : ¬ Int32.ofNat n ≤ Int32.ofNat k := fun z => by
      have := (c_le n k (by omega) (by omega)).1 z
      omega
    unfold t_X9_names_L18_b at st
    rw [s25, if_neg hnk, taL_n s 19 30 k (by omega) (by decide), Option.bind_some, taL_n s 5 2001 t (by omega) (by decide), Option.bind_some, tells_T hs ht, Option.bind_some, nmE, nmE, n_lp, s2] at st
    by_cases e : τ.2.2 19 k = τ.2.2 5 t
    · rw [if_pos (lg_0.2 e)] at st
      refine Or.inl ⟨tlT 3 (pl t) s, Or.inr ⟨?_, k, Nat.lt_succ_self k, e⟩, st⟩
      rcases hI with ⟨q, -⟩ | ⟨q, -⟩
      · rw [q]
      · rw [q, tlT_tl (by decide)]
    · rw [if_neg (fun z => e (lg_0.1 z))] at st
      refine Or.inl ⟨s, ?_, st⟩
      rcases hI with ⟨q, q2⟩ | ⟨q, i, q2, q3⟩
      · refine Or.inl ⟨q, fun i hi => ?_⟩
        by_cases q : i = k
        · rw [q]; exact e
        · exact q2 i (by omega)
      · exact Or.inr ⟨q, i, by omega, q3⟩
  · intro g s hI
    have st : t_X9_names_L18 F K a b (Int32.ofNat t) (g + 1) (Int32.ofNat n) s = t_X9_names_L18_b F K a b (Int32.ofNat t) (t_X9_names_L18 F K a b (Int32.ofNat t) g) (Int32.ofNat n) s := rfl
    have s25 : s.1 25 = Int32.ofNat n := by
      rcases hI with ⟨e, -⟩ | ⟨e, -⟩
      · rw [e]; exact h25
      · rw [e, tlT_i (by decide) (by decide)]; exact h25
    unfold t_X9_names_L18_b at st
    rw [s25, if_pos (Int32.le_refl _)] at st
    exact ⟨s, st, hI⟩
theorem csL_A1 {f : Nat → Int64} {g : Nat → Int32} : (csA (csL σ 7 f) 8 g).1 = σ.1 := rfl
/-- the rows of names with one more, on both sides -/
def nmC (σ : Cs) (n : Nat) (w : Int64) (x : Int32) : Cs := csI (csA (csL σ 7 (vp_updL (σ.2.2.1 7) n w)) 8 (upd (σ.2.1 8) n x)) 38 (Int32.ofNat (n + 1))
def nmT (τ : Tw) (n : Nat) (w : Int64) (s x : Int32) : Tw := tsI (twA (twA (twL τ 19 (vp_updL (τ.2.2 19) n w)) 20 (upd (τ.2.1 20) n s)) 21 (upd (τ.2.1 21) n x)) 25 (Int32.ofNat (n + 1))
theorem nmC_RF {n : Nat} {w : Int64} {x : Int32} : RF σ (nmC σ n w x) := ⟨fun z _ _ _ _ a => csI_n _ _ _ _ a, fun r a => csA_n _ _ _ _ a, fun r a => csL_n _ _ _ _ a, rfl⟩
theorem nmT_TX {n : Nat} {w : Int64} {s x : Int32} : TX τ (nmT τ n w s x) := ((TX.l.tr (TX.nm (Or.inl rfl))).tr (TX.nm (Or.inr rfl))).tr (TX.i (by decide))
theorem nmC_i {n z : Nat} {w : Int64} {x : Int32} (h : z ≠ 38) : (nmC σ n w x).1 z = σ.1 z := csI_n _ _ _ _ h
theorem nmT_i {n z : Nat} {w : Int64} {s x : Int32} (h : z ≠ 25) : (nmT τ n w s x).1 z = τ.1 z := tsI_n _ _ _ _ h
theorem nmC_7 {n : Nat} {w : Int64} {x : Int32} : (nmC σ n w x).2.2.1 7 = vp_updL (σ.2.2.1 7) n w := csL_s _ _ _
theorem nmC_8 {n : Nat} {w : Int64} {x : Int32} : (nmC σ n w x).2.1 8 = upd (σ.2.1 8) n x := csA_s _ _ _
theorem nmT_19 {n : Nat} {w : Int64} {s x : Int32} : (nmT τ n w s x).2.2 19 = vp_updL (τ.2.2 19) n w := twL_s _ _ _
theorem nmT_20 {n : Nat} {w : Int64} {s x : Int32} : (nmT τ n w s x).2.1 20 = upd (τ.2.1 20) n s := rfl
theorem nmT_21 {n : Nat} {w : Int64} {s x : Int32} : (nmT τ n w s x).2.1 21 = upd (τ.2.1 21) n x := rfl
theorem nmT_o {n r : Nat} {w : Int64} {s x : Int32} (h1 : r ≠ 20) (h2 : r ≠ 21) : (nmT τ n w s x).2.1 r = τ.2.1 r := (twA_n _ _ _ _ h2).trans (twA_n _ _ _ _ h1)
/-- the component's second half -/
theorem tnm_C (hA : AdOK ad B) {n t : Nat} {x : Int32} (h38 : σ.1 38 = Int32.ofNat n) (hn : n < 28) (ht : t < 402) : f_X2_tellName_j29 F (ad 6) x (Int32.ofNat t) (cM X ad σ B) = some (.inl (), cM X ad (nmC σ n (σ.2.2.1 5 t) x) B) := by
  unfold f_X2_tellName_j29
  have e1 : ∀ f, (csL σ 7 f).1 38 = Int32.ofNat n := fun f => h38
  have e2 : ∀ f g, (csA (csL σ 7 f) 8 g).1 38 = Int32.ofNat n := fun f g => h38
  rw [o6_6 hA, Option.bind_some, o6_8 hA, Option.bind_some, o6_0 hA, Option.bind_some, o1_4 hA, Option.bind_some, aL5 hA σ t ht, Option.bind_some, h38, sL7 hA σ n _ hn, Option.bind_some, o6_7 hA, Option.bind_some, o6_8 hA, Option.bind_some, e1, s8 hA _ n _ hn, Option.bind_some, o6_8 hA, Option.bind_some, e2, n_lp, p6_8 hA, Option.bind_some, nar0]
  rfl
theorem tnm_T {n t : Nat} {s x : Int32} (h25 : τ.1 25 = Int32.ofNat n) (hn : n < 28) (ht : t < 2001) : (Option.bind (taL τ 5 2001 (Int32.ofNat t)) fun x7 => Option.bind (tsL τ 19 1 30 (τ.1 25) x7) fun τ10 => Option.bind (tsA τ10 20 0 30 (τ10.1 25) s) fun τ12 => Option.bind (tsA τ12 21 0 30 (τ12.1 25) x) fun τ14 => nm (tsI τ14 25 ((τ14.1 25) + 1)) fun τ15 => some ((1 : Int32), τ15)) = some (1, nmT τ n (τ.2.2 5 t) s x) := by
  have e1 : ∀ f, (twL τ 19 f).1 25 = Int32.ofNat n := fun f => h25
  have e2 : ∀ f g, (twA (twL τ 19 f) 20 g).1 25 = Int32.ofNat n := fun f g => h25
  have e3 : ∀ f g h, (twA (twA (twL τ 19 f) 20 g) 21 h).1 25 = Int32.ofNat n := fun f g h => h25
  rw [taL_n τ 5 2001 t ht (by decide), Option.bind_some, h25, tsL_n τ 19 1 30 n _ (by omega) (by decide), Option.bind_some, e1, tsA_n _ 20 0 30 n _ (by omega) (by decide), Option.bind_some, e2, tsA_n _ 21 0 30 n _ (by omega) (by decide), Option.bind_some, nmE, e3, n_lp, nar0, nar0]
  rfl
section AT
variable {X0 : Nat → Option Ob} {B0 : Sw} {σ0 : Cs} {τ0 : Tw} {u : Nat}
theorem AT.name (hF : 100000 ≤ F) {q nh no : Nat} (h : AT c pl last ad X0 B0 σ0 τ0 u X B σ τ j) (hq : q < 2) (hN : NMS σ τ nh no) (hr : if q = 0 then nh < 16 else no < 12) (hD : CLN σ τ → NMD σ (nh + no)) : (∃ σ' τ', f_X2_tellName F (ad 6) (Int32.ofNat (100 * q + if q = 0 then nh else no)) (cM X ad σ B) = some (.inl (), cM X ad σ' B) ∧ t_X9_names F (Int32.ofNat q) (Int32.ofNat (if q = 0 then nh else no)) τ = some (1, τ') ∧ AT c pl last ad X0 B0 σ0 τ0 u X B σ' τ' (j + 1) ∧ NMS σ' τ' (nh + (1 - q)) (no + q) ∧ (CLN σ' τ' → CLN σ τ ∧ NMD σ' (nh + (1 - q) + (no + q))) ∧ (∀ r, r ≠ 20 → r ≠ 21 → τ'.2.1 r = τ.2.1 r)) ∨ TNO ad X0 B0 σ0 τ0 (u + 1) (f_X2_tellName F (ad 6) (Int32.ofNat (100 * q + if q = 0 then nh else no)) (cM X ad σ B)) (t_X9_names F (Int32.ofNat q) (Int32.ofNat (if q = 0 then nh else no)) τ) := by
  have hj := h.p.1.1
  have hjl := h.p.2.2.2
  have h7 := h.p.2.2.1
  have hA := h.a
  unfold f_X2_tellName t_X9_names
  rw [oc6 h.a, Option.bind_some, nmE, h7]
  rcases h.takes (F := F) (q := 0) (by decide) with ⟨k1, k2, k3, k4, k5⟩ | hNo
  · have k3' : f_X2_must F (ad 6) 1 (cM X ad σ B) = _ := k3
    have k4' : t_X9_takes F 0 τ = _ := k4
    obtain ⟨n38, n25, n16, n12, nms⟩ := hN
    have hn28 : nh + no < 28 := by
      by_cases q0 : q = 0
      · rw [if_pos q0] at hr; omega
      · rw [if_neg q0] at hr; omega
    rw [k3', th_l, k4', Option.bind_some, if_neg (show ¬ (1 : Int32) = 0 by decide)]
    obtain ⟨w, ew⟩ : ∃ w, w = τ.2.2 5 j := ⟨_, rfl⟩
    have hw : σ.2.2.1 5 j = w := by
      rw [ew]
      exact (h.p.1.2.1 j hjl).2.2.2.2 k1
    obtain ⟨σ1, e1⟩ : ∃ σ1, σ1 = csI σ 31 (Int32.ofNat (j + 1)) := ⟨_, rfl⟩
    obtain ⟨τ1, e2⟩ : ∃ τ1, τ1 = tsI τ 7 (Int32.ofNat (j + 1)) := ⟨_, rfl⟩
    rw [← e1, ← e2] at k5
    rw [← e1, ← e2]
    have f1 : ∀ z, z ≠ 31 → σ1.1 z = σ.1 z := fun z hz => by rw [e1]; exact csI_n _ _ _ _ hz
    have f2 : σ1.2 = σ.2 := by rw [e1]; rfl
    have g1 : ∀ z, z ≠ 7 → τ1.1 z = τ.1 z := fun z a => by rw [e2]; exact tsI_n _ _ _ _ a
    have g2 : τ1.2 = τ.2 := by rw [e2]; rfl
    obtain ⟨r, hr2, hrr⟩ := find_C (X := X) (F := F) (σ := σ1) (n := nh + no) (by omega) hA (by rw [f1 38 (by decide)]; exact n38) (by omega) w
    have haL : aL (cM X ad σ1 B) 1 (ad 5) (Int32.ofNat j) = some w := by
      rw [aL5 hA σ1 j (by omega), f2, hw]
    have hτw : τ1.2.2 5 j = w := by rw [g2, ew]
    have w1 : WR pl j σ1 τ1 := h.w.of (f1 33 (by decide)) (f1 34 (by decide)) (g1 10 (by decide)) (g1 11 (by decide))
    rw [f2] at hrr
    obtain ⟨s, hs, hss⟩ := nms_L (F := F) (K := fun τ6 => Option.bind (taL τ6 5 2001 (Int32.ofNat j)) fun x7 => Option.bind (tsL τ6 19 1 30 (τ6.1 25) x7) fun τ10 => Option.bind (tsA τ10 20 0 30 (τ10.1 25) (Int32.ofNat q)) fun τ12 => Option.bind (tsA τ12 21 0 30 (τ12.1 25) (Int32.ofNat (if q = 0 then nh else no))) fun τ14 => nm (tsI τ14 25 ((τ14.1 25) + 1)) fun τ15 => some (1, τ15)) (a := Int32.ofNat q) (b := Int32.ofNat (if q = 0 then nh else no)) (t := j) (n := nh + no) (g := F) k5.p.1 hjl (by omega) (by rw [g1 25 (by decide)]; exact n25) (by omega)
    rw [hτw, g2] at hss
    -- the two states before the name is put down
    have key : ∃ σ2, (if r = -1 then f_X2_tellName_j29 F (ad 6) (Int32.ofNat (100 * q + if q = 0 then nh else no)) (Int32.ofNat j) (cM X ad σ1 B) else Option.bind (f_X2_wrong F (ad 6) 3 (Int32.ofNat j) (cM X ad σ1 B)) fun q19 => f_X2_tellName_j29 F (ad 6) (Int32.ofNat (100 * q + if q = 0 then nh else no)) (Int32.ofNat j) q19) = f_X2_tellName_j29 F (ad 6) (Int32.ofNat (100 * q + if q = 0 then nh else no)) (Int32.ofNat j) (cM X ad σ2 B) ∧ AT c pl last ad X0 B0 σ0 τ0 u X B σ2 s (j + 1) ∧ σ2.2 = σ.2 ∧ s.2 = τ.2 ∧ σ2.1 38 = σ.1 38 ∧ s.1 25 = τ.1 25 ∧ (CLN σ2 s → CLN σ τ ∧ ∀ k, k < nh + no → σ.2.2.1 7 k ≠ w) := by
      rcases hrr with ⟨k, hk, ek, hbk, er⟩ | ⟨hnone, er⟩
      · have hne : r ≠ -1 := by
          obtain ⟨m1, i, m2⟩ := nms k hk
          rw [er]
          rcases m2 with ⟨i1, i2, i3, i4⟩ | ⟨i1, i2, i3, i4⟩
          · rw [i4]; exact (kn_h i (by omega)).2.2
          · rw [i4]; exact (kn_o i (by omega)).2.2
        have es : s = tlT 3 (pl j) τ1 := by
          rcases hss with ⟨-, q⟩ | ⟨q, -⟩
          · exact absurd ((nms k hk).1.symm.trans ek) (q k hk)
          · exact q
        have dd : DY pl (j + 1) (wlC 3 (pl j) σ1) (tlT 3 (pl j) τ1) := w1.both k5.p.1 hjl (by decide)
        rw [if_neg hne, wrong_C hA k5.p.1 hjl, Option.bind_some, es]
        exact ⟨_, rfl, k5.st wlC_RF tlT_TZ (wlC_i (by decide) (by decide)) (wlC_i (by decide) (by decide)) (tlT_i (by decide) (by decide)) (Or.inr dd), wlC_2.trans f2, tlT_2.trans g2, (wlC_i (by decide) (by decide)).trans (f1 38 (by decide)), (tlT_i (by decide) (by decide)).trans (g1 25 (by decide)), fun hc => absurd hc.1 dd.n⟩
      · have es : s = τ1 := by
          rcases hss with ⟨q, -⟩ | ⟨-, i, q1, q2⟩
          · exact q
          · exact absurd ((nms i q1).1.trans q2) (hnone i q1)
        rw [if_pos er, es]
        exact ⟨σ1, rfl, k5, f2, g2, f1 38 (by decide), g1 25 (by decide), fun hc => ⟨hc.of (f1 33 (by decide)).symm (g1 10 (by decide)).symm, hnone⟩⟩
    obtain ⟨σ2, c1, c2, c3, c4, c5, c6, c7⟩ := key
    simp only [o6_0 hA, o1_4 hA, haL, Option.bind_some, oc6 hA, hr2]
    have c38 : σ2.1 38 = Int32.ofNat (nh + no) := c5.trans n38
    have cT := tnm_T (τ := s) (t := j) (s := Int32.ofNat q) (x := Int32.ofNat (if q = 0 then nh else no)) (c6.trans n25) hn28 (by omega)
    rw [c1, tnm_C hA c38 hn28 (by omega), hs, cT]
    have ws : s.2.2 5 j = w := by rw [c4, ew]
    have wc : σ2.2.2.1 5 j = w := by rw [c3, hw]
    rw [ws, wc]
    refine Or.inl ⟨_, _, rfl, rfl, c2.st nmC_RF ⟨nmT_TX, q89.i (by decide) (by decide)⟩ (nmC_i (by decide)) (nmC_i (by decide)) (nmT_i (by decide)) (c2.w.of (nmC_i (by decide)) (nmC_i (by decide)) (nmT_i (by decide)) (nmT_i (by decide))), ⟨?_, ?_, ?_, ?_, fun k hk => ?_⟩, fun hc => ?_, fun r a b => (nmT_o a b).trans (by rw [c4])⟩
    · refine (csI_s _ _ _).trans ?_
      congr 1
      omega
    · refine (tsI_s _ _ _).trans ?_
      congr 1
      omega
    · by_cases q0 : q = 0
      · rw [if_pos q0] at hr; omega
      · omega
    · by_cases q0 : q = 0
      · omega
      · rw [if_neg q0] at hr; omega
    · rw [nmC_7, nmC_8, nmT_19, nmT_20, nmT_21, c3, c4]
      by_cases ek : k = nh + no
      · subst ek
        rw [upL_s, upL_s, up_s, up_s, up_s]
        refine ⟨rfl, if q = 0 then nh else no, ?_⟩
        by_cases q0 : q = 0
        · subst q0
          rw [if_pos rfl]
          refine Or.inl ⟨by omega, rfl, rfl, ?_⟩
          congr 1
          omega
        · have q1 : q = 1 := by omega
          subst q1
          rw [if_neg (by decide)]
          exact Or.inr ⟨by omega, rfl, rfl, rfl⟩
      · rw [upL_n _ _ _ _ ek, upL_n _ _ _ _ ek, up_n _ _ _ _ ek, up_n _ _ _ _ ek, up_n _ _ _ _ ek]
        obtain ⟨m1, i, m2⟩ := nms k (by omega)
        refine ⟨m1, i, ?_⟩
        rcases m2 with ⟨i1, i2⟩ | ⟨i1, i2⟩
        · exact Or.inl ⟨by omega, i2⟩
        · exact Or.inr ⟨by omega, i2⟩
    · obtain ⟨d1, d2⟩ := c7 (hc.of (nmC_i (by decide)).symm (nmT_i (by decide)).symm)
      refine ⟨d1, fun k k' hk hk' e => ?_⟩
      rw [nmC_7, c3] at e
      have en : nh + (1 - q) + (no + q) = nh + no + 1 := by omega
      rw [en] at hk hk'
      by_cases ek : k = nh + no
      · by_cases ek' : k' = nh + no
        · rw [ek, ek']
        · rw [ek, upL_s, upL_n _ _ _ _ ek'] at e
          exact absurd e.symm (d2 k' (by omega))
      · by_cases ek' : k' = nh + no
        · rw [ek', upL_s, upL_n _ _ _ _ ek] at e
          exact absurd e (d2 k (by omega))
        · rw [upL_n _ _ _ _ ek, upL_n _ _ _ _ ek'] at e
          exact hD d1 k k' (by omega) (by omega) e
  · obtain ⟨e, X2, B2, σ2, τ2, k, p, a1, a2, a3⟩ := hNo
    have a1' : f_X2_must F (ad 6) 1 (cM X ad σ B) = _ := a1
    have a2' : t_X9_takes F 0 τ = _ := a2
    rw [a1', th_r, a2', Option.bind_some, if_pos rfl]
    exact Or.inr ⟨e, X2, B2, σ2, τ2, k, p, rfl, rfl, a3⟩
end AT
