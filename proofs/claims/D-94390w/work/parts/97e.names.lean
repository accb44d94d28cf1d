set_option maxRecDepth 100000
/-! the telling: names -/
variable {X X' X2 : Nat → Option Ob} {ad : Nat → Nat} {B B' B2 : Sw} {A A' : Av} {σ σ' σ2 : Cs} {τ τ' τ2 : Tw} {F : Nat} {c pl : Nat → Nat} {last j : Nat}
theorem lg_0 {x y : Int64} : lg_cmp x y = 0 ↔ x = y := by
  unfold lg_cmp
  constructor
  · intro h
    by_cases g : x > y
    · rw [if_pos g] at h
      exact absurd h (by decide)
    · rw [if_neg g] at h
      by_cases e : x = y
      · exact e
      · rw [if_neg e] at h
        exact absurd h (by decide)
  · intro e
    subst e
    rw [if_neg (fun q => absurd (Int64.lt_iff_toInt_lt.1 q) (Int.lt_irrefl _)), if_pos rfl]
theorem tsI_tsI (τ : Tw) (k : Nat) (v w : Int32) : tsI (tsI τ k v) k w = tsI τ k w := by
  refine Prod.ext (funext fun q => ?_) rfl
  by_cases e : q = k
  · subst e
    rw [tsI_s, tsI_s]
  · rw [tsI_n _ _ _ _ e, tsI_n _ _ _ _ e, tsI_n _ _ _ _ e]
/-- names that are told: nh houses', no offices' -/
def NMS (σ : Cs) (τ : Tw) (nh no : Nat) : Prop := σ.1 38 = Int32.ofNat (nh + no) ∧ τ.1 25 = Int32.ofNat (nh + no) ∧ nh ≤ 16 ∧ no ≤ 12 ∧ ∀ k, k < nh + no → σ.2.2.1 7 k = τ.2.2 19 k ∧ ∃ i, (i < nh ∧ τ.2.1 20 k = 0 ∧ τ.2.1 21 k = Int32.ofNat i ∧ σ.2.1 8 k = Int32.ofNat i) ∨ (i < no ∧ τ.2.1 20 k = 1 ∧ τ.2.1 21 k = Int32.ofNat i ∧ σ.2.1 8 k = Int32.ofNat (100 + i))
/-- no name twice -/
def NMD (σ : Cs) (n : Nat) : Prop := ∀ k k', k < n → k' < n → σ.2.2.1 7 k = σ.2.2.1 7 k' → k = k'
theorem NMS.of {nh no : Nat} (h : NMS σ τ nh no) (a : σ'.1 38 = σ.1 38) (b : σ'.2 = σ.2) (a' : τ'.1 25 = τ.1 25) (b1 : τ'.2.2 19 = τ.2.2 19) (b2 : τ'.2.1 20 = τ.2.1 20) (b3 : τ'.2.1 21 = τ.2.1 21) : NMS σ' τ' nh no := by
  unfold NMS at *
  rw [a, b, a', b1, b2, b3]
  exact h
theorem find_C (hF : 100 ≤ F) (hA : AdOK ad B) {n : Nat} (h38 : σ.1 38 = Int32.ofNat n) (hn : n ≤ 28) (w : Int64) : ∃ r, f_X2_find F (ad 6) w (cM X ad σ B) = some r ∧ ((∃ k, k < n ∧ σ.2.2.1 7 k = w ∧ (∀ i, i < k → σ.2.2.1 7 i ≠ w) ∧ r = σ.2.1 8 k) ∨ ((∀ k, k < n → σ.2.2.1 7 k ≠ w) ∧ r = -1)) := by
  refine for_up (L := fun g i (_ : Unit) => f_X2_find_L2 F (ad 6) w (cM X ad σ B) g i) (N := n) (Inv := fun k _ => ∀ i, i < k → σ.2.2.1 7 i ≠ w) (Post := fun r => ∃ r', r = some r' ∧ ((∃ k, k < n ∧ σ.2.2.1 7 k = w ∧ (∀ i, i < k → σ.2.2.1 7 i ≠ w) ∧ r' = σ.2.1 8 k) ∨ ((∀ k, k < n → σ.2.2.1 7 k ≠ w) ∧ r' = -1))) ?_ ?_ n 0 F () (by omega) (by omega) (fun i hi => absurd hi (Nat.not_lt_zero i))
  · intro g k _ hk hI
    have st : f_X2_find_L2 F (ad 6) w (cM X ad σ B) (g + 1) (Int32.ofNat k) = f_X2_find_L2_b F (ad 6) w (cM X ad σ B) (f_X2_find_L2 F (ad 6) w (cM X ad σ B) g) (Int32.ofNat k) := rfl
    unfold f_X2_find_L2_b at st
    have hnk : ¬ Int32.ofNat n ≤ Int32.ofNat k := fun z => by
      have := (c_le n k (by omega) (by omega)).1 z
      omega
    rw [o6_8 hA, Option.bind_some, h38, if_neg hnk, o6_6 hA, Option.bind_some, aL7 hA σ k (by omega), Option.bind_some, o6_7 hA, Option.bind_some, a8 hA σ k (by omega), Option.bind_some, nmE, n_lp] at st
    by_cases e : σ.2.2.1 7 k = w
    · rw [if_pos (lg_0.2 e)] at st
      exact Or.inr ⟨_, st, Or.inl ⟨k, hk, e, hI, rfl⟩⟩
    · rw [if_neg (fun z => e (lg_0.1 z))] at st
      refine Or.inl ⟨(), fun i hi => ?_, st⟩
      by_cases q : i = k
      · rw [q]; exact e
      · exact hI i (by omega)
  · intro g _ hI
    have st : f_X2_find_L2 F (ad 6) w (cM X ad σ B) (g + 1) (Int32.ofNat n) = f_X2_find_L2_b F (ad 6) w (cM X ad σ B) (f_X2_find_L2 F (ad 6) w (cM X ad σ B) g) (Int32.ofNat n) := rfl
    unfold f_X2_find_L2_b at st
    rw [o6_8 hA, Option.bind_some, h38, if_pos (Int32.le_refl _)] at st
    exact ⟨_, st, Or.inr ⟨hI, rfl⟩⟩
/-- what a name means on the reference's side, with v so far -/
def vlT (τ : Tw) (s : Int32) (w : Int64) : Nat → Int32 → Int32
  | 0, v => v
  | k + 1, v => vlT τ s w k (if τ.2.2 19 k = w ∧ τ.2.1 20 k = s then τ.2.1 21 k else v)
theorem vl_no {s : Int32} {w : Int64} : ∀ {n : Nat} {v : Int32}, (∀ k, k < n → ¬ (τ.2.2 19 k = w ∧ τ.2.1 20 k = s)) → vlT τ s w n v = v
  | 0, _, _ => rfl
  | n + 1, v, h => by
    show vlT τ s w n (if τ.2.2 19 n = w ∧ τ.2.1 20 n = s then τ.2.1 21 n else v) = v
    rw [if_neg (h n (Nat.lt_succ_self n))]
    exact vl_no fun k hk => h k (by omega)
theorem vl_one {s : Int32} {w : Int64} {k : Nat} (hk : τ.2.2 19 k = w ∧ τ.2.1 20 k = s) (hb : ∀ i, i < k → ¬ (τ.2.2 19 i = w ∧ τ.2.1 20 i = s)) : ∀ {n : Nat} {v : Int32}, k < n → vlT τ s w n v = τ.2.1 21 k
  | 0, _, h => absurd h (Nat.not_lt_zero k)
  | n + 1, v, h => by
    show vlT τ s w n (if τ.2.2 19 n = w ∧ τ.2.1 20 n = s then τ.2.1 21 n else v) = _
    by_cases e : k = n
    · subst e
      rw [if_pos hk]
      exact vl_no hb
    · exact vl_one hk hb (by omega)
theorem tn_L {s : Int32} {t n : Nat} (hn : n ≤ 30) (ht : t < 2001) (v : Int32) {g : Nat} (hg : n < g) : t_X9_takesName_L27 F s (Int32.ofNat t) g (Int32.ofNat n + (-1)) (tsI τ 29 v) = if 0 ≤ vlT τ s (τ.2.2 5 t) n v then some (1, tsI τ 29 (vlT τ s (τ.2.2 5 t) n v)) else Option.bind (t_X9_tells F 4 (Int32.ofNat t) (tsI τ 29 (vlT τ s (τ.2.2 5 t) n v))) fun q => some (1, q) := by
  refine for_dn (L := t_X9_takesName_L27 F s (Int32.ofNat t)) (Inv := fun k x => k ≤ 30 ∧ ∃ v', x = tsI τ 29 v' ∧ vlT τ s (τ.2.2 5 t) k v' = vlT τ s (τ.2.2 5 t) n v) (Post := fun r => r = if 0 ≤ vlT τ s (τ.2.2 5 t) n v then some (1, tsI τ 29 (vlT τ s (τ.2.2 5 t) n v)) else Option.bind (t_X9_tells F 4 (Int32.ofNat t) (tsI τ 29 (vlT τ s (τ.2.2 5 t) n v))) fun q => some (1, q)) ?_ ?_ n g (tsI τ 29 v) hg ⟨hn, v, rfl, rfl⟩
  · rintro g k x ⟨hk, v', rfl, hv⟩
    have st : t_X9_takesName_L27 F s (Int32.ofNat t) (g + 1) (Int32.ofNat k) (tsI τ 29 v') = t_X9_takesName_L27_b F s (Int32.ofNat t) (t_X9_takesName_L27 F s (Int32.ofNat t) g) (Int32.ofNat k) (tsI τ 29 v') := rfl
    unfold t_X9_takesName_L27_b at st
    have h0 : ¬ Int32.ofNat k < 0 := Int32.not_lt.2 (ofNat_nn (by omega))
    rw [if_neg h0, taL_n _ 19 30 k (by omega) (by decide), Option.bind_some, taL_n _ 5 2001 t ht (by decide), Option.bind_some, taI_n _ 20 30 k (by omega) (by decide), Option.bind_some, taI_n _ 21 30 k (by omega) (by decide), Option.bind_some, nmE, nmE, nmE, tsI_tsI] at st
    refine Or.inl ⟨tsI τ 29 (if τ.2.2 19 k = τ.2.2 5 t ∧ τ.2.1 20 k = s then τ.2.1 21 k else v'), ⟨by omega, _, rfl, hv⟩, ?_⟩
    rw [st]
    by_cases e : τ.2.2 19 k = τ.2.2 5 t
    · rw [if_pos (lg_0.2 e)]
      by_cases e2 : τ.2.1 20 k = s
      · rw [if_pos e2, if_pos ⟨e, e2⟩]
        rfl
      · rw [if_neg e2, if_neg (fun z => e2 z.2)]
    · rw [if_neg (fun z => e (lg_0.1 z)), if_neg (fun z => e z.1)]
  · rintro g x ⟨-, v', rfl, hv⟩
    have st : t_X9_takesName_L27 F s (Int32.ofNat t) (g + 1) (-1) (tsI τ 29 v') = t_X9_takesName_L27_b F s (Int32.ofNat t) (t_X9_takesName_L27 F s (Int32.ofNat t) g) (-1) (tsI τ 29 v') := rfl
    unfold t_X9_takesName_L27_b at st
    have hv : v' = vlT τ s (τ.2.2 5 t) n v := hv
    rw [if_pos (show (-1 : Int32) < 0 by decide), tsI_s, hv] at st
    rw [hv]
    exact st
theorem kn_h : ∀ i, i < 16 → dvO (Int32.ofNat i) 100 = some 0 ∧ Int32.ofNat i - 0 = Int32.ofNat i ∧ Int32.ofNat i ≠ -1 := by decide +kernel
theorem kn_o : ∀ i, i < 12 → dvO (Int32.ofNat (100 + i)) 100 = some 1 ∧ Int32.ofNat (100 + i) - 100 = Int32.ofNat i ∧ Int32.ofNat (100 + i) ≠ -1 := by decide +kernel
/-- what a sub-step that reads a name or a number leaves alone -/
def KF (σ σ' : Cs) (τ τ' : Tw) : Prop := (∀ z, z ≠ 31 → z ≠ 33 → z ≠ 34 → σ'.1 z = σ.1 z) ∧ σ'.2 = σ.2 ∧ (∀ z, z ≠ 7 → z ≠ 10 → z ≠ 11 → z ≠ 29 → τ'.1 z = τ.1 z) ∧ τ'.2 = τ.2
theorem NMS.kf {nh no : Nat} (h : NMS σ τ nh no) (k : KF σ σ' τ τ') : NMS σ' τ' nh no := h.of (k.1 38 (by decide) (by decide) (by decide)) k.2.1 (k.2.2.1 25 (by decide) (by decide) (by decide) (by decide)) (by rw [k.2.2.2]) (by rw [k.2.2.2]) (by rw [k.2.2.2])
theorem NMD.of {n : Nat} (h : NMD σ n) (e : σ'.2 = σ.2) : NMD σ' n := by
  unfold NMD at *
  rw [e]
  exact h
section AT
variable {X0 : Nat → Option Ob} {B0 : Sw} {σ0 : Cs} {τ0 : Tw} {u : Nat}
/-- a name that was told, of a sort -/
theorem AT.known (hF : 100000 ≤ F) {q nh no : Nat} (h : AT c pl last ad X0 B0 σ0 τ0 u X B σ τ j) (hq : q < 2) (hN : NMS σ τ nh no) (hD : CLN σ τ → NMD σ (nh + no)) : (∃ σ' τ' x, f_X2_known F (ad 6) (Int32.ofNat (100 * q)) (cM X ad σ B) = some (.inl x, cM X ad σ' B) ∧ t_X9_takesName F (Int32.ofNat q) τ = some (1, τ') ∧ AT c pl last ad X0 B0 σ0 τ0 u X B σ' τ' (j + 1) ∧ KF σ σ' τ τ' ∧ (x = -1 ∨ ∃ i, i < (if q = 0 then nh else no) ∧ x = Int32.ofNat i) ∧ ((CLN σ' τ' ∧ CLN σ τ ∧ τ'.1 29 = x ∧ x ≠ -1) ∨ (DY pl (j + 1) σ' τ' ∧ ((x = -1 ∧ τ'.1 29 = -1) ∨ DY pl j σ' τ')))) ∨ TNO ad X0 B0 σ0 τ0 (u + 1) (f_X2_known F (ad 6) (Int32.ofNat (100 * q)) (cM X ad σ B)) (t_X9_takesName F (Int32.ofNat q) τ) := by
  have hj := h.p.1.1
  have hjl := h.p.2.2.2
  have h7 := h.p.2.2.1
  have hA := h.a
  unfold f_X2_known t_X9_takesName
  rw [oc6 h.a, Option.bind_some, nmE, h7]
  rcases h.takes (F := F) (q := 0) (by decide) with ⟨k1, k2, k3, k4, k5⟩ | hNo
  · have k3' : f_X2_must F (ad 6) 1 (cM X ad σ B) = _ := k3
    have k4' : t_X9_takes F 0 τ = _ := k4
    obtain ⟨n38, n25, n16, n12, nms⟩ := hN
    rw [k3', th_l, k4', Option.bind_some, if_neg (show ¬ (1 : Int32) = 0 by decide), nmE, nmE]
    obtain ⟨w, ew⟩ : ∃ w, w = τ.2.2 5 j := ⟨_, rfl⟩
    have hw : σ.2.2.1 5 j = w := by
      rw [ew]
      exact (h.p.1.2.1 j hjl).2.2.2.2 k1
    obtain ⟨σ1, e1⟩ : ∃ σ1, σ1 = csI σ 31 (Int32.ofNat (j + 1)) := ⟨_, rfl⟩
    obtain ⟨τ1, e2⟩ : ∃ τ1, τ1 = tsI τ 7 (Int32.ofNat (j + 1)) := ⟨_, rfl⟩
    rw [← e1, ← e2] at k5
    rw [← e1, ← e2]
    have f1 : ∀ z, z ≠ 31 → σ1.1 z = σ.1 z := fun z hz => by rw [e1]; exact csI_n _ _ _ _ hz
    have f2 : σ1.2 = σ.2 := by rw [e1]; rfl
    have g1 : ∀ z, z ≠ 7 → τ1.1 z = τ.1 z := fun z a => by rw [e2]; exact tsI_n _ _ _ _ a
    have g2 : τ1.2 = τ.2 := by rw [e2]; rfl
    obtain ⟨r, hr, hrr⟩ := find_C (X := X) (F := F) (σ := σ1) (n := nh + no) (by omega) hA (by rw [f1 38 (by decide)]; exact n38) (by omega) w
    have haL : aL (cM X ad σ1 B) 1 (ad 5) (Int32.ofNat j) = some w := by
      rw [aL5 hA σ1 j (by omega), f2, hw]
    rw [f2] at hrr
    simp only [o6_0 hA, o1_4 hA, haL, Option.bind_some, oc6 hA, hr, wrong_C hA k5.p.1 hjl]
    have hx8 : (tsI τ1 29 (-1)).1 25 - 1 = Int32.ofNat (nh + no) + (-1) := by
      rw [tsI_n _ _ _ _ (by decide), g1 25 (by decide), n25, Int32.sub_eq_add_neg]
    have hτw : τ1.2.2 5 j = w := by rw [g2, ew]
    rw [hx8, tn_L (τ := τ1) (by omega) (by omega) (-1) (by omega), hτw]
    have w1 : WR pl j σ1 τ1 := h.w.of (f1 33 (by decide)) (f1 34 (by decide)) (g1 10 (by decide)) (g1 11 (by decide))
    have hAT : ∀ v, AT c pl last ad X0 B0 σ0 τ0 u X B σ1 (tsI τ1 29 v) (j + 1) := fun v => k5.st RF.rf (TZ.i (by decide)) rfl rfl (tsI_n _ _ _ _ (by decide)) (k5.w.of rfl rfl (tsI_n _ _ _ _ (by decide)) (tsI_n _ _ _ _ (by decide)))
    have w2 : ∀ v, WR pl j σ1 (tsI τ1 29 v) := fun v => w1.of rfl rfl (tsI_n _ _ _ _ (by decide)) (tsI_n _ _ _ _ (by decide))
    have kf0 : ∀ v, KF σ σ1 τ (tsI τ1 29 v) := fun v => ⟨fun z a _ _ => f1 z a, f2, fun z a _ _ b => (tsI_n _ _ _ _ b).trans (g1 z a), g2⟩
    have kf1 : ∀ v, KF σ (wlC 4 (pl j) σ1) τ (tlT 4 (pl j) (tsI τ1 29 v)) := fun v => ⟨fun z a b d => (wlC_i b d).trans (f1 z a), wlC_2.trans f2, fun z a b d e => (tlT_i b d).trans ((tsI_n _ _ _ _ e).trans (g1 z a)), tlT_2.trans g2⟩
    have kf2 : ∀ v, KF σ (wlC 4 (pl j) σ1) τ (tsI τ1 29 v) := fun v => ⟨fun z a b d => (wlC_i b d).trans (f1 z a), wlC_2.trans f2, fun z a _ _ e => (tsI_n _ _ _ _ e).trans (g1 z a), g2⟩
    -- the same name, of this sort
    have good : ∀ i k, k < nh + no → i < (if q = 0 then nh else no) → τ.2.2 19 k = w ∧ τ.2.1 20 k = Int32.ofNat q → (∀ i, i < k → σ.2.2.1 7 i ≠ w) → τ.2.1 21 k = Int32.ofNat i → vlT τ1 (Int32.ofNat q) w (nh + no) (-1) = Int32.ofNat i := fun i k hk hi h1 h2 h3 => by
      have := vl_one (τ := τ1) (s := Int32.ofNat q) (w := w) (k := k) (n := nh + no) (v := -1) (by rw [g2]; exact h1) (fun i' hi' z => by
        rw [g2] at z
        exact h2 i' hi' ((nms i' (by omega)).1.trans z.1)) hk
      rw [this, g2, h3]
    -- the other cases: both note it
    have bad : (CLN σ τ → ∀ k, k < nh + no → ¬ (τ.2.2 19 k = w ∧ τ.2.1 20 k = Int32.ofNat q)) → (∃ σ' τ' x, (some (.inl (-1), cM X ad (wlC 4 (pl j) σ1) B) : Option ((Int32 ⊕ Nat) × Sw)) = some (.inl x, cM X ad σ' B) ∧ (if 0 ≤ vlT τ1 (Int32.ofNat q) w (nh + no) (-1) then some ((1 : Int32), tsI τ1 29 (vlT τ1 (Int32.ofNat q) w (nh + no) (-1))) else Option.bind (t_X9_tells F 4 (Int32.ofNat j) (tsI τ1 29 (vlT τ1 (Int32.ofNat q) w (nh + no) (-1)))) fun q => some (1, q)) = some (1, τ') ∧ AT c pl last ad X0 B0 σ0 τ0 u X B σ' τ' (j + 1) ∧ KF σ σ' τ τ' ∧ (x = -1 ∨ ∃ i, i < (if q = 0 then nh else no) ∧ x = Int32.ofNat i) ∧ ((CLN σ' τ' ∧ CLN σ τ ∧ τ'.1 29 = x ∧ x ≠ -1) ∨ (DY pl (j + 1) σ' τ' ∧ ((x = -1 ∧ τ'.1 29 = -1) ∨ DY pl j σ' τ')))) := by
      intro hb
      rw [tells_T (hAT _).p.1 hjl, Option.bind_some]
      rcases h.w with hc | hd
      · have e0 := vl_no (τ := τ1) (s := Int32.ofNat q) (w := w) (n := nh + no) (v := -1) (fun k hk => by rw [g2]; exact hb hc k hk)
        have dd : DY pl (j + 1) (wlC 4 (pl j) σ1) (tlT 4 (pl j) (tsI τ1 29 (-1))) := (w2 (-1)).both (hAT (-1)).p.1 hjl (by decide)
        rw [e0, if_neg (show ¬ (0 : Int32) ≤ -1 by decide)]
        exact ⟨_, _, _, rfl, rfl, (hAT (-1)).st wlC_RF tlT_TZ (wlC_i (by decide) (by decide)) (wlC_i (by decide) (by decide)) (tlT_i (by decide) (by decide)) (Or.inr dd), kf1 (-1), Or.inl rfl, Or.inr ⟨dd, Or.inl ⟨rfl, (tlT_i (by decide) (by decide)).trans (tsI_s _ _ _)⟩⟩⟩
      · obtain ⟨v, ev⟩ : ∃ v, v = vlT τ1 (Int32.ofNat q) w (nh + no) (-1) := ⟨_, rfl⟩
        rw [← ev]
        have d1 : DY pl j σ1 (tsI τ1 29 v) := hd.of (f1 33 (by decide)) (f1 34 (by decide)) ((tsI_n _ _ _ _ (by decide)).trans (g1 10 (by decide))) ((tsI_n _ _ _ _ (by decide)).trans (g1 11 (by decide)))
        rw [d1.t (hAT v).p.1 hjl, ite_self, d1.w (hAT v).p.1 hjl]
        exact ⟨_, _, _, rfl, rfl, hAT v, kf0 v, Or.inl rfl, Or.inr ⟨d1.up (Nat.le_succ _), Or.inr d1⟩⟩
    -- the same name stands once
    rcases hrr with ⟨k, hk, ek, hbk, er⟩ | ⟨hnone, er⟩
    · obtain ⟨m1, i, m2⟩ := nms k hk
      have okc : ∀ i, i < (if q = 0 then nh else no) → vlT τ1 (Int32.ofNat q) w (nh + no) (-1) = Int32.ofNat i → (∃ σ' τ' x, (some (.inl (Int32.ofNat i), cM X ad σ1 B) : Option ((Int32 ⊕ Nat) × Sw)) = some (.inl x, cM X ad σ' B) ∧ (if 0 ≤ vlT τ1 (Int32.ofNat q) w (nh + no) (-1) then some ((1 : Int32), tsI τ1 29 (vlT τ1 (Int32.ofNat q) w (nh + no) (-1))) else Option.bind (t_X9_tells F 4 (Int32.ofNat j) (tsI τ1 29 (vlT τ1 (Int32.ofNat q) w (nh + no) (-1)))) fun q => some (1, q)) = some (1, τ') ∧ AT c pl last ad X0 B0 σ0 τ0 u X B σ' τ' (j + 1) ∧ KF σ σ' τ τ' ∧ (x = -1 ∨ ∃ i, i < (if q = 0 then nh else no) ∧ x = Int32.ofNat i) ∧ ((CLN σ' τ' ∧ CLN σ τ ∧ τ'.1 29 = x ∧ x ≠ -1) ∨ (DY pl (j + 1) σ' τ' ∧ ((x = -1 ∧ τ'.1 29 = -1) ∨ DY pl j σ' τ')))) := by
        intro i hi ei
        have hi16 : i < 16 := by
          by_cases q0 : q = 0
          · rw [if_pos q0] at hi; omega
          · rw [if_neg q0] at hi; omega
        rw [ei, if_pos (ofNat_nn (by omega))]
        refine ⟨_, _, _, rfl, rfl, hAT _, kf0 _, Or.inr ⟨i, hi, rfl⟩, ?_⟩
        rcases h.w with hc | hd
        · exact Or.inl ⟨hc.of (f1 33 (by decide)) ((tsI_n _ _ _ _ (by decide)).trans (g1 10 (by decide))), hc, tsI_s _ _ _, (kn_h i hi16).2.2⟩
        · have d1 : DY pl j σ1 (tsI τ1 29 (Int32.ofNat i)) := hd.of (f1 33 (by decide)) (f1 34 (by decide)) ((tsI_n _ _ _ _ (by decide)).trans (g1 10 (by decide))) ((tsI_n _ _ _ _ (by decide)).trans (g1 11 (by decide)))
          exact Or.inr ⟨d1.up (Nat.le_succ _), Or.inr d1⟩
      -- another sort: no other name is the same while nothing is noted
      have oth : τ.2.1 20 k ≠ Int32.ofNat q → CLN σ τ → ∀ k, k < nh + no → ¬ (τ.2.2 19 k = w ∧ τ.2.1 20 k = Int32.ofNat q) := fun hs hc k' hk' z => by
        have : k' = k := hD hc k' k hk' hk (by rw [ek, (nms k' hk').1, z.1])
        rw [this] at z
        exact hs z.2
      rcases m2 with ⟨i1, i2, i3, i4⟩ | ⟨i1, i2, i3, i4⟩
      · obtain ⟨x1, x2, x3⟩ := kn_h i (by omega)
        rw [er, i4, if_neg x3, x1, Option.bind_some]
        by_cases q0 : q = 0
        · subst q0
          rw [if_pos (show (0 : Int32) * 100 = Int32.ofNat (100 * 0) from rfl), show Int32.ofNat i - Int32.ofNat (100 * 0) = Int32.ofNat i from x2]
          exact Or.inl (okc i (by rw [if_pos rfl]; exact i1) (good i k hk (by rw [if_pos rfl]; exact i1) ⟨m1.symm.trans ek, i2⟩ hbk i3))
        · have q1 : q = 1 := by omega
          subst q1
          rw [if_neg (show ¬ (0 : Int32) * 100 = Int32.ofNat (100 * 1) by decide)]
          exact Or.inl (bad (oth (by rw [i2]; decide)))
      · obtain ⟨x1, x2, x3⟩ := kn_o i (by omega)
        rw [er, i4, if_neg x3, x1, Option.bind_some]
        by_cases q0 : q = 0
        · subst q0
          rw [if_neg (show ¬ (1 : Int32) * 100 = Int32.ofNat (100 * 0) by decide)]
          exact Or.inl (bad (oth (by rw [i2]; decide)))
        · have q1 : q = 1 := by omega
          subst q1
          rw [if_pos (show (1 : Int32) * 100 = Int32.ofNat (100 * 1) from rfl), show Int32.ofNat (100 + i) - Int32.ofNat (100 * 1) = Int32.ofNat i from x2]
          exact Or.inl (okc i (by rw [if_neg (by decide)]; exact i1) (good i k hk (by rw [if_neg (by decide)]; exact i1) ⟨m1.symm.trans ek, i2⟩ hbk i3))
    · rw [er, if_pos rfl]
      exact Or.inl (bad fun _ k hk z => hnone k hk ((nms k hk).1.trans z.1))
  · obtain ⟨e, X2, B2, σ2, τ2, k, p, a1, a2, a3⟩ := hNo
    have a1' : f_X2_must F (ad 6) 1 (cM X ad σ B) = _ := a1
    have a2' : t_X9_takes F 0 τ = _ := a2
    rw [a1', th_r, a2', Option.bind_some, if_pos rfl]
    exact Or.inr ⟨e, X2, B2, σ2, τ2, k, p, rfl, rfl, a3⟩
end AT
