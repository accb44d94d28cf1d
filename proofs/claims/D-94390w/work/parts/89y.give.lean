set_option maxRecDepth 100000
/-! 5: give -/
variable {X : Nat → Option Ob} {ad ad' : Nat → Nat} {B B' : Sw} {A A' : Av} {σ σ' : Cs} {τ : Tw} {F : Nat}
/-- a row of offices, of which one is given away -/
def gvF (c : Int32) (f : Nat → Int32) : Nat → Int32 := fun i => if i < 16 ∧ f i = c then -1 else f i
/-- an array of 16 ints gives: any memory of it, as a function of the array's contents -/
theorem gives_m {M : (Nat → Int32) → Sw} {a h : Nat} {c : Int32} (hF : 100 ≤ F) (hh : h < 16) (hr : ∀ f k, k < 16 → aI (M f) 0 a (Int32.ofNat k) = some (f k)) (hw : ∀ f k v, k < 16 → sI (M f) 0 a (Int32.ofNat k) v = some (M (upd f k v))) (f : Nat → Int32) : f_X0_gives F a (Int32.ofNat h) c (M f) = some (M (upd (if c = -1 then f else gvF c f) h c)) := by
  unfold f_X0_gives
  by_cases hc : c = -1
  · obtain ⟨m, rfl⟩ : ∃ m, F = m + 1 := ⟨F - 1, by omega⟩
    show f_X0_gives_L2_b (m + 1) a (Int32.ofNat h) c (f_X0_gives_L2 (m + 1) a (Int32.ofNat h) c m) (Int32.ofNat 0) (M f) = _
    unfold f_X0_gives_L2_b
    rw [if_neg (show ¬ (16 : Int32) ≤ Int32.ofNat 0 by decide), if_pos hc, hw f h c hh, if_pos hc]
    rfl
  · rw [if_neg hc]
    refine for_up (L := fun n i (s : Nat → Int32) => f_X0_gives_L2 F a (Int32.ofNat h) c n i (M s)) (N := 16) (Inv := fun k s => ∀ i, s i = if i < k ∧ f i = c then -1 else f i) (Post := fun r => r = some (M (upd (gvF c f) h c))) ?_ ?_ 16 0 F f (Nat.zero_add _) (by omega) (fun i => by rw [if_neg (fun q => Nat.not_lt_zero i q.1)])
    · intro n k s hk hs
      have sk : s k = f k := by rw [hs k, if_neg (fun q => Nat.lt_irrefl k q.1)]
      have st : f_X0_gives_L2 F a (Int32.ofNat h) c (n + 1) (Int32.ofNat k) (M s) = f_X0_gives_L2_b F a (Int32.ofNat h) c (f_X0_gives_L2 F a (Int32.ofNat h) c n) (Int32.ofNat k) (M s) := rfl
      unfold f_X0_gives_L2_b at st
      rw [if_neg (fun q => by have := (c_le 16 k (by omega) (by omega)).1 q; omega), if_neg hc, hr s k (by omega), Option.bind_some, sk, hw s k (-1) (by omega), Option.bind_some, nmE, nmE, n_lp 1 k] at st
      by_cases e : f k = c
      · rw [if_pos e] at st
        refine Or.inl ⟨upd s k (-1), fun i => ?_, st⟩
        by_cases ei : i = k
        · rw [ei, up_s, if_pos ⟨Nat.lt_succ_self k, e⟩]
        · rw [up_n _ _ _ _ ei, hs i]
          by_cases q : i < k ∧ f i = c
          · rw [if_pos q, if_pos ⟨by omega, q.2⟩]
          · rw [if_neg q, if_neg (fun z => q ⟨by omega, z.2⟩)]
      · rw [if_neg e] at st
        refine Or.inl ⟨s, fun i => ?_, st⟩
        rw [hs i]
        by_cases q : i < k ∧ f i = c
        · rw [if_pos q, if_pos ⟨by omega, q.2⟩]
        · rw [if_neg q, if_neg (fun z => q ⟨by
            by_cases ei : i = k
            · rw [ei] at z; exact absurd z.2 e
            · omega, z.2⟩)]
    · intro n s hs
      have hsf : s = gvF c f := funext hs
      show f_X0_gives_L2_b F a (Int32.ofNat h) c (f_X0_gives_L2 F a (Int32.ofNat h) c n) (Int32.ofNat 16) (M s) = _
      unfold f_X0_gives_L2_b
      rw [if_pos (show (16 : Int32) ≤ Int32.ofNat 16 by decide), hw s h c hh, Option.bind_some, hsf]
theorem gives_C (hF : 100 ≤ F) (hA : AdOK ad B) {h : Nat} {c : Int32} (hh : h < 16) : f_X0_gives F (ad 48) (Int32.ofNat h) c (cM X ad σ B) = some (cM X ad (csA σ 48 (upd (if c = -1 then σ.2.1 48 else gvF c (σ.2.1 48)) h c)) B) := by
  have := gives_m (F := F) (M := fun f => cM X ad (csA σ 48 f) B) (a := ad 48) (h := h) (c := c) hF hh (fun f k hk => by rw [a48 hA _ k hk, csA_s]) (fun f k v hk => by rw [s48 hA _ k v hk, csA_csA, csA_s]; rfl) (σ.2.1 48)
  rw [csA_id] at this
  exact this
/-- who holds an office: the first of all -/
theorem sHol_at (A : Av) (c : Int32) : ∀ (n h : Nat), (∃ k, h ≤ k ∧ k < h + n ∧ A 7 (30 + k) = c ∧ sHol A c h n = Int32.ofNat k) ∨ ((∀ k, h ≤ k → k < h + n → A 7 (30 + k) ≠ c) ∧ sHol A c h n = -2) := by
  intro n
  induction n with
  | zero => intro h; exact Or.inr ⟨fun k a b => by omega, rfl⟩
  | succ n ih =>
    intro h
    show (∃ k, h ≤ k ∧ k < h + (n + 1) ∧ A 7 (30 + k) = c ∧ (if A 7 (30 + h) = c then Int32.ofNat h else sHol A c (h + 1) n) = Int32.ofNat k) ∨ ((∀ k, h ≤ k → k < h + (n + 1) → A 7 (30 + k) ≠ c) ∧ (if A 7 (30 + h) = c then Int32.ofNat h else sHol A c (h + 1) n) = -2)
    by_cases e : A 7 (30 + h) = c
    · rw [if_pos e]
      exact Or.inl ⟨h, Nat.le_refl _, by omega, e, rfl⟩
    · rw [if_neg e]
      rcases ih (h + 1) with ⟨k, a, b, d, q⟩ | ⟨a, q⟩
      · exact Or.inl ⟨k, by omega, by omega, d, q⟩
      · refine Or.inr ⟨fun k x y => ?_, q⟩
        by_cases ek : k = h
        · rw [ek]; exact e
        · exact a k (by omega) (by omega)
/-- the row that lives after an office was given (o: its number, or -1) -/
def gvL (L : Nat → Int32) (h : Nat) (c : Int32) : Nat → Int32 := fun k => if k = 30 + h then (if c = -1 then -2 else c) else if c ≠ -1 ∧ 30 ≤ k ∧ k < 46 ∧ L k = c then -2 else L k
theorem gives_T (hF : 1000 ≤ F) (hW : WF A) (hT : TR A τ) {h o : Nat} (hh : h < zN A 6 0) (ho : o < zN A 6 1) : t_X9_gives F (Int32.ofNat h) (Int32.ofNat o) τ = some (twA τ 7 (gvL (A 7) h (Int32.ofNat o))) := by
  obtain ⟨eH, lH⟩ := hW.H
  obtain ⟨eO, lO⟩ := hW.O
  obtain ⟨⟨m0, m1, m2⟩, w1, w2, w3, w4, w5, w6⟩ := hW.2.2.1
  have nm2 : Int32.ofNat o ≠ -2 := ofNat_ne_m2 (by omega)
  have nm1 : Int32.ofNat o ≠ -1 := ofNat_ne_m1 (by omega)
  have big : ∀ k, k < 16 → A 7 (30 + k) = Int32.ofNat o → k < zN A 6 0 := fun k hk e => by
    rcases w2 k hk with q | ⟨-, -, q⟩
    · exact absurd (e.symm.trans q) nm2
    · exact q
  unfold t_X9_gives
  rw [holderOf_T hF hW hT, Option.bind_some]
  rcases sHol_at A (Int32.ofNat o) (zN A 6 0) 0 with ⟨k, k1, k2, k3, k4⟩ | ⟨k1, k2⟩
  · rw [k4, if_neg (Int32.not_lt.2 (ofNat_nn (by omega)))]
    simp (disch := omega) only [Option.bind_some, Option.bind_none, nmE, n_pp, n_pl, n_lp, n_mm, n_ml, n_lm, taI_n, taI_l, tsA_n, tsA_l, nar0, twA_1, twA_s, twA_n, twA_2, twA_twA, tsI_s, tsI_n, tsI_2, c_le, c_le_l, c_le_r, c_lt, c_lt_l, c_lt_r, c_eq, c_eq_l, c_eq_r, if_true, if_false, if_pos, if_neg, hT.2 7 rfl]
    refine congrArg (fun f => some (twA τ 7 f)) (funext fun i => ?_)
    unfold gvL
    by_cases e1 : i = 30 + h
    · rw [e1, up_s, if_pos rfl, if_neg nm1]
    · rw [up_n _ _ _ _ e1, if_neg e1]
      by_cases e2 : i = 30 + k
      · rw [e2, up_s, if_pos ⟨nm1, by omega, by omega, k3⟩]
      · rw [up_n _ _ _ _ e2, if_neg]
        intro q
        obtain ⟨q1, q2, q3, q4⟩ := q
        obtain ⟨j, rfl⟩ : ∃ j, i = 30 + j := ⟨i - 30, by omega⟩
        rcases w3 j k (by omega) (by omega) (q4.trans k3.symm) with z | z
        · exact nm2 (q4.symm.trans z)
        · omega
  · rw [k2, if_pos (show (-2 : Int32) < 0 by decide)]
    simp (disch := omega) only [Option.bind_some, Option.bind_none, nmE, n_pp, n_pl, n_lp, n_mm, n_ml, n_lm, taI_n, taI_l, tsA_n, tsA_l, nar0, twA_1, twA_s, twA_n, twA_2, twA_twA, tsI_s, tsI_n, tsI_2, c_le, c_le_l, c_le_r, c_lt, c_lt_l, c_lt_r, c_eq, c_eq_l, c_eq_r, if_true, if_false, if_pos, if_neg, hT.2 7 rfl]
    refine congrArg (fun f => some (twA τ 7 f)) (funext fun i => ?_)
    unfold gvL
    by_cases e1 : i = 30 + h
    · rw [e1, up_s, if_pos rfl, if_neg nm1]
    · rw [up_n _ _ _ _ e1, if_neg e1, if_neg]
      intro q
      obtain ⟨q1, q2, q3, q4⟩ := q
      obtain ⟨j, rfl⟩ : ∃ j, i = 30 + j := ⟨i - 30, by omega⟩
      have := big j (by omega) q4
      exact k1 j (by omega) (by omega) q4
theorem gvL_at {L : Nat → Int32} {h i : Nat} {c : Int32} (hi : i < 16) : gvL L h c (30 + i) = if i = h then (if c = -1 then -2 else c) else if c ≠ -1 ∧ L (30 + i) = c then -2 else L (30 + i) := by
  unfold gvL
  by_cases z : i = h
  · rw [if_pos (by omega), if_pos z]
  · rw [if_neg (by omega), if_neg z]
    by_cases y : c ≠ -1 ∧ L (30 + i) = c
    · rw [if_pos y, if_pos ⟨y.1, by omega, by omega, y.2⟩]
    · rw [if_neg y, if_neg (fun q => y ⟨q.1, q.2.2.2⟩)]
/-- the component's row of offices follows -/
theorem gv_rel {L f : Nat → Int32} (hf : ∀ i, i < 16 → f i = if L (30 + i) = -2 then -1 else L (30 + i)) {h : Nat} {c : Int32} (h2 : c ≠ -2) (hL : ∀ i, i < 16 → L (30 + i) ≠ -1) : ∀ i, i < 16 → upd (if c = -1 then f else gvF c f) h c i = if gvL L h c (30 + i) = -2 then -1 else gvL L h c (30 + i) := by
  intro i hi
  rw [gvL_at hi]
  by_cases e1 : i = h
  · rw [if_pos e1, e1, up_s]
    by_cases hc : c = -1
    · rw [if_pos hc, if_pos rfl, hc]
    · rw [if_neg hc, if_neg h2]
  · rw [if_neg e1, up_n _ _ _ _ e1]
    by_cases hc : c = -1
    · rw [if_pos hc]
      have : ¬ (c ≠ -1 ∧ L (30 + i) = c) := fun q => q.1 hc
      rw [if_neg this]
      exact hf i hi
    · rw [if_neg hc]
      unfold gvF
      have fi := hf i hi
      by_cases e2 : L (30 + i) = c
      · have : c ≠ -1 ∧ L (30 + i) = c := ⟨hc, e2⟩
        rw [if_pos this, if_pos rfl]
        rw [if_neg (fun q => h2 (e2.symm.trans q)), e2] at fi
        rw [if_pos ⟨hi, fi⟩]
      · have : ¬ (c ≠ -1 ∧ L (30 + i) = c) := fun q => e2 q.2
        rw [if_neg this, ← fi]
        have : ¬ (i < 16 ∧ f i = c) := fun q => by
          have q := q.2
          rw [fi] at q
          by_cases z : L (30 + i) = -2
          · rw [if_pos z] at q; exact hc q.symm
          · rw [if_neg z] at q; exact e2 q
        rw [if_neg this]
theorem gvL_o {L : Nat → Int32} {h : Nat} {c : Int32} (hh : h < 16) {k : Nat} (hk : k < 30 ∨ 46 ≤ k) : gvL L h c k = L k := by
  unfold gvL
  rw [if_neg (by omega), if_neg (fun q => by omega)]
/-- the relations after an office was given -/
theorem give_rel (hE : EV ad B A) (hC : CR ad B A σ) {h : Nat} {c : Int32} (hh : h < zN A 6 0) (hc : c = -1 ∨ ∃ o, o < zN A 6 1 ∧ c = Int32.ofNat o) : CR ad B (aw A 7 (gvL (A 7) h c)) (csA σ 48 (upd (if c = -1 then σ.2.1 48 else gvF c (σ.2.1 48)) h c)) ∧ WF (aw A 7 (gvL (A 7) h c)) := by
  obtain ⟨eH, lH⟩ := hE.2.2.H
  obtain ⟨eO, lO⟩ := hE.2.2.O
  have hW := hE.2.2
  obtain ⟨⟨m0, m1, m2⟩, w1, w2, w3, w4, w5, w6⟩ := hW.2.2.1
  have c2 : c ≠ -2 := by
    rcases hc with e | ⟨o, lo, e⟩
    · rw [e]; decide
    · rw [e]; exact ofNat_ne_m2 (by omega)
  have h16 : h < 16 := by omega
  have n1 : ∀ i, i < 16 → A 7 (30 + i) ≠ -1 := fun i hi e => by
    rcases w2 i hi with q | ⟨q, -⟩
    · rw [e] at q; exact absurd q (by decide)
    · rw [e] at q; exact absurd q.1 (by decide)
  have hL : ∀ k, ¬ liv k → gvL (A 7) h c k = A 7 k := fun k hk => gvL_o h16 (by unfold liv at hk; omega)
  have of30 : ∀ i, i < 16 → gvL (A 7) h c (30 + i) = -2 ∨ (isN (gvL (A 7) h c (30 + i)) 11 ∧ (gvL (A 7) h c (30 + i)).toNatClampNeg < zN A 6 1 ∧ i < zN A 6 0) := fun i hi => by
    unfold gvL
    by_cases e1 : i = h
    · rw [if_pos (by omega)]
      rcases hc with e | ⟨o, lo, e⟩
      · rw [if_pos e]; exact Or.inl rfl
      · rw [if_neg (by rw [e]; exact ofNat_ne_m1 (by omega)), e]
        exact Or.inr ⟨isN.of (by omega) (by omega), by rw [i_cl (n := 1000) (by omega) (by omega)]; exact lo, by omega⟩
    · rw [if_neg (by omega)]
      by_cases e2 : c ≠ -1 ∧ 30 ≤ 30 + i ∧ 30 + i < 46 ∧ A 7 (30 + i) = c
      · rw [if_pos e2]; exact Or.inl rfl
      · rw [if_neg e2]; exact w2 i hi
  refine ⟨CR.hw hC hL (sC.a (Or.inr (Or.inr (Or.inl rfl)))) ?_ ?_ ?_ ?_, WF.hw hW hL ?_ ?_ of30 ?_ ?_⟩
  · rw [gvL_o h16 (by omega)]; exact hC.1.2.2.2.2
  · intro i hi
    rw [gvL_o h16 (by omega), csA_n _ _ _ _ (by decide)]
    exact hC.2.2.2.1 i hi
  · intro i hi
    rw [csA_s]
    exact gv_rel hC.2.2.2.2.1 c2 n1 i hi
  · intro i hi
    rw [gvL_o h16 (by omega), csA_n _ _ _ _ (by decide)]
    exact hC.2.2.2.2.2.1 i hi
  · rw [gvL_o h16 (by omega)]; exact m0
  · intro i hi
    rw [gvL_o h16 (by omega)]; exact w1 i hi
  · intro i j hi hj e
    have gi := gvL_at (L := A 7) (h := h) (c := c) hi
    have gj := gvL_at (L := A 7) (h := h) (c := c) hj
    rw [gi, gj] at e
    rw [gi]
    by_cases z1 : i = h
    · by_cases z2 : j = h
      · exact Or.inr (by omega)
      · rw [if_pos z1, if_neg z2] at e
        rw [if_pos z1]
        by_cases y : c = -1
        · rw [if_pos y]; exact Or.inl rfl
        · rw [if_neg y] at e ⊢
          by_cases y2 : A 7 (30 + j) = c
          · rw [if_pos ⟨y, y2⟩] at e; exact Or.inl e
          · rw [if_neg (fun q => y2 q.2)] at e; exact absurd e.symm y2
    · rw [if_neg z1] at e ⊢
      by_cases y1 : c ≠ -1 ∧ A 7 (30 + i) = c
      · rw [if_pos y1]; exact Or.inl rfl
      · rw [if_neg y1] at e ⊢
        by_cases z2 : j = h
        · rw [if_pos z2] at e
          by_cases y : c = -1
          · rw [if_pos y] at e; exact Or.inl e
          · rw [if_neg y] at e; exact absurd ⟨y, e⟩ y1
        · rw [if_neg z2] at e
          by_cases y2 : c ≠ -1 ∧ A 7 (30 + j) = c
          · rw [if_pos y2] at e; exact Or.inl e
          · rw [if_neg y2] at e; exact w3 i j hi hj e
  · intro i hi
    rw [gvL_o h16 (by omega)]; exact w4 i hi
/-- 5: give -/
theorem st_5 (hF : 1000000 ≤ F) (h : INV ad B A σ τ) (x : Nat → Int32) : ST F 5 x X ad B σ τ := by
  have hI := h
  obtain ⟨hE, hK, hC, hT⟩ := h
  have hA := hE.1
  have hW := hE.2.2
  obtain ⟨eH, lH⟩ := hW.H
  have h1 : stC F 5 (ad 0) x (cM X ad σ B) = f_X0_give F (ad 0) (x 1) (x 2) (cM X ad σ B) := rfl
  have h2 : stT F 5 x τ = t_X9_give F (x 1) (x 2) τ := rfl
  unfold f_X0_give at h1
  unfold t_X9_give at h2
  rw [oc0 hA, Option.bind_some, isHouse_C hE, Option.bind_some, gd, o0_4 hA, Option.bind_some, o46_1 hA, Option.bind_some, Option.bind_some, isOffice_C hE, Option.bind_some, gd] at h1
  rw [isHouse_T hW hT, Option.bind_some, gd, isOffice_T hW hT, Option.bind_some, gd] at h2
  by_cases c1 : inN (x 1) (zN A 6 0)
  · rw [if_pos c1] at h1 h2
    obtain ⟨a, la, ea⟩ := c1.ex
    rw [ea, gives_C (c := x 2) (by omega) hA (by omega), Option.bind_some] at h1
    rw [ea] at h2
    by_cases c2 : x 2 = -1
    · rw [if_pos c2] at h1 h2
      have g := give_rel hE hC la (Or.inl c2)
      have t : t_X9_give_j23 F (Int32.ofNat a) (x 2) τ = some (1, twA τ 7 (gvL (A 7) a (x 2))) := by
        unfold t_X9_give_j23
        rw [c2, if_neg (by decide)]
        simp (disch := omega) only [Option.bind_some, Option.bind_none, nmE, n_pp, n_pl, n_lp, n_mm, n_ml, n_lm, taI_n, taI_l, tsA_n, tsA_l, nar0, twA_1, twA_s, twA_n, twA_2, twA_twA, tsI_s, tsI_n, tsI_2, c_le, c_le_l, c_le_r, c_lt, c_lt_l, c_lt_r, c_eq, c_eq_l, c_eq_r, if_true, if_false, if_pos, if_neg, hT.2 7 rfl]
        refine congrArg (fun f => some ((1 : Int32), twA τ 7 f)) (funext fun i => ?_)
        unfold gvL
        by_cases e : i = 30 + a
        · rw [e, up_s, if_pos rfl, if_pos rfl]
        · rw [up_n _ _ _ _ e, if_neg e, if_neg (fun q => q.1 rfl)]
      exact ST.rw hI h1 (h2.trans t) (hE.2.1.aw rfl) g.2 g.1 (hT.W (by decide))
    · rw [if_neg c2] at h1 h2
      by_cases c3 : inN (x 2) (zN A 6 1)
      · rw [if_pos c3] at h1 h2
        obtain ⟨o, lo, eo⟩ := c3.ex
        have lO := hW.O.2
        have g := give_rel hE hC la (Or.inr ⟨o, lo, eo⟩)
        have t : t_X9_give_j23 F (Int32.ofNat a) (x 2) τ = some (1, twA τ 7 (gvL (A 7) a (x 2))) := by
          unfold t_X9_give_j23
          rw [eo, if_pos (ofNat_nn (by omega)), gives_T (by omega) hW hT la lo]
          rfl
        exact ST.rw hI h1 (h2.trans t) (hE.2.1.aw rfl) g.2 g.1 (hT.W (by decide))
      · rw [if_neg c3] at h1 h2
        exact ST.ro hI h1 h2 hC hT
  · rw [if_neg c1] at h1 h2
    exact ST.ro hI h1 h2 hC hT
