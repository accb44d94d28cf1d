set_option maxRecDepth 100000
/-! one token: the component's words -/
variable {X : Nat → Option Ob} {ad : Nat → Nat} {B : Sw} {A : Av} {σ : Cs} {τ : Tw} {F : Nat} {b : Nat → Nat} {n : Nat}
/-- the letters from i to e are word q -/
def isWd (b : Nat → Nat) (i m q : Nat) : Prop := wl.getD q 0 = m ∧ ∀ j, j < m → b (i + j) = wbn q j
theorem isWd_v {i m q : Nat} (hq : q < 26) (hl : ∀ j, j < m → isL (b (i + j))) : isWd b i m q ↔ wcL.getD q 0 = wv b i m := by
  constructor
  · rintro ⟨h1, h2⟩
    rw [← wb_v q hq, h1]
    exact wv_congr m (fun j hj => by rw [Nat.zero_add]; exact (h2 j hj).symm)
  · intro h
    rw [← wb_v q hq] at h
    obtain ⟨e, h2⟩ := wv_inj (f := wbn q) (g := b) (i := 0) (j := i) (wl.getD q 0) m (fun j hj => by rw [Nat.zero_add]; exact (wb_l q hq j hj).1) hl h
    exact ⟨e, fun j hj => by have := h2 j (by omega); rw [Nat.zero_add] at this; exact this.symm⟩
theorem is_C (hF : 100000 ≤ F) (hA : AdOK ad B) (hT : TP b n) (hc : TPc σ b n) {i m q : Nat} (hq : q < 26) (him : i + m ≤ n) (hl : ∀ j, j < m → isL (b (i + j))) : f_X1_is F (ad 1) q (Int32.ofNat i) (Int32.ofNat (i + m)) (cM X ad σ B) = some (if wcL.getD q 0 = wv b i m then 1 else 0, cM X ad σ B) := by
  have hn := hT.1
  have hwl := wl_1 q hq
  have hw := isWd_v (b := b) (i := i) (m := m) hq hl
  unfold f_X1_is
  have sl : sLen q = some (Int32.ofNat (wl.getD q 0)) := if_pos hq
  rw [sl, Option.bind_some, n_ss _ _ (Nat.le_add_right i m), Nat.add_sub_cancel_left]
  have done0 : ∀ f k, (∃ j, j < m ∧ b (i + j) ≠ wbn q j) → k < 2000 → f_X1_is_L20_b F (ad 1) q (Int32.ofNat i) (f_X1_is_L20 F (ad 1) q (Int32.ofNat i) f) 0 (Int32.ofNat k) (cM X ad σ B) = some (if wcL.getD q 0 = wv b i m then 1 else 0, cM X ad σ B) := by
    rintro f k ⟨j, hj, hne⟩ hk
    have hno : ¬ wcL.getD q 0 = wv b i m := fun z => hne ((hw.2 z).2 j hj)
    unfold f_X1_is_L20_b
    rw [sl, Option.bind_some, if_neg hno]
    by_cases z : Int32.ofNat (wl.getD q 0) ≤ Int32.ofNat k
    · rw [if_pos z, if_pos (by decide)]
    · rw [if_neg z, if_pos rfl, if_pos (by decide)]
  by_cases hm : wl.getD q 0 = m
  · rw [if_pos (by rw [hm])]
    refine for_up (L := fun f k s => f_X1_is_L20 F (ad 1) q (Int32.ofNat i) f s k (cM X ad σ B)) (N := m) (Inv := fun k s => (s = 1 ∧ ∀ j, j < k → b (i + j) = wbn q j) ∨ (s = 0 ∧ ∃ j, j < m ∧ b (i + j) ≠ wbn q j)) (Post := fun r => r = some (if wcL.getD q 0 = wv b i m then 1 else 0, cM X ad σ B)) ?_ ?_ m 0 F 1 (by omega) (by omega) (Or.inl ⟨rfl, fun j hj => absurd hj (Nat.not_lt_zero j)⟩)
    · intro f k s hk hs
      show (∃ s', _ ∧ f_X1_is_L20_b F (ad 1) q (Int32.ofNat i) (f_X1_is_L20 F (ad 1) q (Int32.ofNat i) f) s (Int32.ofNat k) (cM X ad σ B) = _) ∨ f_X1_is_L20_b F (ad 1) q (Int32.ofNat i) (f_X1_is_L20 F (ad 1) q (Int32.ofNat i) f) s (Int32.ofNat k) (cM X ad σ B) = _
      rcases hs with ⟨rfl, h1⟩ | ⟨rfl, h1⟩
      · have g0 : ¬ Int32.ofNat (wl.getD q 0) ≤ Int32.ofNat k := fun z => by
          have := (c_le _ _ (by omega) (by omega)).1 z
          omega
        have hch : sChr q (Int32.ofNat k) = some (Int32.ofNat (wbn q k)) := by
          unfold sChr
          rw [if_pos hq, if_neg (Int32.not_lt.2 (ofNat_nn (by omega))), if_pos ((c_lt k _ (by omega) (by omega)).2 (by omega)), i_cl (n := 100) (by omega) (by omega), (wb_l q hq k (by omega)).2]
        have hlk := hl k hk
        have hwk := (wb_l q hq k (by omega)).1
        have hb : (cM X ad σ B).1 = (cM X ad σ B).1 := rfl
        refine Or.inl ?_
        unfold f_X1_is_L20_b
        rw [sl, Option.bind_some, if_neg g0, if_neg (by decide), hch, Option.bind_some, o1_0 hA, Option.bind_some, n_pp, a2 hA σ (i + k) (by omega), Option.bind_some, hc.2 (i + k) (by omega), cb_lo (by omega)]
        by_cases e : wbn q k = b (i + k)
        · rw [if_pos (by rw [e]), nmE, n_lp]
          refine ⟨1, Or.inl ⟨rfl, fun j hj => ?_⟩, rfl⟩
          by_cases ej : j = k
          · rw [ej, e]
          · exact h1 j (by omega)
        · rw [if_neg (fun z => e ((c_eq _ _ (by omega) (by omega)).1 z)), nmE, n_lp]
          exact ⟨0, Or.inr ⟨rfl, k, hk, fun z => e z.symm⟩, rfl⟩
      · exact Or.inr (done0 f k h1 (by omega))
    · intro f s hs
      show f_X1_is_L20_b F (ad 1) q (Int32.ofNat i) (f_X1_is_L20 F (ad 1) q (Int32.ofNat i) f) s (Int32.ofNat m) (cM X ad σ B) = _
      rcases hs with ⟨rfl, h1⟩ | ⟨rfl, h1⟩
      · unfold f_X1_is_L20_b
        rw [sl, Option.bind_some, hm, if_pos ((c_le m m (by omega) (by omega)).2 (Nat.le_refl m)), if_pos (by decide), if_pos (hw.1 ⟨hm, h1⟩)]
      · exact done0 f m h1 (by omega)
  · have hno : ¬ wcL.getD q 0 = wv b i m := fun z => hm (hw.2 z).1
    rw [if_neg (fun z => hm ((c_eq _ _ (by omega) (by omega)).1 z))]
    obtain ⟨f, hf⟩ : ∃ f, F = f + 1 := ⟨F - 1, by omega⟩
    have : ∀ f, f_X1_is_L20 F (ad 1) q (Int32.ofNat i) (f + 1) 0 0 (cM X ad σ B) = some (if wcL.getD q 0 = wv b i m then 1 else 0, cM X ad σ B) := fun f => by
      show f_X1_is_L20_b F (ad 1) q (Int32.ofNat i) (f_X1_is_L20 F (ad 1) q (Int32.ofNat i) f) 0 0 (cM X ad σ B) = _
      unfold f_X1_is_L20_b
      rw [sl, Option.bind_some, if_neg hno]
      by_cases z : Int32.ofNat (wl.getD q 0) ≤ 0
      · rw [if_pos z, if_pos (by decide)]
      · rw [if_neg z, if_pos rfl, if_pos (by decide)]
    have h2 := this f
    rw [← hf] at h2
    exact h2
/-- the row of words, with what was found -/
theorem w67_C (hF : 100000 ≤ F) (hA : AdOK ad B) (hK : KB B) (hT : TP b n) (hc : TPc σ b n) {i m k : Nat} (him : i + m ≤ n) (hl : ∀ j, j < m → isL (b (i + j))) (h25 : σ.1 25 = Int32.ofNat k) (hk : k < 402) {v : Int64} : f_X1_word_L67 F (ad 1) (Int32.ofNat i) (Int32.ofNat (i + m)) v F 1 0 (cM X ad σ B) = some (Int32.ofNat (i + m), cM X ad (tkC σ k (kT (clsW (wv b i m))) i v) B) := by
  have hn := hT.1
  have ha : ∀ c, c < 42 → f_X1_add F (ad 1) (kT c) (Int32.ofNat i) v (cM X ad σ B) = some (cM X ad (tkC σ k (kT c) i v) B) := fun c hcc => c_add hA hcc (by omega) h25 hk
  have hrow : (cM X ad σ B).1 ((cM X ad σ B).2.2.2 1) = some (.inl (11, (26, .inr (.inr (fun j => some (B.2.2.2 (10 + j))))))) := cM_fz hK.2
  have hN : aN (cM X ad σ B) ((cM X ad σ B).2.2.2 1) = some (Int32.ofNat 26) := by
    unfold aN
    rw [hrow]
  have hW : ∀ q, q < 26 → aW (cM X ad σ B) ((cM X ad σ B).2.2.2 1) (Int32.ofNat q) = some q := fun q hq => by
    unfold aW
    have e : aR (cM X ad σ B) 11 ((cM X ad σ B).2.2.2 1) (Int32.ofNat q) = some ((cM X ad σ B).2.2.2 (10 + (Int32.ofNat q).toNatClampNeg)) := by
      have e2 : aQ (cM X ad σ B) 11 ((cM X ad σ B).2.2.2 1) (Int32.ofNat q) = some (some (B.2.2.2 (10 + (Int32.ofNat q).toNatClampNeg))) := by
        unfold aQ
        rw [hrow]
        exact if_pos ⟨rfl, i_in hq (by decide)⟩
      unfold aR
      rw [e2]
      rfl
    rw [if_pos e, i_cl (n := 26) hq (by decide)]
  have fin : ∀ (f q c : Nat) (s : Int32), c < 42 → s = kT c → (s ≠ 1 ∨ q = 26) → q ≤ 26 → f_X1_word_L67_b F (ad 1) (Int32.ofNat i) (Int32.ofNat (i + m)) v (f_X1_word_L67 F (ad 1) (Int32.ofNat i) (Int32.ofNat (i + m)) v f) s (Int32.ofNat q) (cM X ad σ B) = some (Int32.ofNat (i + m), cM X ad (tkC σ k (kT c) i v) B) := by
    intro f q c s hcc hs h1 hq
    subst hs
    unfold f_X1_word_L67_b
    rw [hN, Option.bind_some]
    by_cases z : Int32.ofNat 26 ≤ Int32.ofNat q
    · rw [if_pos z, oc1 hA, Option.bind_some, ha c hcc, Option.bind_some]
    · have h2 : kT c ≠ 1 := by
        rcases h1 with h1 | h1
        · exact h1
        · exact absurd ((c_le 26 q (by decide) (by omega)).2 (by omega)) z
      rw [if_neg z, if_neg h2, oc1 hA, Option.bind_some, ha c hcc, Option.bind_some]
  refine for_up (L := fun f q s => f_X1_word_L67 F (ad 1) (Int32.ofNat i) (Int32.ofNat (i + m)) v f s q (cM X ad σ B)) (N := 26) (Inv := fun q s => (s = 1 ∧ ∀ j, j < q → wcL.getD j 0 ≠ wv b i m) ∨ (wk (wv b i m) < 26 ∧ s = kT (16 + wk (wv b i m)))) (Post := fun r => r = some (Int32.ofNat (i + m), cM X ad (tkC σ k (kT (clsW (wv b i m))) i v) B)) ?_ ?_ 26 0 F 1 (by decide) (by omega) (Or.inl ⟨rfl, fun j hj => absurd hj (Nat.not_lt_zero j)⟩)
  · intro f q s hq hs
    show (∃ s', _ ∧ f_X1_word_L67_b F (ad 1) (Int32.ofNat i) (Int32.ofNat (i + m)) v (f_X1_word_L67 F (ad 1) (Int32.ofNat i) (Int32.ofNat (i + m)) v f) s (Int32.ofNat q) (cM X ad σ B) = _) ∨ f_X1_word_L67_b F (ad 1) (Int32.ofNat i) (Int32.ofNat (i + m)) v (f_X1_word_L67 F (ad 1) (Int32.ofNat i) (Int32.ofNat (i + m)) v f) s (Int32.ofNat q) (cM X ad σ B) = _
    rcases hs with ⟨rfl, h1⟩ | ⟨h1, h2⟩
    · refine Or.inl ?_
      unfold f_X1_word_L67_b
      rw [hN, Option.bind_some, if_neg (fun z => absurd ((c_le 26 q (by decide) (by omega)).1 z) (by omega)), if_pos rfl, hW q hq, Option.bind_some, oc1 hA, Option.bind_some, is_C hF hA hT hc hq him hl, Option.bind_some]
      by_cases e : wcL.getD q 0 = wv b i m
      · have ek : wk (wv b i m) = q := by rw [← e, wk_of hq]
        rw [if_pos e, if_neg (show ¬ (1 : Int32) = 0 by decide), nmE, nmE, n_lp, n_pl]
        refine ⟨_, Or.inr ⟨by omega, ?_⟩, rfl⟩
        rw [ek]
        unfold kT
        rw [if_neg (by omega)]
        congr 1
        omega
      · rw [if_neg e, if_pos rfl, nmE, n_lp]
        refine ⟨_, Or.inl ⟨rfl, fun j hj => ?_⟩, rfl⟩
        by_cases ej : j = q
        · rw [ej]
          exact e
        · exact h1 j (by omega)
    · have e : clsW (wv b i m) = 16 + wk (wv b i m) := if_pos h1
      refine Or.inr ?_
      rw [e]
      refine fin f q _ s (by omega) h2 (Or.inl ?_) (by omega)
      rw [h2]
      have : ∀ c, c < 26 → kT (16 + c) ≠ 1 := by decide
      exact this _ h1
  · intro f s hs
    show f_X1_word_L67_b F (ad 1) (Int32.ofNat i) (Int32.ofNat (i + m)) v (f_X1_word_L67 F (ad 1) (Int32.ofNat i) (Int32.ofNat (i + m)) v f) s (Int32.ofNat 26) (cM X ad σ B) = _
    rcases hs with ⟨rfl, h1⟩ | ⟨h1, h2⟩
    · have hw : ¬ wk (wv b i m) < 26 := fun h => h1 _ h (wk_at h)
      have e : clsW (wv b i m) = 0 := if_neg hw
      rw [e]
      exact fin f 26 0 1 (by decide) rfl (Or.inr rfl) (Nat.le_refl _)
    · have e : clsW (wv b i m) = 16 + wk (wv b i m) := if_pos h1
      rw [e]
      exact fin f 26 _ s (by omega) h2 (Or.inr rfl) (Nat.le_refl _)
theorem word_C (hF : 100000 ≤ F) (hA : AdOK ad B) (hK : KB B) (hT : TP b n) (hc : TPc σ b n) {i k : Nat} (hi : i < n) (h25 : σ.1 25 = Int32.ofNat k) (hk : k < 402) : f_X1_word F (ad 1) (Int32.ofNat i) (cM X ad σ B) = some (Int32.ofNat (rn isL b n i), cM X ad (tkC σ k (kT (if rn isL b n i - i ≤ 8 then clsW (wv b i (rn isL b n i - i)) else 3)) i (Int64.ofNat (wv b i (min (rn isL b n i - i) 8)))) B) := by
  have hn := hT.1
  have hle := rn_le hT L0 (show i ≤ n by omega)
  have hge := rn_ge hT L0 (show i ≤ n by omega)
  unfold f_X1_word
  rw [cw_L4 hF hA hT hc (by omega), n_ss _ _ hge]
  by_cases h8 : rn isL b n i - i ≤ 8
  · have e8 : Int32.ofNat (rn isL b n i - i) ≤ (8 : Int32) := (c_le _ 8 (by omega) (by omega)).2 h8
    have hl : ∀ j, j < rn isL b n i - i → isL (b (i + j)) := fun j hj => rn_in hT L0 (show i ≤ n by omega) (by omega) (by omega)
    have := w67_C (X := X) hF hA hK hT hc (i := i) (m := rn isL b n i - i) (by omega) hl h25 hk (v := Int64.ofNat (wv b i (min (rn isL b n i - i) 8)))
    rw [Nat.add_sub_cancel' hge] at this
    rw [if_pos e8, if_pos h8]
    exact this
  · have e8 : ¬ Int32.ofNat (rn isL b n i - i) ≤ (8 : Int32) := fun q => h8 ((c_le _ 8 (by omega) (by omega)).1 q)
    rw [if_neg e8, if_neg h8]
    obtain ⟨f, hf⟩ : ∃ f, F = f + 1 := ⟨F - 1, by omega⟩
    have hrow : (cM X ad σ B).1 ((cM X ad σ B).2.2.2 1) = some (.inl (11, (26, .inr (.inr (fun j => some (B.2.2.2 (10 + j))))))) := cM_fz hK.2
    have hN : aN (cM X ad σ B) ((cM X ad σ B).2.2.2 1) = some (Int32.ofNat 26) := by
      unfold aN
      rw [hrow]
    have : ∀ f, f_X1_word_L67 F (ad 1) (Int32.ofNat i) (Int32.ofNat (rn isL b n i)) (Int64.ofNat (wv b i (min (rn isL b n i - i) 8))) (f + 1) 3 0 (cM X ad σ B) = some (Int32.ofNat (rn isL b n i), cM X ad (tkC σ k (kT 3) i (Int64.ofNat (wv b i (min (rn isL b n i - i) 8)))) B) := fun f => by
      show f_X1_word_L67_b F (ad 1) (Int32.ofNat i) (Int32.ofNat (rn isL b n i)) (Int64.ofNat (wv b i (min (rn isL b n i - i) 8))) (f_X1_word_L67 F (ad 1) (Int32.ofNat i) (Int32.ofNat (rn isL b n i)) (Int64.ofNat (wv b i (min (rn isL b n i - i) 8))) f) 3 0 (cM X ad σ B) = _
      have ha := c_add (X := X) (F := F) (σ := σ) hA (c := 3) (i := i) (k := k) (v := Int64.ofNat (wv b i (min (rn isL b n i - i) 8))) (by decide) (by omega) h25 hk
      rw [show kT 3 = 3 from rfl] at ha
      unfold f_X1_word_L67_b
      rw [hN, Option.bind_some, if_neg (by decide), if_neg (by decide), oc1 hA, Option.bind_some, ha, Option.bind_some]
      rfl
    have h2 := this f
    rw [← hf] at h2
    exact h2
