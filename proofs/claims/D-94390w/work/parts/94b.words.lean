set_option maxRecDepth 100000
/-! numbers and words -/
variable {X : Nat → Option Ob} {ad : Nat → Nat} {B : Sw} {A : Av} {σ : Cs} {τ : Tw} {F : Nat} {b : Nat → Nat} {n : Nat}
theorem cn_L4 (hF : 100000 ≤ F) (hA : AdOK ad B) (hT : TP b n) (hc : TPc σ b n) {K : Int32 → Int32 → Option (Int32 × Sw)} {i : Nat} (hi : i ≤ n) : f_X1_number_L4 F K (ad 1) (Int32.ofNat i) (cM X ad σ B) F (Int32.ofNat i) 0 = K (Int32.ofNat (rn isD b n i)) (Int32.ofNat (iv b i (min (rn isD b n i - i) 4))) := by
  have hn := hT.1
  have hle := rn_le hT D0 hi
  have hge := rn_ge hT D0 hi
  refine for_up (L := f_X1_number_L4 F K (ad 1) (Int32.ofNat i) (cM X ad σ B)) (N := rn isD b n i) (Inv := fun k s => i ≤ k ∧ s = Int32.ofNat (iv b i (min (k - i) 4))) (Post := fun r => r = K (Int32.ofNat (rn isD b n i)) (Int32.ofNat (iv b i (min (rn isD b n i - i) 4)))) ?_ ?_ (rn isD b n i - i) i F _ (by omega) (by omega) ⟨Nat.le_refl _, by rw [Nat.sub_self]; rfl⟩
  · intro m k s hk hs
    obtain ⟨h1, rfl⟩ := hs
    have hp : isD (b k) := rn_in hT D0 hi h1 hk
    have hkn : k < n := by omega
    show (∃ s', _ ∧ f_X1_number_L4_b F K (ad 1) (Int32.ofNat i) (cM X ad σ B) (f_X1_number_L4 F K (ad 1) (Int32.ofNat i) (cM X ad σ B) m) (Int32.ofNat k) _ = _) ∨ _
    unfold f_X1_number_L4_b
    rw [oc1 hA, Option.bind_some, c_byte hA hT hc (by omega), Option.bind_some, c_dig (hT.2.1 k), if_pos hp, Option.bind_some, if_neg (by decide)]
    by_cases h8 : i + 4 ≤ k
    · have e8 : Int32.ofNat i + 4 ≤ Int32.ofNat k := by
        rw [n_lp]
        exact (c_le (i + 4) k (by omega) (by omega)).2 h8
      rw [if_pos e8, nmE, n_lp]
      refine Or.inl ⟨_, ⟨by omega, ?_⟩, rfl⟩
      rw [Nat.min_eq_right (by omega), Nat.min_eq_right (by omega)]
    · have e8 : ¬ Int32.ofNat i + 4 ≤ Int32.ofNat k := by
        rw [n_lp]
        exact fun q => h8 ((c_le (i + 4) k (by omega) (by omega)).1 q)
      rw [if_neg e8, o1_0 hA, Option.bind_some, a2 hA σ k (by omega), Option.bind_some, hc.2 k hkn, cb_lo (by omega), nmE, nmE, n_lp, d_step hp]
      refine Or.inl ⟨_, ⟨by omega, ?_⟩, rfl⟩
      rw [Nat.min_eq_left (by omega), Nat.min_eq_left (by omega), show k + 1 - i = (k - i) + 1 by omega]
      show _ = Int32.ofNat (iv b i (k - i) * 10 + (b (i + (k - i)) - 48))
      rw [show i + (k - i) = k by omega]
  · intro m s hs
    obtain ⟨h1, rfl⟩ := hs
    have hp := rn_at (P := isD) hT D0 hi
    show f_X1_number_L4_b F K (ad 1) (Int32.ofNat i) (cM X ad σ B) (f_X1_number_L4 F K (ad 1) (Int32.ofNat i) (cM X ad σ B) m) (Int32.ofNat (rn isD b n i)) _ = _
    unfold f_X1_number_L4_b
    rw [oc1 hA, Option.bind_some, c_byte hA hT hc (by omega), Option.bind_some, c_dig (hT.2.1 _), if_neg hp, Option.bind_some, if_pos rfl]
/-- the reference's number -/
theorem tn_L120 (hF : 100000 ≤ F) (hT : TP b n) (hc : TPt τ b n) {i : Nat} (hi : i ≤ n) : t_X9_scan_L120 F (Int32.ofNat i) τ F (Int32.ofNat i) 0 = Option.bind (t_X9_token F (if rn isD b n i - i ≤ 4 then 1 else 5) (Int32.ofNat i) (Int32.ofNat (iv b i (min (rn isD b n i - i) 4))) τ) fun q => some (Int32.ofNat (rn isD b n i), q) := by
  have hn := hT.1
  have hle := rn_le hT D0 hi
  have hge := rn_ge hT D0 hi
  refine for_up (L := t_X9_scan_L120 F (Int32.ofNat i) τ) (N := rn isD b n i) (Inv := fun k s => i ≤ k ∧ s = Int32.ofNat (iv b i (min (k - i) 4))) (Post := fun r => r = Option.bind (t_X9_token F (if rn isD b n i - i ≤ 4 then 1 else 5) (Int32.ofNat i) (Int32.ofNat (iv b i (min (rn isD b n i - i) 4))) τ) fun q => some (Int32.ofNat (rn isD b n i), q)) ?_ ?_ (rn isD b n i - i) i F _ (by omega) (by omega) ⟨Nat.le_refl _, by rw [Nat.sub_self]; rfl⟩
  · intro m k s hk hs
    obtain ⟨h1, rfl⟩ := hs
    have hp : isD (b k) := rn_in hT D0 hi h1 hk
    have hkn : k < n := by omega
    show (∃ s', _ ∧ t_X9_scan_L120_b F (Int32.ofNat i) τ (t_X9_scan_L120 F (Int32.ofNat i) τ m) (Int32.ofNat k) _ = _) ∨ _
    unfold t_X9_scan_L120_b
    rw [t_dig hT hc (by omega), if_pos hp, Option.bind_some, if_neg (by decide), n_ss _ _ h1]
    by_cases h8 : i + 4 ≤ k
    · have e8 : (4 : Int32) ≤ Int32.ofNat (k - i) := (c_le 4 (k - i) (by omega) (by omega)).2 (by omega)
      rw [if_pos e8, nmE, n_lp]
      refine Or.inl ⟨_, ⟨by omega, ?_⟩, rfl⟩
      rw [Nat.min_eq_right (by omega), Nat.min_eq_right (by omega)]
    · have e8 : ¬ (4 : Int32) ≤ Int32.ofNat (k - i) := fun q => h8 (by have := (c_le 4 (k - i) (by omega) (by omega)).1 q; omega)
      rw [if_neg e8, t_byte hT hc (by omega), Option.bind_some, nmE, nmE, n_lp, d_step hp]
      refine Or.inl ⟨_, ⟨by omega, ?_⟩, rfl⟩
      rw [Nat.min_eq_left (by omega), Nat.min_eq_left (by omega), show k + 1 - i = (k - i) + 1 by omega]
      show _ = Int32.ofNat (iv b i (k - i) * 10 + (b (i + (k - i)) - 48))
      rw [show i + (k - i) = k by omega]
  · intro m s hs
    obtain ⟨h1, rfl⟩ := hs
    have hp := rn_at (P := isD) hT D0 hi
    show t_X9_scan_L120_b F (Int32.ofNat i) τ (t_X9_scan_L120 F (Int32.ofNat i) τ m) (Int32.ofNat (rn isD b n i)) _ = _
    unfold t_X9_scan_L120_b
    rw [t_dig hT hc (by omega), if_neg hp, Option.bind_some, if_pos rfl, n_ss _ _ hge]
    by_cases h4 : rn isD b n i - i ≤ 4
    · have e4 : Int32.ofNat (rn isD b n i - i) ≤ (4 : Int32) := (c_le _ 4 (by omega) (by omega)).2 h4
      rw [if_pos e4, if_pos h4]
    · have e4 : ¬ Int32.ofNat (rn isD b n i - i) ≤ (4 : Int32) := fun q => h4 ((c_le _ 4 (by omega) (by omega)).1 q)
      rw [if_neg e4, if_neg h4]
/-! words by their values -/
theorem wv_inj {f g : Nat → Nat} {i j : Nat} : ∀ (m k : Nat), (∀ q, q < m → isL (f (i + q))) → (∀ q, q < k → isL (g (j + q))) → wv f i m = wv g j k → m = k ∧ ∀ q, q < m → f (i + q) = g (j + q)
  | 0, 0, _, _, _ => ⟨rfl, fun q hq => absurd hq (Nat.not_lt_zero q)⟩
  | 0, k + 1, _, hg, h => by
    have := hg k (Nat.lt_succ_self k)
    have h : 0 = wv g j k * 27 + (g (j + k) - 96) := h
    omega
  | m + 1, 0, hf, _, h => by
    have := hf m (Nat.lt_succ_self m)
    have h : wv f i m * 27 + (f (i + m) - 96) = 0 := h
    omega
  | m + 1, k + 1, hf, hg, h => by
    have h1 := hf m (Nat.lt_succ_self m)
    have h2 := hg k (Nat.lt_succ_self k)
    have h : wv f i m * 27 + (f (i + m) - 96) = wv g j k * 27 + (g (j + k) - 96) := h
    have h3 : wv f i m = wv g j k := by omega
    have h4 : f (i + m) = g (j + k) := by omega
    obtain ⟨e, h5⟩ := wv_inj m k (fun q hq => hf q (by omega)) (fun q hq => hg q (by omega)) h3
    subst e
    refine ⟨rfl, fun q hq => ?_⟩
    by_cases e : q = m
    · rw [e]
      exact h4
    · exact h5 q (by omega)
theorem wv_congr {f g : Nat → Nat} {i j : Nat} : ∀ (m : Nat), (∀ q, q < m → f (i + q) = g (j + q)) → wv f i m = wv g j m
  | 0, _ => rfl
  | m + 1, h => by
    show wv f i m * 27 + (f (i + m) - 96) = wv g j m * 27 + (g (j + m) - 96)
    rw [wv_congr m (fun q hq => h q (by omega)), h m (by omega)]
theorem wv_lt {f : Nat → Nat} {i : Nat} : ∀ (m : Nat), (∀ q, q < m → isL (f (i + q))) → wv f i m < 27 ^ m
  | 0, _ => (show 0 < 27 ^ 0 by decide)
  | m + 1, h => by
    have h1 := wv_lt (f := f) (i := i) m (fun q hq => h q (by omega))
    have h2 := h m (Nat.lt_succ_self m)
    show wv f i m * 27 + (f (i + m) - 96) < 27 ^ (m + 1)
    rw [Nat.pow_succ]
    omega
/-- a word's bytes, its value -/
def wbn (k j : Nat) : Nat := ((wb.getD k []).getD j 0).toNatClampNeg
def wcL : List Nat := [4562600, 218546996, 257, 10492029, 110319223, 349972, 464053, 1952902, 197651, 400334, 3488, 390796, 3217420, 1489, 249, 423, 1111, 10631, 117630947, 355412, 247162, 24, 168984, 7214732, 459652, 149099]
/-- the reference's numbers of the words -/
def wtL : List Int32 := [0, 1, 2, 3, 4, 5, 6, 7, 9, 30, 31, 21, 32, 33, 8, 12, 11, 10, 13, 14, 15, 16, 17, 18, 19, 20]
theorem wb_v : ∀ k, k < 26 → wv (wbn k) 0 (wl.getD k 0) = wcL.getD k 0 := by decide +kernel
theorem wb_l : ∀ k, k < 26 → ∀ j, j < wl.getD k 0 → isL (wbn k j) ∧ (wb.getD k []).getD j 0 = Int32.ofNat (wbn k j) := by decide +kernel
theorem wl_1 : ∀ k, k < 26 → wl.getD k 0 ≤ 6 := by decide
theorem wc_inj : ∀ j, j < 26 → ∀ k, k < 26 → wcL.getD j 0 = wcL.getD k 0 → j = k := by decide +kernel
/-- the word of a value: its number, 26 for none -/
def wk (v : Nat) : Nat := wcL.findIdx (fun c => c == v)
theorem wk_of {k : Nat} (hk : k < 26) : wk (wcL.getD k 0) = k := by
  have : ∀ k, k < 26 → wk (wcL.getD k 0) = k := by decide +kernel
  exact this k hk
theorem wk_le (v : Nat) : wk v ≤ 26 := List.findIdx_le_length
theorem wk_at {v : Nat} (h : wk v < 26) : wcL.getD (wk v) 0 = v := by
  have h1 : wcL.findIdx (fun c => c == v) < wcL.length := h
  have := List.findIdx_getElem (w := h1)
  have h3 : wcL[wcL.findIdx (fun c => c == v)]'h1 = v := by simpa using this
  have h2 : wcL[wk v]'h = v := h3
  rw [List.getD_eq_getElem?_getD, List.getElem?_eq_getElem h, Option.getD_some, h2]
theorem wk_no {v : Nat} (h : wk v = 26) {k : Nat} (hk : k < 26) : wcL.getD k 0 ≠ v := fun e => by
  rw [← e, wk_of hk] at h
  omega
theorem lg_n {v c : Nat} (hv : v < 2 ^ 62) (hc : c < 2 ^ 62) : lg_cmp (Int64.ofNat v) (Int64.ofNat c) = 0 ↔ v = c := by
  constructor
  · intro h
    unfold lg_cmp at h
    by_cases g : Int64.ofNat v > Int64.ofNat c
    · rw [if_pos g] at h
      exact absurd h (by decide)
    · rw [if_neg g] at h
      by_cases e : Int64.ofNat v = Int64.ofNat c
      · have h1 := congrArg Int64.toInt e
        rw [Int64.toInt_ofNat_of_lt (by omega), Int64.toInt_ofNat_of_lt (by omega)] at h1
        omega
      · rw [if_neg e] at h
        exact absurd h (by decide)
  · intro e
    subst e
    unfold lg_cmp
    rw [if_neg (fun q => absurd (Int64.lt_iff_toInt_lt.1 q) (Int.lt_irrefl _)), if_pos rfl]
theorem T_word {v : Nat} (hv : v < 2 ^ 62) : p_X9_wordOf F (Int64.ofNat v) = some (if wk v < 26 then wtL.getD (wk v) 0 else -1) := by
  by_cases h4562600 : v = 4562600
  · subst h4562600
    rfl
  by_cases h218546996 : v = 218546996
  · subst h218546996
    rfl
  by_cases h257 : v = 257
  · subst h257
    rfl
  by_cases h10492029 : v = 10492029
  · subst h10492029
    rfl
  by_cases h110319223 : v = 110319223
  · subst h110319223
    rfl
  by_cases h349972 : v = 349972
  · subst h349972
    rfl
  by_cases h464053 : v = 464053
  · subst h464053
    rfl
  by_cases h1952902 : v = 1952902
  · subst h1952902
    rfl
  by_cases h249 : v = 249
  · subst h249
    rfl
  by_cases h197651 : v = 197651
  · subst h197651
    rfl
  by_cases h10631 : v = 10631
  · subst h10631
    rfl
  by_cases h1111 : v = 1111
  · subst h1111
    rfl
  by_cases h423 : v = 423
  · subst h423
    rfl
  by_cases h117630947 : v = 117630947
  · subst h117630947
    rfl
  by_cases h355412 : v = 355412
  · subst h355412
    rfl
  by_cases h247162 : v = 247162
  · subst h247162
    rfl
  by_cases h24 : v = 24
  · subst h24
    rfl
  by_cases h168984 : v = 168984
  · subst h168984
    rfl
  by_cases h7214732 : v = 7214732
  · subst h7214732
    rfl
  by_cases h459652 : v = 459652
  · subst h459652
    rfl
  by_cases h149099 : v = 149099
  · subst h149099
    rfl
  by_cases h390796 : v = 390796
  · subst h390796
    rfl
  by_cases h400334 : v = 400334
  · subst h400334
    rfl
  by_cases h3488 : v = 3488
  · subst h3488
    rfl
  by_cases h3217420 : v = 3217420
  · subst h3217420
    rfl
  by_cases h1489 : v = 1489
  · subst h1489
    rfl
  have hw : ¬ wk v < 26 := fun h => by
    have e := wk_at h
    have : ∀ k, k < 26 → wcL.getD k 0 = v → False := by
      intro k hk q
      have hm : ∀ k, k < 26 → wcL.getD k 0 ∈ [4562600, 218546996, 257, 10492029, 110319223, 349972, 464053, 1952902, 249, 197651, 10631, 1111, 423, 117630947, 355412, 247162, 24, 168984, 7214732, 459652, 149099, 390796, 400334, 3488, 3217420, 1489] := by decide +kernel
      have := hm k hk
      rw [q] at this
      simp only [List.mem_cons, List.not_mem_nil, or_false] at this
      omega
    exact this _ h e
  rw [if_neg hw]
  unfold p_X9_wordOf
  have q4562600 : ¬ lg_cmp (Int64.ofNat v) 4562600 = 0 := fun q => h4562600 ((lg_n (c := 4562600) hv (by decide)).1 q)
  rw [if_neg q4562600]
  have q218546996 : ¬ lg_cmp (Int64.ofNat v) 218546996 = 0 := fun q => h218546996 ((lg_n (c := 218546996) hv (by decide)).1 q)
  rw [if_neg q218546996]
  have q257 : ¬ lg_cmp (Int64.ofNat v) 257 = 0 := fun q => h257 ((lg_n (c := 257) hv (by decide)).1 q)
  rw [if_neg q257]
  have q10492029 : ¬ lg_cmp (Int64.ofNat v) 10492029 = 0 := fun q => h10492029 ((lg_n (c := 10492029) hv (by decide)).1 q)
  rw [if_neg q10492029]
  have q110319223 : ¬ lg_cmp (Int64.ofNat v) 110319223 = 0 := fun q => h110319223 ((lg_n (c := 110319223) hv (by decide)).1 q)
  rw [if_neg q110319223]
  have q349972 : ¬ lg_cmp (Int64.ofNat v) 349972 = 0 := fun q => h349972 ((lg_n (c := 349972) hv (by decide)).1 q)
  rw [if_neg q349972]
  have q464053 : ¬ lg_cmp (Int64.ofNat v) 464053 = 0 := fun q => h464053 ((lg_n (c := 464053) hv (by decide)).1 q)
  rw [if_neg q464053]
  have q1952902 : ¬ lg_cmp (Int64.ofNat v) 1952902 = 0 := fun q => h1952902 ((lg_n (c := 1952902) hv (by decide)).1 q)
  rw [if_neg q1952902]
  have q249 : ¬ lg_cmp (Int64.ofNat v) 249 = 0 := fun q => h249 ((lg_n (c := 249) hv (by decide)).1 q)
  rw [if_neg q249]
  have q197651 : ¬ lg_cmp (Int64.ofNat v) 197651 = 0 := fun q => h197651 ((lg_n (c := 197651) hv (by decide)).1 q)
  rw [if_neg q197651]
  have q10631 : ¬ lg_cmp (Int64.ofNat v) 10631 = 0 := fun q => h10631 ((lg_n (c := 10631) hv (by decide)).1 q)
  rw [if_neg q10631]
  have q1111 : ¬ lg_cmp (Int64.ofNat v) 1111 = 0 := fun q => h1111 ((lg_n (c := 1111) hv (by decide)).1 q)
  rw [if_neg q1111]
  have q423 : ¬ lg_cmp (Int64.ofNat v) 423 = 0 := fun q => h423 ((lg_n (c := 423) hv (by decide)).1 q)
  rw [if_neg q423]
  have q117630947 : ¬ lg_cmp (Int64.ofNat v) 117630947 = 0 := fun q => h117630947 ((lg_n (c := 117630947) hv (by decide)).1 q)
  rw [if_neg q117630947]
  have q355412 : ¬ lg_cmp (Int64.ofNat v) 355412 = 0 := fun q => h355412 ((lg_n (c := 355412) hv (by decide)).1 q)
  rw [if_neg q355412]
  have q247162 : ¬ lg_cmp (Int64.ofNat v) 247162 = 0 := fun q => h247162 ((lg_n (c := 247162) hv (by decide)).1 q)
  rw [if_neg q247162]
  have q24 : ¬ lg_cmp (Int64.ofNat v) 24 = 0 := fun q => h24 ((lg_n (c := 24) hv (by decide)).1 q)
  rw [if_neg q24]
  have q168984 : ¬ lg_cmp (Int64.ofNat v) 168984 = 0 := fun q => h168984 ((lg_n (c := 168984) hv (by decide)).1 q)
  rw [if_neg q168984]
  have q7214732 : ¬ lg_cmp (Int64.ofNat v) 7214732 = 0 := fun q => h7214732 ((lg_n (c := 7214732) hv (by decide)).1 q)
  rw [if_neg q7214732]
  have q459652 : ¬ lg_cmp (Int64.ofNat v) 459652 = 0 := fun q => h459652 ((lg_n (c := 459652) hv (by decide)).1 q)
  rw [if_neg q459652]
  have q149099 : ¬ lg_cmp (Int64.ofNat v) 149099 = 0 := fun q => h149099 ((lg_n (c := 149099) hv (by decide)).1 q)
  rw [if_neg q149099]
  have q390796 : ¬ lg_cmp (Int64.ofNat v) 390796 = 0 := fun q => h390796 ((lg_n (c := 390796) hv (by decide)).1 q)
  rw [if_neg q390796]
  have q400334 : ¬ lg_cmp (Int64.ofNat v) 400334 = 0 := fun q => h400334 ((lg_n (c := 400334) hv (by decide)).1 q)
  rw [if_neg q400334]
  have q3488 : ¬ lg_cmp (Int64.ofNat v) 3488 = 0 := fun q => h3488 ((lg_n (c := 3488) hv (by decide)).1 q)
  rw [if_neg q3488]
  have q3217420 : ¬ lg_cmp (Int64.ofNat v) 3217420 = 0 := fun q => h3217420 ((lg_n (c := 3217420) hv (by decide)).1 q)
  rw [if_neg q3217420]
  have q1489 : ¬ lg_cmp (Int64.ofNat v) 1489 = 0 := fun q => h1489 ((lg_n (c := 1489) hv (by decide)).1 q)
  rw [if_neg q1489]
