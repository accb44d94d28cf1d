set_option maxRecDepth 100000
/-! all tokens: the reference's row; both rows together -/
variable {X : Nat → Option Ob} {ad : Nat → Nat} {B : Sw} {A : Av} {σ σ' : Cs} {τ τ' : Tw} {F : Nat} {b : Nat → Nat} {n : Nat}
def whJ (b : Nat → Nat) (n j : Nat) : Int32 := if ps b n j < n then whT b n (ps b n j) else 0
/-- token j is stored -/
def stoT (b : Nat → Nat) (n : Nat) (τ : Tw) (j : Nat) : Prop := τ.2.1 2 j = sT (clsJ b n j) ∧ τ.2.1 3 j = Int32.ofNat (ps b n j) ∧ τ.2.1 4 j = whJ b n j ∧ (clsJ b n j = 0 → τ.2.2 5 j = valJ b n j)
def TF (τ τ' : Tw) : Prop := (∀ z, z ≠ 2 → τ'.1 z = τ.1 z) ∧ (∀ r, r ≠ 2 → r ≠ 3 → r ≠ 4 → τ'.2.1 r = τ.2.1 r) ∧ ∀ r, r ≠ 5 → τ'.2.2 r = τ.2.2 r
def sameT (τ τ' : Tw) (j : Nat) : Prop := τ'.2.1 2 j = τ.2.1 2 j ∧ τ'.2.1 3 j = τ.2.1 3 j ∧ τ'.2.1 4 j = τ.2.1 4 j ∧ τ'.2.2 5 j = τ.2.2 5 j
theorem TF.rf : TF τ τ := ⟨fun _ _ => rfl, fun _ _ _ _ => rfl, fun _ _ => rfl⟩
theorem TF.tr {τ2 : Tw} (h1 : TF τ τ') (h2 : TF τ' τ2) : TF τ τ2 := ⟨fun z a => (h2.1 z a).trans (h1.1 z a), fun r a c d => (h2.2.1 r a c d).trans (h1.2.1 r a c d), fun r a => (h2.2.2 r a).trans (h1.2.2 r a)⟩
theorem tkT_TF {k i : Nat} {s w : Int32} {g : Nat → Int64} : TF τ (tkT (twL τ 5 g) k s i w) := by
  refine ⟨fun z h => tsI_n _ _ _ _ h, fun r h2 h3 h4 => ?_, fun r h => twL_n _ _ _ _ h⟩
  show (twA (twA (twA (twL τ 5 g) 2 (upd (τ.2.1 2) k s)) 3 (upd (τ.2.1 3) k (Int32.ofNat i))) 4 (upd (τ.2.1 4) k w)).2.1 r = _
  rw [twA_n _ _ _ _ h4, twA_n _ _ _ _ h3, twA_n _ _ _ _ h2]
  rfl
theorem tkT_at {k i : Nat} {s w : Int32} {g : Nat → Int64} : (tkT (twL τ 5 g) k s i w).2.1 2 k = s ∧ (tkT (twL τ 5 g) k s i w).2.1 3 k = Int32.ofNat i ∧ (tkT (twL τ 5 g) k s i w).2.1 4 k = w ∧ (tkT (twL τ 5 g) k s i w).2.2 5 k = g k := by
  refine ⟨?_, ?_, ?_, ?_⟩
  · show upd (τ.2.1 2) k s k = s
    exact up_s _ _ _
  · show upd (τ.2.1 3) k (Int32.ofNat i) k = _
    exact up_s _ _ _
  · show upd (τ.2.1 4) k w k = _
    exact up_s _ _ _
  · show (twL τ 5 g).2.2 5 k = g k
    rw [twL_s]
theorem tkT_no {k i j : Nat} {s w : Int32} {g : Nat → Int64} (h : j ≠ k) (hg : g j = τ.2.2 5 j) : sameT τ (tkT (twL τ 5 g) k s i w) j := by
  refine ⟨?_, ?_, ?_, ?_⟩
  · show upd (τ.2.1 2) k s j = _
    exact up_n _ _ _ _ h
  · show upd (τ.2.1 3) k (Int32.ofNat i) j = _
    exact up_n _ _ _ _ h
  · show upd (τ.2.1 4) k w j = _
    exact up_n _ _ _ _ h
  · show (twL τ 5 g).2.2 5 j = _
    rw [twL_s]
    exact hg
theorem lnT_no {i k j : Nat} {g : Nat → Int64} (h : j ≠ k) : lnT b n i k g j = g j := by
  unfold lnT
  split
  · exact upL_n _ _ _ _ h
  · rfl
theorem sameT.tr {τ2 : Tw} {j : Nat} (h1 : sameT τ τ' j) (h2 : sameT τ' τ2 j) : sameT τ τ2 j := ⟨h2.1.trans h1.1, h2.2.1.trans h1.2.1, h2.2.2.1.trans h1.2.2.1, h2.2.2.2.trans h1.2.2.2⟩
theorem sT_5 : ∀ c, c < 42 → (sT c = 5 ↔ c = 3) := by decide
theorem cls_0 {i : Nat} (h : cls b n i = 0) : isL (b i) := by
  unfold cls at h
  by_cases hl : isL (b i)
  · exact hl
  · rw [if_neg hl] at h
    by_cases hd : isD (b i)
    · rw [if_pos hd] at h
      split at h <;> omega
    · rw [if_neg hd] at h
      have := clsS_3 (b i) (b (i + 1))
      omega
theorem all_T (hF : 100000 ≤ F) (hT : TP b n) : ∀ (d i k f : Nat) (τ : Tw), TPt τ b n → τ.1 2 = Int32.ofNat k → k ≤ i → i ≤ n → n - i < d → d + 1 ≤ f → rn isW b n i = ps b n k → ∃ τ', t_X9_scanAll_L9 F f (Int32.ofNat i) 1 τ = some τ' ∧ TF τ τ' ∧ (∀ j, j < k → sameT τ τ' j) ∧ ∀ j, k ≤ j → (∀ j', k ≤ j' → j' < j → ps b n j' < n ∧ cls b n (ps b n j') ≠ 3) → stoT b n τ' j := by
  have hn := hT.1
  intro d
  induction d with
  | zero =>
    intro i k f τ hc h2 hk hi hd
    omega
  | succ d ih =>
    intro i k f τ hc h2 hk hi hd hf hp
    obtain ⟨g, rfl⟩ : ∃ g, f = g + 1 := ⟨f - 1, by omega⟩
    show ∃ τ', t_X9_scanAll_L9_b F (t_X9_scanAll_L9 F g) (Int32.ofNat i) 1 τ = some τ' ∧ _
    unfold t_X9_scanAll_L9_b
    rw [hc.1]
    by_cases hin : n ≤ i
    · have hie : i = n := by omega
      subst hie
      have hpe : ps b i k = i := by rw [← hp, rn_e (Nat.le_refl i)]
      have hn1 : ¬ ps b i k < i := by omega
      rw [if_pos ((c_le i i (by omega) (by omega)).2 (Nat.le_refl i)), if_neg (by decide), token_T h2 (by omega), Option.bind_some]
      have e5 : τ = twL τ 5 (τ.2.2 5) := (twL_me 5).symm
      refine ⟨_, rfl, ?_, fun j hj => ?_, fun j h1 h3 => ?_⟩
      · have := tkT_TF (τ := τ) (k := k) (i := i) (s := 4) (w := 0) (g := τ.2.2 5)
        rw [← e5] at this
        exact this
      · have := tkT_no (τ := τ) (k := k) (i := i) (s := 4) (w := 0) (g := τ.2.2 5) (j := j) (by omega) rfl
        rw [← e5] at this
        exact this
      · have e : j = k := by
          by_cases e : j = k
          · exact e
          · have := (h3 k (Nat.le_refl k) (by omega)).1
            omega
        subst e
        have := tkT_at (τ := τ) (k := j) (i := i) (s := 4) (w := 0) (g := τ.2.2 5)
        rw [← e5] at this
        obtain ⟨a1, a2, a3, a4⟩ := this
        have hcj : clsJ b i j = 2 := if_neg hn1
        refine ⟨a1.trans ?_, a2.trans ?_, a3.trans ?_, fun q => ?_⟩
        · rw [hcj]
          rfl
        · rw [hpe]
        · exact (if_neg hn1).symm
        · rw [hcj] at q
          omega
    · have hb := hT.2.1 i
      rw [if_neg (fun q => hin ((c_le n i (by omega) (by omega)).1 q)), if_neg (by decide), t_byte hT hc (by omega), Option.bind_some]
      have go : isW (b i) → ∃ τ', t_X9_scanAll_L9 F g (Int32.ofNat (i + 1)) 1 τ = some τ' ∧ TF τ τ' ∧ (∀ j, j < k → sameT τ τ' j) ∧ ∀ j, k ≤ j → (∀ j', k ≤ j' → j' < j → ps b n j' < n ∧ cls b n (ps b n j') ≠ 3) → stoT b n τ' j := fun hw => ih (i + 1) k g τ hc h2 (by omega) (by omega) (by omega) (by omega) (by rw [← rn_y (P := isW) (by omega) hw]; exact hp)
      by_cases h32 : b i = 32
      · rw [if_pos (by rw [h32]; rfl), nmE, n_lp]
        exact go (Or.inr (Or.inr (Or.inr h32)))
      have g32 : ¬ Int32.ofNat (b i) = 32 := fun q => h32 ((c_eq _ 32 (by omega) (by decide)).1 q)
      rw [if_neg g32]
      by_cases h9 : b i = 9
      · rw [if_pos (by rw [h9]; rfl), nmE, n_lp]
        exact go (Or.inl h9)
      have g9 : ¬ Int32.ofNat (b i) = 9 := fun q => h9 ((c_eq _ 9 (by omega) (by decide)).1 q)
      rw [if_neg g9]
      by_cases h10 : b i = 10
      · rw [if_pos (by rw [h10]; rfl), nmE, n_lp]
        exact go (Or.inr (Or.inl h10))
      have g10 : ¬ Int32.ofNat (b i) = 10 := fun q => h10 ((c_eq _ 10 (by omega) (by decide)).1 q)
      rw [if_neg g10]
      by_cases h13 : b i = 13
      · rw [if_pos (by rw [h13]; rfl), nmE, n_lp]
        exact go (Or.inr (Or.inr (Or.inl h13)))
      have g13 : ¬ Int32.ofNat (b i) = 13 := fun q => h13 ((c_eq _ 13 (by omega) (by decide)).1 q)
      rw [if_neg g13]
      have hnw : ¬ isW (b i) := by
        rintro (h | h | h | h) <;> contradiction
      have hpi : i = ps b n k := by rw [← hp, rn_n hnw]
      have hpn : ps b n k < n := by omega
      rw [scan_T hF hT hc (by omega) h2 (by omega), Option.bind_some]
      obtain ⟨τ2, e2⟩ : ∃ τ2, τ2 = tkT (twL τ 5 (lnT b n i k (τ.2.2 5))) k (sT (cls b n i)) i (whT b n i) := ⟨_, rfl⟩
      have t21 : τ2.1 2 = Int32.ofNat (k + 1) := by rw [e2]; exact tsI_s _ _ _
      have t2F : TF τ τ2 := by rw [e2]; exact tkT_TF
      have t2no : ∀ j, j < k → sameT τ τ2 j := fun j hj => by
        rw [e2]
        exact tkT_no (by omega) (lnT_no (by omega))
      obtain ⟨a1, a2, a3, a4⟩ := tkT_at (τ := τ) (k := k) (i := i) (s := sT (cls b n i)) (w := whT b n i) (g := lnT b n i k (τ.2.2 5))
      rw [← e2] at a1 a2 a3 a4
      have hcj : clsJ b n k = cls b n i := by
        unfold clsJ
        rw [if_pos hpn, ← hpi]
      have stk : stoT b n τ2 k := by
        refine ⟨by rw [hcj]; exact a1, by rw [← hpi]; exact a2, ?_, fun q => ?_⟩
        · rw [a3]
          unfold whJ
          rw [if_pos hpn, ← hpi]
        · rw [hcj] at q
          have hl := cls_0 q
          rw [a4]
          unfold lnT valJ
          rw [if_pos hl, if_pos hpn, ← hpi]
          exact upL_s _ _ _
      have tc2 : TPt τ2 b n := ⟨(t2F.1 0 (by decide)).trans hc.1, fun q hq => by rw [t2F.2.1 1 (by decide) (by decide) (by decide)]; exact hc.2 q hq⟩
      rw [← e2, t21]
      have e1 : Int32.ofNat (k + 1) - 1 = Int32.ofNat k := by
        rw [n_sl 1 (k + 1) (Nat.le_add_left 1 k)]
        rfl
      rw [e1, taI_n τ2 2 2001 k (by omega) (by decide), Option.bind_some, a1]
      obtain ⟨n1, n2⟩ := nxt_gt hT (show i < n by omega)
      by_cases h3 : cls b n i = 3
      · rw [if_pos ((sT_5 _ (cls_lt b n i)).2 h3)]
        obtain ⟨g', rfl⟩ : ∃ g', g = g' + 1 := ⟨g - 1, by omega⟩
        show ∃ τ', t_X9_scanAll_L9_b F (t_X9_scanAll_L9 F g') (Int32.ofNat (nxt b n i)) 0 τ2 = some τ' ∧ _
        have hb : t_X9_scanAll_L9_b F (t_X9_scanAll_L9 F g') (Int32.ofNat (nxt b n i)) 0 τ2 = some τ2 := by
          unfold t_X9_scanAll_L9_b
          by_cases z : τ2.1 0 ≤ Int32.ofNat (nxt b n i)
          · rw [if_pos z, if_pos rfl]
          · rw [if_neg z, if_pos rfl, if_pos rfl]
        rw [hb]
        refine ⟨τ2, rfl, t2F, t2no, fun j h1 h4 => ?_⟩
        have e : j = k := by
          by_cases e : j = k
          · exact e
          · have := (h4 k (Nat.le_refl k) (by omega)).2
            rw [← hpi] at this
            exact absurd h3 this
        rw [e]
        exact stk
      · rw [if_neg (fun q => h3 ((sT_5 _ (cls_lt b n i)).1 q))]
        obtain ⟨τ', c1, c2, c3, c4⟩ := ih (nxt b n i) (k + 1) g τ2 tc2 t21 (by omega) n2 (by omega) (by omega) (by rw [hpi]; rfl)
        refine ⟨τ', c1, t2F.tr c2, fun j hj => (t2no j hj).tr (c3 j (by omega)), fun j h1 h4 => ?_⟩
        by_cases e : j = k
        · subst e
          obtain ⟨b1, b2, b3, b4⟩ := c3 j (by omega)
          obtain ⟨s1, s2, s3, s4⟩ := stk
          exact ⟨b1.trans s1, b2.trans s2, b3.trans s3, fun q => b4.trans (s4 q)⟩
        · exact c4 j (by omega) fun j' x y => h4 j' (by omega) y
theorem scanAll_all (hF : 100000 ≤ F) (hT : TP b n) (hc : TPt τ b n) : ∃ τ', t_X9_scanAll F τ = some τ' ∧ TF τ τ' ∧ ∀ j, (∀ j', j' < j → ps b n j' < n ∧ cls b n (ps b n j') ≠ 3) → stoT b n τ' j := by
  have hn := hT.1
  obtain ⟨τ', c1, c2, c3, c4⟩ := all_T hF hT (n + 1) 0 0 F (tsI τ 2 0) hc (tsI_s _ _ _) (Nat.le_refl 0) (Nat.zero_le n) (by omega) (by omega) rfl
  refine ⟨τ', ?_, TF.tr ⟨fun z h => tsI_n _ _ _ _ h, fun _ _ _ _ => rfl, fun _ _ => rfl⟩ c2, fun j h => c4 j (Nat.zero_le j) fun j' x y => h j' y⟩
  unfold t_X9_scanAll
  rw [nmE]
  exact c1
