set_option maxRecDepth 100000
/-! all tokens: the component -/
variable {X : Nat → Option Ob} {ad : Nat → Nat} {B : Sw} {A : Av} {σ σ' : Cs} {τ : Tw} {F : Nat} {b : Nat → Nat} {n : Nat}
theorem ws_C (hF : 100000 ≤ F) (hA : AdOK ad B) (hT : TP b n) (hc : TPc σ b n) {K : Int32 → Option Sw} {i : Nat} (hi : i ≤ n) : f_X1_cut_L17 F K (ad 1) (cM X ad σ B) F (Int32.ofNat i) = K (Int32.ofNat (rn isW b n i)) := by
  have hn := hT.1
  have hle := rn_le hT W0 hi
  have hge := rn_ge hT W0 hi
  refine for_up (L := fun f k (_ : Unit) => f_X1_cut_L17 F K (ad 1) (cM X ad σ B) f k) (N := rn isW b n i) (Inv := fun k _ => i ≤ k) (Post := fun r => r = K (Int32.ofNat (rn isW b n i))) ?_ ?_ (rn isW b n i - i) i F () (by omega) (by omega) (Nat.le_refl _)
  · intro m k s hk h1
    have hp : isW (b k) := rn_in hT W0 hi h1 hk
    have hkn : k < n := by omega
    refine Or.inl ⟨(), by omega, ?_⟩
    show f_X1_cut_L17_b F K (ad 1) (cM X ad σ B) (f_X1_cut_L17 F K (ad 1) (cM X ad σ B) m) (Int32.ofNat k) = _
    unfold f_X1_cut_L17_b
    have ho := o1_0 (X := X) hA σ
    have hak := a2 (X := X) hA σ k (by omega)
    rw [hc.2 k hkn] at hak
    rw [o1_1 hA, Option.bind_some, hc.1, if_neg (fun q => absurd ((c_le n k (by omega) (by omega)).1 q) (by omega))]
    simp only [ho, hak, Option.bind_some, nmE, n_lp]
    rcases hp with h | h | h | h
    · rw [h, if_pos (by decide)]
    · rw [h, if_neg (by decide), if_pos (by decide)]
    · rw [h, if_neg (by decide), if_neg (by decide), if_pos (by decide)]
    · rw [h, if_neg (by decide), if_neg (by decide), if_neg (by decide), if_pos (by decide)]
  · intro m s h1
    have hp := rn_at (P := isW) hT W0 hi
    generalize hp2 : rn isW b n i = p at *
    show f_X1_cut_L17_b F K (ad 1) (cM X ad σ B) (f_X1_cut_L17 F K (ad 1) (cM X ad σ B) m) (Int32.ofNat p) = _
    unfold f_X1_cut_L17_b
    rw [o1_1 hA, Option.bind_some, hc.1]
    by_cases hpn : n ≤ p
    · rw [if_pos ((c_le n p (by omega) (by omega)).2 hpn)]
    · have hb := hT.2.1 p
      have q9 : ¬ cb (b p) = 9 := fun q => hp (Or.inl ((cb_eq (j := 9) hb (by decide)).1 q))
      have q10 : ¬ cb (b p) = 10 := fun q => hp (Or.inr (Or.inl ((cb_eq (j := 10) hb (by decide)).1 q)))
      have q13 : ¬ cb (b p) = 13 := fun q => hp (Or.inr (Or.inr (Or.inl ((cb_eq (j := 13) hb (by decide)).1 q))))
      have q32 : ¬ cb (b p) = 32 := fun q => hp (Or.inr (Or.inr (Or.inr ((cb_eq (j := 32) hb (by decide)).1 q))))
      have ho := o1_0 (X := X) hA σ
      have hak := a2 (X := X) hA σ p (by omega)
      rw [hc.2 p (by omega)] at hak
      rw [if_neg (fun q => hpn ((c_le n p (by omega) (by omega)).1 q))]
      simp only [ho, hak, Option.bind_some]
      rw [if_neg q9, if_neg q10, if_neg q13, if_neg q32]
theorem nxt_gt (hT : TP b n) {i : Nat} (hi : i < n) : i < nxt b n i ∧ nxt b n i ≤ n := by
  unfold nxt
  by_cases hl : isL (b i)
  · rw [if_pos hl]
    have h1 := rn_ge (P := isL) hT L0 (show i + 1 ≤ n by omega)
    have h2 := rn_le (P := isL) hT L0 (show i ≤ n by omega)
    rw [rn_y (P := isL) hi hl] at *
    omega
  · rw [if_neg hl]
    by_cases hd : isD (b i)
    · rw [if_pos hd]
      have h1 := rn_ge (P := isD) hT D0 (show i + 1 ≤ n by omega)
      have h2 := rn_le (P := isD) hT D0 (show i ≤ n by omega)
      rw [rn_y (P := isD) hi hd] at *
      omega
    · rw [if_neg hd]
      unfold lenS
      split
      · next h =>
        by_cases e : i + 1 < n
        · omega
        · have := hT.2.2 (i + 1) (by omega)
          omega
      · omega
theorem token_C (hF : 100000 ≤ F) (hA : AdOK ad B) (hK : KB B) (hT : TP b n) (hc : TPc σ b n) {self : Int32 → Sw → Option Sw} {i k : Nat} (hi : i < n) (h25 : σ.1 25 = Int32.ofNat k) (hk : k < 402) : f_X1_cut_j75 F self (ad 1) (Int32.ofNat i) (cM X ad σ B) = self (Int32.ofNat (nxt b n i)) (cM X ad (tkC σ k (kT (cls b n i)) i (valC b n i)) B) := by
  have hn := hT.1
  unfold f_X1_cut_j75
  rw [o1_1 hA, Option.bind_some, hc.1, if_pos ((c_lt i n (by omega) (by omega)).2 hi), o1_0 hA, Option.bind_some, a2 hA σ i (by omega), Option.bind_some, hc.2 i hi, c_let (hT.2.1 i), Option.bind_some]
  unfold nxt cls valC
  by_cases hl : isL (b i)
  · rw [if_pos hl, if_pos hl, if_pos hl, if_pos hl, if_neg (by decide), oc1 hA, Option.bind_some, word_C hF hA hK hT hc hi h25 hk, Option.bind_some]
  · have ho := o1_0 (X := X) hA σ
    have hak := a2 (X := X) hA σ i (by omega)
    rw [hc.2 i hi] at hak
    rw [if_neg hl, if_neg hl, if_neg hl, if_neg hl, if_pos rfl]
    simp only [ho, hak, Option.bind_some]
    rw [c_dig (hT.2.1 i), Option.bind_some]
    by_cases hd : isD (b i)
    · rw [if_pos hd, if_pos hd, if_pos hd, if_pos hd, if_neg (by decide), oc1 hA, Option.bind_some, number_C hF hA hT hc hi h25 hk, Option.bind_some]
    · rw [if_neg hd, if_neg hd, if_neg hd, if_neg hd, if_pos rfl, oc1 hA, Option.bind_some, sign_C hA hT hc hi h25 hk, Option.bind_some]
/-- where token j begins -/
def ps (b : Nat → Nat) (n : Nat) : Nat → Nat
  | 0 => rn isW b n 0
  | j + 1 => rn isW b n (nxt b n (ps b n j))
def clsJ (b : Nat → Nat) (n j : Nat) : Nat := if ps b n j < n then cls b n (ps b n j) else 2
def valJ (b : Nat → Nat) (n j : Nat) : Int64 := if ps b n j < n then valC b n (ps b n j) else 0
/-- token j is stored -/
def stoC (b : Nat → Nat) (n : Nat) (σ : Cs) (j : Nat) : Prop := σ.2.1 3 j = kT (clsJ b n j) ∧ σ.2.1 4 j = Int32.ofNat (ps b n j) ∧ σ.2.2.1 5 j = valJ b n j
/-- what a cut leaves alone -/
def SF (σ σ' : Cs) : Prop := (∀ z, z ≠ 21 → z ≠ 25 → σ'.1 z = σ.1 z) ∧ (∀ r, r ≠ 3 → r ≠ 4 → σ'.2.1 r = σ.2.1 r) ∧ (∀ r, r ≠ 5 → σ'.2.2.1 r = σ.2.2.1 r) ∧ σ'.2.2.2 = σ.2.2.2
def sameC (σ σ' : Cs) (j : Nat) : Prop := σ'.2.1 3 j = σ.2.1 3 j ∧ σ'.2.1 4 j = σ.2.1 4 j ∧ σ'.2.2.1 5 j = σ.2.2.1 5 j
theorem tkC_SF {k i : Nat} {p : Int32} {v : Int64} : SF σ (tkC σ k p i v) := by
  refine ⟨fun z h1 h2 => csI_n _ _ _ _ h2, fun r h1 h2 => ?_, fun r h => csL_n _ _ _ _ h, rfl⟩
  show (csA (csA σ 3 (upd (σ.2.1 3) k p)) 4 (upd (σ.2.1 4) k (Int32.ofNat i))).2.1 r = _
  rw [csA_n _ _ _ _ h2, csA_n _ _ _ _ h1]
theorem tkC_at {k i : Nat} {p : Int32} {v : Int64} : (tkC σ k p i v).2.1 3 k = p ∧ (tkC σ k p i v).2.1 4 k = Int32.ofNat i ∧ (tkC σ k p i v).2.2.1 5 k = v := by
  refine ⟨?_, ?_, ?_⟩
  · show upd (σ.2.1 3) k p k = p
    exact up_s _ _ _
  · show upd (σ.2.1 4) k (Int32.ofNat i) k = _
    exact up_s _ _ _
  · show vp_updL (σ.2.2.1 5) k v k = v
    exact upL_s _ _ _
theorem tkC_no {k i j : Nat} {p : Int32} {v : Int64} (h : j ≠ k) : sameC σ (tkC σ k p i v) j := by
  refine ⟨?_, ?_, ?_⟩
  · show upd (σ.2.1 3) k p j = _
    exact up_n _ _ _ _ h
  · show upd (σ.2.1 4) k (Int32.ofNat i) j = _
    exact up_n _ _ _ _ h
  · show vp_updL (σ.2.2.1 5) k v j = _
    exact upL_n _ _ _ _ h
theorem SF.tr {σ2 : Cs} (h1 : SF σ σ') (h2 : SF σ' σ2) : SF σ σ2 := ⟨fun z a c => (h2.1 z a c).trans (h1.1 z a c), fun r a c => (h2.2.1 r a c).trans (h1.2.1 r a c), fun r a => (h2.2.2.1 r a).trans (h1.2.2.1 r a), h2.2.2.2.trans h1.2.2.2⟩
theorem SF.i21 {v : Int32} : SF σ (csI σ 21 v) := ⟨fun z a c => csI_n _ _ _ _ a, fun r a c => rfl, fun r a => rfl, rfl⟩
theorem tkC_TP {k i : Nat} {p : Int32} {v : Int64} (h : TPc σ b n) : TPc (tkC σ k p i v) b n := h
theorem all_C (hF : 100000 ≤ F) (hA : AdOK ad B) (hK : KB B) (hT : TP b n) : ∀ (d i k f : Nat) (σ : Cs), TPc σ b n → σ.1 25 = Int32.ofNat k → k ≤ 401 → i ≤ n → n - i < d → d ≤ f → rn isW b n i = ps b n k → ∃ σ', f_X1_cut_L7 F (ad 1) f (Int32.ofNat i) (cM X ad σ B) = some (cM X ad σ' B) ∧ SF σ σ' ∧ σ'.1 21 = 0 ∧ (∀ j, j < k → sameC σ σ' j) ∧ ∀ j, k ≤ j → j ≤ 400 → (∀ j', k ≤ j' → j' < j → ps b n j' < n) → stoC b n σ' j := by
  have hn := hT.1
  intro d
  induction d with
  | zero =>
    intro i k f σ hc h25 hk hi hd
    omega
  | succ d ih =>
    intro i k f σ hc h25 hk hi hd hf hp
    obtain ⟨g, rfl⟩ : ∃ g, f = g + 1 := ⟨f - 1, by omega⟩
    have hle := rn_le hT W0 hi
    have hge := rn_ge hT W0 hi
    show ∃ σ', f_X1_cut_L7_b F (ad 1) (f_X1_cut_L7 F (ad 1) g) (Int32.ofNat i) (cM X ad σ B) = some (cM X ad σ' B) ∧ _
    unfold f_X1_cut_L7_b
    rw [o1_5 hA, Option.bind_some, h25]
    by_cases hk4 : k = 401
    · subst hk4
      rw [if_pos (by decide), p1_1 hA, Option.bind_some]
      exact ⟨_, rfl, SF.i21, csI_s _ _ _, fun j hj => ⟨rfl, rfl, rfl⟩, fun j h1 h2 => by omega⟩
    · have g4 : ¬ (400 : Int32) < Int32.ofNat k := fun q => absurd ((c_lt 400 k (by decide) (by omega)).1 q) (by omega)
      rw [if_neg g4, ws_C hF hA hT hc hi, hp]
      by_cases hpn : ps b n k < n
      · rw [token_C hF hA hK hT hc hpn h25 (by omega)]
        obtain ⟨n1, n2⟩ := nxt_gt hT hpn
        obtain ⟨σ', c1, c2, c3, c4, c5⟩ := ih (nxt b n (ps b n k)) (k + 1) g (tkC σ k (kT (cls b n (ps b n k))) (ps b n k) (valC b n (ps b n k))) (tkC_TP hc) (csI_s _ _ _) (by omega) n2 (by omega) (by omega) rfl
        refine ⟨σ', c1, tkC_SF.tr c2, c3, fun j hj => ?_, fun j h1 h2 h3 => ?_⟩
        · obtain ⟨a1, a2, a3⟩ := c4 j (by omega)
          obtain ⟨b1, b2, b3⟩ := tkC_no (σ := σ) (k := k) (i := ps b n k) (p := kT (cls b n (ps b n k))) (v := valC b n (ps b n k)) (show j ≠ k by omega)
          exact ⟨a1.trans b1, a2.trans b2, a3.trans b3⟩
        · by_cases e : j = k
          · subst e
            obtain ⟨a1, a2, a3⟩ := c4 j (by omega)
            obtain ⟨b1, b2, b3⟩ := tkC_at (σ := σ) (k := j) (i := ps b n j) (p := kT (cls b n (ps b n j))) (v := valC b n (ps b n j))
            refine ⟨(a1.trans b1).trans ?_, a2.trans b2, (a3.trans b3).trans ?_⟩
            · unfold clsJ
              rw [if_pos hpn]
            · unfold valJ
              rw [if_pos hpn]
          · exact c5 j (by omega) h2 fun j' x y => h3 j' (by omega) y
      · have hpe : ps b n k = n := by omega
        unfold f_X1_cut_j75
        have ha := c_add (X := X) (F := F) (σ := σ) hA (c := 2) (i := n) (k := k) (v := 0) (by decide) (by omega) h25 (by omega)
        rw [show kT 2 = 0 from rfl] at ha
        rw [o1_1 hA, Option.bind_some, hc.1, hpe, if_neg (fun q => absurd ((c_lt n n (by omega) (by omega)).1 q) (by omega)), Option.bind_some, oc1 hA, Option.bind_some, ha, Option.bind_some, p1_1 hA, Option.bind_some]
        refine ⟨_, rfl, tkC_SF.tr SF.i21, csI_s _ _ _, fun j hj => tkC_no (by omega), fun j h1 h2 h3 => ?_⟩
        have e : j = k := by
          by_cases e : j = k
          · exact e
          · have := h3 k (Nat.le_refl k) (by omega)
            omega
        subst e
        obtain ⟨b1, b2, b3⟩ := tkC_at (σ := σ) (k := j) (i := n) (p := 0) (v := 0)
        refine ⟨b1.trans ?_, b2.trans ?_, b3.trans ?_⟩
        · unfold clsJ
          rw [if_neg hpn]
          rfl
        · rw [hpe]
        · unfold valJ
          rw [if_neg hpn]
theorem cut_all (hF : 100000 ≤ F) (hA : AdOK ad B) (hK : KB B) (hT : TP b n) (hc : TPc σ b n) : ∃ σ', f_X1_cut F (ad 1) (cM X ad σ B) = some (cM X ad σ' B) ∧ SF σ σ' ∧ σ'.1 21 = 0 ∧ ∀ j, j ≤ 400 → (∀ j', j' < j → ps b n j' < n) → stoC b n σ' j := by
  have hn := hT.1
  unfold f_X1_cut
  rw [p1_5 hA, Option.bind_some]
  obtain ⟨σ', c1, c2, c3, c4, c5⟩ := all_C (X := X) (σ := csI σ 25 0) hF hA hK hT (n + 1) 0 0 F hc (csI_s _ _ _) (by decide) (Nat.zero_le n) (by omega) (by omega) rfl
  exact ⟨σ', c1, SF.tr ⟨fun z a c => csI_n _ _ _ _ c, fun r a c => rfl, fun r a => rfl, rfl⟩ c2, c3, fun j h1 h2 => c5 j (Nat.zero_le j) h1 fun j' x y => h2 j' y⟩
