set_option maxRecDepth 100000
/-! one token: the component -/
variable {X : Nat → Option Ob} {ad : Nat → Nat} {B : Sw} {A : Av} {σ : Cs} {τ : Tw} {F : Nat} {b : Nat → Nat} {n : Nat}
/-- a token's sort has a number; what either side writes for it -/
def kT (c : Nat) : Int32 := if c < 16 then ([1, 2, 0, 3, 59, 61, 43, 45, 42, 47, 60, 40, 41, 101, 110, 109] : List Int32).getD c 0 else Int32.ofNat (184 + c)
def sT (c : Nat) : Int32 := if c < 16 then ([0, 1, 4, 5, 2, 2, 2, 2, 2, 2, 2, 2, 2, 2, 2, 2] : List Int32).getD c 0 else 3
def wT (c : Nat) : Int32 := if c < 16 then ([-1, 0, 0, 0, 59, 61, 43, 45, 42, 47, 60, 40, 41, 300, 301, 302] : List Int32).getD c 0 else wtL.getD (c - 16) 0
def clsS (x y : Nat) : Nat := if y = 61 ∧ x = 61 then 13 else if y = 61 ∧ x = 33 then 14 else if y = 61 ∧ x = 60 then 15 else if x = 59 then 4 else if x = 61 then 5 else if x = 43 then 6 else if x = 45 then 7 else if x = 42 then 8 else if x = 47 then 9 else if x = 60 then 10 else if x = 40 then 11 else if x = 41 then 12 else 3
def lenS (x y : Nat) : Nat := if y = 61 ∧ (x = 61 ∨ x = 33 ∨ x = 60) then 2 else 1
def clsW (v : Nat) : Nat := if wk v < 26 then 16 + wk v else 0
def cls (b : Nat → Nat) (n i : Nat) : Nat := if isL (b i) then (if rn isL b n i - i ≤ 8 then clsW (wv b i (rn isL b n i - i)) else 3) else if isD (b i) then (if rn isD b n i - i ≤ 4 then 1 else 3) else clsS (b i) (b (i + 1))
def nxt (b : Nat → Nat) (n i : Nat) : Nat := if isL (b i) then rn isL b n i else if isD (b i) then rn isD b n i else i + lenS (b i) (b (i + 1))
def valC (b : Nat → Nat) (n i : Nat) : Int64 := if isL (b i) then Int64.ofNat (wv b i (min (rn isL b n i - i) 8)) else if isD (b i) then (Int32.ofNat (iv b i (min (rn isD b n i - i) 4))).toInt64 else 0
def tkC (σ : Cs) (k : Nat) (p : Int32) (i : Nat) (v : Int64) : Cs := csI (csL (csA (csA σ 3 (upd (σ.2.1 3) k p)) 4 (upd (σ.2.1 4) k (Int32.ofNat i))) 5 (vp_updL (σ.2.2.1 5) k v)) 25 (Int32.ofNat (k + 1))
theorem clsS_lt (x y : Nat) : clsS x y < 42 := by
  unfold clsS
  repeat' split
  all_goals decide
theorem clsW_lt (v : Nat) : clsW v < 42 := by
  unfold clsW
  split
  · next h => omega
  · decide
theorem cls_lt (b : Nat → Nat) (n i : Nat) : cls b n i < 42 := by
  unfold cls
  split
  · split
    · exact clsW_lt _
    · decide
  · split
    · split <;> decide
    · exact clsS_lt _ _
theorem nar_k : ∀ c, c < 42 → nar 3 (kT c).toInt16.toInt32 = kT c := by decide +kernel
theorem nar_i : ∀ i, i < 2001 → nar 3 (Int32.ofNat i).toInt16.toInt32 = Int32.ofNat i := by decide +kernel
theorem c_add (hA : AdOK ad B) {c i k : Nat} {v : Int64} (hc : c < 42) (hi : i < 2001) (h25 : σ.1 25 = Int32.ofNat k) (hk : k < 402) : f_X1_add F (ad 1) (kT c) (Int32.ofNat i) v (cM X ad σ B) = some (cM X ad (tkC σ k (kT c) i v) B) := by
  unfold f_X1_add
  rw [o1_2 hA, Option.bind_some, o1_5 hA, Option.bind_some, h25, s3 hA σ k _ hk, Option.bind_some, nar_k c hc]
  rw [o1_3 hA, Option.bind_some, o1_5 hA, Option.bind_some]
  have e1 : (csA σ 3 (upd (σ.2.1 3) k (kT c))).1 25 = Int32.ofNat k := h25
  rw [e1, s4 hA _ k _ hk, Option.bind_some, nar_i i hi]
  rw [o1_4 hA, Option.bind_some, o1_5 hA, Option.bind_some]
  have e2 : (csA (csA σ 3 (upd (σ.2.1 3) k (kT c))) 4 (upd ((csA σ 3 (upd (σ.2.1 3) k (kT c))).2.1 4) k (Int32.ofNat i))).1 25 = Int32.ofNat k := h25
  rw [e2, sL5 hA _ k _ hk, Option.bind_some, o1_5 hA, Option.bind_some]
  rw [show ∀ f, (csL (csA (csA σ 3 (upd (σ.2.1 3) k (kT c))) 4 (upd ((csA σ 3 (upd (σ.2.1 3) k (kT c))).2.1 4) k (Int32.ofNat i))) 5 f).1 25 = Int32.ofNat k from fun f => h25, n_lp, p1_5 hA]
  rfl
theorem j71_C {x : Nat} (hx : x < 256) {v0 : Nat} {v1 : Int32} {M : Sw} : f_X1_sign_j71 F v0 v1 (cb x) M = Option.bind (oc M v0 1) fun _ => Option.bind (f_X1_add F v0 (kT (clsS x 0)) v1 0 M) fun q => some (v1 + 1, q) := by
  by_cases h59 : x = 59
  · subst h59
    rfl
  by_cases h61 : x = 61
  · subst h61
    rfl
  by_cases h43 : x = 43
  · subst h43
    rfl
  by_cases h45 : x = 45
  · subst h45
    rfl
  by_cases h42 : x = 42
  · subst h42
    rfl
  by_cases h47 : x = 47
  · subst h47
    rfl
  by_cases h60 : x = 60
  · subst h60
    rfl
  by_cases h40 : x = 40
  · subst h40
    rfl
  by_cases h41 : x = 41
  · subst h41
    rfl
  unfold f_X1_sign_j71
  have q59 : ¬ cb x = 59 := fun q => h59 ((cb_eq (j := 59) hx (by decide)).1 q)
  rw [if_neg q59]
  have q61 : ¬ cb x = 61 := fun q => h61 ((cb_eq (j := 61) hx (by decide)).1 q)
  rw [if_neg q61]
  have q43 : ¬ cb x = 43 := fun q => h43 ((cb_eq (j := 43) hx (by decide)).1 q)
  rw [if_neg q43]
  have q45 : ¬ cb x = 45 := fun q => h45 ((cb_eq (j := 45) hx (by decide)).1 q)
  rw [if_neg q45]
  have q42 : ¬ cb x = 42 := fun q => h42 ((cb_eq (j := 42) hx (by decide)).1 q)
  rw [if_neg q42]
  have q47 : ¬ cb x = 47 := fun q => h47 ((cb_eq (j := 47) hx (by decide)).1 q)
  rw [if_neg q47]
  have q60 : ¬ cb x = 60 := fun q => h60 ((cb_eq (j := 60) hx (by decide)).1 q)
  rw [if_neg q60]
  have q40 : ¬ cb x = 40 := fun q => h40 ((cb_eq (j := 40) hx (by decide)).1 q)
  rw [if_neg q40]
  have q41 : ¬ cb x = 41 := fun q => h41 ((cb_eq (j := 41) hx (by decide)).1 q)
  rw [if_neg q41]
  have e : clsS x 0 = 3 := by
    unfold clsS
    rw [if_neg (by omega), if_neg (by omega), if_neg (by omega), if_neg h59, if_neg h61, if_neg h43, if_neg h45, if_neg h42, if_neg h47, if_neg h60, if_neg h40, if_neg h41]
  rw [e]
  rfl
theorem sign_C (hA : AdOK ad B) (hT : TP b n) (hc : TPc σ b n) {i k : Nat} (hi : i < n) (h25 : σ.1 25 = Int32.ofNat k) (hk : k < 402) : f_X1_sign F (ad 1) (Int32.ofNat i) (cM X ad σ B) = some (Int32.ofNat (i + lenS (b i) (b (i + 1))), cM X ad (tkC σ k (kT (clsS (b i) (b (i + 1)))) i 0) B) := by
  have hn := hT.1
  have ha : ∀ c, c < 42 → f_X1_add F (ad 1) (kT c) (Int32.ofNat i) 0 (cM X ad σ B) = some (cM X ad (tkC σ k (kT c) i 0) B) := fun c hcc => c_add hA hcc (by omega) h25 hk
  unfold f_X1_sign
  rw [o1_0 hA, Option.bind_some, a2 hA σ i (by omega), Option.bind_some, hc.2 i hi, oc1 hA, Option.bind_some, n_lp, c_byte hA hT hc (by omega), Option.bind_some]
  generalize hx : b i = x
  generalize hy : b (i + 1) = y
  have hxl : x < 256 := by rw [← hx]; exact hT.2.1 i
  have hyl : y < 256 := by rw [← hy]; exact hT.2.1 (i + 1)
  have q : (cb y = 61) = (y = 61) := propext (cb_eq (j := 61) hyl (by decide))
  by_cases hy61 : y = 61
  · subst hy61
    have e61 : cb 61 = 61 := by decide
    rw [if_pos e61]
    by_cases h61 : x = 61
    · subst h61
      have r1 : cb 61 = 61 := by decide
      rw [if_pos r1]
      unfold f_X1_sign_j37
      rw [if_pos r1, oc1 hA, Option.bind_some]
      have := ha 13 (by decide)
      rw [show kT 13 = 101 from rfl] at this
      rw [this, Option.bind_some, n_lp]
      rfl
    · have r1 : ¬ cb x = 61 := fun q => h61 ((cb_eq (j := 61) hxl (by decide)).1 q)
      rw [if_neg r1]
      by_cases h33 : x = 33
      · subst h33
        have r2 : cb 33 = 33 := by decide
        rw [if_pos r2]
        unfold f_X1_sign_j37
        rw [if_neg r1, if_pos r2, oc1 hA, Option.bind_some]
        have := ha 14 (by decide)
        rw [show kT 14 = 110 from rfl] at this
        rw [this, Option.bind_some, n_lp]
        rfl
      · have r2 : ¬ cb x = 33 := fun q => h33 ((cb_eq (j := 33) hxl (by decide)).1 q)
        rw [if_neg r2]
        by_cases h60 : x = 60
        · subst h60
          have r3 : cb 60 = 60 := by decide
          rw [if_pos r3]
          unfold f_X1_sign_j37
          rw [if_neg r1, if_neg r2, oc1 hA, Option.bind_some]
          have := ha 15 (by decide)
          rw [show kT 15 = 109 from rfl] at this
          rw [this, Option.bind_some, n_lp]
          rfl
        · have r3 : ¬ cb x = 60 := fun q => h60 ((cb_eq (j := 60) hxl (by decide)).1 q)
          rw [if_neg r3, j71_C hxl, oc1 hA, Option.bind_some, ha _ (clsS_lt x 0), Option.bind_some, n_lp]
          have e1 : clsS x 61 = clsS x 0 := by
            unfold clsS
            rw [if_neg (by omega), if_neg (by omega), if_neg (by omega), if_neg (show ¬ ((0 : Nat) = 61 ∧ x = 61) by omega), if_neg (show ¬ ((0 : Nat) = 61 ∧ x = 33) by omega), if_neg (show ¬ ((0 : Nat) = 61 ∧ x = 60) by omega)]
          have e2 : lenS x 61 = 1 := if_neg (by omega)
          rw [e1, e2]
  · have r0 : ¬ cb y = 61 := fun q => hy61 ((cb_eq (j := 61) hyl (by decide)).1 q)
    rw [if_neg r0, j71_C hxl, oc1 hA, Option.bind_some, ha _ (clsS_lt x 0), Option.bind_some, n_lp]
    have e1 : clsS x y = clsS x 0 := by
      unfold clsS
      rw [if_neg (by omega), if_neg (by omega), if_neg (by omega), if_neg (show ¬ ((0 : Nat) = 61 ∧ x = 61) by omega), if_neg (show ¬ ((0 : Nat) = 61 ∧ x = 33) by omega), if_neg (show ¬ ((0 : Nat) = 61 ∧ x = 60) by omega)]
    have e2 : lenS x y = 1 := if_neg (by omega)
    rw [e1, e2]
theorem number_C (hF : 100000 ≤ F) (hA : AdOK ad B) (hT : TP b n) (hc : TPc σ b n) {i k : Nat} (hi : i < n) (h25 : σ.1 25 = Int32.ofNat k) (hk : k < 402) : f_X1_number F (ad 1) (Int32.ofNat i) (cM X ad σ B) = some (Int32.ofNat (rn isD b n i), cM X ad (tkC σ k (kT (if rn isD b n i - i ≤ 4 then 1 else 3)) i (Int32.ofNat (iv b i (min (rn isD b n i - i) 4))).toInt64) B) := by
  have hn := hT.1
  have hle := rn_le hT D0 (show i ≤ n by omega)
  have hge := rn_ge hT D0 (show i ≤ n by omega)
  have ha : ∀ c, c < 42 → ∀ v, f_X1_add F (ad 1) (kT c) (Int32.ofNat i) v (cM X ad σ B) = some (cM X ad (tkC σ k (kT c) i v) B) := fun c hcc v => c_add hA hcc (by omega) h25 hk
  unfold f_X1_number
  rw [cn_L4 hF hA hT hc (by omega), n_ss _ _ hge]
  by_cases h4 : rn isD b n i - i ≤ 4
  · have e4 : Int32.ofNat (rn isD b n i - i) ≤ (4 : Int32) := (c_le _ 4 (by omega) (by omega)).2 h4
    have := ha 1 (by decide) (Int32.ofNat (iv b i (min (rn isD b n i - i) 4))).toInt64
    rw [show kT 1 = 2 from rfl] at this
    rw [if_pos e4, if_pos h4, oc1 hA, Option.bind_some, this, Option.bind_some]
    rfl
  · have e4 : ¬ Int32.ofNat (rn isD b n i - i) ≤ (4 : Int32) := fun q => h4 ((c_le _ 4 (by omega) (by omega)).1 q)
    have := ha 3 (by decide) (Int32.ofNat (iv b i (min (rn isD b n i - i) 4))).toInt64
    rw [show kT 3 = 3 from rfl] at this
    rw [if_neg e4, if_neg h4, oc1 hA, Option.bind_some, this, Option.bind_some]
    rfl
