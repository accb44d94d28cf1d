set_option maxRecDepth 100000
/-! who is reached -/
variable {X : Nat → Option Ob} {ad : Nat → Nat} {B : Sw} {A A' : Av} {σ σ' : Cs} {τ : Tw} {F : Nat}
def sA0 (A : Av) (s : Nat) : Int32 := sHt A (zN A 6 (120 + 3 * s))
def sB0 (A : Av) (s : Nat) : Int32 := if A 6 (120 + 3 * s + 1) = -1 then 0 else sHt A (zN A 6 (120 + 3 * s + 1))
/-- whether a stair meets -/
def sMt (A : Av) (s : Nat) : Int32 := if A 6 (120 + 3 * s + 2) < (if sA0 A s ≤ sB0 A s then sB0 A s - sA0 A s else sA0 A s - sB0 A s) then 0 else 1
theorem WF.st (hW : WF A) {s : Nat} (hs : s < zN A 6 3) : A 6 (120 + 3 * s) = Int32.ofNat (zN A 6 (120 + 3 * s)) ∧ zN A 6 (120 + 3 * s) < zN A 6 0 ∧ (A 6 (120 + 3 * s + 1) = -1 ∨ (A 6 (120 + 3 * s + 1) = Int32.ofNat (zN A 6 (120 + 3 * s + 1)) ∧ zN A 6 (120 + 3 * s + 1) < zN A 6 0)) := by
  obtain ⟨h1, h2, h3, -⟩ := hW.1.2.2.2.1 s hs
  refine ⟨h1.1, h2, ?_⟩
  rcases h3 with h3 | ⟨h3, h4⟩
  · exact Or.inl h3
  · exact Or.inr ⟨h3.1, h4⟩
theorem meets_C (hE : EV ad B A) (hC : CR ad B A σ) {s : Nat} (hs : s < zN A 6 3) : f_X0_meets_2 F (ad 0) (ad (1100 + s)) (cM X ad σ B) = some (sMt A s) := by
  obtain ⟨hA, hB, hW⟩ := hE
  have lS := hW.S.2
  have lH := hW.H.2
  obtain ⟨ea, la, hb⟩ := hW.st hs
  have q := hB.ss F hs (X := X)
  obtain ⟨ha, la'⟩ := hW.ht (h := zN A 6 (120 + 3 * s)) (by omega)
  have fin : ∀ b : Int32, (∃ k, k ≤ 99 ∧ b = Int32.ofNat k) → b = sB0 A s → f_X0_meets_2_j24 F (ad 0) (ad (1100 + s)) b (cM X ad σ B) = some (sMt A s) := by
    intro b ⟨k, hk, eb⟩ e
    unfold f_X0_meets_2_j24 sMt
    simp (disch := omega) only [Option.bind_some, Option.bind_none, nmE, n_pp, n_pl, n_lp, n_mm, n_ml, n_lm, csI_s, csI_n, csI_2, csA_1, csA_s, csA_n, csA_2, csL_1, csL_2, csL_s, csL_n, csL_3, csQ_1, csQ_2, csQ_3, csQ_s, csQ_n, nar0, c_le, c_le_l, c_le_r, c_lt, c_lt_l, c_lt_r, c_eq, c_eq_l, c_eq_r, if_true, if_false, if_pos, if_neg, o0_4 hA, o46_0 hA, q, ea, a47 hA, hC.2.2.2.1]
    show (if A 6 (120 + 3 * s + 2) < ab (sA0 A s - b) then some 0 else some 1) = _
    rw [← e]
    have hA0 : sA0 A s = Int32.ofNat (zN A 7 (10 + zN A 6 (120 + 3 * s))) := ha
    rw [hA0, eb, ab_d (by omega) (by omega)]
    by_cases h : A 6 (120 + 3 * s + 2) < (if Int32.ofNat (zN A 7 (10 + zN A 6 (120 + 3 * s))) ≤ Int32.ofNat k then Int32.ofNat k - Int32.ofNat (zN A 7 (10 + zN A 6 (120 + 3 * s))) else Int32.ofNat (zN A 7 (10 + zN A 6 (120 + 3 * s))) - Int32.ofNat k)
    · rw [if_pos h, if_pos h]
    · rw [if_neg h, if_neg h]
  unfold f_X0_meets_2
  simp (disch := omega) only [Option.bind_some, Option.bind_none, nmE, n_pp, n_pl, n_lp, n_mm, n_ml, n_lm, csI_s, csI_n, csI_2, csA_1, csA_s, csA_n, csA_2, csL_1, csL_2, csL_s, csL_n, csL_3, csQ_1, csQ_2, csQ_3, csQ_s, csQ_n, nar0, c_le, c_le_l, c_le_r, c_lt, c_lt_l, c_lt_r, c_eq, c_eq_l, c_eq_r, if_true, if_false, if_pos, if_neg, q]
  rcases hb with hb | ⟨hb, lb⟩
  · rw [if_pos hb]
    exact fin 0 ⟨0, by decide, rfl⟩ (by unfold sB0; rw [if_pos hb])
  · have n1 : ¬ A 6 (120 + 3 * s + 1) = -1 := by rw [hb]; exact ofNat_ne_m1 (by omega)
    rw [if_neg n1]
    obtain ⟨hh, lh⟩ := hW.ht (h := zN A 6 (120 + 3 * s + 1)) (by omega)
    simp (disch := omega) only [Option.bind_some, Option.bind_none, nmE, n_pp, n_pl, n_lp, n_mm, n_ml, n_lm, csI_s, csI_n, csI_2, csA_1, csA_s, csA_n, csA_2, csL_1, csL_2, csL_s, csL_n, csL_3, csQ_1, csQ_2, csQ_3, csQ_s, csQ_n, nar0, c_le, c_le_l, c_le_r, c_lt, c_lt_l, c_lt_r, c_eq, c_eq_l, c_eq_r, if_true, if_false, if_pos, if_neg, o0_4 hA, o46_0 hA, q, hb, a47 hA, hC.2.2.2.1]
    exact fin _ ⟨_, lh, hh⟩ (by unfold sB0; rw [if_neg n1]; rfl)
theorem meets_T (hW : WF A) (hT : TR A τ) {s : Nat} (hs : s < zN A 6 3) : t_X9_isMeeting F (Int32.ofNat s) τ = some (sMt A s) := by
  have lS := hW.S.2
  have lH := hW.H.2
  obtain ⟨ea, la, hb⟩ := hW.st hs
  have fin : ∀ b : Int32, b = sB0 A s → t_X9_isMeeting_j43 F (Int32.ofNat s) (sA0 A s) b τ = some (sMt A s) := by
    intro b e
    unfold t_X9_isMeeting_j43 t_X9_isMeeting_j62 sMt
    simp (disch := omega) only [Option.bind_some, Option.bind_none, nmE, n_pp, n_pl, n_lp, n_mm, n_ml, n_lm, taI_n, taI_l, tsA_n, tsA_l, nar0, twA_1, twA_s, twA_n, twA_2, twA_twA, tsI_s, tsI_n, tsI_2, c_le, c_le_l, c_le_r, c_lt, c_lt_l, c_lt_r, c_eq, c_eq_l, c_eq_r, if_true, if_false, if_pos, if_neg, hT.2 6 rfl]
    rw [← e]
    by_cases h : sA0 A s ≤ b
    · rw [if_pos h, if_pos h]
      by_cases h2 : A 6 (120 + 3 * s + 2) < b - sA0 A s
      · rw [if_pos h2, if_pos h2]
      · rw [if_neg h2, if_neg h2]
    · rw [if_neg h, if_neg h]
      by_cases h2 : A 6 (120 + 3 * s + 2) < sA0 A s - b
      · rw [if_pos h2, if_pos h2]
      · rw [if_neg h2, if_neg h2]
  unfold t_X9_isMeeting
  simp (disch := omega) only [Option.bind_some, Option.bind_none, nmE, n_pp, n_pl, n_lp, n_mm, n_ml, n_lm, taI_n, taI_l, tsA_n, tsA_l, nar0, twA_1, twA_s, twA_n, twA_2, twA_twA, tsI_s, tsI_n, tsI_2, c_le, c_le_l, c_le_r, c_lt, c_lt_l, c_lt_r, c_eq, c_eq_l, c_eq_r, if_true, if_false, if_pos, if_neg, hT.2 6 rfl]
  rw [ea, heightOf_T (by omega) hT, Option.bind_some]
  rcases hb with hb | ⟨hb, lb⟩
  · rw [hb, if_neg (by decide)]
    exact fin 0 (by unfold sB0; rw [if_pos hb])
  · have n1 : ¬ A 6 (120 + 3 * s + 1) = -1 := by rw [hb]; exact ofNat_ne_m1 (by omega)
    rw [hb, if_pos (ofNat_nn (by omega)), heightOf_T (by omega) hT, Option.bind_some]
    exact fin _ (by unfold sB0; rw [if_neg n1])
/-- 12: meets -/
theorem st_12 (h : INV ad B A σ τ) (x : Nat → Int32) : ST F 12 x X ad B σ τ := by
  have hI := h
  obtain ⟨hE, hK, hC, hT⟩ := h
  have hA := hE.1
  have hB := hE.2.1
  obtain ⟨eS, lS⟩ := hE.2.2.S
  have c : f_X0_meets F (ad 0) (x 1) (cM X ad σ B) = some (if inN (x 1) (zN A 6 3) then (if sMt A (x 1).toNatClampNeg = 0 then 0 else 1) else -1) := by
    unfold f_X0_meets
    simp (disch := omega) only [Option.bind_some, Option.bind_none, nmE, n_pp, n_pl, n_lp, n_mm, n_ml, n_lm, csI_s, csI_n, csI_2, csA_1, csA_s, csA_n, csA_2, csL_1, csL_2, csL_s, csL_n, csL_3, csQ_1, csQ_2, csQ_3, csQ_s, csQ_n, nar0, c_le, c_le_l, c_le_r, c_lt, c_lt_l, c_lt_r, c_eq, c_eq_l, c_eq_r, if_true, if_false, if_pos, if_neg, o0_3 hA, hB.tw, hB.sn F]
    rw [within_N (by omega), Option.bind_some, gd]
    by_cases hh : inN (x 1) (zN A 6 3)
    · obtain ⟨k, hk, e⟩ := hh.ex
      rw [if_pos hh, if_pos hh, e, i_cl (n := 13) (by omega) (by decide)]
      simp (disch := omega) only [Option.bind_some, Option.bind_none, nmE, n_pp, n_pl, n_lp, n_mm, n_ml, n_lm, csI_s, csI_n, csI_2, csA_1, csA_s, csA_n, csA_2, csL_1, csL_2, csL_s, csL_n, csL_3, csQ_1, csQ_2, csQ_3, csQ_s, csQ_n, nar0, c_le, c_le_l, c_le_r, c_lt, c_lt_l, c_lt_r, c_eq, c_eq_l, c_eq_r, if_true, if_false, if_pos, if_neg, hB.ss F hk, oc0 hA, meets_C hE hC hk]
      by_cases h0 : sMt A k = 0
      · rw [if_pos h0, if_pos h0]
      · rw [if_neg h0, if_neg h0]
    · rw [if_neg hh, if_neg hh]
  have t : t_X9_meets F (x 1) τ = some (if inN (x 1) (zN A 6 3) then (if sMt A (x 1).toNatClampNeg = 0 then 0 else 1) else -1) := by
    unfold t_X9_meets
    simp (disch := omega) only [Option.bind_some, Option.bind_none, nmE, n_pp, n_pl, n_lp, n_mm, n_ml, n_lm, taI_n, taI_l, tsA_n, tsA_l, nar0, twA_1, twA_s, twA_n, twA_2, twA_twA, tsI_s, tsI_n, tsI_2, c_le, c_le_l, c_le_r, c_lt, c_lt_l, c_lt_r, c_eq, c_eq_l, c_eq_r, if_true, if_false, if_pos, if_neg, hT.2 6 rfl]
    rw [eS, g_lt (by omega)]
    by_cases hh : inN (x 1) (zN A 6 3)
    · obtain ⟨k, hk, e⟩ := hh.ex
      rw [if_pos hh, if_pos hh, e, i_cl (n := 13) (by omega) (by decide), meets_T hE.2.2 hT hk, Option.bind_some]
      by_cases h0 : sMt A k = 0
      · rw [if_pos h0, if_pos h0]
      · rw [if_neg h0, if_neg h0]
    · rw [if_neg hh, if_neg hh]
  exact ST.ro hI (st_b c) (st_b t) hC hT
/-! the set that is reached -/
def sDry (A : Av) (t nh : Int32) : Nat → Int32
  | 0 => 0
  | k + 1 => if sHt A k < t then sDry A t nh k else if Int32.ofNat k = nh then sDry A t nh k else sDry A t nh k ||| bit k
def sQy (A : Av) (dry : Int32) : Nat → Int32
  | 0 => 0
  | q + 1 => sQy A dry q ||| (bit (zN A 6 (160 + q)) &&& dry)
def sSt (A : Av) (t ns dry : Int32) (s : Nat) (v : Int32) : Int32 :=
  if Int32.ofNat s = ns then v else if sMt A s = 0 then v else if A 6 (120 + 3 * s + 1) = -1 then (if t = 0 then v ||| (bit (zN A 6 (120 + 3 * s)) &&& dry) else v) else
    if (if v &&& bit (zN A 6 (120 + 3 * s)) = 0 then v else v ||| (bit (zN A 6 (120 + 3 * s + 1)) &&& dry)) &&& bit (zN A 6 (120 + 3 * s + 1)) = 0 then (if v &&& bit (zN A 6 (120 + 3 * s)) = 0 then v else v ||| (bit (zN A 6 (120 + 3 * s + 1)) &&& dry)) else (if v &&& bit (zN A 6 (120 + 3 * s)) = 0 then v else v ||| (bit (zN A 6 (120 + 3 * s + 1)) &&& dry)) ||| (bit (zN A 6 (120 + 3 * s)) &&& dry)
def sRd (A : Av) (t ns dry v : Int32) : Nat → Int32
  | 0 => v
  | s + 1 => sSt A t ns dry s (sRd A t ns dry v s)
def sFx (A : Av) (t ns dry : Int32) : Nat → Int32 → Int32
  | 0, v => v
  | n + 1, v => if sRd A t ns dry v (zN A 6 3) = v then v else sFx A t ns dry n (sRd A t ns dry v (zN A 6 3))
def sReach (A : Av) (t ns nh : Int32) : Int32 := sFx A t ns (sDry A t nh (zN A 6 0)) 70000 (sQy A (sDry A t nh (zN A 6 0)) (zN A 6 4))
/-- sets of houses -/
def b16 (v : Int32) : Prop := ∀ i, 16 ≤ i → i < 32 → tb v i = false
theorem b16.or {v w : Int32} (h : b16 v) (g : b16 w) : b16 (v ||| w) := fun i h1 h2 => by rw [tb_or, h i h1 h2, g i h1 h2]; rfl
theorem b16.an {v w : Int32} (h : b16 v) : b16 (v &&& w) := fun i h1 h2 => by rw [tb_and, h i h1 h2]; rfl
theorem b16.bt {k : Nat} (h : k < 16) : b16 (bit k) := fun i h1 h2 => by
  rw [tb_bit (by omega) h2]
  simp
  omega
theorem b16.z : b16 0 := fun i _ _ => tb_0 i
theorem b16.lt {v : Int32} (h : b16 v) : v.toBitVec.toNat < 65536 := by
  refine Nat.lt_pow_two_of_testBit (n := 16) _ fun i hi => ?_
  by_cases h32 : i < 32
  · exact h i hi h32
  · have h2 : v.toBitVec.toNat < 2 ^ i := Nat.lt_of_lt_of_le v.toBitVec.isLt (Nat.pow_le_pow_right (by decide) (by omega))
    exact Nat.testBit_lt_two_pow h2
/-- a set that grew is greater -/
theorem grow {v w : Int32} (h : ∀ i, i < 32 → tb v i = true → tb w i = true) (hne : w ≠ v) : v.toBitVec.toNat < w.toBitVec.toNat := by
  have e : v ||| w = w := tb_ext fun i hi => by
    rw [tb_or]
    cases hv : tb v i with
    | false => rfl
    | true => rw [h i hi hv]; rfl
  have e2 : v.toBitVec.toNat ||| w.toBitVec.toNat = w.toBitVec.toNat := by
    have := congrArg (fun z : Int32 => z.toBitVec.toNat) e
    simp only [Int32.toBitVec_or, BitVec.toNat_or] at this
    exact this
  have h1 : v.toBitVec.toNat ≤ w.toBitVec.toNat := by
    rw [← e2]
    exact Nat.left_le_or
  have h2 : v.toBitVec.toNat ≠ w.toBitVec.toNat := fun z => hne (Int32.toBitVec_inj.1 (BitVec.eq_of_toNat_eq z.symm))
  omega
theorem sSt_b (hW : WF A) {t ns dry v : Int32} {s : Nat} (hs : s < zN A 6 3) (hv : b16 v) : b16 (sSt A t ns dry s v) ∧ ∀ i, i < 32 → tb v i = true → tb (sSt A t ns dry s v) i = true := by
  have lH := hW.H.2
  obtain ⟨-, la, hb⟩ := hW.st hs
  have ba : b16 (bit (zN A 6 (120 + 3 * s)) &&& dry) := (b16.bt (by omega)).an
  unfold sSt
  by_cases h1 : Int32.ofNat s = ns
  · rw [if_pos h1]; exact ⟨hv, fun _ _ h => h⟩
  rw [if_neg h1]
  by_cases h2 : sMt A s = 0
  · rw [if_pos h2]; exact ⟨hv, fun _ _ h => h⟩
  rw [if_neg h2]
  by_cases h3 : A 6 (120 + 3 * s + 1) = -1
  · rw [if_pos h3]
    by_cases h4 : t = 0
    · rw [if_pos h4]; exact ⟨hv.or ba, fun i _ h => by rw [tb_or, h]; rfl⟩
    · rw [if_neg h4]; exact ⟨hv, fun _ _ h => h⟩
  rw [if_neg h3]
  have lb : zN A 6 (120 + 3 * s + 1) < zN A 6 0 := by
    rcases hb with e | ⟨-, e⟩
    · exact absurd e h3
    · exact e
  have bb : b16 (bit (zN A 6 (120 + 3 * s + 1)) &&& dry) := (b16.bt (by omega)).an
  have g1 : b16 (if v &&& bit (zN A 6 (120 + 3 * s)) = 0 then v else v ||| (bit (zN A 6 (120 + 3 * s + 1)) &&& dry)) ∧ ∀ i, i < 32 → tb v i = true → tb (if v &&& bit (zN A 6 (120 + 3 * s)) = 0 then v else v ||| (bit (zN A 6 (120 + 3 * s + 1)) &&& dry)) i = true := by
    by_cases h5 : v &&& bit (zN A 6 (120 + 3 * s)) = 0
    · rw [if_pos h5]; exact ⟨hv, fun _ _ h => h⟩
    · rw [if_neg h5]; exact ⟨hv.or bb, fun i _ h => by rw [tb_or, h]; rfl⟩
  generalize (if v &&& bit (zN A 6 (120 + 3 * s)) = 0 then v else v ||| (bit (zN A 6 (120 + 3 * s + 1)) &&& dry)) = v1 at g1 ⊢
  by_cases h6 : v1 &&& bit (zN A 6 (120 + 3 * s + 1)) = 0
  · rw [if_pos h6]; exact g1
  · rw [if_neg h6]; exact ⟨g1.1.or ba, fun i hi h => by rw [tb_or, g1.2 i hi h]; rfl⟩
theorem sRd_b (hW : WF A) {t ns dry v : Int32} (hv : b16 v) : ∀ s, s ≤ zN A 6 3 → b16 (sRd A t ns dry v s) ∧ ∀ i, i < 32 → tb v i = true → tb (sRd A t ns dry v s) i = true := by
  intro s
  induction s with
  | zero => intro _; exact ⟨hv, fun _ _ h => h⟩
  | succ s ih =>
    intro hs
    obtain ⟨h1, h2⟩ := ih (by omega)
    obtain ⟨h3, h4⟩ := sSt_b hW (t := t) (ns := ns) (dry := dry) (s := s) (by omega) h1
    exact ⟨h3, fun i hi h => h4 i hi (h2 i hi h)⟩
