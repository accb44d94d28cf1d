set_option maxRecDepth 100000
/-! 17: jack, joined -/
variable {X : Nat → Option Ob} {ad ad' : Nat → Nat} {B B' : Sw} {A A' : Av} {σ σ' : Cs} {τ : Tw} {F : Nat}
theorem dv_n {a b : Nat} (ha : a < 2147483648) (hb : b < 2147483648) (hb0 : b ≠ 0) : dvO (Int32.ofNat a) (Int32.ofNat b) = some (Int32.ofNat (a / b)) := by
  unfold dvO
  have n0 : ¬ Int32.ofNat b = 0 := fun q => hb0 ((c_eq b 0 hb (by omega)).1 q)
  rw [if_neg n0, ← Int32.ofNat_div (show a < 2 ^ 31 from ha) (show b < 2 ^ 31 from hb)]
def jN (A : Av) (k v : Nat) : Nat := jT A 1000000000 k v (min (jS A k) (v / jL A k))
/-- what is left before kind k -/
def jV (A : Av) (p : Nat) : Nat → Nat
  | 0 => p
  | k + 1 => jV A p k - jN A k (jV A p k) * jL A k
theorem jV_ok (hW : WF A) {p : Nat} (hp : p < 100) (h : jP A 1000000000 8 p < 1000000000) : ∀ k, k ≤ 8 → jV A p k ≤ p ∧ jP A 1000000000 (8 - k) (jV A p k) < 1000000000 := by
  intro k
  induction k with
  | zero => intro _; exact ⟨Nat.le_refl _, h⟩
  | succ k ih =>
    intro hk
    obtain ⟨h1, h2⟩ := ih (by omega)
    obtain ⟨c1, c2⟩ := jT_ok _ (jCk_ex (show k < 8 by omega) h2)
    refine ⟨Nat.le_trans (Nat.sub_le _ _) h1, ?_⟩
    have c1 : jP A 1000000000 (8 - (k + 1)) (jV A p k - jN A k (jV A p k) * jL A k) + jN A k (jV A p k) = jP A 1000000000 (8 - k) (jV A p k) := c1
    show jP A 1000000000 (8 - (k + 1)) (jV A p k - jN A k (jV A p k) * jL A k) < 1000000000
    omega
theorem tk_C' (hF : 1000 ≤ F) (hE : EV ad B A) (hQ : ∀ j, j < 9 → σ.2.2.2 17 j = some (ad (18 + j))) {p : Nat} (hp : p < 100) (hFJ : FJ A p σ 0) (hval : jP A 1000000000 8 p < 1000000000) {k : Nat} (hk : k < zN A 6 5) (h49 : σ.2.1 49 k = A 7 (50 + k)) : f_X0_takes F (ad 0) (Int32.ofNat k) (Int32.ofNat (jV A p k)) (cM X ad σ B) = some (Int32.ofNat (jN A k (jV A p k))) := by
  have hA := hE.1
  have hW := hE.2.2
  have lW := hW.W.2
  obtain ⟨bl1, bl2⟩ := jL_b hW k
  have bs := jS_b hW k
  obtain ⟨h1, h2⟩ := jV_ok hW hp hval k (by omega)
  obtain ⟨w1, w2, w3, -⟩ := hE.2.1.ws F hk (X := X) σ
  have eL : A 6 (170 + 2 * k) = Int32.ofNat (jL A k) := by
    have : jL A k = zN A 6 (170 + 2 * k) := if_pos hk
    rw [this]
    exact (hW.1.2.2.2.2.2 k hk).1.1
  have eS : σ.2.1 49 k = Int32.ofNat (jS A k) := by
    rw [h49]
    have : jS A k = zN A 7 (50 + k) := if_pos hk
    rw [this]
    exact (hW.2.2.1.2.2.2.2.1 k (by omega)).1
  have hdv : jV A p k / jL A k ≤ jV A p k := Nat.div_le_self _ _
  have hmn : mn (Int32.ofNat (jS A k)) (Int32.ofNat (jV A p k / jL A k)) = Int32.ofNat (min (jS A k) (jV A p k / jL A k)) := mn_n (by omega) (by omega)
  have hl := takes_C (X := X) (F := F) hE hQ hp hFJ hk h1 (min (jS A k) (jV A p k / jL A k)) F (Nat.le_refl _) (by omega) (jCk_ex (by omega) h2)
  unfold f_X0_takes
  simp (disch := omega) only [Option.bind_some, Option.bind_none, nmE, n_pp, n_pl, n_lp, n_mm, n_ml, n_lm, csI_s, csI_n, csI_2, csA_1, csA_s, csA_n, csA_2, csL_1, csL_2, csL_s, csL_n, csL_3, csQ_1, csQ_2, csQ_3, csQ_s, csQ_n, nar0, c_le, c_le_l, c_le_r, c_lt, c_lt_l, c_lt_r, c_eq, c_eq_l, c_eq_r, if_true, if_false, if_pos, if_neg, o0_3 hA, hE.2.1.tw, (hE.2.1.wn F (X := X) σ).1, w1, w2, w3, o0_4 hA, o46_2 hA, a49 hA, eS]
  rw [eL, dv_n (by omega) (by omega) (by omega), Option.bind_some, hmn]
  exact hl
theorem tk_C (hF : 1000 ≤ F) (hE : EV ad B A) (hC : CR ad B A σ) {p : Nat} (hp : p < 100) (hFJ : FJ A p σ 0) (hval : jP A 1000000000 8 p < 1000000000) {k : Nat} (hk : k < zN A 6 5) : f_X0_takes F (ad 0) (Int32.ofNat k) (Int32.ofNat (jV A p k)) (cM X ad σ B) = some (Int32.ofNat (jN A k (jV A p k))) := tk_C' hF hE hC.2.2.2.2.2.2.2.2.1.2.1 hp hFJ hval hk (hC.2.2.2.2.2.1 k (by have := hE.2.2.W.2; omega))
theorem jacks_C (hF : 1000 ≤ F) (hE : EV ad B A) (hC : CR ad B A σ) {p : Nat} (hp : p < 100) (hFJ : FJ A p σ 0) (hval : jP A 1000000000 8 p < 1000000000) {t : Nat} (ht : t < zN A 6 5) {y : Int32} (hy : y - 10 = Int32.ofNat t) : ∀ (d k fc : Nat), k + d = t → d < fc → f_X0_jack_L67 F (ad 0) y (cM X ad σ B) fc (Int32.ofNat (jV A p k)) (Int32.ofNat k) = some (Int32.ofNat (jN A t (jV A p t)), cM X ad σ B) := by
  have hA := hE.1
  have hW := hE.2.2
  have lW := hW.W.2
  intro d
  induction d with
  | zero =>
    intro k fc hk hfc
    obtain ⟨fc, rfl⟩ : ∃ m, fc = m + 1 := ⟨fc - 1, by omega⟩
    have e : k = t := by omega
    rw [e]
    show f_X0_jack_L67_b F (ad 0) y (cM X ad σ B) (f_X0_jack_L67 F (ad 0) y (cM X ad σ B) fc) (Int32.ofNat (jV A p t)) (Int32.ofNat t) = _
    unfold f_X0_jack_L67_b
    rw [hy, if_pos ((c_le t t (by omega) (by omega)).2 (Nat.le_refl _)), oc0 hA, Option.bind_some, tk_C hF hE hC hp hFJ hval ht]
    rfl
  | succ d ih =>
    intro k fc hk hfc
    obtain ⟨fc, rfl⟩ : ∃ m, fc = m + 1 := ⟨fc - 1, by omega⟩
    have hkW : k < zN A 6 5 := by omega
    obtain ⟨bl1, bl2⟩ := jL_b hW k
    obtain ⟨h1, h2⟩ := jV_ok hW hp hval k (by omega)
    obtain ⟨c1, c2⟩ := jT_ok _ (jCk_ex (show k < 8 by omega) h2)
    have hnl : jN A k (jV A p k) * jL A k ≤ jV A p k := (le_dv bl1).1 (Nat.le_trans c2 (Nat.min_le_right _ _))
    obtain ⟨w1, w2, w3, -⟩ := hE.2.1.ws F hkW (X := X) σ
    have eL : A 6 (170 + 2 * k) = Int32.ofNat (jL A k) := by
      have : jL A k = zN A 6 (170 + 2 * k) := if_pos hkW
      rw [this]
      exact (hW.1.2.2.2.2.2 k hkW).1.1
    have nx := ih (k + 1) fc (by omega) (by omega)
    show f_X0_jack_L67_b F (ad 0) y (cM X ad σ B) (f_X0_jack_L67 F (ad 0) y (cM X ad σ B) fc) (Int32.ofNat (jV A p k)) (Int32.ofNat k) = _
    unfold f_X0_jack_L67_b
    rw [hy, if_neg (fun q => by have := (c_le t k (by omega) (by omega)).1 q; omega), oc0 hA, Option.bind_some, tk_C hF hE hC hp hFJ hval hkW, Option.bind_some]
    simp (disch := omega) only [Option.bind_some, Option.bind_none, nmE, n_pp, n_pl, n_lp, n_mm, n_ml, n_lm, csI_s, csI_n, csI_2, csA_1, csA_s, csA_n, csA_2, csL_1, csL_2, csL_s, csL_n, csL_3, csQ_1, csQ_2, csQ_3, csQ_s, csQ_n, nar0, c_le, c_le_l, c_le_r, c_lt, c_lt_l, c_lt_r, c_eq, c_eq_l, c_eq_r, if_true, if_false, if_pos, if_neg, o0_3 hA, hE.2.1.tw, (hE.2.1.wn F (X := X) σ).1, w1, w2, w3]
    rw [eL, n_mm, n_ss _ _ hnl]
    exact nx
