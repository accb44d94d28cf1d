set_option maxRecDepth 100000
/-! who is reached: both sides -/
variable {X : Nat → Option Ob} {ad : Nat → Nat} {B : Sw} {A A' : Av} {σ σ' : Cs} {τ : Tw} {F : Nat}
theorem round_T (hF : 1000 ≤ F) (hW : WF A) (hT : TR A τ) {t ns dry c8 v : Int32} {K : Int32 → Option (Int32 × Tw)} : t_X9_reachedAt_L115 F K ns t dry c8 τ F v 0 = K (sRd A t ns dry v (zN A 6 3)) := by
  obtain ⟨eS, lS⟩ := hW.S
  have lH := hW.H.2
  refine for_up (L := fun n i s => t_X9_reachedAt_L115 F K ns t dry c8 τ n s i) (N := zN A 6 3) (Inv := fun k s => s = sRd A t ns dry v k) (Post := fun r => r = K (sRd A t ns dry v (zN A 6 3))) ?_ ?_ (zN A 6 3) 0 F v (Nat.zero_add _) (by omega) rfl
  · intro n k s hk e
    subst e
    refine Or.inl ⟨_, rfl, ?_⟩
    show t_X9_reachedAt_L115_b F K ns t dry c8 τ (t_X9_reachedAt_L115 F K ns t dry c8 τ n) _ (Int32.ofNat k) = t_X9_reachedAt_L115 F K ns t dry c8 τ n (sSt A t ns dry k (sRd A t ns dry v k)) _
    generalize sRd A t ns dry v k = u
    obtain ⟨ea, la, hb⟩ := hW.st hk
    unfold t_X9_reachedAt_L115_b sSt
    simp (disch := omega) only [Option.bind_some, Option.bind_none, nmE, n_pp, n_pl, n_lp, n_mm, n_ml, n_lm, taI_n, taI_l, tsA_n, tsA_l, nar0, twA_1, twA_s, twA_n, twA_2, twA_twA, tsI_s, tsI_n, tsI_2, c_le, c_le_l, c_le_r, c_lt, c_lt_l, c_lt_r, c_eq, c_eq_l, c_eq_r, if_true, if_false, if_pos, if_neg, hT.2 6 rfl, eS, meets_T hW hT hk]
    by_cases h1 : Int32.ofNat k = ns
    · rw [if_pos h1, if_pos h1]
    rw [if_neg h1, if_neg h1]
    by_cases h2 : sMt A k = 0
    · rw [if_pos h2, if_pos h2]
    rw [if_neg h2, if_neg h2, ea]
    rcases hb with hb | ⟨hb, lb⟩
    · rw [hb, if_neg (by decide), if_pos rfl]
      by_cases h4 : t = 0
      · rw [if_pos h4, if_pos h4]
        rfl
      · rw [if_neg h4, if_neg h4]
    · have n1 : ¬ A 6 (120 + 3 * k + 1) = -1 := by rw [hb]; exact ofNat_ne_m1 (by omega)
      rw [if_neg n1, hb, if_pos (ofNat_nn (by omega)), bit_ofNat, bit_ofNat]
      have j : ∀ w : Int32, t_X9_reachedAt_j223 F (t_X9_reachedAt_L115 F K ns t dry c8 τ n) ns t dry w c8 (Int32.ofNat k) (bit (zN A 6 (120 + 3 * k))) (bit (zN A 6 (120 + 3 * k + 1))) τ = t_X9_reachedAt_L115 F K ns t dry c8 τ n (if w &&& bit (zN A 6 (120 + 3 * k + 1)) = 0 then w else w ||| (bit (zN A 6 (120 + 3 * k)) &&& dry)) (Int32.ofNat (k + 1)) := by
        intro w
        unfold t_X9_reachedAt_j223
        simp (disch := omega) only [Option.bind_some, Option.bind_none, nmE, n_pp, n_pl, n_lp, n_mm, n_ml, n_lm, taI_n, taI_l, tsA_n, tsA_l, nar0, twA_1, twA_s, twA_n, twA_2, twA_twA, tsI_s, tsI_n, tsI_2, c_le, c_le_l, c_le_r, c_lt, c_lt_l, c_lt_r, c_eq, c_eq_l, c_eq_r, if_true, if_false, if_pos, if_neg]
        by_cases h6 : w &&& bit (zN A 6 (120 + 3 * k + 1)) = 0
        · rw [if_pos h6, if_pos h6]
        · rw [if_neg h6, if_neg h6]
      by_cases h5 : u &&& bit (zN A 6 (120 + 3 * k)) = 0
      · rw [if_pos h5, if_pos h5, j]
      · rw [if_neg h5, if_neg h5, j]
  · intro n s e
    subst e
    show t_X9_reachedAt_L115_b F K ns t dry c8 τ (t_X9_reachedAt_L115 F K ns t dry c8 τ n) _ (Int32.ofNat (zN A 6 3)) = _
    unfold t_X9_reachedAt_L115_b
    simp (disch := omega) only [Option.bind_some, Option.bind_none, nmE, n_pp, n_pl, n_lp, n_mm, n_ml, n_lm, taI_n, taI_l, tsA_n, tsA_l, nar0, twA_1, twA_s, twA_n, twA_2, twA_twA, tsI_s, tsI_n, tsI_2, c_le, c_le_l, c_le_r, c_lt, c_lt_l, c_lt_r, c_eq, c_eq_l, c_eq_r, if_true, if_false, if_pos, if_neg, hT.2 6 rfl, eS]
theorem fix_T (hF : 100000 ≤ F) (hW : WF A) (hT : TR A τ) {t ns dry : Int32} : ∀ (m n : Nat) (v : Int32), 65536 < m + v.toBitVec.toNat → m < n → b16 v → t_X9_reachedAt_L103 F ns t dry τ n v 1 = some (sFx A t ns dry m v, τ) := by
  intro m
  induction m with
  | zero => intro n v h1 h2 hv; have := hv.lt; omega
  | succ m ih =>
    intro n v h1 h2 hv
    obtain ⟨n, rfl⟩ : ∃ q, n = q + 1 := ⟨n - 1, by omega⟩
    show t_X9_reachedAt_L103_b F ns t dry τ (t_X9_reachedAt_L103 F ns t dry τ n) v 1 = _
    unfold t_X9_reachedAt_L103_b
    rw [if_neg (by decide), round_T (by omega) hW hT]
    obtain ⟨g1, g2⟩ := sRd_b hW (t := t) (ns := ns) (dry := dry) hv (zN A 6 3) (Nat.le_refl _)
    show _ = some (if sRd A t ns dry v (zN A 6 3) = v then v else sFx A t ns dry m (sRd A t ns dry v (zN A 6 3)), τ)
    by_cases h : sRd A t ns dry v (zN A 6 3) = v
    · rw [if_pos h, if_pos h, h]
      obtain ⟨n, rfl⟩ : ∃ q, n = q + 1 := ⟨n - 1, by omega⟩
      show t_X9_reachedAt_L103_b F ns t dry τ (t_X9_reachedAt_L103 F ns t dry τ n) v 0 = _
      unfold t_X9_reachedAt_L103_b
      rw [if_pos rfl]
    · rw [if_neg h, if_neg h]
      have := grow g2 h
      exact ih n _ (by omega) (by omega) g1
theorem dry_T (hF : 1000 ≤ F) (hW : WF A) (hT : TR A τ) {t ns nh : Int32} {K : Int32 → Option (Int32 × Tw)} : t_X9_reachedAt_L13 F K ns nh t τ F 0 0 = K (sDry A t nh (zN A 6 0)) := by
  obtain ⟨eH, lH⟩ := hW.H
  refine for_up (L := fun n i s => t_X9_reachedAt_L13 F K ns nh t τ n s i) (N := zN A 6 0) (Inv := fun k s => s = sDry A t nh k) (Post := fun r => r = K (sDry A t nh (zN A 6 0))) ?_ ?_ (zN A 6 0) 0 F 0 (Nat.zero_add _) (by omega) rfl
  · intro n k s hk e
    subst e
    refine Or.inl ⟨_, rfl, ?_⟩
    show t_X9_reachedAt_L13_b F K ns nh t τ (t_X9_reachedAt_L13 F K ns nh t τ n) _ (Int32.ofNat k) = t_X9_reachedAt_L13 F K ns nh t τ n (if sHt A k < t then sDry A t nh k else if Int32.ofNat k = nh then sDry A t nh k else sDry A t nh k ||| bit k) _
    unfold t_X9_reachedAt_L13_b
    rw [heightOf_T (by omega) hT]
    simp (disch := omega) only [Option.bind_some, Option.bind_none, nmE, n_pp, n_pl, n_lp, n_mm, n_ml, n_lm, taI_n, taI_l, tsA_n, tsA_l, nar0, twA_1, twA_s, twA_n, twA_2, twA_twA, tsI_s, tsI_n, tsI_2, c_le, c_le_l, c_le_r, c_lt, c_lt_l, c_lt_r, c_eq, c_eq_l, c_eq_r, if_true, if_false, if_pos, if_neg, hT.2 6 rfl, eH]
    by_cases h1 : sHt A k < t
    · rw [if_pos h1, if_pos h1]
    rw [if_neg h1, if_neg h1]
    by_cases h2 : Int32.ofNat k = nh
    · rw [if_pos h2, if_pos h2]
    · rw [if_neg h2, if_neg h2]
      rfl
  · intro n s e
    subst e
    show t_X9_reachedAt_L13_b F K ns nh t τ (t_X9_reachedAt_L13 F K ns nh t τ n) _ (Int32.ofNat (zN A 6 0)) = _
    unfold t_X9_reachedAt_L13_b
    simp (disch := omega) only [Option.bind_some, Option.bind_none, nmE, n_pp, n_pl, n_lp, n_mm, n_ml, n_lm, taI_n, taI_l, tsA_n, tsA_l, nar0, twA_1, twA_s, twA_n, twA_2, twA_twA, tsI_s, tsI_n, tsI_2, c_le, c_le_l, c_le_r, c_lt, c_lt_l, c_lt_r, c_eq, c_eq_l, c_eq_r, if_true, if_false, if_pos, if_neg, hT.2 6 rfl, eH]
theorem WF.Q (hW : WF A) : A 6 4 = Int32.ofNat (zN A 6 4) ∧ zN A 6 4 ≤ 4 := hW.1.1.2.2.2.1
theorem WF.qy (hW : WF A) {q : Nat} (hq : q < zN A 6 4) : A 6 (160 + q) = Int32.ofNat (zN A 6 (160 + q)) ∧ zN A 6 (160 + q) < zN A 6 0 := ⟨(hW.1.2.2.2.2.1 q hq).1.1, (hW.1.2.2.2.2.1 q hq).2⟩
theorem quay_T (hF : 1000 ≤ F) (hW : WF A) (hT : TR A τ) {t ns dry : Int32} {K : Int32 → Option (Int32 × Tw)} : t_X9_reachedAt_L62 F K ns t dry τ F 0 0 = K (sQy A dry (zN A 6 4)) := by
  obtain ⟨eQ, lQ⟩ := hW.Q
  refine for_up (L := fun n i s => t_X9_reachedAt_L62 F K ns t dry τ n s i) (N := zN A 6 4) (Inv := fun k s => s = sQy A dry k) (Post := fun r => r = K (sQy A dry (zN A 6 4))) ?_ ?_ (zN A 6 4) 0 F 0 (Nat.zero_add _) (by omega) rfl
  · intro n k s hk e
    subst e
    refine Or.inl ⟨_, rfl, ?_⟩
    show t_X9_reachedAt_L62_b F K ns t dry τ (t_X9_reachedAt_L62 F K ns t dry τ n) _ (Int32.ofNat k) = t_X9_reachedAt_L62 F K ns t dry τ n (sQy A dry k ||| (bit (zN A 6 (160 + k)) &&& dry)) _
    unfold t_X9_reachedAt_L62_b
    simp (disch := omega) only [Option.bind_some, Option.bind_none, nmE, n_pp, n_pl, n_lp, n_mm, n_ml, n_lm, taI_n, taI_l, tsA_n, tsA_l, nar0, twA_1, twA_s, twA_n, twA_2, twA_twA, tsI_s, tsI_n, tsI_2, c_le, c_le_l, c_le_r, c_lt, c_lt_l, c_lt_r, c_eq, c_eq_l, c_eq_r, if_true, if_false, if_pos, if_neg, hT.2 6 rfl, eQ]
    rw [(hW.qy hk).1]
    rfl
  · intro n s e
    subst e
    show t_X9_reachedAt_L62_b F K ns t dry τ (t_X9_reachedAt_L62 F K ns t dry τ n) _ (Int32.ofNat (zN A 6 4)) = _
    unfold t_X9_reachedAt_L62_b
    simp (disch := omega) only [Option.bind_some, Option.bind_none, nmE, n_pp, n_pl, n_lp, n_mm, n_ml, n_lm, taI_n, taI_l, tsA_n, tsA_l, nar0, twA_1, twA_s, twA_n, twA_2, twA_twA, tsI_s, tsI_n, tsI_2, c_le, c_le_l, c_le_r, c_lt, c_lt_l, c_lt_r, c_eq, c_eq_l, c_eq_r, if_true, if_false, if_pos, if_neg, hT.2 6 rfl, eQ]
theorem sQy_b (hW : WF A) {dry : Int32} : ∀ q, q ≤ zN A 6 4 → b16 (sQy A dry q) := by
  intro q
  have lH := hW.H.2
  induction q with
  | zero => intro _; exact b16.z
  | succ q ih =>
    intro hq
    exact (ih (by omega)).or (b16.bt (by have := (hW.qy (q := q) (by omega)).2; omega)).an
theorem reach_T (hF : 100000 ≤ F) (hW : WF A) (hT : TR A τ) (hL : LawC A 0) {hour ns nh : Int32} : ∃ τ', t_X9_reachedAt F hour ns nh τ = some (sReach A (sTide A hour) ns nh, τ') ∧ TR A τ' := by
  unfold t_X9_reachedAt
  obtain ⟨τ', e2, hT'⟩ := tideOf_T (F := F) (hour := hour) (by omega) hL hT
  rw [e2, Option.bind_some, dry_T (by omega) hW hT', quay_T (by omega) hW hT']
  have hb := sQy_b hW (dry := sDry A (sTide A hour) nh (zN A 6 0)) (zN A 6 4) (Nat.le_refl _)
  have := hb.lt
  refine ⟨τ', ?_, hT'⟩
  obtain ⟨m, rfl⟩ : ∃ m, F = 70000 + m := ⟨F - 70000, by omega⟩
  exact fix_T hF hW hT' 70000 _ _ (by omega) (by omega) hb
/-! the component's -/
/-- where a stair leads from a set -/
def sBy (A : Av) (t : Int32) (s : Nat) (v : Int32) : Int32 := if sMt A s = 0 then 0 else if A 6 (120 + 3 * s + 1) = -1 then (if t = 0 then bit (zN A 6 (120 + 3 * s)) else 0) else
  (((v >>> (Int32.ofNat (zN A 6 (120 + 3 * s)) &&& 31)) &&& 1) <<< (Int32.ofNat (zN A 6 (120 + 3 * s + 1)) &&& 31)) ||| (((v >>> (Int32.ofNat (zN A 6 (120 + 3 * s + 1)) &&& 31)) &&& 1) <<< (Int32.ofNat (zN A 6 (120 + 3 * s)) &&& 31))
theorem by_C (hE : EV ad B A) (hC : CR ad B A σ) {s : Nat} (hs : s < zN A 6 3) {t v : Int32} : f_X0_beyond F (ad 0) (ad (1100 + s)) v t (cM X ad σ B) = some (sBy A t s v) := by
  obtain ⟨ea, la, hb⟩ := hE.2.2.st hs
  have q := hE.2.1.ss F hs (X := X)
  have lH := hE.2.2.H.2
  unfold f_X0_beyond sBy
  rw [oc0 hE.1, Option.bind_some, meets_C hE hC hs, Option.bind_some]
  by_cases h2 : sMt A s = 0
  · rw [if_pos h2, if_pos h2]
  rw [if_neg h2, if_neg h2]
  simp (disch := omega) only [Option.bind_some, Option.bind_none, nmE, n_pp, n_pl, n_lp, n_mm, n_ml, n_lm, csI_s, csI_n, csI_2, csA_1, csA_s, csA_n, csA_2, csL_1, csL_2, csL_s, csL_n, csL_3, csQ_1, csQ_2, csQ_3, csQ_s, csQ_n, nar0, c_le, c_le_l, c_le_r, c_lt, c_lt_l, c_lt_r, c_eq, c_eq_l, c_eq_r, if_true, if_false, if_pos, if_neg, q]
  rcases hb with hb | ⟨hb, lb⟩
  · rw [hb, if_pos rfl, if_pos rfl, ea]
    by_cases h4 : t = 0
    · rw [if_pos h4, if_pos h4]
      rfl
    · rw [if_neg h4, if_neg h4]
  · have n1 : ¬ A 6 (120 + 3 * s + 1) = -1 := by rw [hb]; exact ofNat_ne_m1 (by omega)
    rw [if_neg n1, if_neg n1, ea, hb]
theorem by_eq (hW : WF A) {s : Nat} (hs : s < zN A 6 3) {t ns dry w v : Int32} (hwd : ∀ i, i < zN A 6 0 → tb w i = !tb dry i) (hns : Int32.ofNat s ≠ ns) : v ||| (sBy A t s v &&& (w ^^^ (-1))) = sSt A t ns dry s v := by
  obtain ⟨ea, la, hb⟩ := hW.st hs
  have lH := hW.H.2
  unfold sBy sSt
  rw [if_neg hns]
  generalize zN A 6 (120 + 3 * s) = a at la ⊢
  have wa := hwd a la
  by_cases h2 : sMt A s = 0
  · rw [if_pos h2, if_pos h2]
    apply tb_ext
    intro i hi
    rw [tb_or, tb_and, tb_0]
    simp
  rw [if_neg h2, if_neg h2]
  rcases hb with hb | ⟨hb, lb⟩
  · rw [if_pos hb, if_pos hb]
    by_cases h4 : t = 0
    · rw [if_pos h4, if_pos h4]
      apply tb_ext
      intro i hi
      rw [tb_or, tb_or, tb_and, tb_and, tb_not _ hi, tb_bit (by omega) hi]
      by_cases e : i = a
      · subst e
        rw [wa]
        simp
      · simp [e]
    · rw [if_neg h4, if_neg h4]
      apply tb_ext
      intro i hi
      rw [tb_or, tb_and, tb_0]
      simp
  · have n1 : ¬ A 6 (120 + 3 * s + 1) = -1 := by rw [hb]; exact ofNat_ne_m1 (by omega)
    rw [if_neg n1, if_neg n1]
    generalize zN A 6 (120 + 3 * s + 1) = b at lb ⊢
    have wb := hwd b lb
    apply tb_ext
    intro i hi
    rw [tb_or, tb_and, tb_or, tb_not _ hi, tb_mv _ (by omega) (by omega) hi, tb_mv _ (by omega) (by omega) hi]
    by_cases hP : tb v a = true
    · have n0 : ¬ v &&& bit a = 0 := fun z => by rw [(and_bit0 v (by omega)).mp z] at hP; cases hP
      rw [if_neg n0]
      by_cases hQ : tb (v ||| (bit b &&& dry)) b = true
      · have n5 : ¬ (v ||| (bit b &&& dry)) &&& bit b = 0 := fun z => by rw [(and_bit0 _ (by omega)).mp z] at hQ; cases hQ
        rw [if_neg n5, tb_or, tb_or, tb_and, tb_and, tb_bit (by omega) hi, tb_bit (by omega) hi]
        by_cases e1 : i = a
        · subst e1
          rw [hP]
          simp
        · by_cases e2 : i = b
          · subst e2
            rw [wb, hP]
            simp [e1]
          · simp [e1, e2]
      · have hQ2 : tb (v ||| (bit b &&& dry)) b = false := by simpa using hQ
        rw [if_pos ((and_bit0 _ (by omega)).mpr hQ2)]
        rw [tb_or, tb_and, tb_bit (by omega) (by omega)] at hQ2
        simp at hQ2
        rw [tb_or, tb_and, tb_bit (by omega) hi, hQ2.1]
        by_cases e2 : i = b
        · subst e2
          rw [wb, hQ2.2]
          simp
        · simp [e2]
    · have hP2 : tb v a = false := by simpa using hP
      rw [if_pos ((and_bit0 _ (by omega)).mpr hP2), hP2]
      by_cases hQ : tb v b = true
      · have n5 : ¬ v &&& bit b = 0 := fun z => by rw [(and_bit0 _ (by omega)).mp z] at hQ; cases hQ
        rw [if_neg n5, tb_or, tb_and, tb_bit (by omega) hi, hQ]
        by_cases e1 : i = a
        · subst e1
          rw [wa]
          simp
        · simp [e1]
      · have hQ2 : tb v b = false := by simpa using hQ
        rw [if_pos ((and_bit0 _ (by omega)).mpr hQ2), hQ2]
        simp
