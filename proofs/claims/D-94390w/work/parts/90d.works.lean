set_option maxRecDepth 100000
/-! 20 .. 22: all works -/
variable {X : Nat → Option Ob} {ad ad' : Nat → Nat} {B B' : Sw} {A A' : Av} {σ σ' : Cs} {τ : Tw} {F : Nat}
def RW (X : Nat → Option Ob) (ad : Nat → Nat) (B : Sw) (A0 : Av) (σ0 : Cs) (c : Option (Int32 × Sw)) (t : Option (Int32 × Tw)) : Prop := ∃ (r : Int32) (σ' : Cs) (A' : Av) (τ' : Tw), c = some (r, cM X ad σ' B) ∧ t = some (r, τ') ∧ EV ad B A' ∧ CR ad B A' σ' ∧ TR A' τ' ∧ WK A0 A' σ0 σ'
theorem reach12_CT (hF : 100000 ≤ F) (hE : EV ad B A) (hC : CR ad B A σ) (hT : TR A τ) {A0 : Av} {σ0 : Cs} (hw : WK A0 A σ0 σ) : ∃ (v : Int32) (σ' : Cs) (τ' : Tw), f_X0_reachedAt F (ad 0) 12 (cM X ad σ B) = some (v, cM X ad σ' B) ∧ t_X9_reachedAt F 12 (-1) (-1) τ = some (v, τ') ∧ CR ad B A σ' ∧ TR A τ' ∧ WK A0 A σ0 σ' ∧ σ'.2.1 47 = σ.2.1 47 ∧ σ'.2.1 49 = σ.2.1 49 := by
  obtain ⟨σ', e1, e2, g, b, e3⟩ := reachedAt_C (X := X) hF hE hC 12
  obtain ⟨τ', t1, t2⟩ := reach_T hF hE.2.2 hT hE.l0 (hour := 12) (ns := -1) (nh := -1)
  subst e3
  refine ⟨_, _, τ', e1, t1, e2, t2, hw.tr ⟨fun _ _ _ _ _ => rfl, fun _ _ => rfl, fun _ _ => rfl, ?_, ?_, ?_⟩, ?_, ?_⟩
  · exact csA_n _ _ _ _ (by decide)
  · exact csA_n _ _ _ _ (by decide)
  · exact (csI_n _ _ _ _ (by decide)).trans hw.2.2.2.2.2
  · exact csA_n _ _ _ _ (by decide)
  · exact csA_n _ _ _ _ (by decide)
theorem WK.w (h : WK A A' σ σ') : A' 7 1 = A 7 1 := h.2.2.1 1 (by omega)
/-- a work, then the next ones -/
theorem wone_CT (hF : 100000 ≤ F) (hE : EV ad B A) (hC : CR ad B A σ) (hT : TR A τ) {A0 : Av} {σ0 : Cs} (hw : WK A0 A σ0 σ) {i n : Nat} {night before : Int32} (hi : i < zN A 7 1) {sC : Int32 → Int32 → Int32 → Int32 → Sw → Option (Int32 × Sw)} {sT : Int32 → Int32 → Int32 → Int32 → Tw → Option (Int32 × Tw)} (hn : ∀ (A' : Av) (σ' : Cs) (τ' : Tw), EV ad B A' → CR ad B A' σ' → TR A' τ' → WK A0 A' σ0 σ' → RW X ad B A0 σ0 (sC (Int32.ofNat (n + 1)) (Int32.ofNat i) before (Int32.ofNat (i + 1)) (cM X ad σ' B)) (sT (Int32.ofNat (n + 1)) (Int32.ofNat i) before (Int32.ofNat (i + 1)) τ')) : RW X ad B A0 σ0 (f_X0_works_j80 F sC (ad 0) night (Int32.ofNat n) before (Int32.ofNat i) (ad (1500 + i)) (cM X ad σ B)) (t_X9_makesAll_j67 F sT night (Int32.ofNat n) before (Int32.ofNat i) τ) := by
  obtain ⟨r, σ', A', τ', hr, e1, e2, e3, e4, e5, e6, -⟩ := does_CT (X := X) (n := n) (show 1000 ≤ F by omega) hE hC hT hw.2.2.2.2.2 hi
  unfold f_X0_works_j80 t_X9_makesAll_j67
  rw [oc0 hE.1, Option.bind_some, e1, e2, Option.bind_some, Option.bind_some]
  by_cases h0 : r = 0
  · subst h0
    rw [if_pos (show Int32.ofNat 0 ≤ 0 by decide), if_pos (show Int32.ofNat 0 ≤ 0 by decide), nmE, nmE, nmE, nmE, n_lp 1 n, n_lp 1 i]
    exact hn A' σ' τ' e3 e4 e5 (hw.tr e6)
  · have hnz : ¬ Int32.ofNat r ≤ 0 := fun q => by
      have := (c_le r 0 (by omega) (by omega)).1 q
      exact h0 (Nat.le_zero.1 this)
    rw [if_neg hnz, if_neg hnz]
    exact ⟨_, σ', A', τ', rfl, rfl, e3, e4, e5, hw.tr e6⟩
theorem wloop_CT (hF : 100000 ≤ F) {A0 : Av} {σ0 : Cs} {night : Int32} {KC : Int32 → Int32 → Sw → Option (Int32 × Sw)} {KT : Int32 → Int32 → Int32 → Tw → Option (Int32 × Tw)} (hK : ∀ (n : Nat) (last before : Int32) (A : Av) (σ : Cs) (τ : Tw), n ≤ 40 → (n = 0 → last = -1) → (n ≠ 0 → ∃ l, l < 40 ∧ last = Int32.ofNat l) → EV ad B A → CR ad B A σ → TR A τ → WK A0 A σ0 σ → RW X ad B A0 σ0 (KC last before (cM X ad σ B)) (KT (Int32.ofNat n) last before τ)) : ∀ (d i fc ft n : Nat) (last before : Int32) (A : Av) (σ : Cs) (τ : Tw), i + d = zN A0 7 1 → d < fc → d < ft → n ≤ i → zN A0 7 1 ≤ 40 → (n = 0 → last = -1) → (n ≠ 0 → ∃ l, l < 40 ∧ last = Int32.ofNat l) → EV ad B A → CR ad B A σ → TR A τ → WK A0 A σ0 σ → RW X ad B A0 σ0 (f_X0_works_L23 F KC (ad 0) night fc (Int32.ofNat n) last before (Int32.ofNat i) (cM X ad σ B)) (t_X9_makesAll_L23 F KT night ft (Int32.ofNat n) last before (Int32.ofNat i) τ) := by
  intro d
  induction d with
  | zero =>
    intro i fc ft n last before A σ τ hi hfc hft hni h40 l0 l1 hE hC hT hw
    obtain ⟨fc, rfl⟩ : ∃ m, fc = m + 1 := ⟨fc - 1, by omega⟩
    obtain ⟨ft, rfl⟩ : ∃ m, ft = m + 1 := ⟨ft - 1, by omega⟩
    have hA := hE.1
    have eW : A 7 1 = Int32.ofNat (zN A 7 1) := hE.2.2.2.2.1.1.2.1.1
    have zW : zN A 7 1 = zN A0 7 1 := by unfold zN; rw [hw.w]
    have e0 : i = zN A 7 1 := by omega
    have hk := hK n last before A σ τ (by omega) l0 l1 hE hC hT hw
    have c : f_X0_works_L23 F KC (ad 0) night (fc + 1) (Int32.ofNat n) last before (Int32.ofNat i) (cM X ad σ B) = KC last before (cM X ad σ B) := by
      show f_X0_works_L23_b F KC (ad 0) night (f_X0_works_L23 F KC (ad 0) night fc) (Int32.ofNat n) last before (Int32.ofNat i) (cM X ad σ B) = _
      unfold f_X0_works_L23_b
      rw [o0_4 hA, Option.bind_some, o46_4 hA, Option.bind_some, oc50 hA, Option.bind_some, size50 hA, Option.bind_some, hC.nw, e0, if_pos (Int32.le_refl _)]
    have t : t_X9_makesAll_L23 F KT night (ft + 1) (Int32.ofNat n) last before (Int32.ofNat i) τ = KT (Int32.ofNat n) last before τ := by
      show t_X9_makesAll_L23_b F KT night (t_X9_makesAll_L23 F KT night ft) (Int32.ofNat n) last before (Int32.ofNat i) τ = _
      unfold t_X9_makesAll_L23_b
      rw [taI_l _ _ _ _ (by omega) (by omega), Option.bind_some, hT.2 7 rfl]
      show (if A 7 1 ≤ _ then _ else _) = _
      rw [eW, e0, if_pos (Int32.le_refl _)]
    rw [c, t]
    exact hk
  | succ d ih =>
    intro i fc ft n last before A σ τ hi hfc hft hni h40 l0 l1 hE hC hT hw
    obtain ⟨fc, rfl⟩ : ∃ m, fc = m + 1 := ⟨fc - 1, by omega⟩
    obtain ⟨ft, rfl⟩ : ∃ m, ft = m + 1 := ⟨ft - 1, by omega⟩
    have hA := hE.1
    have eW : A 7 1 = Int32.ofNat (zN A 7 1) := hE.2.2.2.2.1.1.2.1.1
    have zW : zN A 7 1 = zN A0 7 1 := by unfold zN; rw [hw.w]
    have hiW : i < zN A 7 1 := by omega
    have hle : ¬ Int32.ofNat (zN A 7 1) ≤ Int32.ofNat i := fun q => by
      have := (c_le _ _ (by omega) (by omega)).1 q
      omega
    obtain ⟨g1, g2, g3, -, -⟩ := hC.wk (X := X) (F := F) hA (by omega) hiW
    have c : f_X0_works_L23 F KC (ad 0) night (fc + 1) (Int32.ofNat n) last before (Int32.ofNat i) (cM X ad σ B) = f_X0_works_L23_b F KC (ad 0) night (f_X0_works_L23 F KC (ad 0) night fc) (Int32.ofNat n) last before (Int32.ofNat i) (cM X ad σ B) := rfl
    have t : t_X9_makesAll_L23 F KT night (ft + 1) (Int32.ofNat n) last before (Int32.ofNat i) τ = t_X9_makesAll_L23_b F KT night (t_X9_makesAll_L23 F KT night ft) (Int32.ofNat n) last before (Int32.ofNat i) τ := rfl
    unfold f_X0_works_L23_b at c
    unfold t_X9_makesAll_L23_b at t
    rw [o0_4 hA, Option.bind_some, o46_4 hA, Option.bind_some, oc50 hA, Option.bind_some, size50 hA, Option.bind_some, hC.nw, if_neg hle, Option.bind_some, o46_4 hA, Option.bind_some, oc50 hA, Option.bind_some, g1, Option.bind_some, g2, Option.bind_some, g3, Option.bind_some] at c
    rw [taI_l _ _ _ _ (by omega) (by omega), Option.bind_some, hT.2 7 rfl, show A 7 (OfNat.ofNat 1) = Int32.ofNat (zN A 7 1) from eW, if_neg hle, show (60 : Int32) + 3 * Int32.ofNat i = Int32.ofNat (60 + 3 * i) by simp (disch := omega) only [Option.bind_some, Option.bind_none, nmE, n_pp, n_pl, n_lp, n_mm, n_ml, n_lm, taI_n, taI_l, tsA_n, tsA_l, nar0, twA_1, twA_s, twA_n, twA_2, twA_twA, tsI_s, tsI_n, tsI_2, c_le, c_le_l, c_le_r, c_lt, c_lt_l, c_lt_r, c_eq, c_eq_l, c_eq_r, if_true, if_false, if_pos, if_neg], taI_n _ _ _ _ (by omega) (by omega), Option.bind_some, hT.2 7 rfl] at t
    rw [c, t]
    by_cases hnt : A 7 (60 + 3 * i) = night
    · rw [if_pos hnt, if_pos hnt]
      have nx : ∀ (bf : Int32) (A' : Av) (σ' : Cs) (τ' : Tw), EV ad B A' → CR ad B A' σ' → TR A' τ' → WK A0 A' σ0 σ' → RW X ad B A0 σ0 (f_X0_works_L23 F KC (ad 0) night fc (Int32.ofNat (n + 1)) (Int32.ofNat i) bf (Int32.ofNat (i + 1)) (cM X ad σ' B)) (t_X9_makesAll_L23 F KT night ft (Int32.ofNat (n + 1)) (Int32.ofNat i) bf (Int32.ofNat (i + 1)) τ') := fun bf A' σ' τ' a b c' d' => ih (i + 1) fc ft (n + 1) (Int32.ofNat i) bf A' σ' τ' (by omega) (by omega) (by omega) (by omega) h40 (fun h => absurd h (Nat.succ_ne_zero n)) (fun _ => ⟨i, by omega, rfl⟩) a b c' d'
      by_cases hz : n = 0
      · rw [l0 hz, if_pos rfl, if_pos (show Int32.ofNat n = 0 by rw [hz]; rfl)]
        obtain ⟨v, σ', τ', r1, r2, r3, r4, r5, -, -⟩ := reach12_CT (X := X) hF hE hC hT hw
        rw [oc0 hA, Option.bind_some, r1, r2, Option.bind_some, Option.bind_some]
        exact wone_CT hF hE r3 r4 r5 hiW (nx v)
      · obtain ⟨l, ll, el⟩ := l1 hz
        have n1 : ¬ last = -1 := by rw [el]; exact ofNat_ne_m1 (by omega)
        have n2 : ¬ Int32.ofNat n = 0 := fun q => hz ((c_eq n 0 (by omega) (by omega)).1 q)
        rw [if_neg n1, if_neg n2]
        exact wone_CT hF hE hC hT hw hiW (nx before)
    · rw [if_neg hnt, if_neg hnt, nmE, nmE, n_lp 1 i]
      exact ih (i + 1) fc ft n last before A σ τ (by omega) (by omega) (by omega) (by omega) h40 l0 l1 hE hC hT hw
theorem nloop_CT (hF : 100000 ≤ F) {A0 : Av} {σ0 : Cs} (h40 : zN A0 7 1 ≤ 40) : ∀ (d i fc ft : Nat) (A : Av) (σ : Cs) (τ : Tw), i + d = 100 → d < fc → d < ft → EV ad B A → CR ad B A σ → TR A τ → WK A0 A σ0 σ → RW X ad B A0 σ0 (f_X0_works_L7 F (ad 0) fc (Int32.ofNat i) (cM X ad σ B)) (t_X9_makesAll_L7 F ft (Int32.ofNat i) τ) := by
  intro d
  induction d with
  | zero =>
    intro i fc ft A σ τ hi hfc hft hE hC hT hw
    obtain ⟨fc, rfl⟩ : ∃ m, fc = m + 1 := ⟨fc - 1, by omega⟩
    obtain ⟨ft, rfl⟩ : ∃ m, ft = m + 1 := ⟨ft - 1, by omega⟩
    have e0 : i = 100 := by omega
    subst e0
    refine ⟨0, σ, A, τ, ?_, ?_, hE, hC, hT, hw⟩
    · show f_X0_works_L7_b F (ad 0) (f_X0_works_L7 F (ad 0) fc) (Int32.ofNat 100) (cM X ad σ B) = _
      unfold f_X0_works_L7_b
      rw [if_pos (show (100 : Int32) ≤ Int32.ofNat 100 by decide)]
    · show t_X9_makesAll_L7_b F (t_X9_makesAll_L7 F ft) (Int32.ofNat 100) τ = _
      unfold t_X9_makesAll_L7_b
      rw [if_pos (show (100 : Int32) ≤ Int32.ofNat 100 by decide)]
  | succ d ih =>
    intro i fc ft A σ τ hi hfc hft hE hC hT hw
    obtain ⟨fc, rfl⟩ : ∃ m, fc = m + 1 := ⟨fc - 1, by omega⟩
    obtain ⟨ft, rfl⟩ : ∃ m, ft = m + 1 := ⟨ft - 1, by omega⟩
    have hle : ¬ (100 : Int32) ≤ Int32.ofNat i := fun q => by
      have := (c_le 100 i (by omega) (by omega)).1 q
      omega
    have c : f_X0_works_L7 F (ad 0) (fc + 1) (Int32.ofNat i) (cM X ad σ B) = f_X0_works_L7_b F (ad 0) (f_X0_works_L7 F (ad 0) fc) (Int32.ofNat i) (cM X ad σ B) := rfl
    have t : t_X9_makesAll_L7 F (ft + 1) (Int32.ofNat i) τ = t_X9_makesAll_L7_b F (t_X9_makesAll_L7 F ft) (Int32.ofNat i) τ := rfl
    unfold f_X0_works_L7_b at c
    unfold t_X9_makesAll_L7_b at t
    rw [if_neg hle] at c t
    rw [c, t]
    refine wloop_CT hF ?_ (zN A0 7 1) 0 F F 0 (-1) 0 A σ τ (Nat.zero_add _) (by omega) (by omega) (Nat.le_refl _) h40 (fun _ => rfl) (fun h => absurd rfl h) hE hC hT hw
    intro n last before A σ τ hn l0 l1 hE hC hT hw
    by_cases hz : n = 0
    · show RW X ad B A0 σ0 (if last = -1 then _ else _) (if Int32.ofNat n ≤ 0 then _ else _)
      rw [if_pos (l0 hz), if_pos (show Int32.ofNat n ≤ 0 by rw [hz]; decide), nmE, nmE, n_lp 1 i]
      exact ih (i + 1) fc ft A σ τ (by omega) (by omega) (by omega) hE hC hT hw
    · obtain ⟨l, ll, el⟩ := l1 hz
      have n1 : ¬ last = -1 := by rw [el]; exact ofNat_ne_m1 (by omega)
      have n2 : ¬ Int32.ofNat n ≤ 0 := fun q => hz (Nat.le_zero.1 ((c_le n 0 (by omega) (by omega)).1 q))
      obtain ⟨v, σ', τ', r1, r2, r3, r4, r5, -, -⟩ := reach12_CT (X := X) hF hE hC hT hw
      show RW X ad B A0 σ0 (if last = -1 then _ else _) (if Int32.ofNat n ≤ 0 then _ else _)
      rw [if_neg n1, if_neg n2, oc0 hE.1, Option.bind_some, r1, r2, Option.bind_some, Option.bind_some]
      by_cases q : before &&& (v ^^^ (-1)) = 0
      · rw [if_pos q, if_pos q, nmE, nmE, n_lp 1 i]
        exact ih (i + 1) fc ft A σ' τ' (by omega) (by omega) (by omega) hE r3 r4 r5
      · rw [if_neg q, if_neg q]
        exact ⟨_, σ', A, τ', rfl, rfl, hE, r3, r4, r5⟩
theorem works_CT (hF : 100000 ≤ F) (hE : EV ad B A) (hC : CR ad B A σ) (hT : TR A τ) : RW X ad B A σ (f_X0_works F (ad 0) (cM X ad σ B)) (t_X9_makesAll F τ) := by
  have hA := hE.1
  have h40 : zN A 7 1 ≤ 40 := hE.2.2.2.2.1.1.2.1.2
  unfold f_X0_works t_X9_makesAll
  rw [p0_13 hA, Option.bind_some, nmE]
  have hr : irr A (aw A 0 (upd (A 0) 41 0)) := irr.i (by decide)
  refine nloop_CT hF h40 100 0 F F (aw A 0 (upd (A 0) 41 0)) (csI σ 13 0) (tsI τ 41 0) (by omega) (by omega) (by omega) (hr.ev hE) (hr.cr (hC.i rfl)) hT.I ?_
  refine hr.wk (aw_n _ _ _ _ (by decide)) (fun j a b c d => aw_n _ _ _ _ a) (fun q hq => by rw [aw_s, up_n _ _ _ _ hq]) rfl rfl ?_
  rw [aw_s, up_s, csI_s]
/-- what was tried is put back -/
theorem trial_CT (hF : 100000 ≤ F) (hE : EV ad B A) (hC : CR ad B A σ) (hT : TR A τ) : ∃ (σ1 : Cs) (A1 : Av) (τ1 : Tw), f_X8_keep F (ad 12) (ad 46) (cM X ad σ B) = some (cM X ad σ1 B) ∧ t_X9_keep F 20 τ = some τ1 ∧ EV ad B A1 ∧ CR ad B A1 σ1 ∧ TR A1 τ1 ∧ A1 7 = A 7 ∧ A1 0 = A 0 ∧ (∀ i, i < 16 → σ1.2.1 13 i = A 7 (10 + i)) ∧ (∀ i, i < 8 → σ1.2.1 14 i = A 7 (50 + i)) ∧ (∀ i, i < 16 → A1 27 (480 + i) = A 7 (10 + i)) ∧ (∀ i, i < 8 → A1 27 (496 + i) = A 7 (50 + i)) ∧ (∀ q, q < 480 → A1 27 q = A 27 q) ∧ (∀ j, j ≠ 27 → A1 j = A j) := by
  have hA := hE.1
  have hW := hE.2.2
  obtain ⟨f, g, e1, e2, e3⟩ := keep_C (X := X) (F := F) (σ := σ) hA
  obtain ⟨gk, t1, t2, t3, t4⟩ := keep_T (F := F) (l := 20) (by omega) (by omega) hT
  have lk := hW.k0.2
  refine ⟨_, aw A 27 gk, twA τ 27 gk, e1, t1, ⟨hA, hE.2.1.aw rfl, hW.k27 (fun q hq => t4 q (by omega))⟩, CR.k27 ((hC.a rfl).a rfl) (fun q hq => t4 q (by omega)), hT.W (by decide), aw_n _ _ _ _ (by decide), aw_n _ _ _ _ (by decide), fun i hi => ?_, fun i hi => ?_, fun i hi => ?_, fun i hi => ?_, fun q hq => ?_, fun j hj => aw_n _ _ _ _ hj⟩
  · rw [csA_n _ _ _ _ (by decide), csA_s, e2 i hi]; exact hC.2.2.2.1 i hi
  · rw [csA_s, e3 i hi]; exact hC.2.2.2.2.2.1 i hi
  · rw [aw_s]; exact t2 i hi
  · rw [aw_s]; exact t3 i hi
  · rw [aw_s]; exact t4 q (by omega)
theorem untry_CT (hF : 100000 ≤ F) {A0 : Av} (hW0 : WF A0) {A1 A2 : Av} {σ1 σ2 : Cs} {τ2 : Tw} (hE : EV ad B A2) (hC : CR ad B A2 σ2) (hT : TR A2 τ2) (hw : WK A1 A2 σ1 σ2) (h13 : ∀ i, i < 16 → σ1.2.1 13 i = A0 7 (10 + i)) (h14 : ∀ i, i < 8 → σ1.2.1 14 i = A0 7 (50 + i)) (k13 : ∀ i, i < 16 → A1 27 (480 + i) = A0 7 (10 + i)) (k14 : ∀ i, i < 8 → A1 27 (496 + i) = A0 7 (50 + i)) : ∃ (σ3 : Cs) (A3 : Av) (τ3 : Tw), f_X8_back F (ad 12) (ad 46) (cM X ad σ2 B) = some (cM X ad σ3 B) ∧ t_X9_putBack F 20 τ2 = some τ3 ∧ EV ad B A3 ∧ CR ad B A3 σ3 ∧ TR A3 τ3 := by
  have hA := hE.1
  obtain ⟨f, g, e1, e2, e3⟩ := back_C (X := X) (F := F) (σ := σ2) hA (Or.inl ⟨rfl, rfl, rfl⟩)
  obtain ⟨L, t1, t2, t3, t4⟩ := put_T (F := F) (l := 20) (by omega) (by omega) hT
  have a27 : A2 27 = A1 27 := hw.1 27 (by decide) (by decide) (by decide) (by decide)
  have L1 : ∀ i, i < 16 → L (10 + i) = A0 7 (10 + i) := fun i hi => by rw [t2 i hi, a27]; exact k13 i hi
  have L2 : ∀ i, i < 8 → L (50 + i) = A0 7 (50 + i) := fun i hi => by rw [t3 i hi, a27]; exact k14 i hi
  have p := put_rel (L := L) (f := f) (g := g) hE hC t4 (fun i hi => by rw [e2 i hi, hw.2.2.2.1, h13 i hi, L1 i hi]) (fun i hi => by rw [e3 i hi, hw.2.2.2.2.1, h14 i hi, L2 i hi]) (fun i hi => by rw [L1 i hi]; exact hW0.2.2.1.2.1 i hi) (fun i hi => by rw [L2 i hi]; exact hW0.2.2.1.2.2.2.2.1 i hi)
  exact ⟨_, aw A2 7 L, twA τ2 7 L, e1, t1, p.1, p.2, hT.W (by decide)⟩
/-- 20: judge -/
theorem st_20 (hF : 1000000 ≤ F) (h : INV ad B A σ τ) (x : Nat → Int32) : ST F 20 x X ad B σ τ := by
  have hI := h
  obtain ⟨hE, hK, hC, hT⟩ := h
  have hA := hE.1
  have h1 : stC F 20 (ad 0) x (cM X ad σ B) = f_X0_judge F (ad 0) (cM X ad σ B) := rfl
  have h2 : stT F 20 x τ = t_X9_judge F τ := rfl
  unfold f_X0_judge at h1
  unfold t_X9_judge at h2
  obtain ⟨σ1, A1, τ1, k1, k2, k3, k4, k5, k6, k7, k8, k9, k10, k11, -⟩ := trial_CT (X := X) (F := F) (by omega) hE hC hT
  obtain ⟨r, σ2, A2, τ2, w1, w2, w3, w4, w5, w6⟩ := works_CT (X := X) (F := F) (by omega) k3 k4 k5
  obtain ⟨σ3, A3, τ3, b1, b2, b3, b4, b5⟩ := untry_CT (X := X) (F := F) (by omega) hE.2.2 w3 w4 w5 w6 k8 k9 k10 k11
  rw [o0_7 hA, Option.bind_some, o0_4 hA, Option.bind_some, oc12 hA, Option.bind_some, k1, Option.bind_some, oc0 hA, Option.bind_some, w1, Option.bind_some] at h1
  show ST F 20 x X ad B σ τ
  rw [k2, Option.bind_some, w2, Option.bind_some] at h2
  have h1' : stC F 20 (ad 0) x (cM X ad σ B) = some (r, cM X ad σ3 B) := by
    rw [h1]
    show Option.bind (gfR (cM X ad σ2 B) (ad 0) 0 7) _ = _
    rw [o0_7 hA, Option.bind_some, o0_4 hA, Option.bind_some, oc12 hA, Option.bind_some, b1, Option.bind_some]
  have h2' : stT F 20 x τ = some (r, τ3) := by
    rw [h2]
    show Option.bind (t_X9_putBack F 20 τ2) _ = _
    rw [b2, Option.bind_some]
  exact ST.rw hI h1' h2' b3.2.1 b3.2.2 b4 b5
/-- 22: undo -/
theorem st_22 (hF : 1000000 ≤ F) (h : INV ad B A σ τ) (x : Nat → Int32) : ST F 22 x X ad B σ τ := by
  have hI := h
  obtain ⟨hE, hK, hC, hT⟩ := h
  have hA := hE.1
  have hW := hE.2.2
  obtain ⟨ek, lk⟩ := hW.k0
  have h1 : stC F 22 (ad 0) x (cM X ad σ B) = f_X0_undo F (ad 0) (cM X ad σ B) := rfl
  have h2 : stT F 22 x τ = t_X9_undo F τ := rfl
  unfold f_X0_undo at h1
  unfold t_X9_undo at h2
  rw [o0_9 hA, Option.bind_some, hC.1.2.2.1] at h1
  rw [hT.1 40 rfl] at h2
  by_cases hz : A 0 40 = 0
  · rw [if_pos hz] at h1 h2
    exact ST.ro hI h1 h2 hC hT
  · rw [if_neg hz] at h1 h2
    obtain ⟨z, ez⟩ : ∃ z, zN A 0 40 = z + 1 := ⟨zN A 0 40 - 1, by
      have : zN A 0 40 ≠ 0 := fun q => hz (by rw [ek, q]; rfl)
      omega⟩
    have es : A 0 40 - 1 = Int32.ofNat z := by rw [ek, ez]; exact sub_1 z
    obtain ⟨A1, eA1⟩ : ∃ A1, A1 = aw A 0 (upd (A 0) 40 (Int32.ofNat z)) := ⟨_, rfl⟩
    have z1 : zN A1 0 40 = z := by unfold zN; rw [eA1, aw_s, up_s]; exact i_cl (n := 1000) (by omega) (by omega)
    have o1 : ∀ j, j ≠ 0 → A1 j = A j := fun j hj => by rw [eA1]; exact aw_n _ _ _ _ hj
    have p1 : ∀ q, q ≠ 40 → A1 0 q = A 0 q := fun q hq => by rw [eA1, aw_s]; exact up_n _ _ _ _ hq
    have hT1 : TR A1 (tsI τ 40 (Int32.ofNat z)) := by rw [eA1]; exact hT.I
    have hC1 : CR ad B A1 (csI σ 9 (Int32.ofNat z)) := by
      rw [eA1]; exact hC.k40 (by omega)
    have hE1 : EV ad B A1 := by
      rw [eA1]; exact ⟨hA, hE.2.1.cg (fun j hj => aw_n _ _ _ _ (fun e => by rw [e] at hj; cases hj)), hW.k40 (by omega) (by omega)⟩
    have hq : σ.2.2.2 15 z = some (ad (54 + z)) := hC.2.2.2.2.2.2.2.2.1.1 z (by omega)
    have kt : ktR (54 + z) (74 + z) (94 + z) := Or.inr ⟨by omega, by omega, by omega, by omega⟩
    obtain ⟨f, g, e1, e2, e3⟩ := back_C (X := X) (F := F) (σ := csI σ 9 (Int32.ofNat z)) hA kt
    obtain ⟨L, t1, t2, t3, t4⟩ := put_T (F := F) (l := z) (by omega) (by omega) hT1
    have a27 : A1 27 = A 27 := o1 27 (by decide)
    have p := put_rel (L := L) (f := f) (g := g) hE1 hC1 t4 (fun i hi => by rw [e2 i hi, t2 i hi, a27]; exact hC.2.2.2.2.2.2.1 z i (by omega) hi) (fun i hi => by rw [e3 i hi, t3 i hi, a27]; exact hC.2.2.2.2.2.2.2.1 z i (by omega) hi) (fun i hi => by rw [t2 i hi, a27]; exact hW.2.1.2.2.2.2.2.1 z i (by omega) hi) (fun i hi => by rw [t3 i hi, a27]; exact hW.2.1.2.2.2.2.2.2 z i (by omega) hi)
    have h1' : stC F 22 (ad 0) x (cM X ad σ B) = some (1, cM X ad (csA (csA (csI σ 9 (Int32.ofNat z)) 47 f) 49 g) B) := by
      rw [h1, Option.bind_some, es, p0_9 hA, Option.bind_some, o0_8 hA, Option.bind_some, o0_9 hA, Option.bind_some, csI_s, q15r hA _ _ _ (by omega) (show (csI σ 9 (Int32.ofNat z)).2.2.2 15 z = some (ad (54 + z)) from hq), Option.bind_some, o0_4 hA, Option.bind_some, (kt_o hA kt _).2.2, Option.bind_some, e1, Option.bind_some]
    have h2' : stT F 22 x τ = some (1, twA (tsI τ 40 (Int32.ofNat z)) 7 L) := by
      rw [h2, nmE, es, tsI_s, t1, Option.bind_some]
    exact ST.rw hI h1' h2' p.1.2.1 p.1.2.2 p.2 (hT1.W (by decide))
