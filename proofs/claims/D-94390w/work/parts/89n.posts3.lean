set_option maxRecDepth 100000
/-! posts: the reference's rows -/
variable {X : Nat → Option Ob} {ad ad' : Nat → Nat} {B B' : Sw} {A A' : Av} {σ σ' : Cs} {τ : Tw} {F : Nat}
section ROWT
variable {up e f h : Nat}
def FT (A : Av) (up e f h : Nat) (g : Nat → Int32) (r : Nat) : Prop := ∀ q, r ≤ q → q ≤ zN A 0 50 → ∀ v, v < 100 → g (100 * q + v) = Int32.ofNat (pP (yL A) up e f h (zN A 0 50) (zN A 0 50 - q) v)
theorem cell_T (hup : up < 100) (he : e < 100) (hf : f < 100) (hh : h < 100) (hW : WF A) (hT : TR A τ) {g : Nat → Int32} {r v : Nat} (hr : r < zN A 0 50) (hv : v < 100) (hFT : FT A up e f h g (r + 1)) {K : Int32 → Option Tw} : ∀ (d w fc acc : Nat), w + d = min 99 (yL A r + up) + 1 → d < fc → yL A r ≤ w → acc ≤ 1000000000 → t_X9_layPosts_L69 F K (Int32.ofNat up) (Int32.ofNat e) (Int32.ofNat f) (Int32.ofNat h) (Int32.ofNat r) (Int32.ofNat v) (twA τ 34 g) fc (Int32.ofNat acc) (Int32.ofNat w) = K (Int32.ofNat (fin (fun w => chg e f h v w + pP (yL A) up e f h (zN A 0 50) (zN A 0 50 - (r + 1)) w) d acc w)) := by
  obtain ⟨e50, l50, hy⟩ := hW.yr
  obtain ⟨eyr, lyr⟩ := hy r hr
  have e33 : (twA τ 34 g).2.1 33 r = Int32.ofNat (yL A r) := by
    rw [twA_n _ _ _ _ (by omega), hT.2 33 rfl]; exact eyr
  have hm : t_X9_mostOf F (Int32.ofNat r) (Int32.ofNat up) (twA τ 34 g) = some (Int32.ofNat (min 99 (yL A r + up))) := by
    unfold t_X9_mostOf
    rw [taI_n _ _ _ _ (by omega) (by omega), Option.bind_some, e33, n_pp]
    have : p_X9_least F 99 (Int32.ofNat (yL A r + up)) = some (Int32.ofNat (min 99 (yL A r + up))) := least_n (a := 99) (by omega) (by omega)
    rw [this]
    rfl
  intro d
  induction d with
  | zero =>
    intro w fc acc hw hfc hyw hacc
    obtain ⟨fc, rfl⟩ : ∃ m, fc = m + 1 := ⟨fc - 1, by omega⟩
    show t_X9_layPosts_L69_b F K (Int32.ofNat up) (Int32.ofNat e) (Int32.ofNat f) (Int32.ofNat h) (Int32.ofNat r) (Int32.ofNat v) (twA τ 34 g) (t_X9_layPosts_L69 F K (Int32.ofNat up) (Int32.ofNat e) (Int32.ofNat f) (Int32.ofNat h) (Int32.ofNat r) (Int32.ofNat v) (twA τ 34 g) fc) (Int32.ofNat acc) (Int32.ofNat w) = _
    unfold t_X9_layPosts_L69_b
    rw [hm, Option.bind_some, if_pos ((c_lt _ _ (by omega) (by omega)).2 (by omega))]
    rfl
  | succ d ih =>
    intro w fc acc hw hfc hyw hacc
    obtain ⟨fc, rfl⟩ : ∃ m, fc = m + 1 := ⟨fc - 1, by omega⟩
    have w100 : w < 100 := by omega
    have hrow := hFT (r + 1) (Nat.le_refl _) (by omega) w w100
    have hpb := pP_b (y := yL A) (up := up) he hf hh (fun i hi => (hy i hi).2) (zN A 0 50 - (r + 1)) w (by omega) w100
    have hcb := chg_b he hf hh hv w100
    have hnx := ih (w + 1) fc (min acc (chg e f h v w + pP (yL A) up e f h (zN A 0 50) (zN A 0 50 - (r + 1)) w)) (by omega) (by omega) (by omega) (by omega)
    show t_X9_layPosts_L69_b F K (Int32.ofNat up) (Int32.ofNat e) (Int32.ofNat f) (Int32.ofNat h) (Int32.ofNat r) (Int32.ofNat v) (twA τ 34 g) (t_X9_layPosts_L69 F K (Int32.ofNat up) (Int32.ofNat e) (Int32.ofNat f) (Int32.ofNat h) (Int32.ofNat r) (Int32.ofNat v) (twA τ 34 g) fc) (Int32.ofNat acc) (Int32.ofNat w) = _
    unfold t_X9_layPosts_L69_b
    have ix : ((100 : Int32) * Int32.ofNat r + 100) + Int32.ofNat w = Int32.ofNat (100 * (r + 1) + w) := by
      simp (disch := omega) only [Option.bind_some, Option.bind_none, nmE, n_pp, n_pl, n_lp, n_mm, n_ml, n_lm, taI_n, taI_l, tsA_n, tsA_l, nar0, twA_1, twA_s, twA_n, twA_2, twA_twA, tsI_s, tsI_n, tsI_2, c_le, c_le_l, c_le_r, c_lt, c_lt_l, c_lt_r, c_eq, c_eq_l, c_eq_r, if_true, if_false, if_pos, if_neg]
      congr 1
    have e34 : (twA τ 34 g).2.1 34 = g := twA_s _ _ _
    rw [hm, Option.bind_some, if_neg (fun q => by have := (c_lt _ _ (by omega) (by omega)).1 q; omega), stepCost_n he hf hh hv w100, Option.bind_some, ix, taI_n _ _ _ _ (by omega) (by omega), Option.bind_some, e34, hrow, n_pp, least_n (by omega) (by omega), Option.bind_some]
    simp (disch := omega) only [Option.bind_some, Option.bind_none, nmE, n_pp, n_pl, n_lp, n_mm, n_ml, n_lm, taI_n, taI_l, tsA_n, tsA_l, nar0, twA_1, twA_s, twA_n, twA_2, twA_twA, tsI_s, tsI_n, tsI_2, c_le, c_le_l, c_le_r, c_lt, c_lt_l, c_lt_r, c_eq, c_eq_l, c_eq_r, if_true, if_false, if_pos, if_neg]
    exact hnx
theorem row_T (hF : 1000 ≤ F) (hup : up < 100) (he : e < 100) (hf : f < 100) (hh : h < 100) (hW : WF A) (hT : TR A τ) {g0 : Nat → Int32} {r : Nat} (hr : r < zN A 0 50) (hFT : FT A up e f h g0 (r + 1)) {K : Tw → Option Tw} : ∃ g, t_X9_layPosts_L48 F K (Int32.ofNat up) (Int32.ofNat e) (Int32.ofNat f) (Int32.ofNat h) (Int32.ofNat r) F 0 (twA τ 34 g0) = K (twA τ 34 g) ∧ FT A up e f h g r := by
  obtain ⟨e50, l50, hy⟩ := hW.yr
  obtain ⟨eyr, lyr⟩ := hy r hr
  refine for_up (L := fun n i (s : Nat → Int32) => t_X9_layPosts_L48 F K (Int32.ofNat up) (Int32.ofNat e) (Int32.ofNat f) (Int32.ofNat h) (Int32.ofNat r) n i (twA τ 34 s)) (N := 100) (Inv := fun k s => FT A up e f h s (r + 1) ∧ ∀ u, u < k → s (100 * r + u) = Int32.ofNat (pP (yL A) up e f h (zN A 0 50) (zN A 0 50 - r) u)) (Post := fun q => ∃ g, q = K (twA τ 34 g) ∧ FT A up e f h g r) ?_ ?_ 100 0 F g0 (Nat.zero_add _) (by omega) ⟨hFT, fun i hi => absurd hi (Nat.not_lt_zero i)⟩
  · rintro n k s hk ⟨hI1, hI⟩
    have hpb := pP_b (y := yL A) (up := up) he hf hh (fun i hi => (hy i hi).2) (zN A 0 50 - (r + 1)) (yL A r) (by omega) lyr
    have hcb := chg_b he hf hh hk lyr
    refine Or.inl ⟨upd s (100 * r + k) (Int32.ofNat (pP (yL A) up e f h (zN A 0 50) (zN A 0 50 - r) k)), ⟨fun q h1 h2 v hv => ?_, fun u hu => ?_⟩, ?_⟩
    · rw [up_n _ _ _ _ (by omega)]
      exact hI1 q h1 h2 v hv
    · by_cases eu : u = k
      · rw [eu, up_s]
      · rw [up_n _ _ _ _ (by omega)]; exact hI u (by omega)
    · show t_X9_layPosts_L48_b F K (Int32.ofNat up) (Int32.ofNat e) (Int32.ofNat f) (Int32.ofNat h) (Int32.ofNat r) (t_X9_layPosts_L48 F K (Int32.ofNat up) (Int32.ofNat e) (Int32.ofNat f) (Int32.ofNat h) (Int32.ofNat r) n) (Int32.ofNat k) _ = _
      unfold t_X9_layPosts_L48_b
      have n1 : ¬ (100 : Int32) ≤ Int32.ofNat k := fun q => by
        have := (c_le 100 k (by omega) (by omega)).1 q
        omega
      have e33 : (twA τ 34 s).2.1 33 r = Int32.ofNat (yL A r) := by
        rw [twA_n _ _ _ _ (by omega), hT.2 33 rfl]; exact eyr
      have hc := cell_T (F := F) (v := k) hup he hf hh hW hT hr hk hI1 (K := fun w4 => Option.bind (tsA (twA τ 34 s) 34 0 1300 ((100 * Int32.ofNat r) + Int32.ofNat k) w4) fun τ6 => nm (Int32.ofNat k + 1) fun x7 => t_X9_layPosts_L48 F K (Int32.ofNat up) (Int32.ofNat e) (Int32.ofNat f) (Int32.ofNat h) (Int32.ofNat r) n x7 τ6) (min 99 (yL A r + up) - yL A r + 1) (yL A r) F 1000000 (by omega) (by omega) (Nat.le_refl _) (by omega)
      rw [if_neg n1, taI_n _ _ _ _ (by omega) (by omega), Option.bind_some, e33]
      refine hc.trans ?_
      rw [pP_row hr, fin_0 (g := fun w => chg e f h k w + pP (yL A) up e f h (zN A 0 50) (zN A 0 50 - (r + 1)) w) (show chg e f h k (yL A r) + pP (yL A) up e f h (zN A 0 50) (zN A 0 50 - (r + 1)) (yL A r) ≤ 1000000 by omega)]
      simp (disch := omega) only [Option.bind_some, Option.bind_none, nmE, n_pp, n_pl, n_lp, n_mm, n_ml, n_lm, taI_n, taI_l, tsA_n, tsA_l, nar0, twA_1, twA_s, twA_n, twA_2, twA_twA, tsI_s, tsI_n, tsI_2, c_le, c_le_l, c_le_r, c_lt, c_lt_l, c_lt_r, c_eq, c_eq_l, c_eq_r, if_true, if_false, if_pos, if_neg]
  · rintro n s ⟨hI1, hI⟩
    refine ⟨s, ?_, fun q h1 h2 v hv => ?_⟩
    · show t_X9_layPosts_L48_b F K (Int32.ofNat up) (Int32.ofNat e) (Int32.ofNat f) (Int32.ofNat h) (Int32.ofNat r) (t_X9_layPosts_L48 F K (Int32.ofNat up) (Int32.ofNat e) (Int32.ofNat f) (Int32.ofNat h) (Int32.ofNat r) n) (Int32.ofNat 100) _ = _
      unfold t_X9_layPosts_L48_b
      rw [if_pos (by decide)]
    · by_cases eq : q = r
      · rw [eq]; exact hI v hv
      · exact hI1 q (by omega) h2 v hv
theorem rows_T (hF : 1000 ≤ F) (hup : up < 100) (he : e < 100) (hf : f < 100) (hh : h < 100) (hW : WF A) (hT : TR A τ) : ∀ (r fc : Nat) (g : Nat → Int32), r ≤ zN A 0 50 → r < fc → FT A up e f h g r → ∃ g', FT A up e f h g' 0 ∧ t_X9_layPosts_L40 F (Int32.ofNat up) (Int32.ofNat e) (Int32.ofNat f) (Int32.ofNat h) fc (Int32.ofNat r + (-1)) (twA τ 34 g) = some (twA τ 34 g') := by
  have l50 : zN A 0 50 ≤ 12 := hW.yr.2.1
  intro r
  induction r with
  | zero =>
    intro fc g hr hfc hFT
    obtain ⟨fc, rfl⟩ : ∃ m, fc = m + 1 := ⟨fc - 1, by omega⟩
    refine ⟨g, hFT, ?_⟩
    show t_X9_layPosts_L40_b F (Int32.ofNat up) (Int32.ofNat e) (Int32.ofNat f) (Int32.ofNat h) (t_X9_layPosts_L40 F (Int32.ofNat up) (Int32.ofNat e) (Int32.ofNat f) (Int32.ofNat h) fc) (Int32.ofNat 0 + (-1)) _ = _
    unfold t_X9_layPosts_L40_b
    rw [if_pos (by decide)]
  | succ r ih =>
    intro fc g hr hfc hFT
    obtain ⟨fc, rfl⟩ : ∃ m, fc = m + 1 := ⟨fc - 1, by omega⟩
    have er : Int32.ofNat (r + 1) + (-1) = Int32.ofNat r := by
      have e1 : Int32.ofNat 1 + (-1) = (0 : Int32) := by decide
      rw [Int32.ofNat_add, Int32.add_assoc, e1, Int32.add_zero]
    rw [er]
    obtain ⟨g1, c1, c2⟩ := row_T (F := F) hF hup he hf hh hW hT (show r < zN A 0 50 by omega) hFT (K := fun τ2 => nm (Int32.ofNat r + (-1)) fun x3 => t_X9_layPosts_L40 F (Int32.ofNat up) (Int32.ofNat e) (Int32.ofNat f) (Int32.ofNat h) fc x3 τ2)
    obtain ⟨g2, p1, p2⟩ := ih fc g1 (by omega) (by omega) c2
    refine ⟨g2, p1, ?_⟩
    rw [← p2]
    show t_X9_layPosts_L40_b F (Int32.ofNat up) (Int32.ofNat e) (Int32.ofNat f) (Int32.ofNat h) (t_X9_layPosts_L40 F (Int32.ofNat up) (Int32.ofNat e) (Int32.ofNat f) (Int32.ofNat h) fc) (Int32.ofNat r) _ = _
    unfold t_X9_layPosts_L40_b
    rw [if_neg (Int32.not_lt.2 (ofNat_nn (by omega)))]
    exact c1
theorem lay_T (hF : 1000 ≤ F) (hup : up < 100) (he : e < 100) (hf : f < 100) (hh : h < 100) (hW : WF A) (hT : TR A τ) : ∃ g, FT A up e f h g 0 ∧ t_X9_layPosts F (Int32.ofNat up) (Int32.ofNat e) (Int32.ofNat f) (Int32.ofNat h) τ = some (twA τ 34 g) := by
  obtain ⟨e50, l50, hy⟩ := hW.yr
  have e11 : τ.1 50 = Int32.ofNat (zN A 0 50) := (hT.1 50 rfl).trans e50
  obtain ⟨K, hK⟩ : ∃ K : Tw → Option Tw, K = fun τ1 => nm ((τ1.1 50) - 1) fun x2 => t_X9_layPosts_L40 F (Int32.ofNat up) (Int32.ofNat e) (Int32.ofNat f) (Int32.ofNat h) F x2 τ1 := ⟨_, rfl⟩
  have hz : ∃ g, t_X9_layPosts_L3 F K (Int32.ofNat up) (Int32.ofNat e) (Int32.ofNat f) (Int32.ofNat h) F 0 τ = K (twA τ 34 g) ∧ ∀ u, u < 100 → g (100 * zN A 0 50 + u) = 0 := by
    refine for_up (L := fun n i (s : Nat → Int32) => t_X9_layPosts_L3 F K (Int32.ofNat up) (Int32.ofNat e) (Int32.ofNat f) (Int32.ofNat h) n i (twA τ 34 s)) (N := 100) (Inv := fun k s => ∀ u, u < k → s (100 * zN A 0 50 + u) = 0) (Post := fun q => ∃ g, q = K (twA τ 34 g) ∧ ∀ u, u < 100 → g (100 * zN A 0 50 + u) = 0) ?_ ?_ 100 0 F (τ.2.1 34) (Nat.zero_add _) (by omega) (fun i hi => absurd hi (Nat.not_lt_zero i)) |> fun h => by
      rw [twA_id] at h
      exact h
    · intro n k s hk hI
      refine Or.inl ⟨upd s (100 * zN A 0 50 + k) 0, fun u hu => ?_, ?_⟩
      · by_cases eu : u = k
        · rw [eu, up_s]
        · rw [up_n _ _ _ _ (by omega)]; exact hI u (by omega)
      · show t_X9_layPosts_L3_b F K (Int32.ofNat up) (Int32.ofNat e) (Int32.ofNat f) (Int32.ofNat h) (t_X9_layPosts_L3 F K (Int32.ofNat up) (Int32.ofNat e) (Int32.ofNat f) (Int32.ofNat h) n) (Int32.ofNat k) _ = _
        unfold t_X9_layPosts_L3_b
        have n1 : ¬ (100 : Int32) ≤ Int32.ofNat k := fun q => by
          have := (c_le 100 k (by omega) (by omega)).1 q
          omega
        have i11 : (twA τ 34 s).1 50 = Int32.ofNat (zN A 0 50) := e11
        rw [if_neg n1, i11]
        simp (disch := omega) only [Option.bind_some, Option.bind_none, nmE, n_pp, n_pl, n_lp, n_mm, n_ml, n_lm, taI_n, taI_l, tsA_n, tsA_l, nar0, twA_1, twA_s, twA_n, twA_2, twA_twA, tsI_s, tsI_n, tsI_2, c_le, c_le_l, c_le_r, c_lt, c_lt_l, c_lt_r, c_eq, c_eq_l, c_eq_r, if_true, if_false, if_pos, if_neg]
    · intro n s hI
      refine ⟨s, ?_, hI⟩
      show t_X9_layPosts_L3_b F K (Int32.ofNat up) (Int32.ofNat e) (Int32.ofNat f) (Int32.ofNat h) (t_X9_layPosts_L3 F K (Int32.ofNat up) (Int32.ofNat e) (Int32.ofNat f) (Int32.ofNat h) n) (Int32.ofNat 100) _ = _
      unfold t_X9_layPosts_L3_b
      rw [if_pos (by decide)]
  obtain ⟨g, c1, c2⟩ := hz
  obtain ⟨g', p2, p3⟩ := rows_T (F := F) hF hup he hf hh hW hT (zN A 0 50) F g (Nat.le_refl _) (by omega) (fun q h1 h2 v hv => by
    have : q = zN A 0 50 := by omega
    rw [this, c2 v hv, Nat.sub_self]
    rfl)
  refine ⟨g', p2, ?_⟩
  unfold t_X9_layPosts
  rw [← hK, c1, hK]
  have i11 : (twA τ 34 g).1 50 = Int32.ofNat (zN A 0 50) := e11
  show nm ((twA τ 34 g).1 50 - 1) _ = _
  rw [i11, nmE, Int32.sub_eq_add_neg]
  exact p3
end ROWT
