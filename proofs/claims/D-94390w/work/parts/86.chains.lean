set_option maxRecDepth 100000
/-! chains: round after round -/
variable {X : Nat → Option Ob} {ad : Nat → Nat} {B : Sw} {A A' : Av} {σ σ' : Cs} {τ : Tw} {F : Nat}
/-- who has fallen, and when -/
def chE (A : Av) (g : Nat → Int32) (l : Nat) : Prop := (∀ h, h < zN A 6 0 → (g h = -1 ∧ A 32 h = -2 ∧ tb (A 0 48) h = false) ∨ (∃ k, k ≤ l ∧ g h = Int32.ofNat k ∧ A 32 h = Int32.ofNat k ∧ tb (A 0 48) h = true)) ∧ A 0 49 = Int32.ofNat l ∧ (l = 0 ∨ ∃ h, h < zN A 6 0 ∧ g h = Int32.ofNat l) ∧ l < 70000 ∧ b16 (A 0 48)
theorem or_z (v : Int32) : v ||| 0 = v := Int32.or_zero
theorem up_id (f : Nat → Int32) (k : Nat) : upd f k (f k) = f := by
  funext q
  unfold upd
  by_cases h : q = k
  · rw [if_pos h, h]
  · rw [if_neg h]
theorem aw_id (A : Av) (j : Nat) : aw A j (A j) = A := by
  funext q
  unfold aw
  by_cases h : q = j
  · rw [if_pos h, h]
  · rw [if_neg h]
theorem fall_CT (hF : 1000 ≤ F) {wind : Int32} : ∀ (d m fc ft : Nat) (old : Int32) (A : Av) (σ : Cs) (τ : Tw) (l : Nat), 65536 < d + (A 0 48).toBitVec.toNat → d < fc → d < ft → l < m → m ≤ (A 0 48).toBitVec.toNat → EV ad B A → CR ad B A σ → TR A τ → ¬ old = A 0 48 → chE A (σ.2.1 31) l → ∃ A' σ' τ' l', irr A A' ∧ CR ad B A' σ' ∧ TR A' τ' ∧ chE A' (σ'.2.1 31) l' ∧ (∀ i, i < 32 → tb (A 0 48) i = true → tb (A' 0 48) i = true) ∧ f_X0_chains_L42 F (ad 0) wind fc (A 0 48) old (Int32.ofNat m) (cM X ad σ B) = some (pc (A' 0 48), cM X ad σ' B) ∧ t_X9_chains_L46 F wind ft 1 (Int32.ofNat m) τ = some τ' := by
  intro d
  induction d with
  | zero =>
    intro m fc ft old A σ τ l hd hfc hft hlm hm hE hC hT ho hP
    have := hP.2.2.2.2.lt
    omega
  | succ d ih =>
    intro m fc ft old A σ τ l hd hfc hft hlm hm hE hC hT ho hP
    obtain ⟨fc, rfl⟩ : ∃ m, fc = m + 1 := ⟨fc - 1, by omega⟩
    obtain ⟨ft, rfl⟩ : ∃ m, ft = m + 1 := ⟨ft - 1, by omega⟩
    obtain ⟨P1, P2, P3, P4, P5⟩ := hP
    have b5 := P5.lt
    obtain ⟨f, σ1, τ1, n, q1, q2, q3, q4, q5, q6, q7, q8⟩ := round_CT (X := X) (F := F) hF (wind := wind) (m := m) (by omega) (KC := fun w4 μ5 => nm (Int32.ofNat m + 1) fun x6 => f_X0_chains_L42 F (ad 0) wind fc w4 (A 0 48) x6 μ5) (KT := fun w2 τ3 => if w2 = 0 then t_X9_chains_j131 F (t_X9_chains_L46 F wind ft) wind (Int32.ofNat m) w2 0 τ3 else t_X9_chains_j131 F (t_X9_chains_L46 F wind ft) wind (Int32.ofNat m) w2 1 τ3) (zN A 6 0) 0 F F 0 A σ τ (Nat.zero_add _) (by have := hE.2.2.H.2; omega) (by have := hE.2.2.H.2; omega) hE hC hT (fun i _ h => by rw [tb_0] at h; cases h) (fun h hh => by
      rcases P1 h hh with ⟨a, b, c⟩ | ⟨k, hk, a, b, c⟩
      · exact Or.inl ⟨a, b, c, tb_0 h⟩
      · exact Or.inr (Or.inl ⟨k, by omega, a, b, c, tb_0 h⟩))
    have r1 : irr A (aw A 32 f) := irr.w (by omega)
    have z0 : aw A 32 f 0 = A 0 := rfl
    rw [or_z] at q6
    have stC' : f_X0_chains_L42 F (ad 0) wind (fc + 1) (A 0 48) old (Int32.ofNat m) (cM X ad σ B) = f_X0_chains_L42 F (ad 0) wind fc (A 0 48 ||| n) (A 0 48) (Int32.ofNat (m + 1)) (cM X ad σ1 B) := by
      show f_X0_chains_L42_b F (ad 0) wind (f_X0_chains_L42 F (ad 0) wind fc) (A 0 48) old (Int32.ofNat m) _ = _
      unfold f_X0_chains_L42_b
      rw [if_neg ho]
      refine q6.trans ?_
      simp (disch := omega) only [Option.bind_some, Option.bind_none, nmE, n_pp, n_pl, n_lp, n_mm, n_ml, n_lm, csI_s, csI_n, csI_2, csA_1, csA_s, csA_n, csA_2, csL_1, csL_2, csL_s, csL_n, csL_3, csQ_1, csQ_2, csQ_3, csQ_s, csQ_n, nar0, c_le, c_le_l, c_le_r, c_lt, c_lt_l, c_lt_r, c_eq, c_eq_l, c_eq_r, if_true, if_false, if_pos, if_neg]
    have stT' : t_X9_chains_L46 F wind (ft + 1) 1 (Int32.ofNat m) τ = if n = 0 then t_X9_chains_j131 F (t_X9_chains_L46 F wind ft) wind (Int32.ofNat m) n 0 τ1 else t_X9_chains_j131 F (t_X9_chains_L46 F wind ft) wind (Int32.ofNat m) n 1 τ1 := by
      show t_X9_chains_L46_b F wind (t_X9_chains_L46 F wind ft) 1 (Int32.ofNat m) τ = _
      unfold t_X9_chains_L46_b
      rw [if_neg (by decide)]
      exact q7
    by_cases hn : n = 0
    · subst hn
      rw [or_z] at stC'
      rw [if_pos rfl] at stT'
      obtain ⟨fc, rfl⟩ : ∃ m, fc = m + 1 := ⟨fc - 1, by omega⟩
      obtain ⟨ft, rfl⟩ : ∃ m, ft = m + 1 := ⟨ft - 1, by omega⟩
      have e48 : τ1.1 48 = A 0 48 := q3.1 48 rfl
      have hT2 : TR (aw A 32 f) (tsI τ1 48 (A 0 48)) := by
        have := q3.I (k := 48) (v := A 0 48)
        rw [z0, up_id] at this
        have e : aw (aw A 32 f) 0 (A 0) = aw A 32 f := aw_id (aw A 32 f) 0
        rw [e] at this
        exact this
      refine ⟨aw A 32 f, σ1, tsI τ1 48 (A 0 48), l, r1, q2, hT2, ⟨fun h hh => ?_, P2, ?_, P4, P5⟩, fun _ _ h => h, ?_, ?_⟩
      · rcases q5 h hh with ⟨a, b, c, -⟩ | ⟨k, hk, a, b, c, -⟩ | ⟨-, -, -, -, c⟩
        · exact Or.inl ⟨a, b, c⟩
        · rcases P1 h hh with ⟨_, _, x⟩ | ⟨k2, hk2, x, y, _⟩
          · rw [z0, x] at c; cases c
          · have e1 := q8 h hh c
            rw [a, x] at e1
            rw [e1] at a b
            exact Or.inr ⟨k2, hk2, a, b, c⟩
        · rw [tb_0] at c; cases c
      · rcases P3 with h0 | ⟨h, hh, e⟩
        · exact Or.inl h0
        · refine Or.inr ⟨h, hh, ?_⟩
          rcases P1 h hh with ⟨x, _, _⟩ | ⟨k2, hk2, x, y, z⟩
          · rw [x] at e; exact absurd e.symm (ofNat_ne_m1 (by omega))
          · rw [q8 h hh z]; exact e
      · rw [stC']
        show f_X0_chains_L42_b F (ad 0) wind (f_X0_chains_L42 F (ad 0) wind fc) (A 0 48) (A 0 48) _ _ = _
        unfold f_X0_chains_L42_b
        rw [if_pos rfl, count_C P5]
        rfl
      · rw [stT']
        unfold t_X9_chains_j131
        simp (disch := omega) only [Option.bind_some, Option.bind_none, nmE, n_pp, n_pl, n_lp, n_mm, n_ml, n_lm, taI_n, taI_l, tsA_n, tsA_l, nar0, twA_1, twA_s, twA_n, twA_2, twA_twA, tsI_s, tsI_n, tsI_2, c_le, c_le_l, c_le_r, c_lt, c_lt_l, c_lt_r, c_eq, c_eq_l, c_eq_r, if_true, if_false, if_pos, if_neg]
        rw [e48, or_z]
        rfl
    · rw [if_neg hn] at stT'
      have e48 : τ1.1 48 = A 0 48 := q3.1 48 rfl
      have hT1 := q3.I (k := 49) (v := Int32.ofNat m)
      have hT2 := hT1.I (k := 48) (v := A 0 48 ||| n)
      have r2 : irr (aw A 32 f) _ := irr.i (A := aw A 32 f) (z := 49) (v := Int32.ofNat m) (by omega)
      have r3 : irr _ _ := irr.i (A := aw (aw A 32 f) 0 (upd (aw A 32 f 0) 49 (Int32.ofNat m))) (z := 48) (v := A 0 48 ||| n) (by omega)
      have rr := (r1.tr r2).tr r3
      generalize hA2 : aw (aw (aw A 32 f) 0 (upd (aw A 32 f 0) 49 (Int32.ofNat m))) 0 (upd (aw (aw A 32 f) 0 (upd (aw A 32 f 0) 49 (Int32.ofNat m)) 0) 48 (A 0 48 ||| n)) = A2 at hT2 rr
      have a48 : A2 0 48 = A 0 48 ||| n := by rw [← hA2]; rfl
      have a49 : A2 0 49 = Int32.ofNat m := by rw [← hA2]; rfl
      have a32 : A2 32 = aw A 32 f 32 := by rw [← hA2]; rfl
      have a6 : zN A2 6 0 = zN A 6 0 := by rw [← hA2]; rfl
      obtain ⟨i0, hi0, ei0⟩ : ∃ i, i < 32 ∧ tb n i = true := by
        apply Classical.byContradiction
        intro hno
        apply hn
        apply tb_ext
        intro i hi
        rw [tb_0]
        cases h : tb n i with
        | false => rfl
        | true => exact absurd ⟨i, hi, h⟩ hno
      have hS : ∀ i, i < 32 → tb (A 0 48) i = true → tb (A2 0 48) i = true := fun i hi h => by rw [a48, tb_or, h]; rfl
      have hiH := q4 i0 hi0 ei0
      have lH := hE.2.2.H.2
      have c0 : tb (A 0 48) i0 = false := by
        rcases q5 i0 hiH with ⟨_, _, _, x⟩ | ⟨_, _, _, _, _, x⟩ | ⟨_, _, _, x, _⟩
        · rw [ei0] at x; cases x
        · rw [ei0] at x; cases x
        · exact x
      have c1 : tb (A2 0 48) i0 = true := by rw [a48, tb_or, ei0, Bool.or_true]
      have ne : A2 0 48 ≠ A 0 48 := fun e => by rw [e, c0] at c1; cases c1
      have gr := grow hS ne
      have hC2 : CR ad B A2 σ1 := by rw [← hA2]; exact (irr.tr r2 r3).cr q2
      obtain ⟨A', σ', τ', l', p1, p2, p3, p4, p5, p6, p7⟩ := ih (m + 1) fc ft (A 0 48) A2 σ1 _ m (by omega) (by omega) (by omega) (by omega) (by omega) (rr.ev hE) hC2 hT2 (fun e => ne e.symm) ⟨fun h hh => by
          rw [a6] at hh
          rw [a32, a48, tb_or]
          rcases q5 h hh with ⟨a, b, c, d⟩ | ⟨k, hk, a, b, c, d⟩ | ⟨-, a, b, c, d⟩
          · refine Or.inl ⟨a, b, ?_⟩
            rw [z0] at c
            rw [c, d]; rfl
          · refine Or.inr ⟨k, by omega, a, b, ?_⟩
            rw [z0] at c
            rw [c]; rfl
          · refine Or.inr ⟨m, Nat.le_refl _, a, b, ?_⟩
            rw [d, Bool.or_true], a49, Or.inr ⟨i0, by rw [a6]; exact hiH, by
          rcases q5 i0 hiH with ⟨_, _, _, x⟩ | ⟨_, _, _, _, _, x⟩ | ⟨_, x, _, _, _⟩
          · rw [ei0] at x; cases x
          · rw [ei0] at x; cases x
          · exact x⟩, by omega, by rw [a48]; exact P5.or (q4.b hE.2.2)⟩
      refine ⟨A', σ', τ', l', rr.tr p1, p2, p3, p4, fun i hi h => p5 i hi (hS i hi h), ?_, ?_⟩
      · rw [stC', ← p6, a48]
      · rw [stT', ← p7]
        unfold t_X9_chains_j131
        rw [if_neg (show ¬ (1 : Int32) = 0 by decide)]
        simp (disch := omega) only [Option.bind_some, Option.bind_none, nmE, n_pp, n_pl, n_lp, n_mm, n_ml, n_lm, taI_n, taI_l, tsA_n, tsA_l, nar0, twA_1, twA_s, twA_n, twA_2, twA_twA, tsI_s, tsI_n, tsI_2, c_le, c_le_l, c_le_r, c_lt, c_lt_l, c_lt_r, c_eq, c_eq_l, c_eq_r, if_true, if_false, if_pos, if_neg]
        rw [e48]
