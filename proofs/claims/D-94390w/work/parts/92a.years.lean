set_option maxRecDepth 100000
/-! 39: years by lots -/
variable {X : Nat → Option Ob} {ad ad' : Nat → Nat} {B B' : Sw} {A A' : Av} {σ σ' : Cs} {τ : Tw} {F : Nat}
theorem shr_nat (v : UInt32) : ∃ m, m < 2147483648 ∧ (v >>> ((1 : Int32).toUInt32 &&& Int32.toUInt32 31)).toInt32 = Int32.ofNat m := by
  refine ⟨(v >>> ((1 : Int32).toUInt32 &&& Int32.toUInt32 31)).toNat, ?_, ?_⟩
  · rw [UInt32.toNat_shiftRight]
    have e : ((1 : Int32).toUInt32 &&& Int32.toUInt32 31).toNat % 32 = 1 := by decide
    rw [e]
    have := v.toNat_lt
    rw [Nat.shiftRight_eq_div_pow]
    omega
  · have : ∀ u : UInt32, u.toInt32 = Int32.ofNat u.toNat := fun u => by
      have e : (UInt32.ofNat u.toNat).toInt32 = Int32.ofNat u.toNat := rfl
      rw [← e, UInt32.ofNat_toNat]
    exact this _
theorem lot_n {s w : Int32} {n : Nat} (h1 : 1 ≤ n) (h2 : n ≤ 1000) : ∃ k, k < n ∧ p_X0_lot F s w (Int32.ofNat n) = some (Int32.ofNat k) ∧ p_X9_lot F s w (Int32.ofNat n) = some (Int32.ofNat k) := by
  obtain ⟨q1, e1⟩ : ∃ q, p_X0_mixed F s 18 = some q := ⟨_, rfl⟩
  obtain ⟨q2, e2⟩ : ∃ q, p_X0_mixed F q1 w = some q := ⟨_, rfl⟩
  have e1' : p_X9_mixed F s 18 = some q1 := e1
  have e2' : p_X9_mixed F q1 w = some q2 := e2
  obtain ⟨m, hm, em⟩ := shr_nat q2.toUInt32
  have n0 : ¬ Int32.ofNat n = 0 := fun q => by
    have := (c_eq n 0 (by omega) (by omega)).1 q
    omega
  have hr : rmO (Int32.ofNat m) (Int32.ofNat n) = some (Int32.ofNat (m % n)) := by
    unfold rmO
    have hle : m / n * n ≤ m := Nat.div_mul_le_self m n
    rw [if_neg n0, ← Int32.ofNat_div (show m < 2 ^ 31 from hm) (show n < 2 ^ 31 by omega), n_mm, n_ss _ _ hle]
    congr 2
    have := Nat.div_add_mod m n
    rw [Nat.mul_comm] at this
    omega
  refine ⟨m % n, Nat.mod_lt _ h1, ?_, ?_⟩
  · unfold p_X0_lot
    rw [e1, Option.bind_some, e2, Option.bind_some, em, hr]
    rfl
  · unfold p_X9_lot
    rw [e1', Option.bind_some, e2', Option.bind_some, em, hr]
    rfl
theorem sDue_n (A : Av) (h : Nat) : ∃ d, d ≤ 99 ∧ sDue A h = Int32.ofNat d := (hold_N _).ex
/-- a height changed -/
theorem ht_rel (hE : EV ad B A) (hC : CR ad B A σ) {h m : Nat} (hh : h < 16) (hm : m ≤ 99) : EV ad B (aw A 7 (upd (A 7) (10 + h) (Int32.ofNat m))) ∧ CR ad B (aw A 7 (upd (A 7) (10 + h) (Int32.ofNat m))) (csA σ 47 (upd (σ.2.1 47) h (Int32.ofNat m))) := by
  have hW := hE.2.2
  have p := put_rel (L := upd (A 7) (10 + h) (Int32.ofNat m)) (f := upd (σ.2.1 47) h (Int32.ofNat m)) (g := σ.2.1 49) hE hC (fun q hq => up_n _ _ _ _ (by omega)) (fun i hi => by
    by_cases e : i = h
    · rw [e, up_s, up_s]
    · rw [up_n _ _ _ _ e, up_n _ _ _ _ (by omega)]; exact hC.2.2.2.1 i hi) (fun i hi => by rw [up_n _ _ _ _ (by omega)]; exact hC.2.2.2.2.2.1 i hi) (fun i hi => by
    by_cases e : i = h
    · rw [e, up_s]; exact isN.of hm (by omega)
    · rw [up_n _ _ _ _ (by omega)]; exact hW.2.2.1.2.1 i hi) (fun i hi => by rw [up_n _ _ _ _ (by omega)]; exact hW.2.2.1.2.2.2.2.1 i hi)
  have e : csA (csA σ 47 (upd (σ.2.1 47) h (Int32.ofNat m))) 49 (σ.2.1 49) = csA σ 47 (upd (σ.2.1 47) h (Int32.ofNat m)) := by
    have := csA_id (csA σ 47 (upd (σ.2.1 47) h (Int32.ofNat m))) 49
    rw [csA_n _ _ _ _ (show (49 : Nat) ≠ 47 by decide)] at this
    exact this
  rw [e] at p
  exact p
/-- what is between is held -/
theorem clamp_eq {x : Int32} {J : Nat} (h1 : 1 ≤ J) (h2 : J ≤ 99) : p_X9_within F x (-Int32.ofNat J) (Int32.ofNat J) = some (mn (mx x (-Int32.ofNat J)) (Int32.ofNat J)) ∧ ∀ {d v : Nat}, d ≤ 99 → v ≤ 99 → x = Int32.ofNat d - Int32.ofNat v → (mn (mx x (-Int32.ofNat J)) (Int32.ofNat J) = 0 ↔ x = 0) ∧ ∃ m, m ≤ 99 ∧ Int32.ofNat v + mn (mx x (-Int32.ofNat J)) (Int32.ofNat J) = Int32.ofNat m := by
  have tJ : (Int32.ofNat J).toInt = (J : Int) := i_tn (by omega)
  have tN : (-Int32.ofNat J).toInt = -(J : Int) := by
    rw [Int32.toInt_neg, tJ]
    apply Int.bmod_eq_of_le <;> omega
  have z0 : (0 : Int32).toInt = 0 := rfl
  by_cases c : -Int32.ofNat J ≤ x
  · have c' := Int32.le_iff_toInt_le.1 c
    have em : mx x (-Int32.ofNat J) = x := by
      unfold mx
      rw [if_neg (Int32.not_lt.2 c)]
    rw [em]
    by_cases c2 : x ≤ Int32.ofNat J
    · have c2' := Int32.le_iff_toInt_le.1 c2
      have en : mn x (Int32.ofNat J) = x := by
        unfold mn
        rw [if_neg (Int32.not_lt.2 c2)]
      rw [en]
      refine ⟨?_, fun {d v} hd hv ex => ⟨Iff.rfl, d, hd, ?_⟩⟩
      · unfold p_X9_within
        rw [if_pos c, if_pos c2]
      · rw [ex]
        apply int_ext
        have := sub_int (a := d) (b := v) (by omega) (by omega)
        rw [Int32.toInt_add, this, i_tn (by omega), i_tn (by omega)]
        apply (Int.bmod_eq_of_le _ _).trans <;> omega
    · have c2' := Int32.lt_iff_toInt_lt.1 (Int32.not_le.1 c2)
      have en : mn x (Int32.ofNat J) = Int32.ofNat J := by
        unfold mn
        rw [if_pos (Int32.not_le.1 c2)]
      rw [en]
      refine ⟨?_, fun {d v} hd hv ex => ?_⟩
      · unfold p_X9_within
        rw [if_pos c, if_neg c2]
      · have tx := sub_int (a := d) (b := v) (by omega) (by omega)
        rw [← ex] at tx
        refine ⟨⟨fun q => ?_, fun q => ?_⟩, v + J, by omega, n_pp _ _⟩
        · rw [q, z0] at tJ; omega
        · rw [q, z0] at tx; rw [q, z0] at c2'; omega
  · have c' := Int32.lt_iff_toInt_lt.1 (Int32.not_le.1 c)
    have em : mx x (-Int32.ofNat J) = -Int32.ofNat J := by
      unfold mx
      rw [if_pos (Int32.not_le.1 c)]
    rw [em]
    have en : mn (-Int32.ofNat J) (Int32.ofNat J) = -Int32.ofNat J := by
      unfold mn
      rw [if_neg]
      rw [lt_int, tJ, tN]
      omega
    rw [en]
    refine ⟨?_, fun {d v} hd hv ex => ?_⟩
    · unfold p_X9_within
      rw [if_neg c]
    · have tx := sub_int (a := d) (b := v) (by omega) (by omega)
      rw [← ex] at tx
      refine ⟨⟨fun q => ?_, fun q => ?_⟩, v - J, by omega, ?_⟩
      · rw [q, z0] at tN; omega
      · rw [q, z0] at tx; rw [q, z0] at c'; omega
      · rw [← Int32.sub_eq_add_neg, n_ss _ _ (by omega)]
theorem row_T6 (hT : TR A τ) : τ.2.1 6 = A 6 := hT.2 6 rfl
/-- the houses go towards their dues -/
theorem goes_CT (hF : 1000 ≤ F) : ∀ (d h fc ft g : Nat) (acc : Int32) (A : Av) (σ : Cs) (τ : Tw), h + d = zN A 6 0 → d < fc → d < ft → g ≤ h → EV ad B A → CR ad B A σ → TR A τ → ∃ (r : Int32) (σ' : Cs) (A' : Av) (τ' : Tw), f_X0_yearBy_L81 F (ad 0) fc acc (Int32.ofNat g) (Int32.ofNat h) (cM X ad σ B) = some (r, cM X ad σ' B) ∧ t_X9_lives_L87 F ft (Int32.ofNat g) acc (Int32.ofNat h) τ = some (r, τ') ∧ EV ad B A' ∧ CR ad B A' σ' ∧ TR A' τ' ∧ A' 6 = A 6 := by
  intro d
  induction d with
  | zero =>
    intro h fc ft g acc A σ τ hd hfc hft hg hE hC hT
    obtain ⟨fc, rfl⟩ : ∃ m, fc = m + 1 := ⟨fc - 1, by omega⟩
    obtain ⟨ft, rfl⟩ : ∃ m, ft = m + 1 := ⟨ft - 1, by omega⟩
    have hA := hE.1
    obtain ⟨eH, lH⟩ := hE.2.2.H
    have e0 : h = zN A 6 0 := by omega
    refine ⟨acc, σ, A, τ, ?_, ?_, hE, hC, hT, rfl⟩
    · show f_X0_yearBy_L81_b F (ad 0) (f_X0_yearBy_L81 F (ad 0) fc) acc (Int32.ofNat g) (Int32.ofNat h) (cM X ad σ B) = _
      unfold f_X0_yearBy_L81_b
      rw [oc0 hA, Option.bind_some, houses_C hE, Option.bind_some, e0, if_pos (Int32.le_refl _)]
    · show t_X9_lives_L87_b F (t_X9_lives_L87 F ft) (Int32.ofNat g) acc (Int32.ofNat h) τ = _
      unfold t_X9_lives_L87_b
      rw [taI_l _ _ _ _ (by omega) (by omega), Option.bind_some, hT.2 6 rfl, show A 6 (OfNat.ofNat 0) = Int32.ofNat (zN A 6 0) from eH, e0, if_pos (Int32.le_refl _)]
  | succ d ih =>
    intro h fc ft g acc A σ τ hd hfc hft hg hE hC hT
    obtain ⟨fc, rfl⟩ : ∃ m, fc = m + 1 := ⟨fc - 1, by omega⟩
    obtain ⟨ft, rfl⟩ : ∃ m, ft = m + 1 := ⟨ft - 1, by omega⟩
    have hA := hE.1
    have hW := hE.2.2
    obtain ⟨eH, lH⟩ := hW.H
    obtain ⟨eCr, lCr⟩ : A 6 6 = Int32.ofNat (zN A 6 6) ∧ zN A 6 6 ≤ 9 := hW.1.1.2.2.2.2.2.1
    obtain ⟨eJ, lJ⟩ : A 6 7 = Int32.ofNat (zN A 6 7) ∧ zN A 6 7 ≤ 99 := hW.1.1.2.2.2.2.2.2.1
    have lJ1 : 1 ≤ zN A 6 7 := hW.1.1.2.2.2.2.2.2.2.2.2.2
    have hh : h < zN A 6 0 := by omega
    have nle : ¬ Int32.ofNat (zN A 6 0) ≤ Int32.ofNat h := fun q => by
      have := (c_le _ _ (by omega) (by omega)).1 q
      omega
    have c : f_X0_yearBy_L81 F (ad 0) (fc + 1) acc (Int32.ofNat g) (Int32.ofNat h) (cM X ad σ B) = f_X0_yearBy_L81_b F (ad 0) (f_X0_yearBy_L81 F (ad 0) fc) acc (Int32.ofNat g) (Int32.ofNat h) (cM X ad σ B) := rfl
    have t : t_X9_lives_L87 F (ft + 1) (Int32.ofNat g) acc (Int32.ofNat h) τ = t_X9_lives_L87_b F (t_X9_lives_L87 F ft) (Int32.ofNat g) acc (Int32.ofNat h) τ := rfl
    unfold f_X0_yearBy_L81_b at c
    unfold t_X9_lives_L87_b at t
    rw [oc0 hA, Option.bind_some, houses_C hE, Option.bind_some, if_neg nle, o0_3 hA, Option.bind_some, (hE.2.1.tw σ).2.2.2.2.2.2.2.2.2.1, Option.bind_some] at c
    rw [taI_l _ _ _ _ (by omega) (by omega), Option.bind_some, hT.2 6 rfl, show A 6 (OfNat.ofNat 0) = Int32.ofNat (zN A 6 0) from eH, if_neg nle, taI_l _ _ _ _ (by omega) (by omega), Option.bind_some, hT.2 6 rfl] at t
    by_cases cg : A 6 6 ≤ Int32.ofNat g
    · rw [if_pos cg] at c
      rw [if_pos (show A 6 (OfNat.ofNat 6) ≤ Int32.ofNat g from cg)] at t
      exact ⟨acc, σ, A, τ, c, t, hE, hC, hT, rfl⟩
    · rw [if_neg cg] at c
      rw [if_neg (show ¬ A 6 (OfNat.ofNat 6) ≤ Int32.ofNat g from cg)] at t
      obtain ⟨σ1, c1, gg, bb, c2⟩ := dueOf_C (X := X) (F := F) hF hE hC hh
      obtain ⟨τ1, t1, hT1⟩ := dueOf_T (F := F) hF hW hE.l1 (show h < 16 by omega) hT
      have hC1 : CR ad B A σ1 := by rw [c2]; exact (hC.a rfl).i rfl
      obtain ⟨due, ldue, edue⟩ := sDue_n A h
      obtain ⟨eht, lht⟩ := hW.ht (show h < 16 by omega)
      have c47 : σ1.2.1 47 h = A 7 (10 + h) := hC1.2.2.2.1 h (by omega)
      rw [Option.bind_some, c1, Option.bind_some] at c
      rw [t1, Option.bind_some, heightOf_T (h := h) (by omega) hT1, Option.bind_some] at t
      have c : f_X0_yearBy_L81 F (ad 0) (fc + 1) acc (Int32.ofNat g) (Int32.ofNat h) (cM X ad σ B) =
        Option.bind (gfR (cM X ad σ1 B) (ad 0) 0 4) fun x15 =>
        Option.bind (gfR (cM X ad σ1 B) x15 6 0) fun x17 =>
        Option.bind (aI (cM X ad σ1 B) 0 x17 (Int32.ofNat h)) fun x19 =>
        nm (sDue A h - x19) fun x21 =>
        if x21 = 0 then
          nm (Int32.ofNat h + 1) fun x48 =>
          f_X0_yearBy_L81 F (ad 0) fc acc (Int32.ofNat g) x48 (cM X ad σ1 B)
        else
          Option.bind (gfR (cM X ad σ1 B) (ad 0) 0 3) fun x24 =>
          Option.bind (gfI (cM X ad σ1 B) x24 3 12) fun x26 =>
          Option.bind (gfR (cM X ad σ1 B) (ad 0) 0 3) fun x28 =>
          Option.bind (gfI (cM X ad σ1 B) x28 3 12) fun x30 =>
          nm (mn (mx x21 (-x26)) x30) fun x32 =>
          Option.bind (gfR (cM X ad σ1 B) (ad 0) 0 4) fun x34 =>
          Option.bind (gfR (cM X ad σ1 B) x34 6 0) fun x36 =>
          Option.bind (aI (cM X ad σ1 B) 0 x36 (Int32.ofNat h)) fun x38 =>
          Option.bind (sI (cM X ad σ1 B) 0 x36 (Int32.ofNat h) (x38 + x32)) fun μ41 =>
          nm (acc + (ab x32)) fun x42 =>
          nm (Int32.ofNat g + 1) fun x44 =>
          nm (Int32.ofNat h + 1) fun x46 =>
          f_X0_yearBy_L81 F (ad 0) fc x42 x44 x46 μ41 := c
      have t : t_X9_lives_L87 F (ft + 1) (Int32.ofNat g) acc (Int32.ofNat h) τ =
        Option.bind (taI τ1 6 420 7) fun x11 =>
        Option.bind (taI τ1 6 420 7) fun x13 =>
        Option.bind (p_X9_within F (sDue A h - sHt A h) (-x11) x13) fun q15 =>
        if q15 = 0 then
          nm (Int32.ofNat h + 1) fun x37 =>
          t_X9_lives_L87 F ft (Int32.ofNat g) acc x37 τ1
        else
          nm (10 + Int32.ofNat h) fun x18 =>
          Option.bind (taI τ1 7 1260 x18) fun x20 =>
          Option.bind (tsA τ1 7 0 1260 x18 (x20 + q15)) fun τ23 =>
          if 0 ≤ q15 then
            nm (acc + q15) fun x25 =>
            nm (Int32.ofNat g + 1) fun x27 =>
            nm (Int32.ofNat h + 1) fun x29 =>
            t_X9_lives_L87 F ft x27 x25 x29 τ23
          else
            nm (acc + (-q15)) fun x31 =>
            nm (Int32.ofNat g + 1) fun x33 =>
            nm (Int32.ofNat h + 1) fun x35 =>
            t_X9_lives_L87 F ft x33 x31 x35 τ23 := t
      obtain ⟨k1, k2⟩ := clamp_eq (F := F) (x := sDue A h - sHt A h) lJ1 lJ
      obtain ⟨k3, m, hm, k4⟩ := k2 ldue lht (by rw [edue, eht])
      rw [o0_4 hA, Option.bind_some, o46_0 hA, Option.bind_some, a47 hA _ _ (by omega), Option.bind_some, c47, nmE, o0_3 hA, Option.bind_some, (hE.2.1.tw σ1).2.2.2.2.2.2.2.2.2.2.1] at c
      simp only [Option.bind_some, Option.bind_none, nmE, gd, o0_3 hA, o0_4 hA, o46_0 hA, a47 hA σ1 h (show h < 16 by omega), c47, (hE.2.1.tw σ1).2.2.2.2.2.2.2.2.2.2.1] at c
      rw [eJ] at c
      rw [taI_l _ _ _ _ (by omega) (by omega), Option.bind_some, Option.bind_some, hT1.2 6 rfl, show A 6 (OfNat.ofNat 7) = Int32.ofNat (zN A 6 7) from eJ, k1, Option.bind_some, nmE] at t
      obtain ⟨w, ew⟩ : ∃ w, w = mn (mx (sDue A h - sHt A h) (-Int32.ofNat (zN A 6 7))) (Int32.ofNat (zN A 6 7)) := ⟨_, rfl⟩
      rw [← ew] at k3 k4 t
      have c : f_X0_yearBy_L81 F (ad 0) (fc + 1) acc (Int32.ofNat g) (Int32.ofNat h) (cM X ad σ B) =
        if sDue A h - sHt A h = 0 then
          f_X0_yearBy_L81 F (ad 0) fc acc (Int32.ofNat g) (Int32.ofNat h + 1) (cM X ad σ1 B)
        else
          Option.bind (sI (cM X ad σ1 B) 0 (ad 47) (Int32.ofNat h) (A 7 (10 + h) + w)) fun μ41 =>
          f_X0_yearBy_L81 F (ad 0) fc (acc + ab w) (Int32.ofNat g + 1) (Int32.ofNat h + 1) μ41 := by rw [ew]; exact c
      by_cases z : sDue A h - sHt A h = 0
      · rw [if_pos z, n_lp 1 h] at c
        rw [if_pos (k3.2 z), n_lp 1 h] at t
        rw [c, t]
        exact ih (h + 1) fc ft g acc A σ1 τ1 (by omega) (by omega) (by omega) (by omega) hE hC1 hT1
      · have kw : ¬ w = 0 := fun q => z (k3.1 q)
        have kh : A 7 (10 + h) + w = Int32.ofNat m := by
          rw [← k4]
          exact congrArg (fun y => y + w) eht
        rw [if_neg z, kh, s47 hA _ _ _ (by omega), Option.bind_some, n_lp 1 h, n_lp 1 g] at c
        rw [if_neg kw, nmE, show (10 : Int32) + Int32.ofNat h = Int32.ofNat (10 + h) from n_pl 10 h, taI_n _ _ _ _ (by omega) (by omega), Option.bind_some, tsA_n _ _ _ _ _ _ (by omega) (by omega), Option.bind_some, hT1.2 7 rfl, kh] at t
        obtain ⟨r1, r2⟩ := ht_rel hE hC1 (show h < 16 by omega) hm
        have hT2 : TR (aw A 7 (upd (A 7) (10 + h) (Int32.ofNat m))) (twA τ1 7 (upd (A 7) (10 + h) (Int32.ofNat m))) := hT1.W (by decide)
        obtain ⟨r, σ', A', τ', y1, y2, y3, y4, y5, y6⟩ := ih (h + 1) fc ft (g + 1) (acc + ab w) (aw A 7 (upd (A 7) (10 + h) (Int32.ofNat m))) _ _ (by show h + 1 + d = zN A 6 0; omega) (by omega) (by omega) (by omega) r1 r2 hT2
        refine ⟨r, σ', A', τ', c.trans y1, ?_, y3, y4, y5, y6⟩
        rw [ab_or] at y2
        rw [t, ← y2]
        by_cases z0 : 0 ≤ w
        · rw [if_pos z0, if_pos z0, nmE, nmE, nmE, n_lp 1 h, n_lp 1 g]
          rfl
        · rw [if_neg z0, if_neg z0, nmE, nmE, nmE, n_lp 1 h, n_lp 1 g]
          rfl
theorem gvL_none (hW : WF A) {h o : Nat} (lo : o < 12) (hn : ∀ k, k < zN A 6 0 → A 7 (30 + k) ≠ Int32.ofNat o) : gvL (A 7) h (Int32.ofNat o) = upd (A 7) (30 + h) (Int32.ofNat o) := by
  have nm2 : Int32.ofNat o ≠ -2 := ofNat_ne_m2 (by omega)
  have nm1 : Int32.ofNat o ≠ -1 := ofNat_ne_m1 (by omega)
  funext i
  unfold gvL
  by_cases e1 : i = 30 + h
  · rw [e1, up_s, if_pos rfl, if_neg nm1]
  · rw [up_n _ _ _ _ e1, if_neg e1, if_neg]
    intro q
    obtain ⟨q1, q2, q3, q4⟩ := q
    obtain ⟨j, rfl⟩ : ∃ j, i = 30 + j := ⟨i - 30, by omega⟩
    rcases hW.2.2.1.2.2.1 j (by omega) with z | ⟨-, -, z⟩
    · exact nm2 (q4.symm.trans z)
    · exact hn j z q4
theorem gvL_m1 {L : Nat → Int32} {h : Nat} : gvL L h (-1) = upd L (30 + h) (-2) := by
  funext i
  unfold gvL
  by_cases e : i = 30 + h
  · rw [e, up_s, if_pos rfl, if_pos rfl]
  · rw [up_n _ _ _ _ e, if_neg e, if_neg (fun q => q.1 rfl)]
theorem yearBy_CT (hF : 1000 ≤ F) (hE : EV ad B A) (hC : CR ad B A σ) (hT : TR A τ) (h1 : 1 ≤ zN A 6 0) (h2 : 1 ≤ zN A 6 1) {s i : Int32} : ∃ (r : Int32) (σ' : Cs) (A' : Av) (τ' : Tw), f_X0_yearBy F (ad 0) s i (cM X ad σ B) = some (r, cM X ad σ' B) ∧ t_X9_lives F s i τ = some (r, τ') ∧ EV ad B A' ∧ CR ad B A' σ' ∧ TR A' τ' ∧ A' 6 = A 6 := by
  have hA := hE.1
  have hW := hE.2.2
  obtain ⟨eH, lH⟩ := hW.H
  obtain ⟨eO, lO⟩ := hW.O
  obtain ⟨a, la, ea, ea'⟩ := lot_n (F := F) (s := s) (w := 10 * i) h1 (by omega)
  obtain ⟨o, lo, eo, eo'⟩ := lot_n (F := F) (s := s) (w := 10 * i + 1) h2 (by omega)
  obtain ⟨b, lb, eb, eb'⟩ := lot_n (F := F) (s := s) (w := 10 * i + 2) h1 (by omega)
  have g1 := give_rel hE hC la (Or.inl rfl)
  rw [if_pos rfl, gvL_m1] at g1
  obtain ⟨A1, eA1⟩ : ∃ A1, A1 = aw A 7 (upd (A 7) (30 + a) (-2)) := ⟨_, rfl⟩
  obtain ⟨σ1, eσ1⟩ : ∃ σ1, σ1 = csA σ 48 (upd (σ.2.1 48) a (-1)) := ⟨_, rfl⟩
  obtain ⟨τ1, eτ1⟩ : ∃ τ1, τ1 = twA τ 7 (upd (A 7) (30 + a) (-2)) := ⟨_, rfl⟩
  rw [← eA1, ← eσ1] at g1
  have hT1 : TR A1 τ1 := by rw [eA1, eτ1]; exact hT.W (by decide)
  have a6 : A1 6 = A 6 := by rw [eA1]; exact aw_n _ _ _ _ (by decide)
  have hE1 : EV ad B A1 := ⟨hA, by rw [eA1]; exact hE.2.1.aw rfl, g1.2⟩
  have hC1 : CR ad B A1 σ1 := g1.1
  have z6 : ∀ k, zN A1 6 k = zN A 6 k := fun k => by unfold zN; rw [a6]
  have nm2 : Int32.ofNat o ≠ -2 := ofNat_ne_m2 (by omega)
  have nm1 : Int32.ofNat o ≠ -1 := ofNat_ne_m1 (by omega)
  have hc := holderOf_C (X := X) (F := F) hF hE1 hC1 nm1 nm2
  have ht := holderOf_T (F := F) hF hE1.2.2 hT1 (Int32.ofNat o)
  obtain ⟨u, eu⟩ : ∃ u, u = sHol A1 (Int32.ofNat o) 0 (zN A1 6 0) := ⟨_, rfl⟩
  rw [← eu] at hc ht
  have c : f_X0_yearBy F (ad 0) s i (cM X ad σ B) = if 0 ≤ u then f_X0_yearBy_L81 F (ad 0) F 0 0 0 (cM X ad σ1 B) else Option.bind (f_X0_gives F (ad 48) (Int32.ofNat b) (Int32.ofNat o) (cM X ad σ1 B)) fun q34 => f_X0_yearBy_L81 F (ad 0) F 0 0 0 q34 := by
    unfold f_X0_yearBy
    rw [o0_4 hA, Option.bind_some, o46_1 hA, Option.bind_some, oc0 hA, Option.bind_some, houses_C hE, Option.bind_some, ea, Option.bind_some, s48 hA _ _ _ (by omega), Option.bind_some, nar0, ← eσ1, o0_3 hA, Option.bind_some, (hE.2.1.tw σ1).2.2.2.2.2.2.1, Option.bind_some, eO, eo, Option.bind_some, oc0 hA, Option.bind_some, hc, Option.bind_some, o0_4 hA, Option.bind_some, o46_1 hA, Option.bind_some, Option.bind_some, houses_C hE1, z6, Option.bind_some, eb, Option.bind_some]
  have t : t_X9_lives F s i τ = if 0 ≤ u then t_X9_lives_L87 F F 0 0 0 τ1 else Option.bind (tsA τ1 7 0 1260 (30 + Int32.ofNat b) (Int32.ofNat o)) fun τ19 => t_X9_lives_L87 F F 0 0 0 τ19 := by
    unfold t_X9_lives
    rw [taI_l _ _ _ _ (by omega) (by omega), Option.bind_some, hT.2 6 rfl, show A 6 (OfNat.ofNat 0) = Int32.ofNat (zN A 6 0) from eH, ea', Option.bind_some, show (30 : Int32) + Int32.ofNat a = Int32.ofNat (30 + a) from n_pl 30 a, tsA_n _ _ _ _ _ _ (by omega) (by omega), Option.bind_some, nar0, hT.2 7 rfl, ← eτ1, taI_l _ _ _ _ (by omega) (by omega), Option.bind_some, hT1.2 6 rfl, a6, show A 6 (OfNat.ofNat 1) = Int32.ofNat (zN A 6 1) from eO, eo', Option.bind_some, taI_l _ _ _ _ (by omega) (by omega), Option.bind_some, hT1.2 6 rfl, a6, show A 6 (OfNat.ofNat 0) = Int32.ofNat (zN A 6 0) from eH, eb', Option.bind_some, ht, Option.bind_some]
  have fin : ∀ (A2 : Av) (σ2 : Cs) (τ2 : Tw), EV ad B A2 → CR ad B A2 σ2 → TR A2 τ2 → A2 6 = A 6 → ∃ (r : Int32) (σ' : Cs) (A' : Av) (τ' : Tw), f_X0_yearBy_L81 F (ad 0) F 0 0 0 (cM X ad σ2 B) = some (r, cM X ad σ' B) ∧ t_X9_lives_L87 F F 0 0 0 τ2 = some (r, τ') ∧ EV ad B A' ∧ CR ad B A' σ' ∧ TR A' τ' ∧ A' 6 = A 6 := fun A2 σ2 τ2 q1 q2 q3 q4 => by
    obtain ⟨r, σ', A', τ', y1, y2, y3, y4, y5, y6⟩ := goes_CT (X := X) hF (zN A2 6 0) 0 F F 0 0 A2 σ2 τ2 (Nat.zero_add _) (by have := q1.2.2.H.2; omega) (by have := q1.2.2.H.2; omega) (Nat.le_refl _) q1 q2 q3
    exact ⟨r, σ', A', τ', y1, y2, y3, y4, y5, y6.trans q4⟩
  by_cases hu : 0 ≤ u
  · rw [if_pos hu] at c t
    rw [c, t]
    exact fin A1 σ1 τ1 hE1 hC1 hT1 a6
  · rw [if_neg hu] at c t
    have hn : ∀ k, k < zN A1 6 0 → A1 7 (30 + k) ≠ Int32.ofNat o := by
      rcases sHol_at A1 (Int32.ofNat o) (zN A1 6 0) 0 with ⟨k, k1, k2, k3, k4⟩ | ⟨k1, k2⟩
      · rw [← eu] at k4
        rw [k4] at hu
        exact absurd (ofNat_nn (by have := hE1.2.2.H.2; omega)) hu
      · exact fun k hk => k1 k (Nat.zero_le _) (by omega)
    have g2 := give_rel hE1 hC1 (show b < zN A1 6 0 by rw [z6]; exact lb) (Or.inr ⟨o, by rw [z6]; exact lo, rfl⟩)
    rw [gives_C (by omega) hA (by omega), Option.bind_some] at c
    rw [show (30 : Int32) + Int32.ofNat b = Int32.ofNat (30 + b) from n_pl 30 b, tsA_n _ _ _ _ _ _ (by omega) (by omega), Option.bind_some, nar0, hT1.2 7 rfl] at t
    rw [gvL_none hE1.2.2 (by omega) hn] at g2
    rw [c, t]
    refine fin _ _ _ ⟨hA, hE1.2.1.aw rfl, g2.2⟩ g2.1 (hT1.W (by decide)) ?_
    rw [aw_n _ _ _ _ (by decide)]
    exact a6
theorem years_CT (hF : 1000 ≤ F) {s : Int32} {n : Nat} (hn : n ≤ 40) : ∀ (d i fc ft : Nat) (acc : Int32) (A : Av) (σ : Cs) (τ : Tw), i + d = n → d < fc → d < ft → EV ad B A → CR ad B A σ → TR A τ → 1 ≤ zN A 6 0 → 1 ≤ zN A 6 1 → ∃ (r : Int32) (σ' : Cs) (A' : Av) (τ' : Tw), f_X0_years_L22 F (ad 0) s (Int32.ofNat n) fc acc (Int32.ofNat i) (cM X ad σ B) = some (r, cM X ad σ' B) ∧ t_X9_years_L42 F s (Int32.ofNat n) ft acc (Int32.ofNat i) τ = some (r, τ') ∧ EV ad B A' ∧ CR ad B A' σ' ∧ TR A' τ' := by
  intro d
  induction d with
  | zero =>
    intro i fc ft acc A σ τ hi hfc hft hE hC hT h1 h2
    obtain ⟨fc, rfl⟩ : ∃ m, fc = m + 1 := ⟨fc - 1, by omega⟩
    obtain ⟨ft, rfl⟩ : ∃ m, ft = m + 1 := ⟨ft - 1, by omega⟩
    have e0 : i = n := by omega
    refine ⟨acc, σ, A, τ, ?_, ?_, hE, hC, hT⟩
    · show f_X0_years_L22_b F (ad 0) s (Int32.ofNat n) (f_X0_years_L22 F (ad 0) s (Int32.ofNat n) fc) acc (Int32.ofNat i) (cM X ad σ B) = _
      unfold f_X0_years_L22_b
      rw [e0, if_pos (Int32.le_refl _)]
    · show t_X9_years_L42_b F s (Int32.ofNat n) (t_X9_years_L42 F s (Int32.ofNat n) ft) acc (Int32.ofNat i) τ = _
      unfold t_X9_years_L42_b
      rw [e0, if_pos (Int32.le_refl _)]
  | succ d ih =>
    intro i fc ft acc A σ τ hi hfc hft hE hC hT h1 h2
    obtain ⟨fc, rfl⟩ : ∃ m, fc = m + 1 := ⟨fc - 1, by omega⟩
    obtain ⟨ft, rfl⟩ : ∃ m, ft = m + 1 := ⟨ft - 1, by omega⟩
    have hA := hE.1
    have hW := hE.2.2
    obtain ⟨eH, lH⟩ := hW.H
    obtain ⟨eO, lO⟩ := hW.O
    have nle : ¬ Int32.ofNat n ≤ Int32.ofNat i := fun q => by
      have := (c_le _ _ (by omega) (by omega)).1 q
      omega
    have nH : ¬ Int32.ofNat (zN A 6 0) ≤ 0 := fun q => by
      have := (c_le (zN A 6 0) 0 (by omega) (by omega)).1 q
      have : zN A 6 0 ≤ 0 := this
      omega
    have nO : ¬ Int32.ofNat (zN A 6 1) ≤ 0 := fun q => by
      have := (c_le (zN A 6 1) 0 (by omega) (by omega)).1 q
      have : zN A 6 1 ≤ 0 := this
      omega
    obtain ⟨r, σ', A', τ', y1, y2, y3, y4, y5, y6⟩ := yearBy_CT (X := X) (s := s) (i := Int32.ofNat i) hF hE hC hT h1 h2
    have z6 : ∀ k, zN A' 6 k = zN A 6 k := fun k => by unfold zN; rw [y6]
    obtain ⟨r2, σ2, A2, τ2, w1, w2, w3⟩ := ih (i + 1) fc ft (acc + r) A' σ' τ' (by omega) (by omega) (by omega) y3 y4 y5 (by rw [z6]; exact h1) (by rw [z6]; exact h2)
    refine ⟨r2, σ2, A2, τ2, ?_, ?_, w3⟩
    · rw [← w1]
      show f_X0_years_L22_b F (ad 0) s (Int32.ofNat n) (f_X0_years_L22 F (ad 0) s (Int32.ofNat n) fc) acc (Int32.ofNat i) (cM X ad σ B) = _
      unfold f_X0_years_L22_b
      rw [if_neg nle, oc0 hA, Option.bind_some, houses_C hE, Option.bind_some, if_neg nH, o0_3 hA, Option.bind_some, (hE.2.1.tw σ).2.2.2.2.2.2.1, Option.bind_some, eO, if_neg nO, Option.bind_some, y1, Option.bind_some, nmE, nmE, n_lp 1 i]
    · rw [← w2]
      show t_X9_years_L42_b F s (Int32.ofNat n) (t_X9_years_L42 F s (Int32.ofNat n) ft) acc (Int32.ofNat i) τ = _
      unfold t_X9_years_L42_b
      rw [if_neg nle, y2, Option.bind_some, nmE, nmE, n_lp 1 i]
theorem years0_C (hE : EV ad B A) {s : Int32} {n : Nat} (h1 : 1 ≤ n) (hn : n ≤ 40) (hz : zN A 6 0 = 0 ∨ zN A 6 1 = 0) {fc : Nat} (hfc : 1 ≤ fc) : f_X0_years_L22 F (ad 0) s (Int32.ofNat n) fc 0 0 (cM X ad σ B) = some (0, cM X ad σ B) := by
  have hA := hE.1
  obtain ⟨eO, lO⟩ := hE.2.2.O
  obtain ⟨fc, rfl⟩ : ∃ m, fc = m + 1 := ⟨fc - 1, by omega⟩
  have nle : ¬ Int32.ofNat n ≤ 0 := fun q => by
    have := (c_le n 0 (by omega) (by omega)).1 q
    have : n ≤ 0 := this
    omega
  show f_X0_years_L22_b F (ad 0) s (Int32.ofNat n) (f_X0_years_L22 F (ad 0) s (Int32.ofNat n) fc) 0 0 (cM X ad σ B) = _
  unfold f_X0_years_L22_b
  rw [if_neg nle, oc0 hA, Option.bind_some, houses_C hE, Option.bind_some]
  by_cases z0 : Int32.ofNat (zN A 6 0) ≤ 0
  · rw [if_pos z0]
  · rw [if_neg z0, o0_3 hA, Option.bind_some, (hE.2.1.tw σ).2.2.2.2.2.2.1, Option.bind_some, eO]
    rcases hz with q | q
    · exact absurd (show Int32.ofNat (zN A 6 0) ≤ 0 by rw [q]; decide) z0
    · rw [if_pos (show Int32.ofNat (zN A 6 1) ≤ 0 by rw [q]; decide)]
/-- 39: years -/
theorem st_39 (hF : 1000000 ≤ F) (h : INV ad B A σ τ) (x : Nat → Int32) : ST F 39 x X ad B σ τ := by
  have hI := h
  obtain ⟨hE, hK, hC, hT⟩ := h
  have hA := hE.1
  have hW := hE.2.2
  obtain ⟨eH, lH⟩ := hW.H
  obtain ⟨eO, lO⟩ := hW.O
  have h1 : stC F 39 (ad 0) x (cM X ad σ B) = f_X0_years F (ad 0) (x 1) (x 2) (cM X ad σ B) := rfl
  have h2 : stT F 39 x τ = t_X9_years F (x 1) (x 2) τ := rfl
  have v1 : (((1 : Int32).toInt ≤ (x 2).toInt ∧ (x 2).toInt ≤ (40 : Int32).toInt) ↔ (1 ≤ (x 2).toInt ∧ inN (x 2) 41)) := by
    show ((1 : Int) ≤ (x 2).toInt ∧ (x 2).toInt ≤ 40) ↔ (1 : Int) ≤ (x 2).toInt ∧ (0 : Int) ≤ (x 2).toInt ∧ (x 2).toInt < 41
    omega
  unfold f_X0_years at h1
  unfold t_X9_years at h2
  rw [within_v _ v1, Option.bind_some, gd, p0_9 hA, Option.bind_some] at h1
  rw [isIn_v _ v1, Option.bind_some, gd, nmE] at h2
  by_cases c : 1 ≤ (x 2).toInt ∧ inN (x 2) 41
  · rw [if_pos c] at h1 h2
    obtain ⟨n, ln, en⟩ := c.2.ex
    have n1 : 1 ≤ n := by
      have := c.1
      rw [en, i_tn (by omega)] at this
      omega
    have hC1 : CR ad B (aw A 0 (upd (A 0) 40 0)) (csI σ 9 0) := hC.k40 (z := 0) (Nat.zero_le _)
    have hW1 : WF (aw A 0 (upd (A 0) 40 0)) := hW.k40 (z := 0) (Nat.zero_le _) (by omega)
    have hE1 : EV ad B (aw A 0 (upd (A 0) 40 0)) := ⟨hA, hE.2.1.cg (fun j hj => aw_n _ _ _ _ (fun e => by rw [e] at hj; cases hj)), hW1⟩
    have hT1 : TR (aw A 0 (upd (A 0) 40 0)) (tsI τ 40 0) := hT.I
    have a6 : aw A 0 (upd (A 0) 40 0) 6 = A 6 := aw_n _ _ _ _ (by decide)
    have z6 : ∀ k, zN (aw A 0 (upd (A 0) 40 0)) 6 k = zN A 6 k := fun k => by unfold zN; rw [a6]
    rw [en] at h1 h2
    rw [taI_l _ _ _ _ (by omega) (by omega), Option.bind_some, hT1.2 6 rfl, a6, show A 6 (OfNat.ofNat 0) = Int32.ofNat (zN A 6 0) from eH, taI_l _ _ _ _ (by omega) (by omega), Option.bind_some, hT1.2 6 rfl, a6, show A 6 (OfNat.ofNat 1) = Int32.ofNat (zN A 6 1) from eO] at h2
    by_cases z0 : zN A 6 0 = 0
    · rw [if_pos (show Int32.ofNat (zN A 6 0) = 0 by rw [z0]; rfl)] at h2
      exact ST.rw hI (h1.trans (years0_C hE1 n1 (by omega) (Or.inl (by rw [z6]; exact z0)) (by omega))) h2 hE1.2.1 hW1 hC1 hT1
    · rw [if_neg (show ¬ Int32.ofNat (zN A 6 0) = 0 from fun q => z0 ((c_eq (zN A 6 0) 0 (by omega) (by omega)).1 q))] at h2
      by_cases z1 : zN A 6 1 = 0
      · rw [if_pos (show Int32.ofNat (zN A 6 1) = 0 by rw [z1]; rfl)] at h2
        exact ST.rw hI (h1.trans (years0_C hE1 n1 (by omega) (Or.inr (by rw [z6]; exact z1)) (by omega))) h2 hE1.2.1 hW1 hC1 hT1
      · rw [if_neg (show ¬ Int32.ofNat (zN A 6 1) = 0 from fun q => z1 ((c_eq (zN A 6 1) 0 (by omega) (by omega)).1 q))] at h2
        obtain ⟨r, σ', A', τ', y1, y2, y3, y4, y5⟩ := years_CT (X := X) (F := F) (s := x 1) (by omega) (show n ≤ 40 by omega) n 0 F F 0 _ _ _ (Nat.zero_add _) (by omega) (by omega) hE1 hC1 hT1 (by rw [z6]; omega) (by rw [z6]; omega)
        exact ST.rw hI (h1.trans y1) (h2.trans y2) y3.2.1 y3.2.2 y4 y5
  · rw [if_neg c] at h1 h2
    exact ST.ro hI h1 h2 hC hT
