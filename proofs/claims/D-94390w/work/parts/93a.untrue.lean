set_option maxRecDepth 100000
/-! 23: nights; which houses are untrue -/
variable {X : Nat → Option Ob} {ad ad' : Nat → Nat} {B B' : Sw} {A A' : Av} {σ σ' : Cs} {τ : Tw} {F : Nat}
theorem cdl_cg (h9 : A' 9 = A 9) (h10 : A' 10 = A 10) : ∀ n k, cdl A' k n = cdl A k n := by
  intro n
  induction n with
  | zero => intro k; rfl
  | succ n ih =>
    intro k
    show (A' 9 k, A' 10 k) :: cdl A' (k + 1) n = (A 9 k, A 10 k) :: cdl A (k + 1) n
    rw [h9, h10, ih]
theorem sDue_cg (h6 : A' 6 = A 6) (h7 : A' 7 = A 7) (h9 : A' 9 = A 9) (h10 : A' 10 = A 10) (h : Nat) : sDue A' h = sDue A h := by
  have z6 : ∀ k, zN A' 6 k = zN A 6 k := fun k => by unfold zN; rw [h6]
  have z7 : ∀ k, zN A' 7 k = zN A 7 k := fun k => by unfold zN; rw [h7]
  have e1 : sRk A' h = sRk A h := by unfold sRk; rw [z7, h7, h6]
  have e2 : envD A' h = envD A h := by
    funext k
    unfold envD sLd sX
    rw [e1, h6]
  unfold sDue sSay sV
  rw [e1, e2, z6, z6, h6, cdl_cg h9 h10]
theorem irr.due (g : irr A A') (h : Nat) : sDue A' h = sDue A h := sDue_cg (g.1 6 (by omega)) (g.1 7 (by omega)) (g.1 9 (by omega)) (g.1 10 (by omega)) h
theorem sUnt_cg (h6 : A' 6 = A 6) (h7 : A' 7 = A 7) (h9 : A' 9 = A 9) (h10 : A' 10 = A 10) : ∀ k, sUnt A' k = sUnt A k := by
  intro k
  induction k with
  | zero => rfl
  | succ k ih =>
    show (if sHt A' k = sDue A' k then sUnt A' k else sUnt A' k ||| bit k) = (if sHt A k = sDue A k then sUnt A k else sUnt A k ||| bit k)
    rw [ih, sDue_cg h6 h7 h9 h10, show sHt A' k = sHt A k from congrFun h7 _]
/-- how many are in the set below k -/
def uN (S : Int32) : Nat → Nat
  | 0 => 0
  | k + 1 => if tb S k = true then uN S k + 1 else uN S k
/-- which ones -/
def uW (S : Int32) : Nat → Nat → Nat
  | 0 => fun _ => 0
  | k + 1 => fun j => if tb S k = true ∧ j = uN S k then k else uW S k j
theorem uN_le (S : Int32) : ∀ k, uN S k ≤ k := by
  intro k
  induction k with
  | zero => exact Nat.le_refl _
  | succ k ih =>
    show (if tb S k = true then uN S k + 1 else uN S k) ≤ k + 1
    split <;> omega
theorem uN_pc (S : Int32) : ∀ k, uN S k = pcN S.toBitVec.toNat k := by
  intro k
  induction k with
  | zero => rfl
  | succ k ih =>
    show (if tb S k = true then uN S k + 1 else uN S k) = pcN S.toBitVec.toNat k + (if S.toBitVec.toNat.testBit k then 1 else 0)
    have e2 : tb S k = S.toBitVec.toNat.testBit k := rfl
    rw [e2, ih]
    by_cases h : S.toBitVec.toNat.testBit k = true
    · rw [if_pos h, if_pos h]
    · rw [if_neg h, if_neg h]
      rfl
theorem uN_hi {S : Int32} {H : Nat} (h : ∀ i, H ≤ i → i < 32 → tb S i = false) : ∀ d, H + d ≤ 32 → uN S (H + d) = uN S H := by
  intro d
  induction d with
  | zero => intro _; rfl
  | succ d ih =>
    intro hd
    show (if tb S (H + d) = true then uN S (H + d) + 1 else uN S (H + d)) = uN S H
    rw [h (H + d) (by omega) (by omega), if_neg (by decide)]
    exact ih (by omega)
theorem uW_ok (S : Int32) : ∀ k, (∀ j, j < uN S k → uW S k j < k ∧ tb S (uW S k j) = true) ∧ ∀ i j, i < uN S k → j < uN S k → uW S k i = uW S k j → i = j := by
  intro k
  induction k with
  | zero => exact ⟨fun j hj => absurd hj (Nat.not_lt_zero j), fun i j hi => absurd hi (Nat.not_lt_zero i)⟩
  | succ k ih =>
    obtain ⟨a, b⟩ := ih
    by_cases h : tb S k = true
    · have eN : uN S (k + 1) = uN S k + 1 := if_pos h
      have w1 : uW S (k + 1) (uN S k) = k := if_pos ⟨h, rfl⟩
      have w2 : ∀ j, j ≠ uN S k → uW S (k + 1) j = uW S k j := fun j hj => if_neg (fun q => hj q.2)
      rw [eN]
      refine ⟨fun j hj => ?_, fun i j hi hj e => ?_⟩
      · by_cases e : j = uN S k
        · rw [e, w1]; exact ⟨Nat.lt_succ_self k, h⟩
        · rw [w2 j e]
          obtain ⟨x, y⟩ := a j (by omega)
          exact ⟨by omega, y⟩
      · by_cases e1 : i = uN S k
        · by_cases e2 : j = uN S k
          · rw [e1, e2]
          · rw [e1, w1, w2 j e2] at e
            have := (a j (by omega)).1
            omega
        · by_cases e2 : j = uN S k
          · rw [e2, w1, w2 i e1] at e
            have := (a i (by omega)).1
            omega
          · rw [w2 i e1, w2 j e2] at e
            exact b i j (by omega) (by omega) e
    · have eN : uN S (k + 1) = uN S k := if_neg h
      have w2 : uW S (k + 1) = uW S k := funext fun j => if_neg (fun q => h q.1)
      rw [eN, w2]
      exact ⟨fun j hj => ⟨by have := (a j hj).1; omega, (a j hj).2⟩, b⟩
theorem sUnt_hi : ∀ k, k ≤ 16 → ∀ i, k ≤ i → i < 32 → tb (sUnt A k) i = false := by
  intro k
  induction k with
  | zero => intro _ i _ _; exact tb_0 i
  | succ k ih =>
    intro hk i hi h32
    show tb (if sHt A k = sDue A k then sUnt A k else sUnt A k ||| bit k) i = false
    by_cases h : sHt A k = sDue A k
    · rw [if_pos h]; exact ih (by omega) i (by omega) h32
    · rw [if_neg h, tb_or, ih (by omega) i (by omega) h32, tb_bit (by omega) h32]
      have : ¬ i = k := by omega
      simp [this]
theorem pc_uN {H : Nat} (hH : H ≤ 16) : pc (sUnt A H) = Int32.ofNat (uN (sUnt A H) H) := by
  have e := uN_hi (S := sUnt A H) (H := H) (sUnt_hi H hH) (16 - H) (by omega)
  rw [show H + (16 - H) = 16 by omega, uN_pc] at e
  unfold pc
  rw [e]
/-- the reference lists them -/
theorem col_T (hF : 1000 ≤ F) {S c1 : Int32} {A0 : Av} {K : Tw → Option (Int32 × Tw)} : ∀ (d h ft : Nat) (A : Av) (τ : Tw), h + d = zN A0 6 0 → d < ft → irr A0 A → WF A → LawC A 1 → TR A τ → A 0 42 = Int32.ofNat (uN S h) → (∀ j, j < uN S h → A 28 j = Int32.ofNat (uW S h j) ∧ A 29 j = sDue A0 (uW S h j)) → ∃ A' τ', t_X9_nights_L23 F K c1 S ft (Int32.ofNat h) τ = K τ' ∧ TR A' τ' ∧ irr A0 A' ∧ A' 0 42 = Int32.ofNat (uN S (zN A0 6 0)) ∧ ∀ j, j < uN S (zN A0 6 0) → A' 28 j = Int32.ofNat (uW S (zN A0 6 0) j) ∧ A' 29 j = sDue A0 (uW S (zN A0 6 0) j) := by
  intro d
  induction d with
  | zero =>
    intro h ft A τ hd hft hi hW hL hT hn hf
    obtain ⟨ft, rfl⟩ : ∃ m, ft = m + 1 := ⟨ft - 1, by omega⟩
    obtain ⟨eH, lH⟩ := hW.H
    have z6 : zN A 6 0 = zN A0 6 0 := by unfold zN; rw [hi.1 6 (by omega)]
    have e0 : h = zN A 6 0 := by omega
    refine ⟨A, τ, ?_, hT, hi, by rw [← z6, ← e0]; exact hn, by rw [← z6, ← e0]; exact hf⟩
    show t_X9_nights_L23_b F K c1 S (t_X9_nights_L23 F K c1 S ft) (Int32.ofNat h) τ = _
    unfold t_X9_nights_L23_b
    rw [taI_l _ _ _ _ (by omega) (by omega), Option.bind_some, hT.2 6 rfl, show A 6 (OfNat.ofNat 0) = Int32.ofNat (zN A 6 0) from eH, e0, if_pos (Int32.le_refl _)]
  | succ d ih =>
    intro h ft A τ hd hft hi hW hL hT hn hf
    obtain ⟨ft, rfl⟩ : ∃ m, ft = m + 1 := ⟨ft - 1, by omega⟩
    obtain ⟨eH, lH⟩ := hW.H
    have z6 : zN A 6 0 = zN A0 6 0 := by unfold zN; rw [hi.1 6 (by omega)]
    have hh : h < zN A 6 0 := by omega
    have nle : ¬ Int32.ofNat (zN A 6 0) ≤ Int32.ofNat h := fun q => by
      have := (c_le _ _ (by omega) (by omega)).1 q
      omega
    have st : t_X9_nights_L23 F K c1 S (ft + 1) (Int32.ofNat h) τ = t_X9_nights_L23_b F K c1 S (t_X9_nights_L23 F K c1 S ft) (Int32.ofNat h) τ := rfl
    unfold t_X9_nights_L23_b at st
    rw [taI_l _ _ _ _ (by omega) (by omega), Option.bind_some, hT.2 6 rfl, show A 6 (OfNat.ofNat 0) = Int32.ofNat (zN A 6 0) from eH, if_neg nle, bit_of S (by omega)] at st
    have lu := uN_le S h
    by_cases hb : tb S h = true
    · have eN : uN S (h + 1) = uN S h + 1 := if_pos hb
      rw [if_pos hb, if_neg (show ¬ (1 : Int32) = 0 by decide), hT.1 42 rfl, hn, tsA_n _ _ _ _ _ _ (by omega) (by omega), Option.bind_some, nar0, hT.2 28 rfl] at st
      obtain ⟨A1, eA1⟩ : ∃ A1, A1 = aw A 28 (upd (A 28) (uN S h) (Int32.ofNat h)) := ⟨_, rfl⟩
      have hT1 : TR A1 (twA τ 28 (upd (A 28) (uN S h) (Int32.ofNat h))) := by rw [eA1]; exact hT.W (by decide)
      have i1 : irr A A1 := by rw [eA1]; exact irr.w (by omega)
      have hL1 : LawC A1 1 := by
        have e6 := i1.1 6 (by omega)
        unfold LawC at hL ⊢
        rw [e6]
        rcases hL with q | ⟨d', f0, c, q1, q2, q3, q4, q5⟩
        · exact Or.inl q
        · exact Or.inr ⟨d', f0, c, q1, q2, q3, cAt_cg (i1.1 9 (by omega)) (i1.1 10 (by omega)) q4, q5⟩
      obtain ⟨τ2, t2, hT2⟩ := dueOf_T (F := F) hF (i1.wf hW) hL1 (show h < 16 by omega) hT1
      rw [t2, Option.bind_some] at st
      have e42 : (twA τ 28 (upd (A 28) (uN S h) (Int32.ofNat h))).1 42 = Int32.ofNat (uN S h) := by
        rw [twA_1, hT.1 42 rfl, hn]
      have st : t_X9_nights_L23 F K c1 S (ft + 1) (Int32.ofNat h) τ = Option.bind (tsA τ2 29 0 16 ((twA τ 28 (upd (A 28) (uN S h) (Int32.ofNat h))).1 42) (sDue A1 h)) fun τ10 => nm (tsI τ10 42 ((τ10.1 42) + 1)) fun τ11 => nm (Int32.ofNat h + 1) fun x13 => t_X9_nights_L23 F K c1 S ft x13 τ11 := st
      rw [e42, tsA_n _ _ _ _ _ _ (by omega) (by omega), Option.bind_some, nmE, nmE, n_lp 1 h, nar0, hT2.2 29 rfl] at st
      have e42' : (twA τ2 29 (upd (A1 29) (uN S h) (sDue A1 h))).1 42 + 1 = Int32.ofNat (uN S (h + 1)) := by
        rw [twA_1, hT2.1 42 rfl, eN, ← n_lp 1 (uN S h)]
        have : A1 0 42 = A 0 42 := by rw [eA1, aw_n _ _ _ _ (by decide)]
        rw [this, hn]
      rw [e42'] at st
      obtain ⟨A2, eA2⟩ : ∃ A2, A2 = aw (aw A1 29 (upd (A1 29) (uN S h) (sDue A1 h))) 0 (upd (A1 0) 42 (Int32.ofNat (uN S (h + 1)))) := ⟨_, rfl⟩
      have hT3 : TR A2 (tsI (twA τ2 29 (upd (A1 29) (uN S h) (sDue A1 h))) 42 (Int32.ofNat (uN S (h + 1)))) := by
        have := (hT2.W (j := 29) (f := upd (A1 29) (uN S h) (sDue A1 h)) (by decide)).I (k := 42) (v := Int32.ofNat (uN S (h + 1)))
        rw [aw_n _ _ _ _ (show (0 : Nat) ≠ 29 by decide)] at this
        rw [eA2]
        exact this
      have i2 : irr A1 A2 := by
        have q := (irr.w (A := A1) (j := 29) (f := upd (A1 29) (uN S h) (sDue A1 h)) (by omega)).tr (irr.i (z := 42) (v := Int32.ofNat (uN S (h + 1))) (by decide))
        rw [aw_n _ _ _ _ (show (0 : Nat) ≠ 29 by decide)] at q
        rw [eA2]
        exact q
      have i02 : irr A0 A2 := (hi.tr i1).tr i2
      have hL2 : LawC A2 1 := by
        have e6 := i2.1 6 (by omega)
        unfold LawC at hL1 ⊢
        rw [e6]
        rcases hL1 with q | ⟨d', f0, c, q1, q2, q3, q4, q5⟩
        · exact Or.inl q
        · exact Or.inr ⟨d', f0, c, q1, q2, q3, cAt_cg (i2.1 9 (by omega)) (i2.1 10 (by omega)) q4, q5⟩
      obtain ⟨A', τ', y1, y2⟩ := ih (h + 1) ft A2 _ (by omega) (by omega) i02 (i2.wf (i1.wf hW)) hL2 hT3 (by rw [eA2, aw_s, up_s]) (fun j hj => by
        rw [eN] at hj
        have a28 : A2 28 = upd (A 28) (uN S h) (Int32.ofNat h) := by rw [eA2, aw_n _ _ _ _ (by decide), aw_n _ _ _ _ (by decide), eA1, aw_s]
        have a29 : A2 29 = upd (A 29) (uN S h) (sDue A1 h) := by rw [eA2, aw_n _ _ _ _ (by decide), aw_s, eA1, aw_n _ _ _ _ (by decide)]
        rw [a28, a29]
        by_cases e : j = uN S h
        · have w1 : uW S (h + 1) j = h := if_pos ⟨hb, e⟩
          rw [w1, e, up_s, up_s, (hi.tr i1).due]
          exact ⟨rfl, rfl⟩
        · have w2 : uW S (h + 1) j = uW S h j := if_neg (fun q => e q.2)
          rw [w2, up_n _ _ _ _ e, up_n _ _ _ _ e]
          exact hf j (by omega))
      exact ⟨A', τ', st.trans y1, y2⟩
    · have eN : uN S (h + 1) = uN S h := if_neg hb
      have w2 : uW S (h + 1) = uW S h := funext fun j => if_neg (fun q => hb q.1)
      rw [if_neg hb, if_pos rfl, nmE, n_lp 1 h] at st
      obtain ⟨A', τ', y1, y2⟩ := ih (h + 1) ft A τ (by omega) (by omega) hi hW hL hT (by rw [eN]; exact hn) (by rw [eN, w2]; exact hf)
      exact ⟨A', τ', st.trans y1, y2⟩
/-- the component lists them (eight at most) -/
theorem col_C (hF : 1000 ≤ F) (hE : EV ad B A) {S : Int32} (h8 : ∀ h, h ≤ zN A 6 0 → uN S h ≤ 8) {K : Int32 → Sw → Option (Int32 × Sw)} : ∀ (d h fc : Nat) (σ : Cs), h + d = zN A 6 0 → d < fc → CR ad B A σ → (∀ j, j < uN S h → σ.2.1 27 j = Int32.ofNat (uW S h j) ∧ σ.2.1 28 j = sDue A (uW S h j)) → ∃ σ', f_X0_fillNights_L21 F K (ad 0) S fc (Int32.ofNat (uN S h)) (Int32.ofNat h) (cM X ad σ B) = K (Int32.ofNat (uN S (zN A 6 0))) (cM X ad σ' B) ∧ CR ad B A σ' ∧ ∀ j, j < uN S (zN A 6 0) → σ'.2.1 27 j = Int32.ofNat (uW S (zN A 6 0) j) ∧ σ'.2.1 28 j = sDue A (uW S (zN A 6 0) j) := by
  have hA := hE.1
  obtain ⟨eH, lH⟩ := hE.2.2.H
  intro d
  induction d with
  | zero =>
    intro h fc σ hd hfc hC hf
    obtain ⟨fc, rfl⟩ : ∃ m, fc = m + 1 := ⟨fc - 1, by omega⟩
    have e0 : h = zN A 6 0 := by omega
    refine ⟨σ, ?_, hC, by rw [← e0]; exact hf⟩
    show f_X0_fillNights_L21_b F K (ad 0) S (f_X0_fillNights_L21 F K (ad 0) S fc) (Int32.ofNat (uN S h)) (Int32.ofNat h) (cM X ad σ B) = _
    unfold f_X0_fillNights_L21_b
    rw [oc0 hA, Option.bind_some, houses_C hE, Option.bind_some, e0, if_pos (Int32.le_refl _)]
  | succ d ih =>
    intro h fc σ hd hfc hC hf
    obtain ⟨fc, rfl⟩ : ∃ m, fc = m + 1 := ⟨fc - 1, by omega⟩
    have hh : h < zN A 6 0 := by omega
    have nle : ¬ Int32.ofNat (zN A 6 0) ≤ Int32.ofNat h := fun q => by
      have := (c_le _ _ (by omega) (by omega)).1 q
      omega
    have st : f_X0_fillNights_L21 F K (ad 0) S (fc + 1) (Int32.ofNat (uN S h)) (Int32.ofNat h) (cM X ad σ B) = f_X0_fillNights_L21_b F K (ad 0) S (f_X0_fillNights_L21 F K (ad 0) S fc) (Int32.ofNat (uN S h)) (Int32.ofNat h) (cM X ad σ B) := rfl
    unfold f_X0_fillNights_L21_b at st
    rw [oc0 hA, Option.bind_some, houses_C hE, Option.bind_some, if_neg nle, bit_of S (by omega)] at st
    by_cases hb : tb S h = true
    · have eN : uN S (h + 1) = uN S h + 1 := if_pos hb
      have l8 := h8 (h + 1) (by omega)
      obtain ⟨σ1, eσ1⟩ : ∃ σ1, σ1 = csA σ 27 (upd (σ.2.1 27) (uN S h) (Int32.ofNat h)) := ⟨_, rfl⟩
      have hC1 : CR ad B A σ1 := by rw [eσ1]; exact hC.a rfl
      obtain ⟨σ2, c2, gg, bb, e2⟩ := dueOf_C (X := X) (F := F) hF hE hC1 hh
      have hC2 : CR ad B A σ2 := by rw [e2]; exact (hC1.a rfl).i rfl
      rw [if_pos hb, if_neg (show ¬ (1 : Int32) = 0 by decide), o0_14 hA, Option.bind_some, s27 hA _ _ _ (by omega), Option.bind_some, nar0, ← eσ1, o0_15 hA, Option.bind_some, oc0 hA, Option.bind_some, c2, Option.bind_some] at st
      have st : f_X0_fillNights_L21 F K (ad 0) S (fc + 1) (Int32.ofNat (uN S h)) (Int32.ofNat h) (cM X ad σ B) = Option.bind (sI (cM X ad σ2 B) 0 (ad 28) (Int32.ofNat (uN S h)) (sDue A h)) fun μ18 => nm (Int32.ofNat (uN S h) + 1) fun x19 => nm (Int32.ofNat h + 1) fun x21 => f_X0_fillNights_L21 F K (ad 0) S fc x19 x21 μ18 := st
      rw [s28 hA _ _ _ (by omega), Option.bind_some, nmE, nmE, nar0, n_lp 1 h, n_lp 1 (uN S h), show uN S h + OfNat.ofNat 1 = uN S (h + 1) from eN.symm] at st
      obtain ⟨σ', y1, y2⟩ := ih (h + 1) fc _ (by omega) (by omega) (hC2.a (r := 28) (f := upd (σ2.2.1 28) (uN S h) (sDue A h)) rfl) (fun j hj => by
        rw [eN] at hj
        have r27 : (csA σ2 28 (upd (σ2.2.1 28) (uN S h) (sDue A h))).2.1 27 = upd (σ.2.1 27) (uN S h) (Int32.ofNat h) := by
          rw [csA_n _ _ _ _ (by decide), e2]
          show (csA σ1 11 gg).2.1 27 = _
          rw [csA_n _ _ _ _ (by decide), eσ1, csA_s]
        have r28 : σ2.2.1 28 = σ.2.1 28 := by
          rw [e2]
          show (csA σ1 11 gg).2.1 28 = _
          rw [csA_n _ _ _ _ (by decide), eσ1, csA_n _ _ _ _ (by decide)]
        rw [r27, csA_s, r28]
        by_cases e : j = uN S h
        · have w1 : uW S (h + 1) j = h := if_pos ⟨hb, e⟩
          rw [w1, e, up_s, up_s]
          exact ⟨rfl, rfl⟩
        · have w2 : uW S (h + 1) j = uW S h j := if_neg (fun q => e q.2)
          rw [w2, up_n _ _ _ _ e, up_n _ _ _ _ e]
          exact hf j (by omega))
      exact ⟨σ', st.trans y1, y2⟩
    · have eN : uN S (h + 1) = uN S h := if_neg hb
      have w2 : uW S (h + 1) = uW S h := funext fun j => if_neg (fun q => hb q.1)
      rw [if_neg hb, if_pos rfl, nmE, n_lp 1 h] at st
      obtain ⟨σ', y1, y2⟩ := ih (h + 1) fc σ (by omega) (by omega) hC (by rw [eN, w2]; exact hf)
      refine ⟨σ', ?_, y2⟩
      rw [eN] at y1
      exact st.trans y1
