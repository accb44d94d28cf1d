set_option maxRecDepth 100000
/-! lists that may change, in the cells outside -/
variable {X X' X2 : Nat → Option Ob} {ad : Nat → Nat} {B B' B2 : Sw} {A A' : Av} {σ σ' σ2 : Cs} {τ τ' τ2 : Tw} {F : Nat} {c pl : Nat → Nat} {last j : Nat}
/-- an element is added to a longer list -/
theorem add_w {M : Sw} {a d p n cap t : Nat} {md : Int32} {f : Nat → Option Nat} {q : Nat × List Value} (ha : M.1 a = some (.inr (20, [.int md, .ref d, .int (Int32.ofNat n)]))) (hd : M.1 d = some (.inl (t, (cap, .inr (.inr f))))) (ht : t = 6 ∨ (cap = 0 ∧ d = M.2.2.2 0)) (hp : M.1 p = some (.inr q)) (la : a < M.2.1) (ld : d < M.2.1) (lp : p < M.2.1) (hn : n ≤ 100) (hc : n ≤ cap) (hc2 : cap < 1000) (he : ∀ j, j < n → ∃ y q, f j = some y ∧ y < M.2.1 ∧ M.1 y = some (.inr q)) : ∃ (M' : Sw) (dn c2 : Nat) (g : Nat → Option Nat), f_J2_add F a p M = some (1, M') ∧ M'.1 a = some (.inr (20, [.int (md + 1), .ref dn, .int (Int32.ofNat (n + 1))])) ∧ M'.1 dn = some (.inl (6, (c2, .inr (.inr g)))) ∧ n + 1 ≤ c2 ∧ c2 < 1000 ∧ (∀ j, j < n → g j = f j) ∧ g n = some p ∧ M'.2.2.2 = M.2.2.2 ∧ ((dn = d ∧ M'.2 = M.2 ∧ t = 6) ∨ (dn = M.2.1 ∧ M'.2.1 = M.2.1 + 1 ∧ M'.2.2.1 ≤ M.2.2.1 + 200)) ∧ ∀ b, b ≠ a → b ≠ dn → M'.1 b = M.1 b := by
  have had : a ≠ d := fun e => by rw [e, hd] at ha; cases ha
  have hpd : p ≠ d := fun e => by rw [e, hd] at hp; cases hp
  have hM1 : ∃ M1 : Sw, M1 = (mup M.1 a (.inr (20, [.int (md + 1), .ref d, .int (Int32.ofNat n)])), M.2) := ⟨_, rfl⟩
  obtain ⟨M1, eM1⟩ := hM1
  have a1 : M1.1 a = some (.inr (20, [.int (md + 1), .ref d, .int (Int32.ofNat n)])) := by rw [eM1]; exact mup_eq
  have d1 : M1.1 d = some (.inl (t, (cap, .inr (.inr f)))) := by rw [eM1]; exact (mup_ne (Ne.symm had)).trans hd
  have o1 : ∀ b, b ≠ a → M1.1 b = M.1 b := fun b hb => by rw [eM1]; exact mup_ne hb
  have s1 : M1.2 = M.2 := by rw [eM1]
  have an : ∀ y q, M.1 y = some (.inr q) → ∃ q, M1.1 y = some (.inr q) := fun y q h => by
    by_cases e : y = a
    · rw [e]; exact ⟨_, a1⟩
    · rw [o1 y e]; exact ⟨q, h⟩
  have c1 : f_J2_add F a p M = Option.bind (f_J2_add_2 F a p d (Int32.ofNat n) M1) fun q9 => some (1, q9) := by
    have hpf : pf M a 20 0 (.int (md + 1)) = some M1 := by
      rw [eM1]
      exact m_pf ha (show 0 < 3 by omega)
    unfold f_J2_add
    rw [m_I (k := 0) ha rfl, Option.bind_some, hpf, Option.bind_some, m_R (k := 1) a1 rfl, Option.bind_some, m_I (k := 2) a1 rfl, Option.bind_some, m_oc a1, Option.bind_some]
  by_cases hroom : n = cap
  · have hc0 : n = cap := hroom
    have ne1 : a ≠ M1.2.1 := by rw [s1]; omega
    have hg : ∃ c2 g w, f_J2_grow F a M1 = some (M1.2.1, (mup (mup M1.1 M1.2.1 (.inl (6, (c2, .inr (.inr g))))) a (.inr (20, [.int (md + 1), .ref M1.2.1, .int (Int32.ofNat n)])), (M1.2.1 + 1, w, M1.2.2.2))) ∧ n + 1 ≤ c2 ∧ c2 < 1000 ∧ w ≤ M1.2.2.1 + 200 ∧ ∀ j, j < n → g j = f j := by
      have e1 : f_J2_grow F a M1 = Option.bind (f_J2_grow_2 F a (Int32.ofNat (n + 1)) M1) fun q3 => some (q3.1, q3.2) := by
        unfold f_J2_grow
        rw [m_I (k := 2) a1 rfl, Option.bind_some, m_oc a1, Option.bind_some, show Int32.ofNat n + 1 = Int32.ofNat (n + 1) from n_lp 1 n]
      have put : ∀ (c2 : Nat) (g : Nat → Option Nat) (w : Nat), pf (mup M1.1 M1.2.1 (.inl (6, (c2, .inr (.inr g)))), (M1.2.1 + 1, w, M1.2.2.2)) a 20 1 (.ref M1.2.1) = some (mup (mup M1.1 M1.2.1 (.inl (6, (c2, .inr (.inr g))))) a (.inr (20, [.int (md + 1), .ref M1.2.1, .int (Int32.ofNat n)])), (M1.2.1 + 1, w, M1.2.2.2)) := fun c2 g w => m_pf (M := (mup M1.1 M1.2.1 (.inl (6, (c2, .inr (.inr g)))), (M1.2.1 + 1, w, M1.2.2.2))) ((mup_ne ne1).trans a1) (show 1 < 3 by omega)
      by_cases h0 : n = 0 ∧ d = M1.2.2.2 0
      · obtain ⟨hn0, hdc⟩ := h0
        refine ⟨10, fun _ => none, M1.2.2.1 + 10, ?_, by omega, by omega, by omega, fun j hj => by omega⟩
        rw [e1]
        unfold f_J2_grow_2
        have m10 : mx 10 (Int32.ofNat (n + 1)) = Int32.ofNat 10 := by rw [hn0]; rfl
        have z : ¬ (0 : Int32) < Int32.ofNat cap := by rw [← hc0, hn0]; decide
        rw [m_R (k := 1) a1 rfl, Option.bind_some, m_N d1, Option.bind_some, if_neg z, Option.bind_some, if_pos hdc, m10, m_nwQ (by omega), Option.bind_some]
        have := put 10 (fun _ => none) (M1.2.2.1 + 10)
        show Option.bind (Option.bind (pf (mup M1.1 M1.2.1 (.inl (6, (10, .inr (.inr (fun _ => none))))), (M1.2.1 + 1, M1.2.2.1 + 10, M1.2.2.2)) a 20 1 (.ref M1.2.1)) fun μ12 => some (M1.2.1, μ12)) _ = _
        rw [this]
        rfl
      · have t6 : t = 6 := by
          rcases ht with h | ⟨h, h'⟩
          · exact h
          · exact absurd ⟨by omega, by rw [s1]; exact h'⟩ h0
        subst t6
        have hd1 : M1.1 d = some (.inl (6, (n, .inr (.inr f)))) := by rw [d1, ← hc0]
        obtain ⟨g, hcp, hgf⟩ := copy_q (F := F) (c2 := n + max 1 (n / 2)) hd1 (by rw [s1]; exact ld) (by omega) (by omega) (by omega) (fun j hj => by
          obtain ⟨y, q, e, ly, ey⟩ := he j hj
          obtain ⟨q2, e2⟩ := an y q ey
          exact ⟨y, q2, e, by rw [s1]; exact ly, e2⟩)
        refine ⟨n + max 1 (n / 2), g, M1.2.2.1 + (n + max 1 (n / 2)), ?_, by omega, by omega, by omega, hgf⟩
        have ej : f_J2_grow_2 F a (Int32.ofNat (n + 1)) M1 = f_J2_grow_2_j20 F a (Int32.ofNat (n + 1)) (Int32.ofNat n) M1 := by
          unfold f_J2_grow_2
          rw [m_R (k := 1) a1 rfl, Option.bind_some, m_N hd1, Option.bind_some]
          by_cases hn0 : 0 < n
          · rw [if_pos (show (0 : Int32) < Int32.ofNat n from (c_lt 0 n (by omega) (by omega)).2 hn0)]
          · rw [if_neg (show ¬ (0 : Int32) < Int32.ofNat n from fun h => hn0 ((c_lt 0 n (by omega) (by omega)).1 h)), Option.bind_some, if_neg (fun h => h0 ⟨by omega, h⟩)]
        have nl : f_J11_newLength F (Int32.ofNat n) (Int32.ofNat (n + 1) - Int32.ofNat n) (Int32.ofNat n >>> ((1 : Int32) &&& 31)) M1 = some (Int32.ofNat (n + max 1 (n / 2)), M1) := by
          unfold f_J11_newLength
          have e2 : Int32.ofNat (n + 1) - Int32.ofNat n = Int32.ofNat 1 := by
            rw [n_ss _ _ (by omega)]
            congr 1
            omega
          rw [shr1 (by omega), e2, mx_n (by omega) (by omega)]
          simp (disch := omega) only [Option.bind_some, Option.bind_none, nmE, n_pp, n_pl, n_lp, n_mm, n_ml, n_lm, csI_s, csI_n, csI_2, csA_1, csA_s, csA_n, csA_2, csL_1, csL_2, csL_s, csL_n, csL_3, csQ_1, csQ_2, csQ_3, csQ_s, csQ_n, nar0, c_le, c_le_l, c_le_r, c_lt, c_lt_l, c_lt_r, c_eq, c_eq_l, c_eq_r, if_true, if_false, if_pos, if_neg]
        rw [e1, ej]
        unfold f_J2_grow_2_j20
        rw [nl, Option.bind_some]
        show Option.bind (Option.bind (gfR M1 a 20 1) fun x3 => Option.bind (f_J13_copyOf F x3 (Int32.ofNat (n + max 1 (n / 2))) M1) fun q5 => Option.bind (pf q5.2 a 20 1 (.ref q5.1)) fun μ7 => some (q5.1, μ7)) _ = _
        rw [m_R (k := 1) a1 rfl, Option.bind_some, hcp, Option.bind_some]
        have := put (n + max 1 (n / 2)) g (M1.2.2.1 + (n + max 1 (n / 2)))
        show Option.bind (Option.bind (pf (mup M1.1 M1.2.1 (.inl (6, (n + max 1 (n / 2), .inr (.inr g)))), (M1.2.1 + 1, M1.2.2.1 + (n + max 1 (n / 2)), M1.2.2.2)) a 20 1 (.ref M1.2.1)) fun μ7 => some (M1.2.1, μ7)) _ = _
        rw [this]
        rfl
    obtain ⟨c2, g, w, hg, g1, g2, g3, g4⟩ := hg
    have hM2 : ∃ M2 : Sw, M2 = (mup (mup M1.1 M1.2.1 (.inl (6, (c2, .inr (.inr g))))) a (.inr (20, [.int (md + 1), .ref M1.2.1, .int (Int32.ofNat n)])), (M1.2.1 + 1, w, M1.2.2.2)) := ⟨_, rfl⟩
    obtain ⟨M2, eM2⟩ := hM2
    rw [← eM2] at hg
    have a2 : M2.1 a = some (.inr (20, [.int (md + 1), .ref M1.2.1, .int (Int32.ofNat n)])) := by rw [eM2]; exact mup_eq
    have d2 : M2.1 M1.2.1 = some (.inl (6, (c2, .inr (.inr g)))) := by rw [eM2]; exact (mup_ne (Ne.symm ne1)).trans mup_eq
    have o2 : ∀ b, b ≠ a → b ≠ M1.2.1 → M2.1 b = M1.1 b := fun b h1 h2 => by rw [eM2]; exact (mup_ne h1).trans (mup_ne h2)
    have s2 : M2.2 = (M1.2.1 + 1, w, M1.2.2.2) := by rw [eM2]
    have hp2 : ∃ q, M2.1 p = some (.inr q) := by
      by_cases e : p = a
      · rw [e]; exact ⟨_, a2⟩
      · obtain ⟨q1, hq1⟩ := an p q hp
        exact ⟨q1, by rw [o2 p e (by rw [s1]; omega)]; exact hq1⟩
    obtain ⟨q2, hq2⟩ := hp2
    refine ⟨(mup (mup M2.1 M1.2.1 (.inl (6, (c2, .inr (.inr (va_up g n (some p))))))) a (.inr (20, [.int (md + 1), .ref M1.2.1, .int (Int32.ofNat (n + 1))])), M2.2), M1.2.1, c2, va_up g n (some p), ?_, mup_eq, (mup_ne (Ne.symm ne1)).trans mup_eq, g1, g2, fun j hj => by rw [va_up_ne _ _ (by omega), g4 j hj], va_up_self _ _ _, by rw [s2, s1], Or.inr ⟨by rw [s1], by rw [s2, s1], ?_⟩, fun b h1 h2 => ?_⟩
    · rw [c1]
      unfold f_J2_add_2
      rw [m_N d1, Option.bind_some, if_pos (by rw [hc0]), m_oc a1, Option.bind_some, hg, Option.bind_some]
      show Option.bind (Option.bind (sQ M2 6 M1.2.1 (Int32.ofNat n) (some p)) fun μ15 => Option.bind (oAny M2 p) fun u17 => Option.bind (pf μ15 a 20 2 (.int (Int32.ofNat n + 1))) fun μ18 => some μ18) _ = _
      rw [m_sQ d2 (by omega) (by omega), Option.bind_some, m_any hq2, Option.bind_some, m_pf (M := (mup M2.1 M1.2.1 _, M2.2)) ((mup_ne ne1).trans a2) (show 2 < 3 by omega)]
      show some ((1 : Int32), (mup (mup M2.1 M1.2.1 _) a (.inr (20, [.int (md + 1), .ref M1.2.1, .int (Int32.ofNat n + 1)])), M2.2)) = _
      rw [show Int32.ofNat n + 1 = Int32.ofNat (n + 1) from n_lp 1 n]
    · rw [s2]
      show w ≤ _
      rw [s1] at g3
      exact g3
    · show mup (mup M2.1 M1.2.1 _) a _ b = _
      rw [mup_ne h1, mup_ne h2, o2 b h1 h2, o1 b h1]
  · have t6 : t = 6 := by
      rcases ht with h | ⟨h, -⟩
      · exact h
      · omega
    subst t6
    obtain ⟨q1, hq1⟩ := an p q hp
    refine ⟨(mup (mup M1.1 d (.inl (6, (cap, .inr (.inr (va_up f n (some p))))))) a (.inr (20, [.int (md + 1), .ref d, .int (Int32.ofNat (n + 1))])), M1.2), d, cap, va_up f n (some p), ?_, mup_eq, ?_, by omega, hc2, fun j hj => va_up_ne _ _ (by omega), va_up_self _ _ _, by rw [s1], Or.inl ⟨rfl, s1, rfl⟩, fun b h1 h2 => ?_⟩
    · rw [c1]
      unfold f_J2_add_2
      rw [m_N d1, Option.bind_some, if_neg, m_sQ d1 (by omega) (by omega), Option.bind_some, m_any hq1, Option.bind_some, m_pf (M := (mup M1.1 d _, M1.2)) ((mup_ne had).trans a1) (show 2 < 3 by omega)]
      · show some ((1 : Int32), (mup (mup M1.1 d _) a (.inr (20, [.int (md + 1), .ref d, .int (Int32.ofNat n + 1)])), M1.2)) = _
        rw [show Int32.ofNat n + 1 = Int32.ofNat (n + 1) from n_lp 1 n]
      · intro h
        rw [c_eq _ _ (by omega) (by omega)] at h
        exact hroom h
    · exact (mup_ne (Ne.symm had)).trans mup_eq
    · show mup (mup M1.1 d _) a _ b = _
      rw [mup_ne h1, mup_ne h2, o1 b h1]
theorem mX_me {a : Nat} {o : Ob} (h : X a = some o) : mX X a o = X := by
  funext q
  by_cases e : q = a
  · rw [e, mX_s, h]
  · rw [mX_n e]
/-- the same frozen cells, a longer memory -/
theorem sm_ad (hA : AdOK ad B) (h1 : B'.1 = B.1) (h2 : B.2.1 ≤ B'.2.1) : AdOK ad B' := by
  refine ⟨?_, ?_, fun r h => ?_, fun a ha => ?_⟩
  · rw [h1]; exact hA.1
  · rw [h1]; exact hA.2.1
  · have := hA.2.2.1 r h
    omega
  · rw [h1]
    exact hA.2.2.2 a (by omega)
theorem sm_own (h1 : B'.1 = B.1) {a : Nat} : Own ad B' a ↔ Own ad B a := by
  unfold Own
  rw [h1]
/-- a list that may change gets an element: the cells outside change -/
theorem add_X (hA : AdOK ad B) (hK : KB B) {a d p n cap : Nat} {md : Int32} {f : Nat → Option Nat} {q : Nat × List Value} (ha : X a = some (.inr (20, [.int md, .ref d, .int (Int32.ofNat n)]))) (oa : ¬ Own ad B a) (la : a < B.2.1) (hd : (n = 0 ∧ d = B.2.2.2 0) ∨ (X d = some (.inl (6, (cap, .inr (.inr f)))) ∧ ¬ Own ad B d ∧ d < B.2.1 ∧ n ≤ cap ∧ cap < 1000 ∧ ∀ j, j < n → ∃ y q, f j = some y ∧ B.1 y = some (.inr q))) (hp : (cM X ad σ B).1 p = some (.inr q)) (lp : p < B.2.1) (hn : n ≤ 100) : ∃ (X' : Nat → Option Ob) (B' : Sw) (dn c2 : Nat) (g : Nat → Option Nat), f_J2_add F a p (cM X ad σ B) = some (1, cM X' ad σ B') ∧ (B'.1 = B.1 ∧ B'.2.2.2 = B.2.2.2 ∧ B.2.1 ≤ B'.2.1 ∧ B'.2.1 ≤ B.2.1 + 1 ∧ B'.2.2.1 ≤ B.2.2.1 + 200) ∧ X' a = some (.inr (20, [.int (md + 1), .ref dn, .int (Int32.ofNat (n + 1))])) ∧ X' dn = some (.inl (6, (c2, .inr (.inr g)))) ∧ n + 1 ≤ c2 ∧ c2 < 1000 ∧ (∀ j, j < n → g j = f j) ∧ g n = some p ∧ ¬ Own ad B dn ∧ dn < B'.2.1 ∧ ((dn = d ∧ d < B.2.1) ∨ dn = B.2.1) ∧ dn ≠ a ∧ ∀ b, b ≠ a → b ≠ dn → X' b = X b := by
  have l0 : B.2.2.2 0 < B.2.1 := hA.lt hK.1
  have M1 : (cM X ad σ B).1 a = some (.inr (20, [.int md, .ref d, .int (Int32.ofNat n)])) := (cM_X oa).trans ha
  have key : ∃ (t cap2 : Nat) (f2 : Nat → Option Nat), (cM X ad σ B).1 d = some (.inl (t, (cap2, .inr (.inr f2)))) ∧ (t = 6 ∨ (cap2 = 0 ∧ d = B.2.2.2 0)) ∧ d < B.2.1 ∧ n ≤ cap2 ∧ cap2 < 1000 ∧ (∀ j, j < n → ∃ y q, f2 j = some y ∧ y < B.2.1 ∧ (cM X ad σ B).1 y = some (.inr q)) ∧ (∀ j, j < n → f2 j = f j) ∧ (t = 6 → ¬ Own ad B d) := by
    rcases hd with ⟨h1, h2⟩ | ⟨h1, h2, h3, h4, h5, h6⟩
    · refine ⟨12, 0, fun _ => none, ?_, Or.inr ⟨rfl, h2⟩, by omega, by omega, by omega, fun j hj => by omega, fun j hj => by omega, fun z => by omega⟩
      rw [h2]
      exact cM_fz hK.1
    · refine ⟨6, cap, f, (cM_X h2).trans h1, Or.inl rfl, h3, h4, h5, fun j hj => ?_, fun _ _ => rfl, fun _ => h2⟩
      obtain ⟨y, q, e1, e2⟩ := h6 j hj
      exact ⟨y, q, e1, hA.lt e2, cM_fz e2⟩
  obtain ⟨t, cap2, f2, k1, k2, k3, k4, k5, k6, k7, k8⟩ := key
  obtain ⟨M', dn, c2, g, a1, a2, a3, a4, a5, a6, a7, a8, a9, a10⟩ := add_w (F := F) (M := cM X ad σ B) (p := p) M1 k1 k2 hp la k3 lp hn k4 k5 k6
  have odn : ¬ Own ad B dn := by
    rcases a9 with ⟨e, -, t6⟩ | ⟨e, -⟩
    · rw [e]; exact k8 t6
    · rw [e]; exact new_no hA (Nat.le_refl _)
  have dna : dn ≠ a := fun e => by
    rw [e, a2] at a3
    cases a3
  have sz : B.2.1 ≤ M'.2.1 ∧ M'.2.1 ≤ B.2.1 + 1 ∧ M'.2.2.1 ≤ B.2.2.1 + 200 ∧ dn < M'.2.1 ∧ ((dn = d ∧ d < B.2.1) ∨ dn = B.2.1) := by
    rcases a9 with ⟨e, e1, -⟩ | ⟨e, e1, e2⟩
    · rw [e1]
      exact ⟨Nat.le_refl _, Nat.le_succ _, Nat.le_add_right _ _, by rw [e]; exact k3, Or.inl ⟨e, k3⟩⟩
    · have e1 : M'.2.1 = B.2.1 + 1 := e1
      have e : dn = B.2.1 := e
      exact ⟨by omega, by omega, e2, by omega, Or.inr e⟩
  refine ⟨fun b => if b = a ∨ b = dn then M'.1 b else X b, (B.1, M'.2), dn, c2, g, ?_, ⟨rfl, a8, sz.1, sz.2.1, sz.2.2.1⟩, (if_pos (Or.inl rfl)).trans a2, (if_pos (Or.inr rfl)).trans a3, a4, a5, fun j hj => (a6 j hj).trans (k7 j hj), a7, odn, sz.2.2.2.1, sz.2.2.2.2, dna, fun b h1 h2 => if_neg (fun z => by rcases z with z | z; exacts [h1 z, h2 z])⟩
  rw [a1]
  refine congrArg (fun z : Sw => some ((1 : Int32), z)) (Prod.ext (funext fun b => ?_) rfl)
  rw [cM_1]
  show M'.1 b = match B.1 b with | some o => some o | none => match rl ad b with | some r => some (cB ad σ r) | none => if b = a ∨ b = dn then M'.1 b else X b
  by_cases h : b = a ∨ b = dn
  · have hb : ¬ Own ad B b := by
      rcases h with h | h
      · rw [h]; exact oa
      · rw [h]; exact odn
    rw [no_B hb, rl_none (no_r hb), if_pos h]
  · rw [if_neg h, a10 b (fun z => h (Or.inl z)) (fun z => h (Or.inr z)), cM_1]
    rfl
theorem MF.sm {u : Nat} (h : MF ad X B X' B' u) {k s v : Nat} (e1 : B2.1 = B'.1) (e2 : B2.2.2.2 = B'.2.2.2) (e3 : B'.2.1 ≤ B2.2.1) (e4 : B2.2.1 ≤ B'.2.1 + k) (e5 : B2.2.2.1 ≤ B'.2.2.1 + s) (hk : k ≤ v) (hs : s ≤ 8 * v) (hX : ∀ a, a < B.2.1 → ¬ Own ad B a → X2 a = X' a) : MF ad X B X2 B2 (u + v) := by
  obtain ⟨a1, a2, a3, a4, a5, ⟨a6, a9⟩, a7, a8⟩ := h
  refine ⟨sm_ad a1 e1 e3, fun a o q => by rw [e1]; exact a2 a o q, fun a q => a3 a ((sm_own e1).1 q), fun a p q => (hX a p q).trans (a4 a p q), by omega, ⟨by omega, fun a p q => by rw [e1]; exact a9 a p q⟩, by omega, e2.trans a8⟩
/-- a cell since B0 that may change is set -/
theorem MF.mx {u a : Nat} {o : Ob} (h : MF ad X B X' B' u) (ha : B.2.1 ≤ a) : MF ad X B (mX X' a o) B' u := by
  obtain ⟨a1, a2, a3, a4, a5, a6, a7, a8⟩ := h
  exact ⟨a1, a2, a3, fun b p q => (mX_n (by omega)).trans (a4 b p q), a5, a6, a7, a8⟩
/-- a cell since B0 is frozen as it stands -/
theorem MF.fz {u a : Nat} {o : Ob} (h : MF ad X B X' B' u) (hx : X' a = some o) (ha : B.2.1 ≤ a) (hl : a < B'.2.1) (hn : ¬ Own ad B' a) : MF ad X B X' (frB B' a o) u := by
  have := h.fr (o := o) ha hl hn
  rw [mX_me hx] at this
  exact this
theorem KB.mf {u : Nat} (h : KB B) (g : MF ad X B X' B' u) : KB B' := h.gr g.2.1 g.2.2.2.2.2.2.2
/-- a list under way, in cells from lo on -/
def LX (ad : Nat → Nat) (lo : Nat) (X : Nat → Option Ob) (B : Sw) (a n : Nat) (e : Nat → Nat) : Prop := ∃ (md : Int32) (d cap : Nat) (f : Nat → Option Nat), X a = some (.inr (20, [.int md, .ref d, .int (Int32.ofNat n)])) ∧ (¬ Own ad B a ∧ a < B.2.1 ∧ lo ≤ a) ∧ ((n = 0 ∧ d = B.2.2.2 0) ∨ (X d = some (.inl (6, (cap, .inr (.inr f)))) ∧ ¬ Own ad B d ∧ d < B.2.1 ∧ n ≤ cap ∧ cap < 1000 ∧ lo ≤ d ∧ ∀ j, j < n → f j = some (e j))) ∧ ∀ j, j < n → ∃ q, B.1 (e j) = some (.inr q)
theorem LX.mf {lo u a n : Nat} {e : Nat → Nat} (h : LX ad lo X B a n e) (g : MF ad X B X' B' u) : LX ad lo X' B' a n e := by
  obtain ⟨md, d, cap, f, h1, ⟨h2, h3, h4⟩, h5, h6⟩ := h
  have gl := g.2.2.2.2.1
  refine ⟨md, d, cap, f, (g.2.2.2.1 a h3 h2).trans h1, ⟨g.no h3 h2, by omega, h4⟩, ?_, fun j hj => ?_⟩
  · rcases h5 with ⟨q1, q2⟩ | ⟨q1, q2, q3, q4, q5, q6, q7⟩
    · exact Or.inl ⟨q1, q2.trans (by rw [g.2.2.2.2.2.2.2])⟩
    · exact Or.inr ⟨(g.2.2.2.1 d q3 q2).trans q1, g.no q3 q2, by omega, q4, q5, q6, q7⟩
  · obtain ⟨q, hq⟩ := h6 j hj
    exact ⟨q, g.2.1 _ _ hq⟩
theorem LX.cg {lo a n : Nat} {e e' : Nat → Nat} (h : LX ad lo X B a n e) (q : ∀ j, j < n → e' j = e j) : LX ad lo X B a n e' := by
  obtain ⟨md, d, cap, f, h1, h2, h5, h6⟩ := h
  refine ⟨md, d, cap, f, h1, h2, ?_, fun j hj => by rw [q j hj]; exact h6 j hj⟩
  rcases h5 with h5 | ⟨q1, q2, q3, q4, q5, q6, q7⟩
  · exact Or.inl h5
  · exact Or.inr ⟨q1, q2, q3, q4, q5, q6, fun j hj => by rw [q j hj]; exact q7 j hj⟩
/-- an element is added, seen from B0 -/
theorem LX.add {u a n p : Nat} {e : Nat → Nat} {q : Nat × List Value} (hK : KB B') (h : LX ad B.2.1 X' B' a n e) (g : MF ad X B X' B' u) (hp : B'.1 p = some (.inr q)) (hn : n ≤ 100) : ∃ X2 B2, f_J2_add F a p (cM X' ad σ B') = some (1, cM X2 ad σ B2) ∧ MF ad X B X2 B2 (u + 25) ∧ B2.1 = B'.1 ∧ LX ad B.2.1 X2 B2 a (n + 1) (fun i => if i = n then p else e i) := by
  obtain ⟨md, d, cap, f, h1, ⟨h2, h3, h4⟩, h5, h6⟩ := h
  have hA := g.1
  have hd : (n = 0 ∧ d = B'.2.2.2 0) ∨ (X' d = some (.inl (6, (cap, .inr (.inr f)))) ∧ ¬ Own ad B' d ∧ d < B'.2.1 ∧ n ≤ cap ∧ cap < 1000 ∧ ∀ j, j < n → ∃ y q, f j = some y ∧ B'.1 y = some (.inr q)) := by
    rcases h5 with h5 | ⟨q1, q2, q3, q4, q5, q6, q7⟩
    · exact Or.inl h5
    · refine Or.inr ⟨q1, q2, q3, q4, q5, fun j hj => ?_⟩
      obtain ⟨q, hq⟩ := h6 j hj
      exact ⟨_, q, q7 j hj, hq⟩
  obtain ⟨X2, B2, dn, c2, gg, a1, ⟨b1, b2, b3, b4, b5⟩, a3, a4, a5, a6, a7, a8, a9, a10, a11, a12, a13⟩ := add_X (F := F) (σ := σ) hA hK h1 h2 h3 hd (cM_fz hp) (hA.lt hp) hn
  have gl := g.2.2.2.2.1
  have ldn : B.2.1 ≤ dn := by
    rcases a11 with ⟨e1, e2⟩ | e1
    · rcases h5 with ⟨q1, q2⟩ | ⟨q1, q2, q3, q4, q5, q6, q7⟩
      · exfalso
        refine a9 ?_
        rw [e1, q2]
        exact Or.inl (by rw [hK.1]; exact fun z => by cases z)
      · omega
    · omega
  refine ⟨X2, B2, a1, g.sm b1 b2 b3 b4 b5 (by decide) (by decide) fun b l o => a13 b (by omega) (by omega), b1, md + 1, dn, c2, gg, a3, ⟨fun z => h2 ((sm_own b1).1 z), by omega, h4⟩, Or.inr ⟨a4, fun z => a9 ((sm_own b1).1 z), a10, a5, a6, ldn, fun i hi => ?_⟩, fun i hi => ?_⟩
  · by_cases e0 : i = n
    · subst e0
      rw [if_pos rfl]
      exact a8
    · rw [if_neg e0]
      rcases h5 with ⟨q1, q2⟩ | ⟨q1, q2, q3, q4, q5, q6, q7⟩
      · omega
      · rw [a7 i (by omega)]
        exact q7 i (by omega)
  · rw [b1]
    by_cases e0 : i = n
    · rw [if_pos e0]
      exact ⟨q, hp⟩
    · rw [if_neg e0]
      exact h6 i (by omega)
/-- a fresh list -/
theorem new_J2 (hA : AdOK ad B) : f_J2_init F (cM X ad σ B).2.1 (nw (cM X ad σ B) (.inr (20, dfJ2)) 3) = some (cM (mX X B.2.1 (zE (B.2.2.2 0))) ad σ (nB B 3)) := by
  rw [ov_new, i_J2 (M := cM X ad σ B) (z := B.2.2.2 0) rfl, ← ov_new, nw_X hA]
theorem LX.new (hA : AdOK ad B) : MF ad X B (mX X B.2.1 (zE (B.2.2.2 0))) (nB B 3) 1 ∧ LX ad B.2.1 (mX X B.2.1 (zE (B.2.2.2 0))) (nB B 3) B.2.1 0 (fun _ => 0) := ⟨MF.nb hA (by decide), 0, B.2.2.2 0, 0, fun _ => none, mX_s, ⟨new_no hA (Nat.le_refl _), Nat.lt_succ_self _, Nat.le_refl _⟩, Or.inl ⟨rfl, rfl⟩, fun j hj => absurd hj (Nat.not_lt_zero j)⟩
/-- a list that is done is frozen -/
theorem LX.fz {u a n : Nat} {e : Nat → Nat} (hK : KB B') (h : LX ad B.2.1 X' B' a n e) (g : MF ad X B X' B' u) (hn : n < 1000) : ∃ B2, cM X' ad σ B' = cM X' ad σ B2 ∧ MF ad X B X' B2 u ∧ Gr B' B2 ∧ LB B2 a n e ∧ B2.2 = B'.2 := by
  obtain ⟨md, d, cap, f, h1, ⟨h2, h3, h4⟩, h5, h6⟩ := h
  have gl := g.2.2.2.2.1
  rcases h5 with ⟨q1, q2⟩ | ⟨q1, q2, q3, q4, q5, q6, q7⟩
  · subst q1
    refine ⟨frB B' a (.inr (20, [.int md, .ref d, .int (Int32.ofNat 0)])), fr_X h2 h1, g.fz h1 h4 h3 h2, fr_gr h2, ⟨by decide, md, d, 0, 12, fun _ => none, fr_at, ?_, fun z => absurd rfl z, Or.inr rfl, Nat.le_refl _, by decide, fun j hj => by omega⟩, rfl⟩
    rw [q2]
    exact fr_gr h2 _ _ hK.1
  · have e1 := fr_X (σ := σ) h2 h1
    have g1 := g.fz h1 h4 h3 h2
    have da : d ≠ a := fun z => by
      rw [z, h1] at q1
      cases q1
    have od : ¬ Own ad (frB B' a (.inr (20, [.int md, .ref d, .int (Int32.ofNat n)]))) d := fun z => by
      rcases fr_own z with z | z
      · exact q2 z
      · exact da z
    refine ⟨_, e1.trans (fr_X (σ := σ) od q1), g1.fz q1 q6 q3 od, fun b o z => fr_gr od b o (fr_gr h2 b o z), ⟨by omega, md, d, cap, 6, f, fr_gr od _ _ fr_at, fr_at, fun _ => rfl, Or.inl rfl, q4, by omega, q7⟩, rfl⟩
