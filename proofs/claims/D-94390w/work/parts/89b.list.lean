set_option maxRecDepth 100000
/-! a list in a memory gets an element -/
variable {X : Nat → Option Ob} {ad ad' : Nat → Nat} {B B' : Sw} {A A' : Av} {σ σ' : Cs} {τ : Tw} {F : Nat}
theorem m_gf {M : Sw} {a ci k : Nat} {fs : List Value} {v : Value} (h : M.1 a = some (.inr (ci, fs))) (hv : fs[k]? = some v) : gf M a ci k = some v := by
  unfold gf
  rw [h]
  show (if ci = ci then fs[k]? else none) = _
  rw [if_pos rfl, hv]
theorem m_I {M : Sw} {a ci k : Nat} {fs : List Value} {v : Int32} (h : M.1 a = some (.inr (ci, fs))) (hv : fs[k]? = some (.int v)) : gfI M a ci k = some v := by
  unfold gfI
  rw [m_gf h hv]
theorem m_R {M : Sw} {a ci k : Nat} {fs : List Value} {v : Nat} (h : M.1 a = some (.inr (ci, fs))) (hv : fs[k]? = some (.ref v)) : gfR M a ci k = some v := by
  unfold gfR
  rw [m_gf h hv]
theorem m_oc {M : Sw} {a ci : Nat} {fs : List Value} (h : M.1 a = some (.inr (ci, fs))) : oc M a ci = some () := by
  unfold oc
  rw [h]
  exact if_pos rfl
theorem m_any {M : Sw} {a : Nat} {q : Nat × List Value} (h : M.1 a = some (.inr q)) : oAny M a = some () := by
  unfold oAny
  rw [h]
theorem m_pf {M : Sw} {a ci k : Nat} {fs : List Value} {v : Value} (h : M.1 a = some (.inr (ci, fs))) (hk : k < fs.length) : pf M a ci k v = some (mup M.1 a (.inr (ci, fs.set k v)), M.2) := by
  unfold pf
  rw [h]
  exact if_pos ⟨rfl, hk⟩
theorem m_N {M : Sw} {a t n : Nat} {c : (Nat → Int32) ⊕ ((Nat → Int64) ⊕ (Nat → Option Nat))} (h : M.1 a = some (.inl (t, (n, c)))) : aN M a = some (Int32.ofNat n) := by
  unfold aN
  rw [h]
theorem m_sQ {M : Sw} {a t n k : Nat} {f : Nat → Option Nat} {x : Option Nat} (h : M.1 a = some (.inl (t, (n, .inr (.inr f))))) (hk : k < n) (hn : n ≤ 2147483648) : sQ M t a (Int32.ofNat k) x = some (mup M.1 a (.inl (t, (n, .inr (.inr (va_up f k x))))), M.2) := by
  unfold sQ
  rw [h]
  show (if t = t ∧ ¬ (Int32.ofNat k < 0 ∨ n ≤ (Int32.ofNat k).toNatClampNeg) then some (mup M.1 a (.inl (t, (n, .inr (.inr (va_up f (Int32.ofNat k).toNatClampNeg x))))), M.2) else none) = _
  rw [if_pos ⟨rfl, i_in hk hn⟩, i_cl hk hn]
theorem m_nwQ {M : Sw} {n : Nat} (hn : n < 100000000) : nwQ M 6 (Int32.ofNat n) = some (nw M (.inl (6, (n, .inr (.inr (fun _ => none))))) n) := by
  unfold nwQ
  rw [i_cl (n := 100000000) hn (by omega), if_pos ⟨Int32.not_lt.2 (ofNat_nn (by omega)), by omega⟩]
theorem shr1 {n : Nat} (hn : n < 128) : Int32.ofNat n >>> ((1 : Int32) &&& 31) = Int32.ofNat (n / 2) := by
  have : ∀ n, n < 128 → Int32.ofNat n >>> ((1 : Int32) &&& 31) = Int32.ofNat (n / 2) := by decide +kernel
  exact this n hn
theorem mn_n {a b : Nat} (ha : a < 2147483648) (hb : b < 2147483648) : mn (Int32.ofNat a) (Int32.ofNat b) = Int32.ofNat (min a b) := by
  unfold mn
  simp (disch := omega) only [Option.bind_some, Option.bind_none, nmE, n_pp, n_pl, n_lp, n_mm, n_ml, n_lm, csI_s, csI_n, csI_2, csA_1, csA_s, csA_n, csA_2, csL_1, csL_2, csL_s, csL_n, csL_3, csQ_1, csQ_2, csQ_3, csQ_s, csQ_n, nar0, c_le, c_le_l, c_le_r, c_lt, c_lt_l, c_lt_r, c_eq, c_eq_l, c_eq_r, if_true, if_false, if_pos, if_neg]
  by_cases h : b < a
  · rw [if_pos h, Nat.min_eq_right (by omega)]
  · rw [if_neg h, Nat.min_eq_left (by omega)]
/-- the room doubles by half -/
theorem copy_q {M : Sw} {d n c2 : Nat} {f : Nat → Option Nat} (h : M.1 d = some (.inl (6, (n, .inr (.inr f))))) (hd : d < M.2.1) (hn : n ≤ 100) (hc : n ≤ c2) (hc2 : c2 < 1000) (he : ∀ j, j < n → ∃ y q, f j = some y ∧ y < M.2.1 ∧ M.1 y = some (.inr q)) : ∃ g, f_J13_copyOf F d (Int32.ofNat c2) M = some (M.2.1, (mup M.1 M.2.1 (.inl (6, (c2, .inr (.inr g)))), (nw M (.inl (6, (c2, .inr (.inr (fun _ => none))))) c2).2)) ∧ ∀ j, j < n → g j = f j := by
  have h1 : oAo M d = some () := by
    unfold oAo
    rw [h]
    exact if_pos (Or.inl rfl)
  have hne : d ≠ M.2.1 := by omega
  have hm : (nw M (.inl (6, (c2, .inr (.inr (fun _ => none))))) c2).1 d = some (.inl (6, (n, .inr (.inr f)))) := (mup_ne hne).trans h
  have hm2 : (nw M (.inl (6, (c2, .inr (.inr (fun _ => none))))) c2).1 M.2.1 = some (.inl (6, (c2, .inr (.inr (fun _ => none))))) := mup_eq
  have hcp : cpQ (nw M (.inl (6, (c2, .inr (.inr (fun _ => none))))) c2) 6 d 0 M.2.1 0 (mn (Int32.ofNat n) (Int32.ofNat c2)) = some (mup (nw M (.inl (6, (c2, .inr (.inr (fun _ => none))))) c2).1 M.2.1 (.inl (6, (c2, .inr (.inr (va_cpy f (fun _ => none) 0 0 n))))), (nw M (.inl (6, (c2, .inr (.inr (fun _ => none))))) c2).2) := by
    rw [mn_n (by omega) (by omega), Nat.min_eq_left hc]
    unfold cpQ
    rw [hm, hm2]
    have z0 : (0 : Int32).toNatClampNeg = 0 := rfl
    have zn : (Int32.ofNat n).toNatClampNeg = n := i_cl (n := 1000) (by omega) (by omega)
    show (if 6 = 6 ∧ 6 < 10 ∧ cpT 6 6 = true ∧ ¬ (0 : Int32) < 0 ∧ ¬ (0 : Int32) < 0 ∧ ¬ Int32.ofNat n < 0 ∧ (0 : Int32).toNatClampNeg + (Int32.ofNat n).toNatClampNeg ≤ n ∧ (0 : Int32).toNatClampNeg + (Int32.ofNat n).toNatClampNeg ≤ c2 ∧ (List.range (Int32.ofNat n).toNatClampNeg).all (fun i => elOK (nw M (.inl (6, (c2, .inr (.inr (fun _ => none))))) c2) 6 (f ((0 : Int32).toNatClampNeg + i))) = true then some (mup (nw M (.inl (6, (c2, .inr (.inr (fun _ => none))))) c2).1 M.2.1 (.inl (6, (c2, .inr (.inr (va_cpy f (fun _ => none) (0 : Int32).toNatClampNeg (0 : Int32).toNatClampNeg (Int32.ofNat n).toNatClampNeg))))), (nw M (.inl (6, (c2, .inr (.inr (fun _ => none))))) c2).2) else none) = _
    rw [zn, z0, if_pos]
    refine ⟨rfl, by omega, rfl, by decide, by decide, Int32.not_lt.2 (ofNat_nn (by omega)), by omega, by omega, ?_⟩
    rw [List.all_eq_true]
    intro i hi
    rw [List.mem_range] at hi
    obtain ⟨y, q, e, ly, ey⟩ := he i hi
    show elOK _ 6 (f (0 + i)) = true
    rw [Nat.zero_add, e]
    show (oAny (nw M (.inl (6, (c2, .inr (.inr (fun _ => none))))) c2) y).isSome = true
    rw [m_any (q := q) ((mup_ne (by omega)).trans ey)]
    rfl
  refine ⟨va_cpy f (fun _ => none) 0 0 n, ?_, fun j hj => ?_⟩
  · unfold f_J13_copyOf
    rw [h1, Option.bind_some]
    unfold f_J13_copyOf_2
    rw [if_pos rfl, m_nwQ (by omega), Option.bind_some]
    unfold f_J13_copyOf_2_j24
    rw [m_N hm, Option.bind_some, hcp, Option.bind_some, Option.bind_some]
    have e : ∀ o : Ob, mup (nw M (.inl (6, (c2, .inr (.inr (fun _ => none))))) c2).1 M.2.1 o = mup M.1 M.2.1 o := by
      intro o
      funext b
      by_cases hb : b = M.2.1
      · rw [hb, mup_eq, mup_eq]
      · rw [mup_ne hb, mup_ne hb]
        exact mup_ne hb
    rw [e]
  · rw [pk_cpy_in (by omega) (by omega)]
    show f (0 + (j - 0)) = f j
    congr 1
    omega
/-- an element is added -/
theorem add_m {M : Sw} {a d p n cap t : Nat} {md : Int32} {f : Nat → Option Nat} {q : Nat × List Value} (ha : M.1 a = some (.inr (20, [.int md, .ref d, .int (Int32.ofNat n)]))) (hd : M.1 d = some (.inl (t, (cap, .inr (.inr f))))) (ht : t = 6 ∨ (cap = 0 ∧ d = M.2.2.2 0)) (hp : M.1 p = some (.inr q)) (la : a < M.2.1) (ld : d < M.2.1) (lp : p < M.2.1) (hn : n ≤ 60) (hc : n ≤ cap) (hc2 : cap < 1000) (he : ∀ j, j < n → ∃ y q, f j = some y ∧ y < M.2.1 ∧ M.1 y = some (.inr q)) : ∃ (M' : Sw) (dn c2 : Nat) (g : Nat → Option Nat), f_J2_add F a p M = some (1, M') ∧ M'.1 a = some (.inr (20, [.int (md + 1), .ref dn, .int (Int32.ofNat (n + 1))])) ∧ M'.1 dn = some (.inl (6, (c2, .inr (.inr g)))) ∧ n + 1 ≤ c2 ∧ c2 < 1000 ∧ (∀ j, j < n → g j = f j) ∧ g n = some p ∧ M'.2.2.2 = M.2.2.2 ∧ ((dn = d ∧ M'.2 = M.2 ∧ t = 6) ∨ (dn = M.2.1 ∧ M'.2.1 = M.2.1 + 1 ∧ M'.2.2.1 ≤ M.2.2.1 + 200)) ∧ ∀ b, b ≠ a → b ≠ dn → M'.1 b = M.1 b := by
  have had : a ≠ d := fun e => by rw [e, hd] at ha; cases ha
  have hpd : p ≠ d := fun e => by rw [e, hd] at hp; cases hp
  have hM1 : ∃ M1 : Sw, M1 = (mup M.1 a (.inr (20, [.int (md + 1), .ref d, .int (Int32.ofNat n)])), M.2) := ⟨_, rfl⟩
  obtain ⟨M1, eM1⟩ := hM1
  have a1 : M1.1 a = some (.inr (20, [.int (md + 1), .ref d, .int (Int32.ofNat n)])) := by rw [eM1]; exact mup_eq
  have d1 : M1.1 d = some (.inl (t, (cap, .inr (.inr f)))) := by rw [eM1]; exact (mup_ne (Ne.symm had)).trans hd
  have o1 : ∀ b, b ≠ a → M1.1 b = M.1 b := fun b hb => by rw [eM1]; exact mup_ne hb
  have s1 : M1.2 = M.2 := by rw [eM1]
  have an : ∀ y q, M.1 y = some (.inr q) → ∃ q, M1.1 y = some (.inr q) := fun y q h => by
    by_cases e : y = a
    · rw [e]; exact ⟨_, a1⟩
    · rw [o1 y e]; exact ⟨q, h⟩
  have c1 : f_J2_add F a p M = Option.bind (f_J2_add_2 F a p d (Int32.ofNat n) M1) fun q9 => some (1, q9) := by
    have hpf : pf M a 20 0 (.int (md + 1)) = some M1 := by
      rw [eM1]
      exact m_pf ha (show 0 < 3 by omega)
    unfold f_J2_add
    rw [m_I (k := 0) ha rfl, Option.bind_some, hpf, Option.bind_some, m_R (k := 1) a1 rfl, Option.bind_some, m_I (k := 2) a1 rfl, Option.bind_some, m_oc a1, Option.bind_some]
  by_cases hroom : n = cap
  · have hc0 : n = cap := hroom
    have ne1 : a ≠ M1.2.1 := by rw [s1]; omega
    have hg : ∃ c2 g w, f_J2_grow F a M1 = some (M1.2.1, (mup (mup M1.1 M1.2.1 (.inl (6, (c2, .inr (.inr g))))) a (.inr (20, [.int (md + 1), .ref M1.2.1, .int (Int32.ofNat n)])), (M1.2.1 + 1, w, M1.2.2.2))) ∧ n + 1 ≤ c2 ∧ c2 < 1000 ∧ w ≤ M1.2.2.1 + 200 ∧ ∀ j, j < n → g j = f j := by
      have e1 : f_J2_grow F a M1 = Option.bind (f_J2_grow_2 F a (Int32.ofNat (n + 1)) M1) fun q3 => some (q3.1, q3.2) := by
        unfold f_J2_grow
        rw [m_I (k := 2) a1 rfl, Option.bind_some, m_oc a1, Option.bind_some, show Int32.ofNat n + 1 = Int32.ofNat (n + 1) from n_lp 1 n]
      have put : ∀ (c2 : Nat) (g : Nat → Option Nat) (w : Nat), pf (mup M1.1 M1.2.1 (.inl (6, (c2, .inr (.inr g)))), (M1.2.1 + 1, w, M1.2.2.2)) a 20 1 (.ref M1.2.1) = some (mup (mup M1.1 M1.2.1 (.inl (6, (c2, .inr (.inr g))))) a (.inr (20, [.int (md + 1), .ref M1.2.1, .int (Int32.ofNat n)])), (M1.2.1 + 1, w, M1.2.2.2)) := fun c2 g w => m_pf (M := (mup M1.1 M1.2.1 (.inl (6, (c2, .inr (.inr g)))), (M1.2.1 + 1, w, M1.2.2.2))) ((mup_ne ne1).trans a1) (show 1 < 3 by omega)
      by_cases h0 : n = 0 ∧ d = M1.2.2.2 0
      · obtain ⟨hn0, hdc⟩ := h0
        refine ⟨10, fun _ => none, M1.2.2.1 + 10, ?_, by omega, by omega, by omega, fun j hj => by omega⟩
        rw [e1]
        unfold f_J2_grow_2
        have m10 : mx 10 (Int32.ofNat (n + 1)) = Int32.ofNat 10 := by rw [hn0]; rfl
        have z : ¬ (0 : Int32) < Int32.ofNat cap := by rw [← hc0, hn0]; decide
        rw [m_R (k := 1) a1 rfl, Option.bind_some, m_N d1, Option.bind_some, if_neg z, Option.bind_some, if_pos hdc, m10, m_nwQ (by omega), Option.bind_some]
        have := put 10 (fun _ => none) (M1.2.2.1 + 10)
        show Option.bind (Option.bind (pf (mup M1.1 M1.2.1 (.inl (6, (10, .inr (.inr (fun _ => none))))), (M1.2.1 + 1, M1.2.2.1 + 10, M1.2.2.2)) a 20 1 (.ref M1.2.1)) fun μ12 => some (M1.2.1, μ12)) _ = _
        rw [this]
        rfl
      · have t6 : t = 6 := by
          rcases ht with h | ⟨h, h'⟩
          · exact h
          · exact absurd ⟨by omega, by rw [s1]; exact h'⟩ h0
        subst t6
        have hd1 : M1.1 d = some (.inl (6, (n, .inr (.inr f)))) := by rw [d1, ← hc0]
        obtain ⟨g, hcp, hgf⟩ := copy_q (F := F) (c2 := n + max 1 (n / 2)) hd1 (by rw [s1]; exact ld) (by omega) (by omega) (by omega) (fun j hj => by
          obtain ⟨y, q, e, ly, ey⟩ := he j hj
          obtain ⟨q2, e2⟩ := an y q ey
          exact ⟨y, q2, e, by rw [s1]; exact ly, e2⟩)
        refine ⟨n + max 1 (n / 2), g, M1.2.2.1 + (n + max 1 (n / 2)), ?_, by omega, by omega, by omega, hgf⟩
        have ej : f_J2_grow_2 F a (Int32.ofNat (n + 1)) M1 = f_J2_grow_2_j20 F a (Int32.ofNat (n + 1)) (Int32.ofNat n) M1 := by
          unfold f_J2_grow_2
          rw [m_R (k := 1) a1 rfl, Option.bind_some, m_N hd1, Option.bind_some]
          by_cases hn0 : 0 < n
          · rw [if_pos (show (0 : Int32) < Int32.ofNat n from (c_lt 0 n (by omega) (by omega)).2 hn0)]
          · rw [if_neg (show ¬ (0 : Int32) < Int32.ofNat n from fun h => hn0 ((c_lt 0 n (by omega) (by omega)).1 h)), Option.bind_some, if_neg (fun h => h0 ⟨by omega, h⟩)]
        have nl : f_J11_newLength F (Int32.ofNat n) (Int32.ofNat (n + 1) - Int32.ofNat n) (Int32.ofNat n >>> ((1 : Int32) &&& 31)) M1 = some (Int32.ofNat (n + max 1 (n / 2)), M1) := by
          unfold f_J11_newLength
          have e2 : Int32.ofNat (n + 1) - Int32.ofNat n = Int32.ofNat 1 := by
            rw [n_ss _ _ (by omega)]
            congr 1
            omega
          rw [shr1 (by omega), e2, mx_n (by omega) (by omega)]
          simp (disch := omega) only [Option.bind_some, Option.bind_none, nmE, n_pp, n_pl, n_lp, n_mm, n_ml, n_lm, csI_s, csI_n, csI_2, csA_1, csA_s, csA_n, csA_2, csL_1, csL_2, csL_s, csL_n, csL_3, csQ_1, csQ_2, csQ_3, csQ_s, csQ_n, nar0, c_le, c_le_l, c_le_r, c_lt, c_lt_l, c_lt_r, c_eq, c_eq_l, c_eq_r, if_true, if_false, if_pos, if_neg]
        rw [e1, ej]
        unfold f_J2_grow_2_j20
        rw [nl, Option.bind_some]
        show Option.bind (Option.bind (gfR M1 a 20 1) fun x3 => Option.bind (f_J13_copyOf F x3 (Int32.ofNat (n + max 1 (n / 2))) M1) fun q5 => Option.bind (pf q5.2 a 20 1 (.ref q5.1)) fun μ7 => some (q5.1, μ7)) _ = _
        rw [m_R (k := 1) a1 rfl, Option.bind_some, hcp, Option.bind_some]
        have := put (n + max 1 (n / 2)) g (M1.2.2.1 + (n + max 1 (n / 2)))
        show Option.bind (Option.bind (pf (mup M1.1 M1.2.1 (.inl (6, (n + max 1 (n / 2), .inr (.inr g)))), (M1.2.1 + 1, M1.2.2.1 + (n + max 1 (n / 2)), M1.2.2.2)) a 20 1 (.ref M1.2.1)) fun μ7 => some (M1.2.1, μ7)) _ = _
        rw [this]
        rfl
    obtain ⟨c2, g, w, hg, g1, g2, g3, g4⟩ := hg
    have hM2 : ∃ M2 : Sw, M2 = (mup (mup M1.1 M1.2.1 (.inl (6, (c2, .inr (.inr g))))) a (.inr (20, [.int (md + 1), .ref M1.2.1, .int (Int32.ofNat n)])), (M1.2.1 + 1, w, M1.2.2.2)) := ⟨_, rfl⟩
    obtain ⟨M2, eM2⟩ := hM2
    rw [← eM2] at hg
    have a2 : M2.1 a = some (.inr (20, [.int (md + 1), .ref M1.2.1, .int (Int32.ofNat n)])) := by rw [eM2]; exact mup_eq
    have d2 : M2.1 M1.2.1 = some (.inl (6, (c2, .inr (.inr g)))) := by rw [eM2]; exact (mup_ne (Ne.symm ne1)).trans mup_eq
    have o2 : ∀ b, b ≠ a → b ≠ M1.2.1 → M2.1 b = M1.1 b := fun b h1 h2 => by rw [eM2]; exact (mup_ne h1).trans (mup_ne h2)
    have s2 : M2.2 = (M1.2.1 + 1, w, M1.2.2.2) := by rw [eM2]
    have hp2 : ∃ q, M2.1 p = some (.inr q) := by
      by_cases e : p = a
      · rw [e]; exact ⟨_, a2⟩
      · obtain ⟨q1, hq1⟩ := an p q hp
        exact ⟨q1, by rw [o2 p e (by rw [s1]; omega)]; exact hq1⟩
    obtain ⟨q2, hq2⟩ := hp2
    refine ⟨(mup (mup M2.1 M1.2.1 (.inl (6, (c2, .inr (.inr (va_up g n (some p))))))) a (.inr (20, [.int (md + 1), .ref M1.2.1, .int (Int32.ofNat (n + 1))])), M2.2), M1.2.1, c2, va_up g n (some p), ?_, mup_eq, (mup_ne (Ne.symm ne1)).trans mup_eq, g1, g2, fun j hj => by rw [va_up_ne _ _ (by omega), g4 j hj], va_up_self _ _ _, by rw [s2, s1], Or.inr ⟨by rw [s1], by rw [s2, s1], ?_⟩, fun b h1 h2 => ?_⟩
    · rw [c1]
      unfold f_J2_add_2
      rw [m_N d1, Option.bind_some, if_pos (by rw [hc0]), m_oc a1, Option.bind_some, hg, Option.bind_some]
      show Option.bind (Option.bind (sQ M2 6 M1.2.1 (Int32.ofNat n) (some p)) fun μ15 => Option.bind (oAny M2 p) fun u17 => Option.bind (pf μ15 a 20 2 (.int (Int32.ofNat n + 1))) fun μ18 => some μ18) _ = _
      rw [m_sQ d2 (by omega) (by omega), Option.bind_some, m_any hq2, Option.bind_some, m_pf (M := (mup M2.1 M1.2.1 _, M2.2)) ((mup_ne ne1).trans a2) (show 2 < 3 by omega)]
      show some ((1 : Int32), (mup (mup M2.1 M1.2.1 _) a (.inr (20, [.int (md + 1), .ref M1.2.1, .int (Int32.ofNat n + 1)])), M2.2)) = _
      rw [show Int32.ofNat n + 1 = Int32.ofNat (n + 1) from n_lp 1 n]
    · rw [s2]
      show w ≤ _
      rw [s1] at g3
      exact g3
    · show mup (mup M2.1 M1.2.1 _) a _ b = _
      rw [mup_ne h1, mup_ne h2, o2 b h1 h2, o1 b h1]
  · have t6 : t = 6 := by
      rcases ht with h | ⟨h, -⟩
      · exact h
      · omega
    subst t6
    obtain ⟨q1, hq1⟩ := an p q hp
    refine ⟨(mup (mup M1.1 d (.inl (6, (cap, .inr (.inr (va_up f n (some p))))))) a (.inr (20, [.int (md + 1), .ref d, .int (Int32.ofNat (n + 1))])), M1.2), d, cap, va_up f n (some p), ?_, mup_eq, ?_, by omega, hc2, fun j hj => va_up_ne _ _ (by omega), va_up_self _ _ _, by rw [s1], Or.inl ⟨rfl, s1, rfl⟩, fun b h1 h2 => ?_⟩
    · rw [c1]
      unfold f_J2_add_2
      rw [m_N d1, Option.bind_some, if_neg, m_sQ d1 (by omega) (by omega), Option.bind_some, m_any hq1, Option.bind_some, m_pf (M := (mup M1.1 d _, M1.2)) ((mup_ne had).trans a1) (show 2 < 3 by omega)]
      · show some ((1 : Int32), (mup (mup M1.1 d _) a (.inr (20, [.int (md + 1), .ref d, .int (Int32.ofNat n + 1)])), M1.2)) = _
        rw [show Int32.ofNat n + 1 = Int32.ofNat (n + 1) from n_lp 1 n]
      · intro h
        rw [c_eq _ _ (by omega) (by omega)] at h
        exact hroom h
    · exact (mup_ne (Ne.symm had)).trans mup_eq
    · show mup (mup M1.1 d _) a _ b = _
      rw [mup_ne h1, mup_ne h2, o1 b h1]
