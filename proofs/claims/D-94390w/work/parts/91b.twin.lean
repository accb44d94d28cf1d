set_option maxRecDepth 100000
/-! a state's twin -/
variable {X : Nat → Option Ob} {ad ad' : Nat → Nat} {B B' : Sw} {A A' : Av} {σ σ' : Cs} {τ : Tw} {F : Nat}
theorem ov_ov {M : Sw} {T : List Ob} {s k : Nat} {o : Ob} : ovl (ovl M T s) [o] k = ovl M (T ++ [o]) (s + k) := by
  rw [← ov_new, ov_nw]
theorem m_cpI {M : Sw} {a b n0 n1 k : Nat} {f h : Nat → Int32} {m : Int32} (ha : M.1 a = some (.inl (0, (n0, .inl f)))) (hb : M.1 b = some (.inl (0, (n1, .inl h)))) (hm : m = Int32.ofNat k) (h0 : k ≤ n0) (h1 : k ≤ n1) (hk : k < 1000000) : cpI M a 0 b 0 m = some (mup M.1 b (.inl (0, (n1, .inl (va_cpy f h 0 0 k)))), M.2) := by
  subst hm
  unfold cpI
  rw [ha, hb]
  have z0 : (0 : Int32).toNatClampNeg = 0 := rfl
  have zn : (Int32.ofNat k).toNatClampNeg = k := i_cl (n := 1000000) hk (by omega)
  show (if 0 = 0 ∧ 0 = 0 ∧ ¬ (0 : Int32) < 0 ∧ ¬ (0 : Int32) < 0 ∧ ¬ Int32.ofNat k < 0 ∧ (0 : Int32).toNatClampNeg + (Int32.ofNat k).toNatClampNeg ≤ n0 ∧ (0 : Int32).toNatClampNeg + (Int32.ofNat k).toNatClampNeg ≤ n1 then some (mup M.1 b (.inl (0, (n1, .inl (va_cpy f h (0 : Int32).toNatClampNeg (0 : Int32).toNatClampNeg (Int32.ofNat k).toNatClampNeg)))), M.2) else none) = _
  rw [z0, zn, if_pos ⟨rfl, rfl, by decide, by decide, Int32.not_lt.2 (ofNat_nn (by omega)), by omega, by omega⟩]
/-- a fresh list's cell, and its data's, in T -/
def LT (M : Sw) (T : List Ob) (lo hi i n : Nat) (e : Nat → Nat) : Prop := ∃ (md : Int32) (d : Nat), T[i]? = some (.inr (20, [.int md, .ref d, .int (Int32.ofNat n)])) ∧ ((n = 0 ∧ d = M.2.2.2 0) ∨ (n ≠ 0 ∧ ∃ (di cap : Nat) (f : Nat → Option Nat), (lo ≤ di ∧ di < hi) ∧ d = M.2.1 + di ∧ T[di]? = some (.inl (6, (cap, .inr (.inr f)))) ∧ n ≤ cap ∧ cap < 1000 ∧ ∀ j, j < n → f j = some (e j)))
theorem set_at {T : List Ob} {i j : Nat} {o : Ob} (h : j ≠ i) : (T.set i o)[j]? = T[j]? := List.getElem?_set_ne (fun e => h e.symm)
theorem set_me {T : List Ob} {i : Nat} {o : Ob} (h : i < T.length) : (T.set i o)[i]? = some o := List.getElem?_set_self h
theorem app_lo {T U : List Ob} {j : Nat} (h : j < T.length) : (T ++ U)[j]? = T[j]? := List.getElem?_append_left h
theorem app_at {T : List Ob} {o : Ob} : (T ++ [o])[T.length]? = some o := by
  rw [List.getElem?_append_right (Nat.le_refl _), Nat.sub_self]
  rfl
/-- all of a list is added to a fresh one -/
theorem addAll_ov {M : Sw} {T : List Ob} {s i p n : Nat} {e : Nat → Nat} {md : Int32} (h0 : M.1 (M.2.2.2 0) = some (.inl (12, (0, .inr (.inr (fun _ => none)))))) (l0 : M.2.2.2 0 < M.2.1) (hi : T[i]? = some (.inr (20, [.int md, .ref (M.2.2.2 0), .int 0]))) (h6 : 6 ≤ T.length) (hp : LO M p n e) : ∃ r T' s', f_J2_addAll F (M.2.1 + i) p (ovl M T s) = some (r, ovl M T' s') ∧ s' ≤ s + 200 ∧ T.length ≤ T'.length ∧ T'.length ≤ T.length + 2 ∧ (∀ j, j < T.length → j ≠ i → T'[j]? = T[j]?) ∧ LT M T' T.length T'.length i n e := by
  obtain ⟨hn, hL, lp, ld, he⟩ := hp
  obtain ⟨-, md0, d, cap, t, f, p1, p2, p3, p4, p5, p6, p7⟩ := hL
  have ld := ld d md0 _ p1
  have li : i < T.length := by
    obtain ⟨q, -⟩ := List.getElem?_eq_some_iff.1 hi
    exact q
  obtain ⟨g, c1, c2⟩ := copy_any (F := F) (M := ovl M T s) ((ov_lo ld).trans p2) p4 (show d < (ovl M T s).2.1 from Nat.lt_of_lt_of_le ld (Nat.le_add_right _ _)) p5 p6 hn (fun j hj => by
    obtain ⟨x, q, y⟩ := he j hj
    exact ⟨e j, q, p7 j hj, by show e j < M.2.1 + T.length; omega, (ov_lo x).trans y⟩)
  have c3 : f_J2_toArray F p (ovl M T s) = some (M.2.1 + T.length, ovl M (T ++ [.inl (6, (n, .inr (.inr g)))]) (s + n)) := by
    unfold f_J2_toArray
    rw [m_R (k := 1) ((ov_lo lp).trans p1) rfl, Option.bind_some, m_I (k := 2) ((ov_lo lp).trans p1) rfl, Option.bind_some, c1, Option.bind_some, ov_ov]
    rfl
  obtain ⟨T1, eT1⟩ : ∃ T1, T1 = T ++ [(.inl (6, (n, .inr (.inr g))) : Ob)] := ⟨_, rfl⟩
  have n1 : T1.length = T.length + 1 := by rw [eT1, List.length_append]; rfl
  have t1 : ∀ j, j < T.length → T1[j]? = T[j]? := fun j hj => by rw [eT1]; exact app_lo hj
  have t1n : T1[T.length]? = some (.inl (6, (n, .inr (.inr g)))) := by rw [eT1]; exact app_at
  rw [← eT1] at c3
  have i1 : T1[i]? = some (.inr (20, [.int md, .ref (M.2.2.2 0), .int 0])) := by rw [t1 i li]; exact hi
  obtain ⟨T2, eT2⟩ : ∃ T2, T2 = T1.set i (.inr (20, [.int (md + 1), .ref (M.2.2.2 0), .int 0])) := ⟨_, rfl⟩
  have n2 : T2.length = T.length + 1 := by rw [eT2, List.length_set, n1]
  have t2 : ∀ j, j ≠ i → T2[j]? = T1[j]? := fun j hj => by rw [eT2]; exact set_at hj
  have i2 : T2[i]? = some (.inr (20, [.int (md + 1), .ref (M.2.2.2 0), .int 0])) := by rw [eT2]; exact set_me (by omega)
  have c4 : pf (ovl M T1 (s + n)) (M.2.1 + i) 20 0 (.int (md + 1)) = some (ovl M T2 (s + n)) := by
    rw [eT2]
    exact ov_pf (k := 0) i1 (show 0 < 3 by decide)
  have t2n : T2[T.length]? = some (.inl (6, (n, .inr (.inr g)))) := by rw [t2 _ (by omega)]; exact t1n
  unfold f_J2_addAll
  rw [m_oc ((ov_lo lp).trans p1), Option.bind_some, c3, Option.bind_some]
  show ∃ r T' s', Option.bind (gfI (ovl M T1 (s + n)) (M.2.1 + i) 20 0) _ = _ ∧ _
  rw [m_I (k := 0) (ov_at i1) rfl, Option.bind_some, c4, Option.bind_some]
  show ∃ r T' s', Option.bind (aN (ovl M T2 (s + n)) (M.2.1 + T.length)) _ = _ ∧ _
  rw [m_N (ov_at t2n), Option.bind_some]
  by_cases hn0 : n = 0
  · rw [if_pos (show Int32.ofNat n = 0 by rw [hn0]; rfl)]
    refine ⟨0, T2, s + n, rfl, by omega, by omega, by omega, fun j a b => (t2 j b).trans (t1 j a), md + 1, M.2.2.2 0, ?_, Or.inl ⟨hn0, rfl⟩⟩
    rw [i2, hn0]
    rfl
  · have nz : ¬ Int32.ofNat n = 0 := fun q => hn0 ((c_eq n 0 (by omega) (by omega)).1 q)
    have m0 : (ovl M T2 (s + n)).1 (M.2.2.2 0) = some (.inl (12, (0, .inr (.inr (fun _ => none))))) := (ov_lo l0).trans h0
    have nle : ¬ Int32.ofNat n ≤ Int32.ofNat 0 - 0 := fun q => by
      have q : Int32.ofNat n ≤ Int32.ofNat 0 := q
      have := (c_le n 0 (by omega) (by omega)).1 q
      omega
    rw [if_neg nz, m_R (k := 1) (ov_at i2) rfl, Option.bind_some, m_N m0, Option.bind_some, m_I (k := 2) (ov_at i2) rfl, Option.bind_some, if_neg nle, m_oc (ov_at i2), Option.bind_some]
    obtain ⟨c, ec⟩ : ∃ c, c = max 10 n := ⟨_, rfl⟩
    have emx : mx 10 (0 + Int32.ofNat n) = Int32.ofNat c := by
      rw [Int32.zero_add, show (10 : Int32) = Int32.ofNat 10 from rfl, mx_n (by omega) (by omega), ec]
    obtain ⟨T3, eT3⟩ : ∃ T3, T3 = T2 ++ [(.inl (6, (c, .inr (.inr (fun _ => none)))) : Ob)] := ⟨_, rfl⟩
    have n3 : T3.length = T.length + 2 := by rw [eT3, List.length_append, n2]; rfl
    have t3 : ∀ j, j < T.length + 1 → T3[j]? = T2[j]? := fun j hj => by rw [eT3]; exact app_lo (by omega)
    have t3n : T3[T.length + 1]? = some (.inl (6, (c, .inr (.inr (fun _ => none))))) := by
      rw [eT3, ← n2]
      exact app_at
    obtain ⟨T4, eT4⟩ : ∃ T4, T4 = T3.set i (.inr (20, [.int (md + 1), .ref (M.2.1 + (T.length + 1)), .int 0])) := ⟨_, rfl⟩
    have n4 : T4.length = T.length + 2 := by rw [eT4, List.length_set, n3]
    have t4 : ∀ j, j ≠ i → T4[j]? = T3[j]? := fun j hj => by rw [eT4]; exact set_at hj
    have i4 : T4[i]? = some (.inr (20, [.int (md + 1), .ref (M.2.1 + (T.length + 1)), .int 0])) := by rw [eT4]; exact set_me (by omega)
    have e2L : (ovl M T2 (s + n)).2.1 = M.2.1 + (T.length + 1) := by
      show M.2.1 + T2.length = _
      rw [n2]
    have gr : f_J2_grow_2 F (M.2.1 + i) (0 + Int32.ofNat n) (ovl M T2 (s + n)) = some (M.2.1 + (T.length + 1), ovl M T4 (s + n + c)) := by
      unfold f_J2_grow_2
      rw [m_R (k := 1) (ov_at i2) rfl, Option.bind_some, m_N m0, Option.bind_some, if_neg (by decide), Option.bind_some]
      show (if M.2.2.2 0 = M.2.2.2 0 then _ else _) = _
      rw [if_pos rfl, emx, m_nwQ (by omega), Option.bind_some, ov_nw, ← eT3, e2L]
      have : pf (ovl M T3 (s + n + c)) (M.2.1 + i) 20 1 (.ref (M.2.1 + (T.length + 1))) = some (ovl M T4 (s + n + c)) := by
        have i3 : T3[i]? = some (.inr (20, [.int (md + 1), .ref (M.2.2.2 0), .int 0])) := by rw [t3 i (by omega)]; exact i2
        rw [eT4]
        exact ov_pf (k := 1) i3 (show 1 < 3 by decide)
      rw [this, Option.bind_some]
    rw [gr, Option.bind_some]
    show ∃ r T' s', f_J2_addAll_j56 F (M.2.1 + i) (M.2.1 + T.length) (Int32.ofNat n) (M.2.1 + (T.length + 1)) 0 (ovl M T4 (s + n + c)) = _ ∧ _
    have t4n : T4[T.length]? = some (.inl (6, (n, .inr (.inr g)))) := by rw [t4 _ (by omega), t3 _ (by omega)]; exact t2n
    have t4d : T4[T.length + 1]? = some (.inl (6, (c, .inr (.inr (fun _ => none))))) := by rw [t4 _ (by omega)]; exact t3n
    have cq : cpQ (ovl M T4 (s + n + c)) 6 (M.2.1 + T.length) 0 (M.2.1 + (T.length + 1)) 0 (Int32.ofNat n) = some (ovl M (T4.set (T.length + 1) (.inl (6, (c, .inr (.inr (va_cpy g (fun _ => none) 0 0 n)))))) (s + n + c)) := by
      unfold cpQ
      rw [ov_at t4n, ov_at t4d]
      have z0 : (0 : Int32).toNatClampNeg = 0 := rfl
      have zn : (Int32.ofNat n).toNatClampNeg = n := i_cl (n := 1000) (by omega) (by omega)
      show (if 6 = 6 ∧ 6 < 10 ∧ cpT 6 6 = true ∧ ¬ (0 : Int32) < 0 ∧ ¬ (0 : Int32) < 0 ∧ ¬ Int32.ofNat n < 0 ∧ (0 : Int32).toNatClampNeg + (Int32.ofNat n).toNatClampNeg ≤ n ∧ (0 : Int32).toNatClampNeg + (Int32.ofNat n).toNatClampNeg ≤ c ∧ (List.range (Int32.ofNat n).toNatClampNeg).all (fun i => elOK (ovl M T4 (s + n + c)) 6 (g ((0 : Int32).toNatClampNeg + i))) = true then some (mup (ovl M T4 (s + n + c)).1 (M.2.1 + (T.length + 1)) (.inl (6, (c, .inr (.inr (va_cpy g (fun _ => none) (0 : Int32).toNatClampNeg (0 : Int32).toNatClampNeg (Int32.ofNat n).toNatClampNeg))))), (ovl M T4 (s + n + c)).2) else none) = _
      rw [zn, z0, if_pos]
      · rw [ov_mup (by omega)]
      · refine ⟨rfl, by omega, rfl, by decide, by decide, Int32.not_lt.2 (ofNat_nn (by omega)), by omega, by omega, ?_⟩
        rw [List.all_eq_true]
        intro k hk
        rw [List.mem_range] at hk
        obtain ⟨x, q, y⟩ := he k hk
        show elOK _ 6 (g (0 + k)) = true
        rw [Nat.zero_add, c2 k hk, p7 k hk]
        show (oAny (ovl M T4 (s + n + c)) (e k)).isSome = true
        rw [m_any (q := q) ((ov_lo x).trans y)]
        rfl
    obtain ⟨T5, eT5⟩ : ∃ T5, T5 = T4.set (T.length + 1) (.inl (6, (c, .inr (.inr (va_cpy g (fun _ => none) 0 0 n))))) := ⟨_, rfl⟩
    have n5 : T5.length = T.length + 2 := by rw [eT5, List.length_set, n4]
    have t5 : ∀ j, j ≠ T.length + 1 → T5[j]? = T4[j]? := fun j hj => by rw [eT5]; exact set_at hj
    have t5d : T5[T.length + 1]? = some (.inl (6, (c, .inr (.inr (va_cpy g (fun _ => none) 0 0 n))))) := by rw [eT5]; exact set_me (by omega)
    rw [← eT5] at cq
    have i5 : T5[i]? = some (.inr (20, [.int (md + 1), .ref (M.2.1 + (T.length + 1)), .int 0])) := by rw [t5 i (by omega)]; exact i4
    refine ⟨1, T5.set i (.inr (20, [.int (md + 1), .ref (M.2.1 + (T.length + 1)), .int (Int32.ofNat n)])), s + n + c, ?_, by omega, ?_, ?_, fun j a b => ?_, md + 1, M.2.1 + (T.length + 1), set_me (by omega), Or.inr ⟨hn0, T.length + 1, c, va_cpy g (fun _ => none) 0 0 n, ⟨by omega, by rw [List.length_set]; omega⟩, rfl, ?_, by omega, by omega, fun j hj => ?_⟩⟩
    · unfold f_J2_addAll_j56
      rw [cq, Option.bind_some, ov_pf (k := 2) i5 (show 2 < 3 by decide), Option.bind_some, Int32.zero_add]
      rfl
    · rw [List.length_set]; omega
    · rw [List.length_set]; omega
    · rw [set_at b, t5 j (by omega), t4 j b, t3 j (by omega), t2 j b, t1 j a]
    · rw [set_at (by omega)]; exact t5d
    · rw [pk_cpy_in (by omega) (by omega)]
      show g (0 + (j - 0)) = _
      rw [show 0 + (j - 0) = j by omega, c2 j hj, p7 j hj]
/-- a new state -/
theorem init6 {M : Sw} : f_X6_init F M.2.1 (ovl M [.inr (6, dfX6)] 6) = some (ovl M [.inr (6, [.ref (M.2.1 + 1), .ref (M.2.1 + 2), .ref (M.2.1 + 3), .int 0, .ref (M.2.1 + 4), .ref (M.2.1 + 5)]), .inl (0, (16, .inl fun _ => 0)), .inl (0, (16, .inl fun _ => 0)), .inl (0, (8, .inl fun _ => 0)), .inr (20, [.int 0, .ref (M.2.2.2 0), .int 0]), .inr (20, [.int 0, .ref (M.2.2.2 0), .int 0])] 52) := by
  have e1 : pf (nw (ovl M [.inr (6, dfX6)] 6) (.inl (0, (16, .inl fun _ => 0))) 16) M.2.1 6 0 (.ref (ovl M [.inr (6, dfX6)] 6).2.1) = some (ovl M [.inr (6, [.ref (M.2.1 + 1), .null, .null, .int 0, .null, .null]), .inl (0, (16, .inl fun _ => 0))] 22) := by
    rw [ov_nw]
    exact ov_pf (i := 0) (fs := dfX6) rfl (by decide)
  have e2 : pf (nw (ovl M [.inr (6, [.ref (M.2.1 + 1), .null, .null, .int 0, .null, .null]), .inl (0, (16, .inl fun _ => 0))] 22) (.inl (0, (16, .inl fun _ => 0))) 16) M.2.1 6 1 (.ref (ovl M [.inr (6, [.ref (M.2.1 + 1), .null, .null, .int 0, .null, .null]), .inl (0, (16, .inl fun _ => 0))] 22).2.1) = some (ovl M [.inr (6, [.ref (M.2.1 + 1), .ref (M.2.1 + 2), .null, .int 0, .null, .null]), .inl (0, (16, .inl fun _ => 0)), .inl (0, (16, .inl fun _ => 0))] 38) := by
    rw [ov_nw]
    exact ov_pf (i := 0) (fs := [.ref (M.2.1 + 1), .null, .null, .int 0, .null, .null]) rfl (show 1 < 6 by decide)
  have e3 : pf (nw (ovl M [.inr (6, [.ref (M.2.1 + 1), .ref (M.2.1 + 2), .null, .int 0, .null, .null]), .inl (0, (16, .inl fun _ => 0)), .inl (0, (16, .inl fun _ => 0))] 38) (.inl (0, (8, .inl fun _ => 0))) 8) M.2.1 6 2 (.ref (ovl M [.inr (6, [.ref (M.2.1 + 1), .ref (M.2.1 + 2), .null, .int 0, .null, .null]), .inl (0, (16, .inl fun _ => 0)), .inl (0, (16, .inl fun _ => 0))] 38).2.1) = some (ovl M [.inr (6, [.ref (M.2.1 + 1), .ref (M.2.1 + 2), .ref (M.2.1 + 3), .int 0, .null, .null]), .inl (0, (16, .inl fun _ => 0)), .inl (0, (16, .inl fun _ => 0)), .inl (0, (8, .inl fun _ => 0))] 46) := by
    rw [ov_nw]
    exact ov_pf (i := 0) (fs := [.ref (M.2.1 + 1), .ref (M.2.1 + 2), .null, .int 0, .null, .null]) rfl (show 2 < 6 by decide)
  obtain ⟨T3, eT3⟩ : ∃ T3 : List Ob, T3 = [.inr (6, [.ref (M.2.1 + 1), .ref (M.2.1 + 2), .ref (M.2.1 + 3), .int 0, .null, .null]), .inl (0, (16, .inl fun _ => 0)), .inl (0, (16, .inl fun _ => 0)), .inl (0, (8, .inl fun _ => 0))] := ⟨_, rfl⟩
  have lst : ∀ (T : List Ob) (s i : Nat), T.length = i → f_J2_init F (ovl M T s).2.1 (nw (ovl M T s) (.inr (20, dfJ2)) 3) = some (ovl M (T ++ [.inr (20, [.int 0, .ref (M.2.2.2 0), .int 0])]) (s + 3)) := by
    intro T s i hi
    unfold f_J2_init f_J1_init f_J0_init
    rw [Option.bind_some, ov_nw]
    have q1 : pf (ovl M (T ++ [.inr (20, dfJ2)]) (s + 3)) (M.2.1 + T.length) 20 0 (.int 0) = some (ovl M (T ++ [.inr (20, dfJ2)]) (s + 3)) := by
      rw [ov_pf (k := 0) app_at (by decide)]
      show some (ovl M ((T ++ [(.inr (20, dfJ2) : Ob)]).set T.length (.inr (20, dfJ2))) (s + 3)) = _
      congr 2
      refine List.ext_getElem? fun j => ?_
      by_cases e : j = T.length
      · rw [e, set_me (by rw [List.length_append]; show T.length < T.length + 1; omega), app_at]
      · rw [set_at e]
    show Option.bind (Option.bind (pf (ovl M (T ++ [.inr (20, dfJ2)]) (s + 3)) (M.2.1 + T.length) 20 0 (.int 0)) fun μ3 => some μ3) _ = _
    rw [q1, Option.bind_some, Option.bind_some]
    show Option.bind (pf (ovl M (T ++ [.inr (20, dfJ2)]) (s + 3)) (M.2.1 + T.length) 20 1 (.ref (M.2.2.2 0))) _ = _
    rw [ov_pf (k := 1) app_at (by decide), Option.bind_some]
    congr 2
    refine List.ext_getElem? fun j => ?_
    by_cases e : j = T.length
    · rw [e, set_me (by rw [List.length_append]; show T.length < T.length + 1; omega), app_at]
      rfl
    · rw [set_at e]
      by_cases l : j < T.length
      · rw [app_lo l, app_lo l]
      · rw [List.getElem?_eq_none (by rw [List.length_append]; show T.length + 1 ≤ j; omega), List.getElem?_eq_none (by rw [List.length_append]; show T.length + 1 ≤ j; omega)]
  unfold f_X6_init
  rw [nmE, e1, Option.bind_some, nmE, e2, Option.bind_some, nmE, e3, Option.bind_some, nmE, ← eT3, lst T3 46 4 (by rw [eT3]; rfl), Option.bind_some]
  have e5 : pf (ovl M (T3 ++ [.inr (20, [.int 0, .ref (M.2.2.2 0), .int 0])]) (46 + 3)) M.2.1 6 4 (.ref (ovl M T3 46).2.1) = some (ovl M [.inr (6, [.ref (M.2.1 + 1), .ref (M.2.1 + 2), .ref (M.2.1 + 3), .int 0, .ref (M.2.1 + 4), .null]), .inl (0, (16, .inl fun _ => 0)), .inl (0, (16, .inl fun _ => 0)), .inl (0, (8, .inl fun _ => 0)), .inr (20, [.int 0, .ref (M.2.2.2 0), .int 0])] 49) := by
    rw [eT3]
    exact ov_pf (i := 0) (fs := [.ref (M.2.1 + 1), .ref (M.2.1 + 2), .ref (M.2.1 + 3), .int 0, .null, .null]) rfl (show 4 < 6 by decide)
  rw [e5, Option.bind_some]
  obtain ⟨T5, eT5⟩ : ∃ T5 : List Ob, T5 = [.inr (6, [.ref (M.2.1 + 1), .ref (M.2.1 + 2), .ref (M.2.1 + 3), .int 0, .ref (M.2.1 + 4), .null]), .inl (0, (16, .inl fun _ => 0)), .inl (0, (16, .inl fun _ => 0)), .inl (0, (8, .inl fun _ => 0)), .inr (20, [.int 0, .ref (M.2.2.2 0), .int 0])] := ⟨_, rfl⟩
  rw [nmE, ← eT5, lst T5 49 5 (by rw [eT5]; rfl), Option.bind_some]
  have e6 : pf (ovl M (T5 ++ [.inr (20, [.int 0, .ref (M.2.2.2 0), .int 0])]) (49 + 3)) M.2.1 6 5 (.ref (ovl M T5 49).2.1) = some (ovl M [.inr (6, [.ref (M.2.1 + 1), .ref (M.2.1 + 2), .ref (M.2.1 + 3), .int 0, .ref (M.2.1 + 4), .ref (M.2.1 + 5)]), .inl (0, (16, .inl fun _ => 0)), .inl (0, (16, .inl fun _ => 0)), .inl (0, (8, .inl fun _ => 0)), .inr (20, [.int 0, .ref (M.2.2.2 0), .int 0]), .inr (20, [.int 0, .ref (M.2.2.2 0), .int 0])] 52) := by
    rw [eT5]
    exact ov_pf (i := 0) (fs := [.ref (M.2.1 + 1), .ref (M.2.1 + 2), .ref (M.2.1 + 3), .int 0, .ref (M.2.1 + 4), .null]) rfl (show 5 < 6 by decide)
  rw [e6, Option.bind_some]
