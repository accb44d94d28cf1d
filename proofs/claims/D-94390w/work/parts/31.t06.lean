set_option maxRecDepth 100000
abbrev mX9_year : Ym := (RX9, cX9_year, 2, (some Jvm.ClassFile.FieldType.int), false, [])
noncomputable def t_X9_year (F : Nat) (p1 : Int32) (τ : Tw) : Option (Int32 × Tw) :=
  if (τ.1 50) = 12 then
    some ((-1), τ)
  else
    Option.bind (p_X9_isIn F p1 0 99) fun q2 =>
    if q2 = 0 then
      some ((-1), τ)
    else
      Option.bind (tsA τ 33 0 12 (τ.1 50) p1) fun τ6 =>
      nm (tsI τ6 50 ((τ6.1 50) + 1)) fun τ7 =>
      some (τ7.1 50, τ7)
set_option maxHeartbeats 4000000 in
theorem ok_X9_year {g : Gx} (F : Nat) (p1 : Int32) (tw : Nat) (μ : Sw) (τ : Tw) {rv : Int32} {τF : Tw} (hf : t_X9_year F p1 τ = some (rv, τF)) : Cl g 2 yX9_year cX9_year 2 (some Jvm.ClassFile.FieldType.int) [.ref tw, .int p1] (mT tw τ μ) (some (.int rv)) (mT tw τF μ) := by
  unfold t_X9_year at hf
  refine Cl.of (own := RX9) (ini := false) (by decide +kernel) rfl (by decide) (Nat.le_of_ble_eq_true rfl) ?_
  show PW g mX9_year 2 (mT tw τ μ) (mT tw τF μ) (QN g (some (.int rv)) (mT tw τ μ) (mT tw τF μ)) 0 [(0, .ref tw), (1, .int p1)] [] (mT tw τ μ)
  refine P.aload_n 0 (pc' := 1) dX9_year_0 rfl rfl rfl ?_
  refine P.get (v := .int (τ.1 50)) (pc' := 4) ci9 50 (by decide) (T_gf rfl) q1605 (Or.inl rfl) dX9_year_1 rfl ?_
  refine P.bipush (v := 12) (pc' := 6) dX9_year_4 rfl (by decide) ?_
  refine P.icmp_eq (tgt := 19) (pc' := 9) dX9_year_6 (by decide) rfl (fun y1 => ?_) (fun y1 => ?_)
  · have hf := (if_pos y1).symm.trans hf
    refine P.iconst (v := (-1)) (pc' := 20) dX9_year_19 rfl (by decide) ?_
    cases hf; exact P.iret rfl dX9_year_20
  · have hf := (if_neg y1).symm.trans hf
    refine P.iload_n 1 (pc' := 10) dX9_year_9 rfl rfl rfl ?_
    refine P.iconst (v := 0) (pc' := 11) dX9_year_10 rfl (by decide) ?_
    refine P.bipush (v := 99) (pc' := 13) dX9_year_11 rfl (by decide) ?_
    obtain ⟨q2, h3, hf⟩ := ob hf
    refine P.callS (pc' := 16) (As := [.int p1, .int 0, .int 99]) 3 (ok_X9_isIn F p1 0 99 (mT tw τ μ) h3) (Nat.le_of_ble_eq_true rfl) (lw_S q1971 q1972 q172 q1973) yok_X9_isIn rfl (Nat.le_of_ble_eq_true rfl) (by decide) rfl dX9_year_13 rfl ?_
    refine P.if_ne (tgt := 21) (pc' := 19) dX9_year_16 (by decide) rfl (fun y4 => ?_) (fun y4 => ?_)
    · have hf := (if_neg y4).symm.trans hf
      refine P.aload_n 0 (pc' := 22) dX9_year_21 rfl rfl rfl ?_
      refine P.get (v := .ref (tw + 33)) (pc' := 25) ci9 51 (by decide) (T_gf rfl) q1606 (Or.inl rfl) dX9_year_22 rfl ?_
      refine P.aload_n 0 (pc' := 26) dX9_year_25 rfl rfl rfl ?_
      refine P.get (v := .int (τ.1 50)) (pc' := 29) ci9 50 (by decide) (T_gf rfl) q1605 (Or.inl rfl) dX9_year_26 rfl ?_
      refine P.iload_n 1 (pc' := 30) dX9_year_29 rfl rfl rfl ?_
      obtain ⟨τ6, h5, hf⟩ := ob hf
      refine P.iast (pc' := 31) (T_sA rfl (by decide) h5) dX9_year_30 rfl ?_
      refine P.aload_n 0 (pc' := 32) dX9_year_31 rfl rfl rfl ?_
      refine P.dup (pc' := 33) dX9_year_32 rfl rfl ?_
      refine P.get (v := .int (τ6.1 50)) (pc' := 36) ci9 50 (by decide) (T_gf rfl) q1605 (Or.inl rfl) dX9_year_33 rfl ?_
      refine P.iconst (v := 1) (pc' := 37) dX9_year_36 rfl (by decide) ?_
      refine P.iadd (pc' := 38) dX9_year_37 rfl ?_
      obtain ⟨τ7, e8, hf⟩ := nm_i hf
      refine P.put (v := .int ((τ6.1 50) + 1)) (pc' := 41) ci9 50 (by decide) (T_put rfl (by decide) e8) q1605 (Or.inl rfl) rfl rfl rfl dX9_year_38 rfl ?_
      refine P.aload_n 0 (pc' := 42) dX9_year_41 rfl rfl rfl ?_
      refine P.get (v := .int (τ7.1 50)) (pc' := 45) ci9 50 (by decide) (T_gf rfl) q1605 (Or.inl rfl) dX9_year_42 rfl ?_
      cases hf; exact P.iret rfl dX9_year_45
    · have hf := (if_pos y4).symm.trans hf
      refine P.iconst (v := (-1)) (pc' := 20) dX9_year_19 rfl (by decide) ?_
      cases hf; exact P.iret rfl dX9_year_20
abbrev mX9_clear : Ym := (RX9, cX9_clear, 2, (some Jvm.ClassFile.FieldType.int), false, [])
noncomputable def t_X9_clear (F : Nat) (τ : Tw) : Option (Int32 × Tw) :=
  nm (τ.1 50) fun x1 =>
  nm (tsI τ 50 0) fun τ3 =>
  some (x1, τ3)
set_option maxHeartbeats 4000000 in
theorem ok_X9_clear {g : Gx} (F : Nat) (tw : Nat) (μ : Sw) (τ : Tw) {rv : Int32} {τF : Tw} (hf : t_X9_clear F τ = some (rv, τF)) : Cl g 1 yX9_clear cX9_clear 2 (some Jvm.ClassFile.FieldType.int) [.ref tw] (mT tw τ μ) (some (.int rv)) (mT tw τF μ) := by
  unfold t_X9_clear at hf
  refine Cl.of (own := RX9) (ini := false) (by decide +kernel) rfl (by decide) (Nat.le_of_ble_eq_true rfl) ?_
  show PW g mX9_clear 1 (mT tw τ μ) (mT tw τF μ) (QN g (some (.int rv)) (mT tw τ μ) (mT tw τF μ)) 0 [(0, .ref tw)] [] (mT tw τ μ)
  refine P.aload_n 0 (pc' := 1) dX9_clear_0 rfl rfl rfl ?_
  refine P.get (v := .int (τ.1 50)) (pc' := 4) ci9 50 (by decide) (T_gf rfl) q1605 (Or.inl rfl) dX9_clear_1 rfl ?_
  obtain ⟨x1, e2, hf⟩ := nm_i hf
  refine P.nmi e2 ?_
  refine P.istore_n (pc' := 5) (lv' := [(1, .int x1), (0, .ref tw)]) dX9_clear_4 rfl rfl (Nat.le_of_ble_eq_true rfl) rfl ?_
  refine P.aload_n 1 (pc' := 6) dX9_clear_5 rfl rfl rfl ?_
  refine P.iconst (v := 0) (pc' := 7) dX9_clear_6 rfl (by decide) ?_
  obtain ⟨τ3, e4, hf⟩ := nm_i hf
  refine P.put (v := .int 0) (pc' := 10) ci9 50 (by decide) (T_put rfl (by decide) e4) q1605 (Or.inl rfl) rfl rfl rfl dX9_clear_7 rfl ?_
  refine P.iload_n 0 (pc' := 11) dX9_clear_10 rfl rfl rfl ?_
  cases hf; exact P.iret rfl dX9_clear_11
abbrev mX9_mostOf : Ym := (RX9, cX9_mostOf, 3, (some Jvm.ClassFile.FieldType.int), false, [])
noncomputable def t_X9_mostOf (F : Nat) (p1 : Int32) (p2 : Int32) (τ : Tw) : Option Int32 :=
  Option.bind (taI τ 33 12 p1) fun x1 =>
  Option.bind (p_X9_least F 99 (x1 + p2)) fun q3 =>
  some q3
set_option maxHeartbeats 4000000 in
theorem ok_X9_mostOf {g : Gx} (F : Nat) (p1 : Int32) (p2 : Int32) (tw : Nat) (μ : Sw) (τ : Tw) {rv : Int32} (hf : t_X9_mostOf F p1 p2 τ = some rv) : Cl g 2 yX9_mostOf cX9_mostOf 3 (some Jvm.ClassFile.FieldType.int) [.ref tw, .int p1, .int p2] (mT tw τ μ) (some (.int rv)) (mT tw τ μ) := by
  unfold t_X9_mostOf at hf
  refine Cl.of (own := RX9) (ini := false) (by decide +kernel) rfl (by decide) (Nat.le_of_ble_eq_true rfl) ?_
  show PW g mX9_mostOf 2 (mT tw τ μ) (mT tw τ μ) (QN g (some (.int rv)) (mT tw τ μ) (mT tw τ μ)) 0 [(0, .ref tw), (1, .int p1), (2, .int p2)] [] (mT tw τ μ)
  refine P.bipush (v := 99) (pc' := 2) dX9_mostOf_0 rfl (by decide) ?_
  refine P.aload_n 0 (pc' := 3) dX9_mostOf_2 rfl rfl rfl ?_
  refine P.get (v := .ref (tw + 33)) (pc' := 6) ci9 51 (by decide) (T_gf rfl) q1606 (Or.inl rfl) dX9_mostOf_3 rfl ?_
  refine P.iload_n 1 (pc' := 7) dX9_mostOf_6 rfl rfl rfl ?_
  obtain ⟨x1, h2, hf⟩ := ob hf
  refine P.iald (t := 0) (pc' := 8) rfl (T_aI rfl h2) dX9_mostOf_7 rfl ?_
  refine P.iload_n 2 (pc' := 9) dX9_mostOf_8 rfl rfl rfl ?_
  refine P.iadd (pc' := 10) dX9_mostOf_9 rfl ?_
  obtain ⟨q3, h4, hf⟩ := ob hf
  refine P.callS (pc' := 13) (As := [.int 99, .int (x1 + p2)]) 2 (ok_X9_least F 99 (x1 + p2) (mT tw τ μ) h4) (Nat.le_of_ble_eq_true rfl) (lw_S q2077 q2078 q172 q2079) yok_X9_least rfl (Nat.le_of_ble_eq_true rfl) (by decide) rfl dX9_mostOf_10 rfl ?_
  cases hf; exact P.iret rfl dX9_mostOf_13
theorem yok_X9_mostOf : yOK yX9_mostOf 2 := ⟨by decide +kernel, by decide +kernel, by decide +kernel⟩
theorem yok_X9_stepCost : yOK yX9_stepCost 5 := ⟨by decide +kernel, by decide +kernel, by decide +kernel⟩
abbrev mX9_layPosts : Ym := (RX9, cX9_layPosts, 9, none, false, [])
noncomputable def t_X9_layPosts_L3_b (F : Nat) (k32 : Tw → Option Tw) (c1 : Int32) (c2 : Int32) (c3 : Int32) (c4 : Int32) (self : Int32 → Tw → Option Tw) (v5 : Int32) (τ : Tw) : Option Tw :=
  if 100 ≤ v5 then
    k32 τ
  else
    Option.bind (tsA τ 34 0 1300 ((100 * (τ.1 50)) + v5) 0) fun τ3 =>
    nm (v5 + 1) fun x4 =>
    self x4 τ3
noncomputable def t_X9_layPosts_L3 (F : Nat) (k32 : Tw → Option Tw) (c1 : Int32) (c2 : Int32) (c3 : Int32) (c4 : Int32) (n : Nat) : Int32 → Tw → Option Tw := Nat.rec (motive := fun _ => Int32 → Tw → Option Tw) (fun _ _ => none) (fun _ self => t_X9_layPosts_L3_b F k32 c1 c2 c3 c4 self) n
set_option maxHeartbeats 4000000 in
theorem ok_t_X9_layPosts_L3 {g : Gx} {μ0 : Sw} {τF : Tw} (F : Nat) (tw : Nat) (μ : Sw) (c1 : Int32) (c2 : Int32) (c3 : Int32) (c4 : Int32) (k32 : Tw → Option Tw) (hk32 : ∀ (τ : Tw), k32 τ = some τF → PW g mX9_layPosts 3 μ0 (mT tw τF μ) (QN g none μ0 (mT tw τF μ)) 32 [(0, .ref tw), (1, .int c1), (2, .int c2), (3, .int c3), (4, .int c4)] [] (mT tw τ μ)) : ∀ (n : Nat) (v5 : Int32) (τ : Tw), t_X9_layPosts_L3 F k32 c1 c2 c3 c4 n v5 τ = some τF → PW g mX9_layPosts 3 μ0 (mT tw τF μ) (QN g none μ0 (mT tw τF μ)) 3 [(0, .ref tw), (1, .int c1), (2, .int c2), (3, .int c3), (4, .int c4), (5, .int v5)] [] (mT tw τ μ) := by
  intro n
  induction n with
  | zero =>
    intro v5 τ hf
    have hf : (none : Option Tw) = some _ := hf
    cases hf
  | succ n ih =>
    intro v5 τ hf
    have hf : t_X9_layPosts_L3_b F k32 c1 c2 c3 c4 (t_X9_layPosts_L3 F k32 c1 c2 c3 c4 n) v5 τ = some τF := hf
    unfold t_X9_layPosts_L3_b at hf
    refine P.iload 5 (pc' := 5) dX9_layPosts_3 rfl rfl ?_
    refine P.bipush (v := 100) (pc' := 7) dX9_layPosts_5 rfl (by decide) ?_
    refine P.icmp_ge (tgt := 32) (pc' := 10) dX9_layPosts_7 (by decide) rfl (fun y1 => ?_) (fun y1 => ?_)
    · have hf := (if_pos y1).symm.trans hf
      exact PW.sub [0, 1, 2, 3, 4] rfl (hk32 _ hf)
    · have hf := (if_neg y1).symm.trans hf
      refine P.aload_n 0 (pc' := 11) dX9_layPosts_10 rfl rfl rfl ?_
      refine P.get (v := .ref (tw + 34)) (pc' := 14) ci9 52 (by decide) (T_gf rfl) q1607 (Or.inl rfl) dX9_layPosts_11 rfl ?_
      refine P.bipush (v := 100) (pc' := 16) dX9_layPosts_14 rfl (by decide) ?_
      refine P.aload_n 0 (pc' := 17) dX9_layPosts_16 rfl rfl rfl ?_
      refine P.get (v := .int (τ.1 50)) (pc' := 20) ci9 50 (by decide) (T_gf rfl) q1605 (Or.inl rfl) dX9_layPosts_17 rfl ?_
      refine P.imul (pc' := 21) dX9_layPosts_20 rfl ?_
      refine P.iload 5 (pc' := 23) dX9_layPosts_21 rfl rfl ?_
      refine P.iadd (pc' := 24) dX9_layPosts_23 rfl ?_
      refine P.iconst (v := 0) (pc' := 25) dX9_layPosts_24 rfl (by decide) ?_
      obtain ⟨τ3, h2, hf⟩ := ob hf
      refine P.iast (pc' := 26) (T_sA rfl (by decide) h2) dX9_layPosts_25 rfl ?_
      obtain ⟨x4, e5, hf⟩ := nm_i hf
      refine P.iinc 5 (pc' := 29) (lv' := [(5, .int x4), (0, .ref tw), (1, .int c1), (2, .int c2), (3, .int c3), (4, .int c4)]) dX9_layPosts_26 rfl rfl (by decide) e5 (Nat.le_of_ble_eq_true rfl) rfl ?_
      refine P.goto (tgt := 3) dX9_layPosts_29 (by decide) ?_
      exact PW.sub [1, 2, 3, 4, 5, 0] rfl (ih _ _ hf)
noncomputable def t_X9_layPosts_L69_b (F : Nat) (k122 : Int32 → Option Tw) (c1 : Int32) (c2 : Int32) (c3 : Int32) (c4 : Int32) (c5 : Int32) (c6 : Int32) (τ : Tw) (self : Int32 → Int32 → Option Tw) (v7 : Int32) (v8 : Int32) : Option Tw :=
  Option.bind (t_X9_mostOf F c5 c1 τ) fun q1 =>
  if q1 < v8 then
    k122 v7
  else
    Option.bind (p_X9_stepCost F c6 v8 c2 c3 c4) fun q4 =>
    Option.bind (taI τ 34 1300 (((100 * c5) + 100) + v8)) fun x6 =>
    Option.bind (p_X9_least F v7 (q4 + x6)) fun q8 =>
    nm (v8 + 1) fun x10 =>
    self q8 x10
noncomputable def t_X9_layPosts_L69 (F : Nat) (k122 : Int32 → Option Tw) (c1 : Int32) (c2 : Int32) (c3 : Int32) (c4 : Int32) (c5 : Int32) (c6 : Int32) (τ : Tw) (n : Nat) : Int32 → Int32 → Option Tw := Nat.rec (motive := fun _ => Int32 → Int32 → Option Tw) (fun _ _ => none) (fun _ self => t_X9_layPosts_L69_b F k122 c1 c2 c3 c4 c5 c6 τ self) n
set_option maxHeartbeats 4000000 in
theorem ok_t_X9_layPosts_L69 {g : Gx} {μ0 : Sw} {τF : Tw} (F : Nat) (tw : Nat) (μ : Sw) (c1 : Int32) (c2 : Int32) (c3 : Int32) (c4 : Int32) (c5 : Int32) (c6 : Int32) (τ : Tw) (k122 : Int32 → Option Tw) (hk122 : ∀ (w7 : Int32), k122 w7 = some τF → PW g mX9_layPosts 3 μ0 (mT tw τF μ) (QN g none μ0 (mT tw τF μ)) 122 [(0, .ref tw), (1, .int c1), (2, .int c2), (3, .int c3), (4, .int c4), (5, .int c5), (6, .int c6), (7, .int w7)] [] (mT tw τ μ)) : ∀ (n : Nat) (v7 : Int32) (v8 : Int32), t_X9_layPosts_L69 F k122 c1 c2 c3 c4 c5 c6 τ n v7 v8 = some τF → PW g mX9_layPosts 3 μ0 (mT tw τF μ) (QN g none μ0 (mT tw τF μ)) 69 [(0, .ref tw), (1, .int c1), (2, .int c2), (3, .int c3), (4, .int c4), (5, .int c5), (6, .int c6), (7, .int v7), (8, .int v8)] [] (mT tw τ μ) := by
  intro n
  induction n with
  | zero =>
    intro v7 v8 hf
    have hf : (none : Option Tw) = some _ := hf
    cases hf
  | succ n ih =>
    intro v7 v8 hf
    have hf : t_X9_layPosts_L69_b F k122 c1 c2 c3 c4 c5 c6 τ (t_X9_layPosts_L69 F k122 c1 c2 c3 c4 c5 c6 τ n) v7 v8 = some τF := hf
    unfold t_X9_layPosts_L69_b at hf
    refine P.iload 8 (pc' := 71) dX9_layPosts_69 rfl rfl ?_
    refine P.aload_n 0 (pc' := 72) dX9_layPosts_71 rfl rfl rfl ?_
    refine P.iload 5 (pc' := 74) dX9_layPosts_72 rfl rfl ?_
    refine P.iload_n 1 (pc' := 75) dX9_layPosts_74 rfl rfl rfl ?_
    obtain ⟨q1, h2, hf⟩ := ob hf
    refine P.callV (pc' := 78) (As := [.int c5, .int c1]) 2 (ok_X9_mostOf F c5 c1 tw μ τ h2) (Nat.le_of_ble_eq_true rfl) (lw_V q2194 q2196 qs150 q172 q2197) rfl yok_X9_mostOf rfl (Nat.le_of_ble_eq_true rfl) ci9 T_oc (Nat.le_of_ble_eq_true rfl) rfl dX9_layPosts_75 rfl ?_
    refine P.icmp_gt (tgt := 122) (pc' := 81) dX9_layPosts_78 (by decide) rfl (fun y3 => ?_) (fun y3 => ?_)
    · have hf := (if_pos y3).symm.trans hf
      exact PW.sub [0, 1, 2, 3, 4, 5, 6, 7] rfl (hk122 _ hf)
    · have hf := (if_neg y3).symm.trans hf
      refine P.iload 7 (pc' := 83) dX9_layPosts_81 rfl rfl ?_
      refine P.iload 6 (pc' := 85) dX9_layPosts_83 rfl rfl ?_
      refine P.iload 8 (pc' := 87) dX9_layPosts_85 rfl rfl ?_
      refine P.iload_n 2 (pc' := 88) dX9_layPosts_87 rfl rfl rfl ?_
      refine P.iload_n 3 (pc' := 89) dX9_layPosts_88 rfl rfl rfl ?_
      refine P.iload 4 (pc' := 91) dX9_layPosts_89 rfl rfl ?_
      obtain ⟨q4, h5, hf⟩ := ob hf
      refine P.callS (pc' := 94) (As := [.int c6, .int v8, .int c2, .int c3, .int c4]) 5 (ok_X9_stepCost F c6 v8 c2 c3 c4 (mT tw τ μ) h5) (Nat.le_of_ble_eq_true rfl) (lw_S q2198 q2199 q172 q2200) yok_X9_stepCost rfl (Nat.le_of_ble_eq_true rfl) (Nat.le_of_ble_eq_true rfl) rfl dX9_layPosts_91 rfl ?_
      refine P.aload_n 0 (pc' := 95) dX9_layPosts_94 rfl rfl rfl ?_
      refine P.get (v := .ref (tw + 34)) (pc' := 98) ci9 52 (by decide) (T_gf rfl) q1607 (Or.inl rfl) dX9_layPosts_95 rfl ?_
      refine P.bipush (v := 100) (pc' := 100) dX9_layPosts_98 rfl (by decide) ?_
      refine P.iload 5 (pc' := 102) dX9_layPosts_100 rfl rfl ?_
      refine P.imul (pc' := 103) dX9_layPosts_102 rfl ?_
      refine P.bipush (v := 100) (pc' := 105) dX9_layPosts_103 rfl (by decide) ?_
      refine P.iadd (pc' := 106) dX9_layPosts_105 rfl ?_
      refine P.iload 8 (pc' := 108) dX9_layPosts_106 rfl rfl ?_
      refine P.iadd (pc' := 109) dX9_layPosts_108 rfl ?_
      obtain ⟨x6, h7, hf⟩ := ob hf
      refine P.iald (t := 0) (pc' := 110) rfl (T_aI rfl h7) dX9_layPosts_109 rfl ?_
      refine P.iadd (pc' := 111) dX9_layPosts_110 rfl ?_
      obtain ⟨q8, h9, hf⟩ := ob hf
      refine P.callS (pc' := 114) (As := [.int v7, .int (q4 + x6)]) 2 (ok_X9_least F v7 (q4 + x6) (mT tw τ μ) h9) (Nat.le_of_ble_eq_true rfl) (lw_S q2077 q2078 q172 q2079) yok_X9_least rfl (Nat.le_of_ble_eq_true rfl) (by decide) rfl dX9_layPosts_111 rfl ?_
      refine P.istore (pc' := 116) (lv' := [(7, .int q8), (0, .ref tw), (1, .int c1), (2, .int c2), (3, .int c3), (4, .int c4), (5, .int c5), (6, .int c6), (8, .int v8)]) dX9_layPosts_114 rfl (Nat.le_of_ble_eq_true rfl) rfl ?_
      obtain ⟨x10, e11, hf⟩ := nm_i hf
      refine P.iinc 8 (pc' := 119) (lv' := [(8, .int x10), (7, .int q8), (0, .ref tw), (1, .int c1), (2, .int c2), (3, .int c3), (4, .int c4), (5, .int c5), (6, .int c6)]) dX9_layPosts_116 rfl rfl (by decide) e11 (Nat.le_of_ble_eq_true rfl) rfl ?_
      refine P.goto (tgt := 69) dX9_layPosts_119 (by decide) ?_
      exact PW.sub [2, 3, 4, 5, 6, 7, 8, 1, 0] rfl (ih _ _ hf)
noncomputable def t_X9_layPosts_L48_b (F : Nat) (k143 : Tw → Option Tw) (c1 : Int32) (c2 : Int32) (c3 : Int32) (c4 : Int32) (c5 : Int32) (self : Int32 → Tw → Option Tw) (v6 : Int32) (τ : Tw) : Option Tw :=
  if 100 ≤ v6 then
    k143 τ
  else
    Option.bind (taI τ 33 12 c5) fun x2 =>
    t_X9_layPosts_L69 F
      (fun w4 =>
        Option.bind (tsA τ 34 0 1300 ((100 * c5) + v6) w4) fun τ6 =>
        nm (v6 + 1) fun x7 =>
        self x7 τ6)
      c1 c2 c3 c4 c5 v6 τ F 1000000 x2
noncomputable def t_X9_layPosts_L48 (F : Nat) (k143 : Tw → Option Tw) (c1 : Int32) (c2 : Int32) (c3 : Int32) (c4 : Int32) (c5 : Int32) (n : Nat) : Int32 → Tw → Option Tw := Nat.rec (motive := fun _ => Int32 → Tw → Option Tw) (fun _ _ => none) (fun _ self => t_X9_layPosts_L48_b F k143 c1 c2 c3 c4 c5 self) n
set_option maxHeartbeats 4000000 in
theorem ok_t_X9_layPosts_L48 {g : Gx} {μ0 : Sw} {τF : Tw} (F : Nat) (tw : Nat) (μ : Sw) (c1 : Int32) (c2 : Int32) (c3 : Int32) (c4 : Int32) (c5 : Int32) (k143 : Tw → Option Tw) (hk143 : ∀ (τ : Tw), k143 τ = some τF → PW g mX9_layPosts 3 μ0 (mT tw τF μ) (QN g none μ0 (mT tw τF μ)) 143 [(0, .ref tw), (1, .int c1), (2, .int c2), (3, .int c3), (4, .int c4), (5, .int c5)] [] (mT tw τ μ)) : ∀ (n : Nat) (v6 : Int32) (τ : Tw), t_X9_layPosts_L48 F k143 c1 c2 c3 c4 c5 n v6 τ = some τF → PW g mX9_layPosts 3 μ0 (mT tw τF μ) (QN g none μ0 (mT tw τF μ)) 48 [(0, .ref tw), (1, .int c1), (2, .int c2), (3, .int c3), (4, .int c4), (5, .int c5), (6, .int v6)] [] (mT tw τ μ) := by
  intro n
  induction n with
  | zero =>
    intro v6 τ hf
    have hf : (none : Option Tw) = some _ := hf
    cases hf
  | succ n ih =>
    intro v6 τ hf
    have hf : t_X9_layPosts_L48_b F k143 c1 c2 c3 c4 c5 (t_X9_layPosts_L48 F k143 c1 c2 c3 c4 c5 n) v6 τ = some τF := hf
    unfold t_X9_layPosts_L48_b at hf
    refine P.iload 6 (pc' := 50) dX9_layPosts_48 rfl rfl ?_
    refine P.bipush (v := 100) (pc' := 52) dX9_layPosts_50 rfl (by decide) ?_
    refine P.icmp_ge (tgt := 143) (pc' := 55) dX9_layPosts_52 (by decide) rfl (fun y1 => ?_) (fun y1 => ?_)
    · have hf := (if_pos y1).symm.trans hf
      exact PW.sub [0, 1, 2, 3, 4, 5] rfl (hk143 _ hf)
    · have hf := (if_neg y1).symm.trans hf
      refine P.ldc_w (v := 1000000) (pc' := 58) dX9_layPosts_55 rfl q2076 ?_
      refine P.istore (pc' := 60) (lv' := [(7, .int 1000000), (0, .ref tw), (1, .int c1), (2, .int c2), (3, .int c3), (4, .int c4), (5, .int c5), (6, .int v6)]) dX9_layPosts_58 rfl (Nat.le_of_ble_eq_true rfl) rfl ?_
      refine P.aload_n 1 (pc' := 61) dX9_layPosts_60 rfl rfl rfl ?_
      refine P.get (v := .ref (tw + 33)) (pc' := 64) ci9 51 (by decide) (T_gf rfl) q1606 (Or.inl rfl) dX9_layPosts_61 rfl ?_
      refine P.iload 6 (pc' := 66) dX9_layPosts_64 rfl rfl ?_
      obtain ⟨x2, h3, hf⟩ := ob hf
      refine P.iald (t := 0) (pc' := 67) rfl (T_aI rfl h3) dX9_layPosts_66 rfl ?_
      refine P.istore (pc' := 69) (lv' := [(8, .int x2), (7, .int 1000000), (0, .ref tw), (1, .int c1), (2, .int c2), (3, .int c3), (4, .int c4), (5, .int c5), (6, .int v6)]) dX9_layPosts_67 rfl (Nat.le_of_ble_eq_true rfl) rfl ?_
      refine PW.sub [2, 3, 4, 5, 6, 7, 8, 1, 0] rfl (ok_t_X9_layPosts_L69 F tw μ c1 c2 c3 c4 c5 v6 τ _ ?_ F _ _ hf)
      · intro w4 hf
        refine P.aload_n 0 (pc' := 123) dX9_layPosts_122 rfl rfl rfl ?_
        refine P.get (v := .ref (tw + 34)) (pc' := 126) ci9 52 (by decide) (T_gf rfl) q1607 (Or.inl rfl) dX9_layPosts_123 rfl ?_
        refine P.bipush (v := 100) (pc' := 128) dX9_layPosts_126 rfl (by decide) ?_
        refine P.iload 5 (pc' := 130) dX9_layPosts_128 rfl rfl ?_
        refine P.imul (pc' := 131) dX9_layPosts_130 rfl ?_
        refine P.iload 6 (pc' := 133) dX9_layPosts_131 rfl rfl ?_
        refine P.iadd (pc' := 134) dX9_layPosts_133 rfl ?_
        refine P.iload 7 (pc' := 136) dX9_layPosts_134 rfl rfl ?_
        obtain ⟨τ6, h5, hf⟩ := ob hf
        refine P.iast (pc' := 137) (T_sA rfl (by decide) h5) dX9_layPosts_136 rfl ?_
        obtain ⟨x7, e8, hf⟩ := nm_i hf
        refine P.iinc 6 (pc' := 140) (lv' := [(6, .int x7), (0, .ref tw), (1, .int c1), (2, .int c2), (3, .int c3), (4, .int c4), (5, .int c5), (7, .int w4)]) dX9_layPosts_137 rfl rfl (by decide) e8 (Nat.le_of_ble_eq_true rfl) rfl ?_
        refine P.goto (tgt := 48) dX9_layPosts_140 (by decide) ?_
        exact PW.sub [1, 2, 3, 4, 5, 6, 0] rfl (ih _ _ hf)
noncomputable def t_X9_layPosts_L40_b (F : Nat) (c1 : Int32) (c2 : Int32) (c3 : Int32) (c4 : Int32) (self : Int32 → Tw → Option Tw) (v5 : Int32) (τ : Tw) : Option Tw :=
  if v5 < 0 then
    some τ
  else
    t_X9_layPosts_L48 F
      (fun τ2 =>
        nm (v5 + (-1)) fun x3 =>
        self x3 τ2)
      c1 c2 c3 c4 v5 F 0 τ
noncomputable def t_X9_layPosts_L40 (F : Nat) (c1 : Int32) (c2 : Int32) (c3 : Int32) (c4 : Int32) (n : Nat) : Int32 → Tw → Option Tw := Nat.rec (motive := fun _ => Int32 → Tw → Option Tw) (fun _ _ => none) (fun _ self => t_X9_layPosts_L40_b F c1 c2 c3 c4 self) n
set_option maxHeartbeats 4000000 in
theorem ok_t_X9_layPosts_L40 {g : Gx} {μ0 : Sw} {τF : Tw} (F : Nat) (tw : Nat) (μ : Sw) (c1 : Int32) (c2 : Int32) (c3 : Int32) (c4 : Int32) : ∀ (n : Nat) (v5 : Int32) (τ : Tw), t_X9_layPosts_L40 F c1 c2 c3 c4 n v5 τ = some τF → PW g mX9_layPosts 3 μ0 (mT tw τF μ) (QN g none μ0 (mT tw τF μ)) 40 [(0, .ref tw), (1, .int c1), (2, .int c2), (3, .int c3), (4, .int c4), (5, .int v5)] [] (mT tw τ μ) := by
  intro n
  induction n with
  | zero =>
    intro v5 τ hf
    have hf : (none : Option Tw) = some _ := hf
    cases hf
  | succ n ih =>
    intro v5 τ hf
    have hf : t_X9_layPosts_L40_b F c1 c2 c3 c4 (t_X9_layPosts_L40 F c1 c2 c3 c4 n) v5 τ = some τF := hf
    unfold t_X9_layPosts_L40_b at hf
    refine P.iload 5 (pc' := 42) dX9_layPosts_40 rfl rfl ?_
    refine P.if_lt (tgt := 149) (pc' := 45) dX9_layPosts_42 (by decide) rfl (fun y1 => ?_) (fun y1 => ?_)
    · have hf := (if_pos y1).symm.trans hf
      cases hf; exact P.vret rfl dX9_layPosts_149
    · have hf := (if_neg y1).symm.trans hf
      refine P.iconst (v := 0) (pc' := 46) dX9_layPosts_45 rfl (by decide) ?_
      refine P.istore (pc' := 48) (lv' := [(6, .int 0), (0, .ref tw), (1, .int c1), (2, .int c2), (3, .int c3), (4, .int c4), (5, .int v5)]) dX9_layPosts_46 rfl (Nat.le_of_ble_eq_true rfl) rfl ?_
      refine PW.sub [1, 2, 3, 4, 5, 6, 0] rfl (ok_t_X9_layPosts_L48 F tw μ c1 c2 c3 c4 v5 _ ?_ F _ _ hf)
      · intro τ2 hf
        obtain ⟨x3, e4, hf⟩ := nm_i hf
        refine P.iinc 5 (pc' := 146) (lv' := [(5, .int x3), (0, .ref tw), (1, .int c1), (2, .int c2), (3, .int c3), (4, .int c4)]) dX9_layPosts_143 rfl rfl (by decide) e4 (Nat.le_of_ble_eq_true rfl) rfl ?_
        refine P.goto (tgt := 40) dX9_layPosts_146 (by decide) ?_
        exact PW.sub [1, 2, 3, 4, 5, 0] rfl (ih _ _ hf)
noncomputable def t_X9_layPosts (F : Nat) (p1 : Int32) (p2 : Int32) (p3 : Int32) (p4 : Int32) (τ : Tw) : Option Tw :=
  t_X9_layPosts_L3 F
    (fun τ1 =>
      nm ((τ1.1 50) - 1) fun x2 =>
      t_X9_layPosts_L40 F p1 p2 p3 p4 F x2 τ1)
    p1 p2 p3 p4 F 0 τ
set_option maxHeartbeats 4000000 in
theorem ok_X9_layPosts {g : Gx} (F : Nat) (p1 : Int32) (p2 : Int32) (p3 : Int32) (p4 : Int32) (tw : Nat) (μ : Sw) (τ : Tw) {τF : Tw} (hf : t_X9_layPosts F p1 p2 p3 p4 τ = some τF) : Cl g 3 yX9_layPosts cX9_layPosts 9 none [.ref tw, .int p1, .int p2, .int p3, .int p4] (mT tw τ μ) none (mT tw τF μ) := by
  unfold t_X9_layPosts at hf
  refine Cl.of (own := RX9) (ini := false) (by decide +kernel) rfl (by decide) (Nat.le_of_ble_eq_true rfl) ?_
  show PW g mX9_layPosts 3 (mT tw τ μ) (mT tw τF μ) (QN g none (mT tw τ μ) (mT tw τF μ)) 0 [(0, .ref tw), (1, .int p1), (2, .int p2), (3, .int p3), (4, .int p4)] [] (mT tw τ μ)
  refine P.iconst (v := 0) (pc' := 1) dX9_layPosts_0 rfl (by decide) ?_
  refine P.istore (pc' := 3) (lv' := [(5, .int 0), (0, .ref tw), (1, .int p1), (2, .int p2), (3, .int p3), (4, .int p4)]) dX9_layPosts_1 rfl (Nat.le_of_ble_eq_true rfl) rfl ?_
  refine PW.sub [1, 2, 3, 4, 5, 0] rfl (ok_t_X9_layPosts_L3 F tw μ p1 p2 p3 p4 _ ?_ F _ _ hf)
  · intro τ1 hf
    refine P.aload_n 0 (pc' := 33) dX9_layPosts_32 rfl rfl rfl ?_
    refine P.get (v := .int (τ1.1 50)) (pc' := 36) ci9 50 (by decide) (T_gf rfl) q1605 (Or.inl rfl) dX9_layPosts_33 rfl ?_
    refine P.iconst (v := 1) (pc' := 37) dX9_layPosts_36 rfl (by decide) ?_
    refine P.isub (pc' := 38) dX9_layPosts_37 rfl ?_
    obtain ⟨x2, e3, hf⟩ := nm_i hf
    refine P.nmi e3 ?_
    refine P.istore (pc' := 40) (lv' := [(5, .int x2), (0, .ref tw), (1, .int p1), (2, .int p2), (3, .int p3), (4, .int p4)]) dX9_layPosts_38 rfl (Nat.le_of_ble_eq_true rfl) rfl ?_
    exact PW.sub [1, 2, 3, 4, 5, 0] rfl (ok_t_X9_layPosts_L40 F tw μ p1 p2 p3 p4 F _ _ hf)
theorem yok_X9_isPosts : yOK yX9_isPosts 5 := ⟨by decide +kernel, by decide +kernel, by decide +kernel⟩
theorem yok_X9_layPosts : yOK yX9_layPosts 4 := ⟨by decide +kernel, by decide +kernel, by decide +kernel⟩
abbrev mX9_posts : Ym := (RX9, cX9_posts, 6, (some Jvm.ClassFile.FieldType.int), false, [])
noncomputable def t_X9_posts (F : Nat) (p1 : Int32) (p2 : Int32) (p3 : Int32) (p4 : Int32) (p5 : Int32) (τ : Tw) : Option (Int32 × Tw) :=
  Option.bind (p_X9_isPosts F p1 p2 p3 p4 p5) fun q1 =>
  if q1 = 0 then
    some ((-1), τ)
  else
    Option.bind (t_X9_layPosts F p2 p3 p4 p5 τ) fun q4 =>
    Option.bind (taI q4 34 1300 p1) fun x6 =>
    some (x6, q4)
set_option maxHeartbeats 4000000 in
theorem ok_X9_posts {g : Gx} (F : Nat) (p1 : Int32) (p2 : Int32) (p3 : Int32) (p4 : Int32) (p5 : Int32) (tw : Nat) (μ : Sw) (τ : Tw) {rv : Int32} {τF : Tw} (hf : t_X9_posts F p1 p2 p3 p4 p5 τ = some (rv, τF)) : Cl g 4 yX9_posts cX9_posts 6 (some Jvm.ClassFile.FieldType.int) [.ref tw, .int p1, .int p2, .int p3, .int p4, .int p5] (mT tw τ μ) (some (.int rv)) (mT tw τF μ) := by
  unfold t_X9_posts at hf
  refine Cl.of (own := RX9) (ini := false) (by decide +kernel) rfl (by decide) (Nat.le_of_ble_eq_true rfl) ?_
  show PW g mX9_posts 4 (mT tw τ μ) (mT tw τF μ) (QN g (some (.int rv)) (mT tw τ μ) (mT tw τF μ)) 0 [(0, .ref tw), (1, .int p1), (2, .int p2), (3, .int p3), (4, .int p4), (5, .int p5)] [] (mT tw τ μ)
  refine P.iload_n 1 (pc' := 1) dX9_posts_0 rfl rfl rfl ?_
  refine P.iload_n 2 (pc' := 2) dX9_posts_1 rfl rfl rfl ?_
  refine P.iload_n 3 (pc' := 3) dX9_posts_2 rfl rfl rfl ?_
  refine P.iload 4 (pc' := 5) dX9_posts_3 rfl rfl ?_
  refine P.iload 5 (pc' := 7) dX9_posts_5 rfl rfl ?_
  obtain ⟨q1, h2, hf⟩ := ob hf
  refine P.callS (pc' := 10) (As := [.int p1, .int p2, .int p3, .int p4, .int p5]) 5 (ok_X9_isPosts F p1 p2 p3 p4 p5 (mT tw τ μ) h2) (Nat.le_of_ble_eq_true rfl) (lw_S q2187 q2188 q172 q2189) yok_X9_isPosts rfl (Nat.le_of_ble_eq_true rfl) (by decide) rfl dX9_posts_7 rfl ?_
  refine P.if_ne (tgt := 15) (pc' := 13) dX9_posts_10 (by decide) rfl (fun y3 => ?_) (fun y3 => ?_)
  · have hf := (if_neg y3).symm.trans hf
    refine P.aload_n 0 (pc' := 16) dX9_posts_15 rfl rfl rfl ?_
    refine P.iload_n 2 (pc' := 17) dX9_posts_16 rfl rfl rfl ?_
    refine P.iload_n 3 (pc' := 18) dX9_posts_17 rfl rfl rfl ?_
    refine P.iload 4 (pc' := 20) dX9_posts_18 rfl rfl ?_
    refine P.iload 5 (pc' := 22) dX9_posts_20 rfl rfl ?_
    obtain ⟨q4, h5, hf⟩ := ob hf
    refine P.callV (pc' := 25) (As := [.int p2, .int p3, .int p4, .int p5]) 4 (ok_X9_layPosts F p2 p3 p4 p5 tw μ τ h5) (Nat.le_of_ble_eq_true rfl) (lw_V q2190 q2192 qs149 q172 q2193) rfl yok_X9_layPosts rfl (Nat.le_of_ble_eq_true rfl) ci9 T_oc (by decide) rfl dX9_posts_22 rfl ?_
    refine P.aload_n 0 (pc' := 26) dX9_posts_25 rfl rfl rfl ?_
    refine P.get (v := .ref (tw + 34)) (pc' := 29) ci9 52 (by decide) (T_gf rfl) q1607 (Or.inl rfl) dX9_posts_26 rfl ?_
    refine P.iload_n 1 (pc' := 30) dX9_posts_29 rfl rfl rfl ?_
    obtain ⟨x6, h7, hf⟩ := ob hf
    refine P.iald (t := 0) (pc' := 31) rfl (T_aI rfl h7) dX9_posts_30 rfl ?_
    cases hf; exact P.iret rfl dX9_posts_31
  · have hf := (if_pos y3).symm.trans hf
    refine P.iconst (v := (-1)) (pc' := 14) dX9_posts_13 rfl (by decide) ?_
    cases hf; exact P.iret rfl dX9_posts_14
abbrev mX9_postAt : Ym := (RX9, cX9_postAt, 10, (some Jvm.ClassFile.FieldType.int), false, [])
noncomputable def t_X9_postAt_L61_b (F : Nat) (k112 : Int32 → Option (Int32 × Tw)) (c3 : Int32) (c4 : Int32) (c5 : Int32) (c6 : Int32) (c7 : Int32) (c8 : Int32) (τ : Tw) (self : Int32 → Option (Int32 × Tw)) (v9 : Int32) : Option (Int32 × Tw) :=
  Option.bind (p_X9_stepCost F c7 v9 c3 c4 c5) fun q1 =>
  Option.bind (taI τ 34 1300 (((100 * c8) + 100) + v9)) fun x3 =>
  Option.bind (taI τ 34 1300 ((100 * c8) + c7)) fun x5 =>
  if (q1 + x3) = x5 then
    k112 v9
  else
    nm (v9 + 1) fun x8 =>
    self x8
noncomputable def t_X9_postAt_L61 (F : Nat) (k112 : Int32 → Option (Int32 × Tw)) (c3 : Int32) (c4 : Int32) (c5 : Int32) (c6 : Int32) (c7 : Int32) (c8 : Int32) (τ : Tw) (n : Nat) : Int32 → Option (Int32 × Tw) := Nat.rec (motive := fun _ => Int32 → Option (Int32 × Tw)) (fun _ => none) (fun _ self => t_X9_postAt_L61_b F k112 c3 c4 c5 c6 c7 c8 τ self) n
set_option maxHeartbeats 4000000 in
theorem ok_t_X9_postAt_L61 {g : Gx} {μ0 : Sw} {rv : Int32} {τF : Tw} (F : Nat) (tw : Nat) (μ : Sw) (c3 : Int32) (c4 : Int32) (c5 : Int32) (c6 : Int32) (c7 : Int32) (c8 : Int32) (τ : Tw) (k112 : Int32 → Option (Int32 × Tw)) (hk112 : ∀ (w9 : Int32), k112 w9 = some (rv, τF) → PW g mX9_postAt 4 μ0 (mT tw τF μ) (QN g (some (.int rv)) μ0 (mT tw τF μ)) 112 [(0, .ref tw), (3, .int c3), (4, .int c4), (5, .int c5), (6, .int c6), (8, .int c8), (9, .int w9)] [] (mT tw τ μ)) : ∀ (n : Nat) (v9 : Int32), t_X9_postAt_L61 F k112 c3 c4 c5 c6 c7 c8 τ n v9 = some (rv, τF) → PW g mX9_postAt 4 μ0 (mT tw τF μ) (QN g (some (.int rv)) μ0 (mT tw τF μ)) 61 [(0, .ref tw), (3, .int c3), (4, .int c4), (5, .int c5), (6, .int c6), (7, .int c7), (8, .int c8), (9, .int v9)] [] (mT tw τ μ) := by
  intro n
  induction n with
  | zero =>
    intro v9 hf
    have hf : (none : Option (Int32 × Tw)) = some _ := hf
    cases hf
  | succ n ih =>
    intro v9 hf
    have hf : t_X9_postAt_L61_b F k112 c3 c4 c5 c6 c7 c8 τ (t_X9_postAt_L61 F k112 c3 c4 c5 c6 c7 c8 τ n) v9 = some (rv, τF) := hf
    unfold t_X9_postAt_L61_b at hf
    refine P.iload 5 (pc' := 63) dX9_postAt_61 rfl rfl ?_
    refine P.iload 7 (pc' := 65) dX9_postAt_63 rfl rfl ?_
    refine P.iload_n 1 (pc' := 66) dX9_postAt_65 rfl rfl rfl ?_
    refine P.iload 2 (pc' := 68) dX9_postAt_66 rfl rfl ?_
    refine P.iload 3 (pc' := 70) dX9_postAt_68 rfl rfl ?_
    obtain ⟨q1, h2, hf⟩ := ob hf
    refine P.callS (pc' := 73) (As := [.int c7, .int v9, .int c3, .int c4, .int c5]) 5 (ok_X9_stepCost F c7 v9 c3 c4 c5 (mT tw τ μ) h2) (Nat.le_of_ble_eq_true rfl) (lw_S q2198 q2199 q172 q2200) yok_X9_stepCost rfl (Nat.le_of_ble_eq_true rfl) (by decide) rfl dX9_postAt_70 rfl ?_
    refine P.aload_n 0 (pc' := 74) dX9_postAt_73 rfl rfl rfl ?_
    refine P.get (v := .ref (tw + 34)) (pc' := 77) ci9 52 (by decide) (T_gf rfl) q1607 (Or.inl rfl) dX9_postAt_74 rfl ?_
    refine P.bipush (v := 100) (pc' := 79) dX9_postAt_77 rfl (by decide) ?_
    refine P.iload 6 (pc' := 81) dX9_postAt_79 rfl rfl ?_
    refine P.imul (pc' := 82) dX9_postAt_81 rfl ?_
    refine P.bipush (v := 100) (pc' := 84) dX9_postAt_82 rfl (by decide) ?_
    refine P.iadd (pc' := 85) dX9_postAt_84 rfl ?_
    refine P.iload 7 (pc' := 87) dX9_postAt_85 rfl rfl ?_
    refine P.iadd (pc' := 88) dX9_postAt_87 rfl ?_
    obtain ⟨x3, h4, hf⟩ := ob hf
    refine P.iald (t := 0) (pc' := 89) rfl (T_aI rfl h4) dX9_postAt_88 rfl ?_
    refine P.iadd (pc' := 90) dX9_postAt_89 rfl ?_
    refine P.aload_n 0 (pc' := 91) dX9_postAt_90 rfl rfl rfl ?_
    refine P.get (v := .ref (tw + 34)) (pc' := 94) ci9 52 (by decide) (T_gf rfl) q1607 (Or.inl rfl) dX9_postAt_91 rfl ?_
    refine P.bipush (v := 100) (pc' := 96) dX9_postAt_94 rfl (by decide) ?_
    refine P.iload 6 (pc' := 98) dX9_postAt_96 rfl rfl ?_
    refine P.imul (pc' := 99) dX9_postAt_98 rfl ?_
    refine P.iload 5 (pc' := 101) dX9_postAt_99 rfl rfl ?_
    refine P.iadd (pc' := 102) dX9_postAt_101 rfl ?_
    obtain ⟨x5, h6, hf⟩ := ob hf
    refine P.iald (t := 0) (pc' := 103) rfl (T_aI rfl h6) dX9_postAt_102 rfl ?_
    refine P.icmp_eq (tgt := 112) (pc' := 106) dX9_postAt_103 (by decide) rfl (fun y7 => ?_) (fun y7 => ?_)
    · have hf := (if_pos y7).symm.trans hf
      exact PW.sub [0, 1, 2, 3, 4, 6, 7] rfl (hk112 _ hf)
    · have hf := (if_neg y7).symm.trans hf
      obtain ⟨x8, e9, hf⟩ := nm_i hf
      refine P.iinc 7 (pc' := 109) (lv' := [(9, .int x8), (0, .ref tw), (3, .int c3), (4, .int c4), (5, .int c5), (6, .int c6), (7, .int c7), (8, .int c8)]) dX9_postAt_106 rfl rfl (by decide) e9 (Nat.le_of_ble_eq_true rfl) rfl ?_
      refine P.goto (tgt := 61) dX9_postAt_109 (by decide) ?_
      exact PW.sub [1, 2, 3, 4, 5, 6, 7, 0] rfl (ih _ hf)
noncomputable def t_X9_postAt_L45_b (F : Nat) (c3 : Int32) (c4 : Int32) (c5 : Int32) (c6 : Int32) (τ : Tw) (self : Int32 → Int32 → Option (Int32 × Tw)) (v7 : Int32) (v8 : Int32) : Option (Int32 × Tw) :=
  if c6 < v8 then
    some (v7, τ)
  else
    Option.bind (taI τ 33 12 v8) fun x2 =>
    t_X9_postAt_L61 F
      (fun w4 =>
        nm (v8 + 1) fun x5 =>
        self w4 x5)
      c3 c4 c5 c6 v7 v8 τ F x2
noncomputable def t_X9_postAt_L45 (F : Nat) (c3 : Int32) (c4 : Int32) (c5 : Int32) (c6 : Int32) (τ : Tw) (n : Nat) : Int32 → Int32 → Option (Int32 × Tw) := Nat.rec (motive := fun _ => Int32 → Int32 → Option (Int32 × Tw)) (fun _ _ => none) (fun _ self => t_X9_postAt_L45_b F c3 c4 c5 c6 τ self) n
set_option maxHeartbeats 4000000 in
theorem ok_t_X9_postAt_L45 {g : Gx} {μ0 : Sw} {rv : Int32} {τF : Tw} (F : Nat) (tw : Nat) (μ : Sw) (c3 : Int32) (c4 : Int32) (c5 : Int32) (c6 : Int32) (τ : Tw) : ∀ (n : Nat) (v7 : Int32) (v8 : Int32), t_X9_postAt_L45 F c3 c4 c5 c6 τ n v7 v8 = some (rv, τF) → PW g mX9_postAt 4 μ0 (mT tw τF μ) (QN g (some (.int rv)) μ0 (mT tw τF μ)) 45 [(0, .ref tw), (3, .int c3), (4, .int c4), (5, .int c5), (6, .int c6), (7, .int v7), (8, .int v8)] [] (mT tw τ μ) := by
  intro n
  induction n with
  | zero =>
    intro v7 v8 hf
    have hf : (none : Option (Int32 × Tw)) = some _ := hf
    cases hf
  | succ n ih =>
    intro v7 v8 hf
    have hf : t_X9_postAt_L45_b F c3 c4 c5 c6 τ (t_X9_postAt_L45 F c3 c4 c5 c6 τ n) v7 v8 = some (rv, τF) := hf
    unfold t_X9_postAt_L45_b at hf
    refine P.iload 6 (pc' := 47) dX9_postAt_45 rfl rfl ?_
    refine P.iload 4 (pc' := 49) dX9_postAt_47 rfl rfl ?_
    refine P.icmp_gt (tgt := 122) (pc' := 52) dX9_postAt_49 (by decide) rfl (fun y1 => ?_) (fun y1 => ?_)
    · have hf := (if_pos y1).symm.trans hf
      refine P.iload 5 (pc' := 124) dX9_postAt_122 rfl rfl ?_
      cases hf; exact P.iret rfl dX9_postAt_124
    · have hf := (if_neg y1).symm.trans hf
      refine P.aload_n 0 (pc' := 53) dX9_postAt_52 rfl rfl rfl ?_
      refine P.get (v := .ref (tw + 33)) (pc' := 56) ci9 51 (by decide) (T_gf rfl) q1606 (Or.inl rfl) dX9_postAt_53 rfl ?_
      refine P.iload 6 (pc' := 58) dX9_postAt_56 rfl rfl ?_
      obtain ⟨x2, h3, hf⟩ := ob hf
      refine P.iald (t := 0) (pc' := 59) rfl (T_aI rfl h3) dX9_postAt_58 rfl ?_
      refine P.istore (pc' := 61) (lv' := [(9, .int x2), (0, .ref tw), (3, .int c3), (4, .int c4), (5, .int c5), (6, .int c6), (7, .int v7), (8, .int v8)]) dX9_postAt_59 rfl (Nat.le_of_ble_eq_true rfl) rfl ?_
      refine PW.sub [1, 2, 3, 4, 5, 6, 7, 0] rfl (ok_t_X9_postAt_L61 F tw μ c3 c4 c5 c6 v7 v8 τ _ ?_ F _ hf)
      · intro w4 hf
        refine P.iload 6 (pc' := 114) dX9_postAt_112 rfl rfl ?_
        refine P.istore (pc' := 116) (lv' := [(7, .int w4), (0, .ref tw), (3, .int c3), (4, .int c4), (5, .int c5), (6, .int c6), (8, .int v8), (9, .int w4)]) dX9_postAt_114 rfl (Nat.le_of_ble_eq_true rfl) rfl ?_
        obtain ⟨x5, e6, hf⟩ := nm_i hf
        refine P.iinc 6 (pc' := 119) (lv' := [(8, .int x5), (7, .int w4), (0, .ref tw), (3, .int c3), (4, .int c4), (5, .int c5), (6, .int c6), (9, .int w4)]) dX9_postAt_116 rfl rfl (by decide) e6 (Nat.le_of_ble_eq_true rfl) rfl ?_
        refine P.goto (tgt := 45) dX9_postAt_119 (by decide) ?_
        exact PW.sub [2, 3, 4, 5, 6, 1, 0] rfl (ih _ _ hf)
noncomputable def t_X9_postAt (F : Nat) (p1 : Int32) (p2 : Int32) (p3 : Int32) (p4 : Int32) (p5 : Int32) (p6 : Int32) (τ : Tw) : Option (Int32 × Tw) :=
  Option.bind (p_X9_isPosts F p1 p2 p3 p4 p5) fun q1 =>
  if q1 = 0 then
    some ((-1), τ)
  else
    if p6 < 0 then
      some ((-1), τ)
    else
      if p6 < (τ.1 50) then
        Option.bind (t_X9_layPosts F p2 p3 p4 p5 τ) fun q6 =>
        t_X9_postAt_L45 F p3 p4 p5 p6 q6 F p1 0
      else
        some ((-1), τ)
set_option maxHeartbeats 4000000 in
theorem ok_X9_postAt {g : Gx} (F : Nat) (p1 : Int32) (p2 : Int32) (p3 : Int32) (p4 : Int32) (p5 : Int32) (p6 : Int32) (tw : Nat) (μ : Sw) (τ : Tw) {rv : Int32} {τF : Tw} (hf : t_X9_postAt F p1 p2 p3 p4 p5 p6 τ = some (rv, τF)) : Cl g 4 yX9_postAt cX9_postAt 10 (some Jvm.ClassFile.FieldType.int) [.ref tw, .int p1, .int p2, .int p3, .int p4, .int p5, .int p6] (mT tw τ μ) (some (.int rv)) (mT tw τF μ) := by
  unfold t_X9_postAt at hf
  refine Cl.of (own := RX9) (ini := false) (by decide +kernel) rfl (by decide) (Nat.le_of_ble_eq_true rfl) ?_
  show PW g mX9_postAt 4 (mT tw τ μ) (mT tw τF μ) (QN g (some (.int rv)) (mT tw τ μ) (mT tw τF μ)) 0 [(0, .ref tw), (1, .int p1), (2, .int p2), (3, .int p3), (4, .int p4), (5, .int p5), (6, .int p6)] [] (mT tw τ μ)
  refine P.iload_n 1 (pc' := 1) dX9_postAt_0 rfl rfl rfl ?_
  refine P.iload_n 2 (pc' := 2) dX9_postAt_1 rfl rfl rfl ?_
  refine P.iload_n 3 (pc' := 3) dX9_postAt_2 rfl rfl rfl ?_
  refine P.iload 4 (pc' := 5) dX9_postAt_3 rfl rfl ?_
  refine P.iload 5 (pc' := 7) dX9_postAt_5 rfl rfl ?_
  obtain ⟨q1, h2, hf⟩ := ob hf
  refine P.callS (pc' := 10) (As := [.int p1, .int p2, .int p3, .int p4, .int p5]) 5 (ok_X9_isPosts F p1 p2 p3 p4 p5 (mT tw τ μ) h2) (Nat.le_of_ble_eq_true rfl) (lw_S q2187 q2188 q172 q2189) yok_X9_isPosts rfl (Nat.le_of_ble_eq_true rfl) (by decide) rfl dX9_postAt_7 rfl ?_
  refine P.if_eq (tgt := 27) (pc' := 13) dX9_postAt_10 (by decide) rfl (fun y3 => ?_) (fun y3 => ?_)
  · have hf := (if_pos y3).symm.trans hf
    refine P.iconst (v := (-1)) (pc' := 28) dX9_postAt_27 rfl (by decide) ?_
    cases hf; exact P.iret rfl dX9_postAt_28
  · have hf := (if_neg y3).symm.trans hf
    refine P.iload 6 (pc' := 15) dX9_postAt_13 rfl rfl ?_
    refine P.if_lt (tgt := 27) (pc' := 18) dX9_postAt_15 (by decide) rfl (fun y4 => ?_) (fun y4 => ?_)
    · have hf := (if_pos y4).symm.trans hf
      refine P.iconst (v := (-1)) (pc' := 28) dX9_postAt_27 rfl (by decide) ?_
      cases hf; exact P.iret rfl dX9_postAt_28
    · have hf := (if_neg y4).symm.trans hf
      refine P.iload 6 (pc' := 20) dX9_postAt_18 rfl rfl ?_
      refine P.aload_n 0 (pc' := 21) dX9_postAt_20 rfl rfl rfl ?_
      refine P.get (v := .int (τ.1 50)) (pc' := 24) ci9 50 (by decide) (T_gf rfl) q1605 (Or.inl rfl) dX9_postAt_21 rfl ?_
      refine P.icmp_lt (tgt := 29) (pc' := 27) dX9_postAt_24 (by decide) rfl (fun y5 => ?_) (fun y5 => ?_)
      · have hf := (if_pos y5).symm.trans hf
        refine P.aload_n 0 (pc' := 30) dX9_postAt_29 rfl rfl rfl ?_
        refine P.iload_n 2 (pc' := 31) dX9_postAt_30 rfl rfl rfl ?_
        refine P.iload_n 3 (pc' := 32) dX9_postAt_31 rfl rfl rfl ?_
        refine P.iload 4 (pc' := 34) dX9_postAt_32 rfl rfl ?_
        refine P.iload 5 (pc' := 36) dX9_postAt_34 rfl rfl ?_
        obtain ⟨q6, h7, hf⟩ := ob hf
        refine P.callV (pc' := 39) (As := [.int p2, .int p3, .int p4, .int p5]) 4 (ok_X9_layPosts F p2 p3 p4 p5 tw μ τ h7) (Nat.le_of_ble_eq_true rfl) (lw_V q2190 q2192 qs149 q172 q2193) rfl yok_X9_layPosts rfl (Nat.le_of_ble_eq_true rfl) ci9 T_oc (by decide) rfl dX9_postAt_36 rfl ?_
        refine P.iload_n 1 (pc' := 40) dX9_postAt_39 rfl rfl rfl ?_
        refine P.istore (pc' := 42) (lv' := [(7, .int p1), (0, .ref tw), (1, .int p1), (2, .int p2), (3, .int p3), (4, .int p4), (5, .int p5), (6, .int p6)]) dX9_postAt_40 rfl (Nat.le_of_ble_eq_true rfl) rfl ?_
        refine P.iconst (v := 0) (pc' := 43) dX9_postAt_42 rfl (by decide) ?_
        refine P.istore (pc' := 45) (lv' := [(8, .int 0), (7, .int p1), (0, .ref tw), (1, .int p1), (2, .int p2), (3, .int p3), (4, .int p4), (5, .int p5), (6, .int p6)]) dX9_postAt_43 rfl (Nat.le_of_ble_eq_true rfl) rfl ?_
        exact PW.sub [2, 5, 6, 7, 8, 1, 0] rfl (ok_t_X9_postAt_L45 F tw μ p3 p4 p5 p6 q6 F _ _ hf)
      · have hf := (if_neg y5).symm.trans hf
        refine P.iconst (v := (-1)) (pc' := 28) dX9_postAt_27 rfl (by decide) ?_
        cases hf; exact P.iret rfl dX9_postAt_28
abbrev mX9_log : Ym := (RX9, cX9_log, 6, (some Jvm.ClassFile.FieldType.int), false, [])
noncomputable def t_X9_log (F : Nat) (p1 : Int32) (p2 : Int32) (p3 : Int32) (p4 : Int32) (τ : Tw) : Option (Int32 × Tw) :=
  Option.bind (taI τ 7 1260 2) fun x1 =>
  if x1 = 60 then
    some ((-1), τ)
  else
    Option.bind (taI τ 7 1260 2) fun x4 =>
    nm (180 + (4 * x4)) fun x6 =>
    Option.bind (tsA τ 7 0 1260 x6 p1) fun τ9 =>
    Option.bind (tsA τ9 7 0 1260 (x6 + 1) p2) fun τ11 =>
    Option.bind (tsA τ11 7 0 1260 (x6 + 2) p3) fun τ13 =>
    Option.bind (tsA τ13 7 0 1260 (x6 + 3) p4) fun τ15 =>
    Option.bind (taI τ15 7 1260 2) fun x16 =>
    Option.bind (tsA τ15 7 0 1260 2 (x16 + 1)) fun τ19 =>
    Option.bind (taI τ19 7 1260 2) fun x20 =>
    some (x20 - 1, τ19)
set_option maxHeartbeats 4000000 in
theorem ok_X9_log {g : Gx} (F : Nat) (p1 : Int32) (p2 : Int32) (p3 : Int32) (p4 : Int32) (tw : Nat) (μ : Sw) (τ : Tw) {rv : Int32} {τF : Tw} (hf : t_X9_log F p1 p2 p3 p4 τ = some (rv, τF)) : Cl g 1 yX9_log cX9_log 6 (some Jvm.ClassFile.FieldType.int) [.ref tw, .int p1, .int p2, .int p3, .int p4] (mT tw τ μ) (some (.int rv)) (mT tw τF μ) := by
  unfold t_X9_log at hf
  refine Cl.of (own := RX9) (ini := false) (by decide +kernel) rfl (by decide) (Nat.le_of_ble_eq_true rfl) ?_
  show PW g mX9_log 1 (mT tw τ μ) (mT tw τF μ) (QN g (some (.int rv)) (mT tw τ μ) (mT tw τF μ)) 0 [(0, .ref tw), (1, .int p1), (2, .int p2), (3, .int p3), (4, .int p4)] [] (mT tw τ μ)
  refine P.aload_n 0 (pc' := 1) dX9_log_0 rfl rfl rfl ?_
  refine P.get (v := .ref (tw + 7)) (pc' := 4) ci9 13 (by decide) (T_gf rfl) q1568 (Or.inl rfl) dX9_log_1 rfl ?_
  refine P.iconst (v := 2) (pc' := 5) dX9_log_4 rfl (by decide) ?_
  obtain ⟨x1, h2, hf⟩ := ob hf
  refine P.iald (t := 0) (pc' := 6) rfl (T_aI rfl h2) dX9_log_5 rfl ?_
  refine P.bipush (v := 60) (pc' := 8) dX9_log_6 rfl (by decide) ?_
  refine P.icmp_ne (tgt := 13) (pc' := 11) dX9_log_8 (by decide) rfl (fun y3 => ?_) (fun y3 => ?_)
  · have hf := (if_neg y3).symm.trans hf
    refine P.sipush (v := 180) (pc' := 16) dX9_log_13 rfl (by decide) ?_
    refine P.iconst (v := 4) (pc' := 17) dX9_log_16 rfl (by decide) ?_
    refine P.aload_n 0 (pc' := 18) dX9_log_17 rfl rfl rfl ?_
    refine P.get (v := .ref (tw + 7)) (pc' := 21) ci9 13 (by decide) (T_gf rfl) q1568 (Or.inl rfl) dX9_log_18 rfl ?_
    refine P.iconst (v := 2) (pc' := 22) dX9_log_21 rfl (by decide) ?_
    obtain ⟨x4, h5, hf⟩ := ob hf
    refine P.iald (t := 0) (pc' := 23) rfl (T_aI rfl h5) dX9_log_22 rfl ?_
    refine P.imul (pc' := 24) dX9_log_23 rfl ?_
    refine P.iadd (pc' := 25) dX9_log_24 rfl ?_
    obtain ⟨x6, e7, hf⟩ := nm_i hf
    refine P.nmi e7 ?_
    refine P.istore (pc' := 27) (lv' := [(5, .int x6), (0, .ref tw), (1, .int p1), (2, .int p2), (3, .int p3), (4, .int p4)]) dX9_log_25 rfl (Nat.le_of_ble_eq_true rfl) rfl ?_
    refine P.aload_n 1 (pc' := 28) dX9_log_27 rfl rfl rfl ?_
    refine P.get (v := .ref (tw + 7)) (pc' := 31) ci9 13 (by decide) (T_gf rfl) q1568 (Or.inl rfl) dX9_log_28 rfl ?_
    refine P.iload 0 (pc' := 33) dX9_log_31 rfl rfl ?_
    refine P.iload_n 2 (pc' := 34) dX9_log_33 rfl rfl rfl ?_
    obtain ⟨τ9, h8, hf⟩ := ob hf
    refine P.iast (pc' := 35) (T_sA rfl (by decide) h8) dX9_log_34 rfl ?_
    refine P.aload_n 1 (pc' := 36) dX9_log_35 rfl rfl rfl ?_
    refine P.get (v := .ref (tw + 7)) (pc' := 39) ci9 13 (by decide) (T_gf rfl) q1568 (Or.inl rfl) dX9_log_36 rfl ?_
    refine P.iload 0 (pc' := 41) dX9_log_39 rfl rfl ?_
    refine P.iconst (v := 1) (pc' := 42) dX9_log_41 rfl (by decide) ?_
    refine P.iadd (pc' := 43) dX9_log_42 rfl ?_
    refine P.iload_n 3 (pc' := 44) dX9_log_43 rfl rfl rfl ?_
    obtain ⟨τ11, h10, hf⟩ := ob hf
    refine P.iast (pc' := 45) (T_sA rfl (by decide) h10) dX9_log_44 rfl ?_
    refine P.aload_n 1 (pc' := 46) dX9_log_45 rfl rfl rfl ?_
    refine P.get (v := .ref (tw + 7)) (pc' := 49) ci9 13 (by decide) (T_gf rfl) q1568 (Or.inl rfl) dX9_log_46 rfl ?_
    refine P.iload 0 (pc' := 51) dX9_log_49 rfl rfl ?_
    refine P.iconst (v := 2) (pc' := 52) dX9_log_51 rfl (by decide) ?_
    refine P.iadd (pc' := 53) dX9_log_52 rfl ?_
    refine P.iload_n 4 (pc' := 54) dX9_log_53 rfl rfl rfl ?_
    obtain ⟨τ13, h12, hf⟩ := ob hf
    refine P.iast (pc' := 55) (T_sA rfl (by decide) h12) dX9_log_54 rfl ?_
    refine P.aload_n 1 (pc' := 56) dX9_log_55 rfl rfl rfl ?_
    refine P.get (v := .ref (tw + 7)) (pc' := 59) ci9 13 (by decide) (T_gf rfl) q1568 (Or.inl rfl) dX9_log_56 rfl ?_
    refine P.iload 0 (pc' := 61) dX9_log_59 rfl rfl ?_
    refine P.iconst (v := 3) (pc' := 62) dX9_log_61 rfl (by decide) ?_
    refine P.iadd (pc' := 63) dX9_log_62 rfl ?_
    refine P.iload 5 (pc' := 65) dX9_log_63 rfl rfl ?_
    obtain ⟨τ15, h14, hf⟩ := ob hf
    refine P.iast (pc' := 66) (T_sA rfl (by decide) h14) dX9_log_65 rfl ?_
    refine P.aload_n 1 (pc' := 67) dX9_log_66 rfl rfl rfl ?_
    refine P.get (v := .ref (tw + 7)) (pc' := 70) ci9 13 (by decide) (T_gf rfl) q1568 (Or.inl rfl) dX9_log_67 rfl ?_
    refine P.iconst (v := 2) (pc' := 71) dX9_log_70 rfl (by decide) ?_
    refine P.dup2 (pc' := 72) dX9_log_71 rfl rfl rfl ?_
    obtain ⟨x16, h17, hf⟩ := ob hf
    refine P.iald (t := 0) (pc' := 73) rfl (T_aI rfl h17) dX9_log_72 rfl ?_
    refine P.iconst (v := 1) (pc' := 74) dX9_log_73 rfl (by decide) ?_
    refine P.iadd (pc' := 75) dX9_log_74 rfl ?_
    obtain ⟨τ19, h18, hf⟩ := ob hf
    refine P.iast (pc' := 76) (T_sA rfl (by decide) h18) dX9_log_75 rfl ?_
    refine P.aload_n 1 (pc' := 77) dX9_log_76 rfl rfl rfl ?_
    refine P.get (v := .ref (tw + 7)) (pc' := 80) ci9 13 (by decide) (T_gf rfl) q1568 (Or.inl rfl) dX9_log_77 rfl ?_
    refine P.iconst (v := 2) (pc' := 81) dX9_log_80 rfl (by decide) ?_
    obtain ⟨x20, h21, hf⟩ := ob hf
    refine P.iald (t := 0) (pc' := 82) rfl (T_aI rfl h21) dX9_log_81 rfl ?_
    refine P.iconst (v := 1) (pc' := 83) dX9_log_82 rfl (by decide) ?_
    refine P.isub (pc' := 84) dX9_log_83 rfl ?_
    cases hf; exact P.iret rfl dX9_log_84
  · have hf := (if_pos y3).symm.trans hf
    refine P.iconst (v := (-1)) (pc' := 12) dX9_log_11 rfl (by decide) ?_
    cases hf; exact P.iret rfl dX9_log_12
theorem yok_X9_log : yOK yX9_log 4 := ⟨by decide +kernel, by decide +kernel, by decide +kernel⟩
abbrev mX9_vote : Ym := (RX9, cX9_vote, 4, (some Jvm.ClassFile.FieldType.int), false, [])
noncomputable def t_X9_vote (F : Nat) (p1 : Int32) (p2 : Int32) (p3 : Int32) (τ : Tw) : Option (Int32 × Tw) :=
  Option.bind (t_X9_isHouse F p1 τ) fun q1 =>
  if q1 = 0 then
    some ((-1), τ)
  else
    Option.bind (t_X9_isOffice F p2 τ) fun q4 =>
    if q4 = 0 then
      some ((-1), τ)
    else
      Option.bind (t_X9_isHouse F p3 τ) fun q7 =>
      if q7 = 0 then
        some ((-1), τ)
      else
        Option.bind (t_X9_log F 0 p1 p2 p3 τ) fun q10 =>
        some (q10.1, q10.2)
set_option maxHeartbeats 4000000 in
theorem ok_X9_vote {g : Gx} (F : Nat) (p1 : Int32) (p2 : Int32) (p3 : Int32) (tw : Nat) (μ : Sw) (τ : Tw) {rv : Int32} {τF : Tw} (hf : t_X9_vote F p1 p2 p3 τ = some (rv, τF)) : Cl g 2 yX9_vote cX9_vote 4 (some Jvm.ClassFile.FieldType.int) [.ref tw, .int p1, .int p2, .int p3] (mT tw τ μ) (some (.int rv)) (mT tw τF μ) := by
  unfold t_X9_vote at hf
  refine Cl.of (own := RX9) (ini := false) (by decide +kernel) rfl (by decide) (Nat.le_of_ble_eq_true rfl) ?_
  show PW g mX9_vote 2 (mT tw τ μ) (mT tw τF μ) (QN g (some (.int rv)) (mT tw τ μ) (mT tw τF μ)) 0 [(0, .ref tw), (1, .int p1), (2, .int p2), (3, .int p3)] [] (mT tw τ μ)
  refine P.aload_n 0 (pc' := 1) dX9_vote_0 rfl rfl rfl ?_
  refine P.iload_n 1 (pc' := 2) dX9_vote_1 rfl rfl rfl ?_
  obtain ⟨q1, h2, hf⟩ := ob hf
  refine P.callV (pc' := 5) (As := [.int p1]) 1 (ok_X9_isHouse F p1 tw μ τ h2) (Nat.le_of_ble_eq_true rfl) (lw_V q1920 q1922 qs114 q172 q1923) rfl yok_X9_isHouse rfl (Nat.le_of_ble_eq_true rfl) ci9 T_oc (by decide) rfl dX9_vote_2 rfl ?_
  refine P.if_eq (tgt := 35) (pc' := 8) dX9_vote_5 (by decide) rfl (fun y3 => ?_) (fun y3 => ?_)
  · have hf := (if_pos y3).symm.trans hf
    refine P.iconst (v := (-1)) (pc' := 36) dX9_vote_35 rfl (by decide) ?_
    cases hf; exact P.iret rfl dX9_vote_36
  · have hf := (if_neg y3).symm.trans hf
    refine P.aload_n 0 (pc' := 9) dX9_vote_8 rfl rfl rfl ?_
    refine P.iload_n 2 (pc' := 10) dX9_vote_9 rfl rfl rfl ?_
    obtain ⟨q4, h5, hf⟩ := ob hf
    refine P.callV (pc' := 13) (As := [.int p2]) 1 (ok_X9_isOffice F p2 tw μ τ h5) (Nat.le_of_ble_eq_true rfl) (lw_V q1959 q1961 qs122 q172 q1962) rfl yok_X9_isOffice rfl (Nat.le_of_ble_eq_true rfl) ci9 T_oc (by decide) rfl dX9_vote_10 rfl ?_
    refine P.if_eq (tgt := 35) (pc' := 16) dX9_vote_13 (by decide) rfl (fun y6 => ?_) (fun y6 => ?_)
    · have hf := (if_pos y6).symm.trans hf
      refine P.iconst (v := (-1)) (pc' := 36) dX9_vote_35 rfl (by decide) ?_
      cases hf; exact P.iret rfl dX9_vote_36
    · have hf := (if_neg y6).symm.trans hf
      refine P.aload_n 0 (pc' := 17) dX9_vote_16 rfl rfl rfl ?_
      refine P.iload_n 3 (pc' := 18) dX9_vote_17 rfl rfl rfl ?_
      obtain ⟨q7, h8, hf⟩ := ob hf
      refine P.callV (pc' := 21) (As := [.int p3]) 1 (ok_X9_isHouse F p3 tw μ τ h8) (Nat.le_of_ble_eq_true rfl) (lw_V q1920 q1922 qs114 q172 q1923) rfl yok_X9_isHouse rfl (Nat.le_of_ble_eq_true rfl) ci9 T_oc (by decide) rfl dX9_vote_18 rfl ?_
      refine P.if_eq (tgt := 35) (pc' := 24) dX9_vote_21 (by decide) rfl (fun y9 => ?_) (fun y9 => ?_)
      · have hf := (if_pos y9).symm.trans hf
        refine P.iconst (v := (-1)) (pc' := 36) dX9_vote_35 rfl (by decide) ?_
        cases hf; exact P.iret rfl dX9_vote_36
      · have hf := (if_neg y9).symm.trans hf
        refine P.aload_n 0 (pc' := 25) dX9_vote_24 rfl rfl rfl ?_
        refine P.iconst (v := 0) (pc' := 26) dX9_vote_25 rfl (by decide) ?_
        refine P.iload_n 1 (pc' := 27) dX9_vote_26 rfl rfl rfl ?_
        refine P.iload_n 2 (pc' := 28) dX9_vote_27 rfl rfl rfl ?_
        refine P.iload_n 3 (pc' := 29) dX9_vote_28 rfl rfl rfl ?_
        obtain ⟨q10, h11, hf⟩ := ob hf
        refine P.callV (pc' := 32) (As := [.int 0, .int p1, .int p2, .int p3]) 4 (ok_X9_log F 0 p1 p2 p3 tw μ τ h11) (Nat.le_of_ble_eq_true rfl) (lw_V q2209 q2211 qs151 q172 q2212) rfl yok_X9_log rfl (Nat.le_of_ble_eq_true rfl) ci9 T_oc (by decide) rfl dX9_vote_29 rfl ?_
        refine P.goto (tgt := 36) dX9_vote_32 (by decide) ?_
        cases hf; exact P.iret rfl dX9_vote_36
abbrev mX9_mark : Ym := (RX9, cX9_mark, 4, (some Jvm.ClassFile.FieldType.int), false, [])
noncomputable def t_X9_mark (F : Nat) (p1 : Int32) (p2 : Int32) (p3 : Int32) (τ : Tw) : Option (Int32 × Tw) :=
  Option.bind (t_X9_isHouse F p1 τ) fun q1 =>
  if q1 = 0 then
    some ((-1), τ)
  else
    Option.bind (p_X9_isIn F p2 0 99) fun q4 =>
    if q4 = 0 then
      some ((-1), τ)
    else
      Option.bind (p_X9_isIn F p3 0 99) fun q7 =>
      if q7 = 0 then
        some ((-1), τ)
      else
        Option.bind (t_X9_log F 1 p1 p2 p3 τ) fun q10 =>
        some (q10.1, q10.2)
set_option maxHeartbeats 4000000 in
theorem ok_X9_mark {g : Gx} (F : Nat) (p1 : Int32) (p2 : Int32) (p3 : Int32) (tw : Nat) (μ : Sw) (τ : Tw) {rv : Int32} {τF : Tw} (hf : t_X9_mark F p1 p2 p3 τ = some (rv, τF)) : Cl g 2 yX9_mark cX9_mark 4 (some Jvm.ClassFile.FieldType.int) [.ref tw, .int p1, .int p2, .int p3] (mT tw τ μ) (some (.int rv)) (mT tw τF μ) := by
  unfold t_X9_mark at hf
  refine Cl.of (own := RX9) (ini := false) (by decide +kernel) rfl (by decide) (Nat.le_of_ble_eq_true rfl) ?_
  show PW g mX9_mark 2 (mT tw τ μ) (mT tw τF μ) (QN g (some (.int rv)) (mT tw τ μ) (mT tw τF μ)) 0 [(0, .ref tw), (1, .int p1), (2, .int p2), (3, .int p3)] [] (mT tw τ μ)
  refine P.aload_n 0 (pc' := 1) dX9_mark_0 rfl rfl rfl ?_
  refine P.iload_n 1 (pc' := 2) dX9_mark_1 rfl rfl rfl ?_
  obtain ⟨q1, h2, hf⟩ := ob hf
  refine P.callV (pc' := 5) (As := [.int p1]) 1 (ok_X9_isHouse F p1 tw μ τ h2) (Nat.le_of_ble_eq_true rfl) (lw_V q1920 q1922 qs114 q172 q1923) rfl yok_X9_isHouse rfl (Nat.le_of_ble_eq_true rfl) ci9 T_oc (by decide) rfl dX9_mark_2 rfl ?_
  refine P.if_eq (tgt := 39) (pc' := 8) dX9_mark_5 (by decide) rfl (fun y3 => ?_) (fun y3 => ?_)
  · have hf := (if_pos y3).symm.trans hf
    refine P.iconst (v := (-1)) (pc' := 40) dX9_mark_39 rfl (by decide) ?_
    cases hf; exact P.iret rfl dX9_mark_40
  · have hf := (if_neg y3).symm.trans hf
    refine P.iload_n 2 (pc' := 9) dX9_mark_8 rfl rfl rfl ?_
    refine P.iconst (v := 0) (pc' := 10) dX9_mark_9 rfl (by decide) ?_
    refine P.bipush (v := 99) (pc' := 12) dX9_mark_10 rfl (by decide) ?_
    obtain ⟨q4, h5, hf⟩ := ob hf
    refine P.callS (pc' := 15) (As := [.int p2, .int 0, .int 99]) 3 (ok_X9_isIn F p2 0 99 (mT tw τ μ) h5) (Nat.le_of_ble_eq_true rfl) (lw_S q1971 q1972 q172 q1973) yok_X9_isIn rfl (Nat.le_of_ble_eq_true rfl) (by decide) rfl dX9_mark_12 rfl ?_
    refine P.if_eq (tgt := 39) (pc' := 18) dX9_mark_15 (by decide) rfl (fun y6 => ?_) (fun y6 => ?_)
    · have hf := (if_pos y6).symm.trans hf
      refine P.iconst (v := (-1)) (pc' := 40) dX9_mark_39 rfl (by decide) ?_
      cases hf; exact P.iret rfl dX9_mark_40
    · have hf := (if_neg y6).symm.trans hf
      refine P.iload_n 3 (pc' := 19) dX9_mark_18 rfl rfl rfl ?_
      refine P.iconst (v := 0) (pc' := 20) dX9_mark_19 rfl (by decide) ?_
      refine P.bipush (v := 99) (pc' := 22) dX9_mark_20 rfl (by decide) ?_
      obtain ⟨q7, h8, hf⟩ := ob hf
      refine P.callS (pc' := 25) (As := [.int p3, .int 0, .int 99]) 3 (ok_X9_isIn F p3 0 99 (mT tw τ μ) h8) (Nat.le_of_ble_eq_true rfl) (lw_S q1971 q1972 q172 q1973) yok_X9_isIn rfl (Nat.le_of_ble_eq_true rfl) (by decide) rfl dX9_mark_22 rfl ?_
      refine P.if_eq (tgt := 39) (pc' := 28) dX9_mark_25 (by decide) rfl (fun y9 => ?_) (fun y9 => ?_)
      · have hf := (if_pos y9).symm.trans hf
        refine P.iconst (v := (-1)) (pc' := 40) dX9_mark_39 rfl (by decide) ?_
        cases hf; exact P.iret rfl dX9_mark_40
      · have hf := (if_neg y9).symm.trans hf
        refine P.aload_n 0 (pc' := 29) dX9_mark_28 rfl rfl rfl ?_
        refine P.iconst (v := 1) (pc' := 30) dX9_mark_29 rfl (by decide) ?_
        refine P.iload_n 1 (pc' := 31) dX9_mark_30 rfl rfl rfl ?_
        refine P.iload_n 2 (pc' := 32) dX9_mark_31 rfl rfl rfl ?_
        refine P.iload_n 3 (pc' := 33) dX9_mark_32 rfl rfl rfl ?_
        obtain ⟨q10, h11, hf⟩ := ob hf
        refine P.callV (pc' := 36) (As := [.int 1, .int p1, .int p2, .int p3]) 4 (ok_X9_log F 1 p1 p2 p3 tw μ τ h11) (Nat.le_of_ble_eq_true rfl) (lw_V q2209 q2211 qs151 q172 q2212) rfl yok_X9_log rfl (Nat.le_of_ble_eq_true rfl) ci9 T_oc (by decide) rfl dX9_mark_33 rfl ?_
        refine P.goto (tgt := 40) dX9_mark_36 (by decide) ?_
        cases hf; exact P.iret rfl dX9_mark_40
abbrev mX9_annul : Ym := (RX9, cX9_annul, 2, (some Jvm.ClassFile.FieldType.int), false, [])
noncomputable def t_X9_annul (F : Nat) (p1 : Int32) (τ : Tw) : Option (Int32 × Tw) :=
  Option.bind (taI τ 7 1260 2) fun x1 =>
  Option.bind (p_X9_isIn F p1 0 (x1 - 1)) fun q3 =>
  if q3 = 0 then
    some ((-1), τ)
  else
    Option.bind (taI τ 7 1260 (180 + (4 * p1))) fun x6 =>
    if x6 = 2 then
      some ((-1), τ)
    else
      Option.bind (t_X9_log F 2 p1 0 0 τ) fun q9 =>
      some (q9.1, q9.2)
set_option maxHeartbeats 4000000 in
theorem ok_X9_annul {g : Gx} (F : Nat) (p1 : Int32) (tw : Nat) (μ : Sw) (τ : Tw) {rv : Int32} {τF : Tw} (hf : t_X9_annul F p1 τ = some (rv, τF)) : Cl g 2 yX9_annul cX9_annul 2 (some Jvm.ClassFile.FieldType.int) [.ref tw, .int p1] (mT tw τ μ) (some (.int rv)) (mT tw τF μ) := by
  unfold t_X9_annul at hf
  refine Cl.of (own := RX9) (ini := false) (by decide +kernel) rfl (by decide) (Nat.le_of_ble_eq_true rfl) ?_
  show PW g mX9_annul 2 (mT tw τ μ) (mT tw τF μ) (QN g (some (.int rv)) (mT tw τ μ) (mT tw τF μ)) 0 [(0, .ref tw), (1, .int p1)] [] (mT tw τ μ)
  refine P.iload_n 1 (pc' := 1) dX9_annul_0 rfl rfl rfl ?_
  refine P.iconst (v := 0) (pc' := 2) dX9_annul_1 rfl (by decide) ?_
  refine P.aload_n 0 (pc' := 3) dX9_annul_2 rfl rfl rfl ?_
  refine P.get (v := .ref (tw + 7)) (pc' := 6) ci9 13 (by decide) (T_gf rfl) q1568 (Or.inl rfl) dX9_annul_3 rfl ?_
  refine P.iconst (v := 2) (pc' := 7) dX9_annul_6 rfl (by decide) ?_
  obtain ⟨x1, h2, hf⟩ := ob hf
  refine P.iald (t := 0) (pc' := 8) rfl (T_aI rfl h2) dX9_annul_7 rfl ?_
  refine P.iconst (v := 1) (pc' := 9) dX9_annul_8 rfl (by decide) ?_
  refine P.isub (pc' := 10) dX9_annul_9 rfl ?_
  obtain ⟨q3, h4, hf⟩ := ob hf
  refine P.callS (pc' := 13) (As := [.int p1, .int 0, .int (x1 - 1)]) 3 (ok_X9_isIn F p1 0 (x1 - 1) (mT tw τ μ) h4) (Nat.le_of_ble_eq_true rfl) (lw_S q1971 q1972 q172 q1973) yok_X9_isIn rfl (Nat.le_of_ble_eq_true rfl) (by decide) rfl dX9_annul_10 rfl ?_
  refine P.if_eq (tgt := 43) (pc' := 16) dX9_annul_13 (by decide) rfl (fun y5 => ?_) (fun y5 => ?_)
  · have hf := (if_pos y5).symm.trans hf
    refine P.iconst (v := (-1)) (pc' := 44) dX9_annul_43 rfl (by decide) ?_
    cases hf; exact P.iret rfl dX9_annul_44
  · have hf := (if_neg y5).symm.trans hf
    refine P.aload_n 0 (pc' := 17) dX9_annul_16 rfl rfl rfl ?_
    refine P.get (v := .ref (tw + 7)) (pc' := 20) ci9 13 (by decide) (T_gf rfl) q1568 (Or.inl rfl) dX9_annul_17 rfl ?_
    refine P.sipush (v := 180) (pc' := 23) dX9_annul_20 rfl (by decide) ?_
    refine P.iconst (v := 4) (pc' := 24) dX9_annul_23 rfl (by decide) ?_
    refine P.iload_n 1 (pc' := 25) dX9_annul_24 rfl rfl rfl ?_
    refine P.imul (pc' := 26) dX9_annul_25 rfl ?_
    refine P.iadd (pc' := 27) dX9_annul_26 rfl ?_
    obtain ⟨x6, h7, hf⟩ := ob hf
    refine P.iald (t := 0) (pc' := 28) rfl (T_aI rfl h7) dX9_annul_27 rfl ?_
    refine P.iconst (v := 2) (pc' := 29) dX9_annul_28 rfl (by decide) ?_
    refine P.icmp_eq (tgt := 43) (pc' := 32) dX9_annul_29 (by decide) rfl (fun y8 => ?_) (fun y8 => ?_)
    · have hf := (if_pos y8).symm.trans hf
      refine P.iconst (v := (-1)) (pc' := 44) dX9_annul_43 rfl (by decide) ?_
      cases hf; exact P.iret rfl dX9_annul_44
    · have hf := (if_neg y8).symm.trans hf
      refine P.aload_n 0 (pc' := 33) dX9_annul_32 rfl rfl rfl ?_
      refine P.iconst (v := 2) (pc' := 34) dX9_annul_33 rfl (by decide) ?_
      refine P.iload_n 1 (pc' := 35) dX9_annul_34 rfl rfl rfl ?_
      refine P.iconst (v := 0) (pc' := 36) dX9_annul_35 rfl (by decide) ?_
      refine P.iconst (v := 0) (pc' := 37) dX9_annul_36 rfl (by decide) ?_
      obtain ⟨q9, h10, hf⟩ := ob hf
      refine P.callV (pc' := 40) (As := [.int 2, .int p1, .int 0, .int 0]) 4 (ok_X9_log F 2 p1 0 0 tw μ τ h10) (Nat.le_of_ble_eq_true rfl) (lw_V q2209 q2211 qs151 q172 q2212) rfl yok_X9_log rfl (Nat.le_of_ble_eq_true rfl) ci9 T_oc (by decide) rfl dX9_annul_37 rfl ?_
      refine P.goto (tgt := 44) dX9_annul_40 (by decide) ?_
      cases hf; exact P.iret rfl dX9_annul_44
abbrev mX9_isKnown : Ym := (RX9, cX9_isKnown, 2, (some Jvm.ClassFile.FieldType.boolean), false, [])
noncomputable def t_X9_isKnown (F : Nat) (p1 : Int32) (τ : Tw) : Option Int32 :=
  if p1 < 0 then
    some 0
  else
    Option.bind (taI τ 7 1260 2) fun x2 =>
    if x2 < p1 then
      some 0
    else
      some 1
set_option maxHeartbeats 4000000 in
theorem ok_X9_isKnown {g : Gx} (F : Nat) (p1 : Int32) (tw : Nat) (μ : Sw) (τ : Tw) {rv : Int32} (hf : t_X9_isKnown F p1 τ = some rv) : Cl g 1 yX9_isKnown cX9_isKnown 2 (some Jvm.ClassFile.FieldType.boolean) [.ref tw, .int p1] (mT tw τ μ) (some (.int rv)) (mT tw τ μ) := by
  unfold t_X9_isKnown at hf
  refine Cl.of (own := RX9) (ini := false) (by decide +kernel) rfl (by decide) (Nat.le_of_ble_eq_true rfl) ?_
  show PW g mX9_isKnown 1 (mT tw τ μ) (mT tw τ μ) (QN g (some (.int rv)) (mT tw τ μ) (mT tw τ μ)) 0 [(0, .ref tw), (1, .int p1)] [] (mT tw τ μ)
  refine P.iload_n 1 (pc' := 1) dX9_isKnown_0 rfl rfl rfl ?_
  refine P.if_lt (tgt := 18) (pc' := 4) dX9_isKnown_1 (by decide) rfl (fun y1 => ?_) (fun y1 => ?_)
  · have hf := (if_pos y1).symm.trans hf
    refine P.iconst (v := 0) (pc' := 19) dX9_isKnown_18 rfl (by decide) ?_
    cases hf; exact P.zret rfl (Or.inl rfl) dX9_isKnown_19
  · have hf := (if_neg y1).symm.trans hf
    refine P.iload_n 1 (pc' := 5) dX9_isKnown_4 rfl rfl rfl ?_
    refine P.aload_n 0 (pc' := 6) dX9_isKnown_5 rfl rfl rfl ?_
    refine P.get (v := .ref (tw + 7)) (pc' := 9) ci9 13 (by decide) (T_gf rfl) q1568 (Or.inl rfl) dX9_isKnown_6 rfl ?_
    refine P.iconst (v := 2) (pc' := 10) dX9_isKnown_9 rfl (by decide) ?_
    obtain ⟨x2, h3, hf⟩ := ob hf
    refine P.iald (t := 0) (pc' := 11) rfl (T_aI rfl h3) dX9_isKnown_10 rfl ?_
    refine P.icmp_gt (tgt := 18) (pc' := 14) dX9_isKnown_11 (by decide) rfl (fun y4 => ?_) (fun y4 => ?_)
    · have hf := (if_pos y4).symm.trans hf
      refine P.iconst (v := 0) (pc' := 19) dX9_isKnown_18 rfl (by decide) ?_
      cases hf; exact P.zret rfl (Or.inl rfl) dX9_isKnown_19
    · have hf := (if_neg y4).symm.trans hf
      refine P.iconst (v := 1) (pc' := 15) dX9_isKnown_14 rfl (by decide) ?_
      refine P.goto (tgt := 19) dX9_isKnown_15 (by decide) ?_
      cases hf; exact P.zret rfl (Or.inr rfl) dX9_isKnown_19
abbrev mX9_isLive : Ym := (RX9, cX9_isLive, 4, (some Jvm.ClassFile.FieldType.boolean), false, [])
noncomputable def t_X9_isLive_L4_b (F : Nat) (c1 : Int32) (c2 : Int32) (τ : Tw) (self : Int32 → Option Int32) (v3 : Int32) : Option Int32 :=
  if c2 ≤ v3 then
    some 1
  else
    Option.bind (taI τ 7 1260 (180 + (4 * v3))) fun x2 =>
    if x2 = 2 then
      Option.bind (taI τ 7 1260 ((180 + (4 * v3)) + 1)) fun x7 =>
      if x7 = c1 then
        some 0
      else
        nm (v3 + 1) fun x10 =>
        self x10
    else
      nm (v3 + 1) fun x5 =>
      self x5
noncomputable def t_X9_isLive_L4 (F : Nat) (c1 : Int32) (c2 : Int32) (τ : Tw) (n : Nat) : Int32 → Option Int32 := Nat.rec (motive := fun _ => Int32 → Option Int32) (fun _ => none) (fun _ self => t_X9_isLive_L4_b F c1 c2 τ self) n
set_option maxHeartbeats 4000000 in
theorem ok_t_X9_isLive_L4 {g : Gx} {μ0 : Sw} {rv : Int32} (F : Nat) (tw : Nat) (μ : Sw) (c1 : Int32) (c2 : Int32) (τ : Tw) : ∀ (n : Nat) (v3 : Int32), t_X9_isLive_L4 F c1 c2 τ n v3 = some rv → PW g mX9_isLive 1 μ0 (mT tw τ μ) (QN g (some (.int rv)) μ0 (mT tw τ μ)) 4 [(0, .ref tw), (1, .int c1), (2, .int c2), (3, .int v3)] [] (mT tw τ μ) := by
  intro n
  induction n with
  | zero =>
    intro v3 hf
    have hf : (none : Option Int32) = some _ := hf
    cases hf
  | succ n ih =>
    intro v3 hf
    have hf : t_X9_isLive_L4_b F c1 c2 τ (t_X9_isLive_L4 F c1 c2 τ n) v3 = some rv := hf
    unfold t_X9_isLive_L4_b at hf
    refine P.iload_n 3 (pc' := 5) dX9_isLive_4 rfl rfl rfl ?_
    refine P.iload_n 2 (pc' := 6) dX9_isLive_5 rfl rfl rfl ?_
    refine P.icmp_ge (tgt := 51) (pc' := 9) dX9_isLive_6 (by decide) rfl (fun y1 => ?_) (fun y1 => ?_)
    · have hf := (if_pos y1).symm.trans hf
      refine P.iconst (v := 1) (pc' := 52) dX9_isLive_51 rfl (by decide) ?_
      cases hf; exact P.zret rfl (Or.inr rfl) dX9_isLive_52
    · have hf := (if_neg y1).symm.trans hf
      refine P.aload_n 0 (pc' := 10) dX9_isLive_9 rfl rfl rfl ?_
      refine P.get (v := .ref (tw + 7)) (pc' := 13) ci9 13 (by decide) (T_gf rfl) q1568 (Or.inl rfl) dX9_isLive_10 rfl ?_
      refine P.sipush (v := 180) (pc' := 16) dX9_isLive_13 rfl (by decide) ?_
      refine P.iconst (v := 4) (pc' := 17) dX9_isLive_16 rfl (by decide) ?_
      refine P.iload_n 3 (pc' := 18) dX9_isLive_17 rfl rfl rfl ?_
      refine P.imul (pc' := 19) dX9_isLive_18 rfl ?_
      refine P.iadd (pc' := 20) dX9_isLive_19 rfl ?_
      obtain ⟨x2, h3, hf⟩ := ob hf
      refine P.iald (t := 0) (pc' := 21) rfl (T_aI rfl h3) dX9_isLive_20 rfl ?_
      refine P.iconst (v := 2) (pc' := 22) dX9_isLive_21 rfl (by decide) ?_
      refine P.icmp_ne (tgt := 45) (pc' := 25) dX9_isLive_22 (by decide) rfl (fun y4 => ?_) (fun y4 => ?_)
      · have hf := (if_neg y4).symm.trans hf
        obtain ⟨x5, e6, hf⟩ := nm_i hf
        refine P.iinc 3 (pc' := 48) (lv' := [(3, .int x5), (0, .ref tw), (1, .int c1), (2, .int c2)]) dX9_isLive_45 rfl rfl (by decide) e6 (Nat.le_of_ble_eq_true rfl) rfl ?_
        refine P.goto (tgt := 4) dX9_isLive_48 (by decide) ?_
        exact PW.sub [1, 2, 3, 0] rfl (ih _ hf)
      · have hf := (if_pos y4).symm.trans hf
        refine P.aload_n 0 (pc' := 26) dX9_isLive_25 rfl rfl rfl ?_
        refine P.get (v := .ref (tw + 7)) (pc' := 29) ci9 13 (by decide) (T_gf rfl) q1568 (Or.inl rfl) dX9_isLive_26 rfl ?_
        refine P.sipush (v := 180) (pc' := 32) dX9_isLive_29 rfl (by decide) ?_
        refine P.iconst (v := 4) (pc' := 33) dX9_isLive_32 rfl (by decide) ?_
        refine P.iload_n 3 (pc' := 34) dX9_isLive_33 rfl rfl rfl ?_
        refine P.imul (pc' := 35) dX9_isLive_34 rfl ?_
        refine P.iadd (pc' := 36) dX9_isLive_35 rfl ?_
        refine P.iconst (v := 1) (pc' := 37) dX9_isLive_36 rfl (by decide) ?_
        refine P.iadd (pc' := 38) dX9_isLive_37 rfl ?_
        obtain ⟨x7, h8, hf⟩ := ob hf
        refine P.iald (t := 0) (pc' := 39) rfl (T_aI rfl h8) dX9_isLive_38 rfl ?_
        refine P.iload_n 1 (pc' := 40) dX9_isLive_39 rfl rfl rfl ?_
        refine P.icmp_ne (tgt := 45) (pc' := 43) dX9_isLive_40 (by decide) rfl (fun y9 => ?_) (fun y9 => ?_)
        · have hf := (if_neg y9).symm.trans hf
          obtain ⟨x10, e11, hf⟩ := nm_i hf
          refine P.iinc 3 (pc' := 48) (lv' := [(3, .int x10), (0, .ref tw), (1, .int c1), (2, .int c2)]) dX9_isLive_45 rfl rfl (by decide) e11 (Nat.le_of_ble_eq_true rfl) rfl ?_
          refine P.goto (tgt := 4) dX9_isLive_48 (by decide) ?_
          exact PW.sub [1, 2, 3, 0] rfl (ih _ hf)
        · have hf := (if_pos y9).symm.trans hf
          refine P.iconst (v := 0) (pc' := 44) dX9_isLive_43 rfl (by decide) ?_
          cases hf; exact P.zret rfl (Or.inl rfl) dX9_isLive_44
noncomputable def t_X9_isLive (F : Nat) (p1 : Int32) (p2 : Int32) (τ : Tw) : Option Int32 :=
  nm (p1 + 1) fun x1 =>
  t_X9_isLive_L4 F p1 p2 τ F x1
set_option maxHeartbeats 4000000 in
theorem ok_X9_isLive {g : Gx} (F : Nat) (p1 : Int32) (p2 : Int32) (tw : Nat) (μ : Sw) (τ : Tw) {rv : Int32} (hf : t_X9_isLive F p1 p2 τ = some rv) : Cl g 1 yX9_isLive cX9_isLive 4 (some Jvm.ClassFile.FieldType.boolean) [.ref tw, .int p1, .int p2] (mT tw τ μ) (some (.int rv)) (mT tw τ μ) := by
  unfold t_X9_isLive at hf
  refine Cl.of (own := RX9) (ini := false) (by decide +kernel) rfl (by decide) (Nat.le_of_ble_eq_true rfl) ?_
  show PW g mX9_isLive 1 (mT tw τ μ) (mT tw τ μ) (QN g (some (.int rv)) (mT tw τ μ) (mT tw τ μ)) 0 [(0, .ref tw), (1, .int p1), (2, .int p2)] [] (mT tw τ μ)
  refine P.iload_n 1 (pc' := 1) dX9_isLive_0 rfl rfl rfl ?_
  refine P.iconst (v := 1) (pc' := 2) dX9_isLive_1 rfl (by decide) ?_
  refine P.iadd (pc' := 3) dX9_isLive_2 rfl ?_
  obtain ⟨x1, e2, hf⟩ := nm_i hf
  refine P.nmi e2 ?_
  refine P.istore_n (pc' := 4) (lv' := [(3, .int x1), (0, .ref tw), (1, .int p1), (2, .int p2)]) dX9_isLive_3 rfl rfl (Nat.le_of_ble_eq_true rfl) rfl ?_
  exact PW.sub [1, 2, 3, 0] rfl (ok_t_X9_isLive_L4 F tw μ p1 p2 τ F _ hf)
theorem yok_X9_isLive : yOK yX9_isLive 2 := ⟨by decide +kernel, by decide +kernel, by decide +kernel⟩
abbrev mX9_voteOf : Ym := (RX9, cX9_voteOf, 6, (some Jvm.ClassFile.FieldType.int), false, [])
noncomputable def t_X9_voteOf_L5_b (F : Nat) (c1 : Int32) (c2 : Int32) (c3 : Int32) (τ : Tw) (self : Int32 → Option Int32) (v4 : Int32) : Option Int32 :=
  if v4 < 0 then
    some (-1)
  else
    nm (180 + (4 * v4)) fun x2 =>
    Option.bind (taI τ 7 1260 x2) fun x4 =>
    if x4 = 0 then
      Option.bind (taI τ 7 1260 (x2 + 1)) fun x9 =>
      if x9 = c1 then
        Option.bind (taI τ 7 1260 (x2 + 2)) fun x14 =>
        if x14 = c2 then
          Option.bind (t_X9_isLive F v4 c3 τ) fun q19 =>
          if q19 = 0 then
            nm (v4 + (-1)) fun x22 =>
            self x22
          else
            Option.bind (taI τ 7 1260 (x2 + 3)) fun x24 =>
            some x24
        else
          nm (v4 + (-1)) fun x17 =>
          self x17
      else
        nm (v4 + (-1)) fun x12 =>
        self x12
    else
      nm (v4 + (-1)) fun x7 =>
      self x7
noncomputable def t_X9_voteOf_L5 (F : Nat) (c1 : Int32) (c2 : Int32) (c3 : Int32) (τ : Tw) (n : Nat) : Int32 → Option Int32 := Nat.rec (motive := fun _ => Int32 → Option Int32) (fun _ => none) (fun _ self => t_X9_voteOf_L5_b F c1 c2 c3 τ self) n
set_option maxHeartbeats 4000000 in
theorem ok_t_X9_voteOf_L5 {g : Gx} {μ0 : Sw} {rv : Int32} (F : Nat) (tw : Nat) (μ : Sw) (c1 : Int32) (c2 : Int32) (c3 : Int32) (τ : Tw) : ∀ (n : Nat) (v4 : Int32), t_X9_voteOf_L5 F c1 c2 c3 τ n v4 = some rv → PW g mX9_voteOf 2 μ0 (mT tw τ μ) (QN g (some (.int rv)) μ0 (mT tw τ μ)) 5 [(0, .ref tw), (1, .int c1), (2, .int c2), (3, .int c3), (4, .int v4)] [] (mT tw τ μ) := by
  intro n
  induction n with
  | zero =>
    intro v4 hf
    have hf : (none : Option Int32) = some _ := hf
    cases hf
  | succ n ih =>
    intro v4 hf
    have hf : t_X9_voteOf_L5_b F c1 c2 c3 τ (t_X9_voteOf_L5 F c1 c2 c3 τ n) v4 = some rv := hf
    unfold t_X9_voteOf_L5_b at hf
    refine P.iload 4 (pc' := 7) dX9_voteOf_5 rfl rfl ?_
    refine P.if_lt (tgt := 82) (pc' := 10) dX9_voteOf_7 (by decide) rfl (fun y1 => ?_) (fun y1 => ?_)
    · have hf := (if_pos y1).symm.trans hf
      refine P.iconst (v := (-1)) (pc' := 83) dX9_voteOf_82 rfl (by decide) ?_
      cases hf; exact P.iret rfl dX9_voteOf_83
    · have hf := (if_neg y1).symm.trans hf
      refine P.sipush (v := 180) (pc' := 13) dX9_voteOf_10 rfl (by decide) ?_
      refine P.iconst (v := 4) (pc' := 14) dX9_voteOf_13 rfl (by decide) ?_
      refine P.iload 4 (pc' := 16) dX9_voteOf_14 rfl rfl ?_
      refine P.imul (pc' := 17) dX9_voteOf_16 rfl ?_
      refine P.iadd (pc' := 18) dX9_voteOf_17 rfl ?_
      obtain ⟨x2, e3, hf⟩ := nm_i hf
      refine P.nmi e3 ?_
      refine P.istore (pc' := 20) (lv' := [(5, .int x2), (0, .ref tw), (1, .int c1), (2, .int c2), (3, .int c3), (4, .int v4)]) dX9_voteOf_18 rfl (Nat.le_of_ble_eq_true rfl) rfl ?_
      refine P.aload_n 1 (pc' := 21) dX9_voteOf_20 rfl rfl rfl ?_
      refine P.get (v := .ref (tw + 7)) (pc' := 24) ci9 13 (by decide) (T_gf rfl) q1568 (Or.inl rfl) dX9_voteOf_21 rfl ?_
      refine P.iload 0 (pc' := 26) dX9_voteOf_24 rfl rfl ?_
      obtain ⟨x4, h5, hf⟩ := ob hf
      refine P.iald (t := 0) (pc' := 27) rfl (T_aI rfl h5) dX9_voteOf_26 rfl ?_
      refine P.if_ne (tgt := 76) (pc' := 30) dX9_voteOf_27 (by decide) rfl (fun y6 => ?_) (fun y6 => ?_)
      · have hf := (if_neg y6).symm.trans hf
        obtain ⟨x7, e8, hf⟩ := nm_i hf
        refine P.iinc 5 (pc' := 79) (lv' := [(4, .int x7), (5, .int x2), (0, .ref tw), (1, .int c1), (2, .int c2), (3, .int c3)]) dX9_voteOf_76 rfl rfl (by decide) e8 (Nat.le_of_ble_eq_true rfl) rfl ?_
        refine P.goto (tgt := 5) dX9_voteOf_79 (by decide) ?_
        exact PW.sub [2, 3, 4, 5, 0] rfl (ih _ hf)
      · have hf := (if_pos y6).symm.trans hf
        refine P.aload_n 1 (pc' := 31) dX9_voteOf_30 rfl rfl rfl ?_
        refine P.get (v := .ref (tw + 7)) (pc' := 34) ci9 13 (by decide) (T_gf rfl) q1568 (Or.inl rfl) dX9_voteOf_31 rfl ?_
        refine P.iload 0 (pc' := 36) dX9_voteOf_34 rfl rfl ?_
        refine P.iconst (v := 1) (pc' := 37) dX9_voteOf_36 rfl (by decide) ?_
        refine P.iadd (pc' := 38) dX9_voteOf_37 rfl ?_
        obtain ⟨x9, h10, hf⟩ := ob hf
        refine P.iald (t := 0) (pc' := 39) rfl (T_aI rfl h10) dX9_voteOf_38 rfl ?_
        refine P.iload_n 2 (pc' := 40) dX9_voteOf_39 rfl rfl rfl ?_
        refine P.icmp_ne (tgt := 76) (pc' := 43) dX9_voteOf_40 (by decide) rfl (fun y11 => ?_) (fun y11 => ?_)
        · have hf := (if_neg y11).symm.trans hf
          obtain ⟨x12, e13, hf⟩ := nm_i hf
          refine P.iinc 5 (pc' := 79) (lv' := [(4, .int x12), (5, .int x2), (0, .ref tw), (1, .int c1), (2, .int c2), (3, .int c3)]) dX9_voteOf_76 rfl rfl (by decide) e13 (Nat.le_of_ble_eq_true rfl) rfl ?_
          refine P.goto (tgt := 5) dX9_voteOf_79 (by decide) ?_
          exact PW.sub [2, 3, 4, 5, 0] rfl (ih _ hf)
        · have hf := (if_pos y11).symm.trans hf
          refine P.aload_n 1 (pc' := 44) dX9_voteOf_43 rfl rfl rfl ?_
          refine P.get (v := .ref (tw + 7)) (pc' := 47) ci9 13 (by decide) (T_gf rfl) q1568 (Or.inl rfl) dX9_voteOf_44 rfl ?_
          refine P.iload 0 (pc' := 49) dX9_voteOf_47 rfl rfl ?_
          refine P.iconst (v := 2) (pc' := 50) dX9_voteOf_49 rfl (by decide) ?_
          refine P.iadd (pc' := 51) dX9_voteOf_50 rfl ?_
          obtain ⟨x14, h15, hf⟩ := ob hf
          refine P.iald (t := 0) (pc' := 52) rfl (T_aI rfl h15) dX9_voteOf_51 rfl ?_
          refine P.iload_n 3 (pc' := 53) dX9_voteOf_52 rfl rfl rfl ?_
          refine P.icmp_ne (tgt := 76) (pc' := 56) dX9_voteOf_53 (by decide) rfl (fun y16 => ?_) (fun y16 => ?_)
          · have hf := (if_neg y16).symm.trans hf
            obtain ⟨x17, e18, hf⟩ := nm_i hf
            refine P.iinc 5 (pc' := 79) (lv' := [(4, .int x17), (5, .int x2), (0, .ref tw), (1, .int c1), (2, .int c2), (3, .int c3)]) dX9_voteOf_76 rfl rfl (by decide) e18 (Nat.le_of_ble_eq_true rfl) rfl ?_
            refine P.goto (tgt := 5) dX9_voteOf_79 (by decide) ?_
            exact PW.sub [2, 3, 4, 5, 0] rfl (ih _ hf)
          · have hf := (if_pos y16).symm.trans hf
            refine P.aload_n 1 (pc' := 57) dX9_voteOf_56 rfl rfl rfl ?_
            refine P.iload 5 (pc' := 59) dX9_voteOf_57 rfl rfl ?_
            refine P.iload_n 4 (pc' := 60) dX9_voteOf_59 rfl rfl rfl ?_
            obtain ⟨q19, h20, hf⟩ := ob hf
            refine P.callV (pc' := 63) (As := [.int v4, .int c3]) 2 (ok_X9_isLive F v4 c3 tw μ τ h20) (Nat.le_of_ble_eq_true rfl) (lw_V q2237 q2239 qs155 q172 q2240) rfl yok_X9_isLive rfl (Nat.le_of_ble_eq_true rfl) ci9 T_oc (by decide) rfl dX9_voteOf_60 rfl ?_
            refine P.if_eq (tgt := 76) (pc' := 66) dX9_voteOf_63 (by decide) rfl (fun y21 => ?_) (fun y21 => ?_)
            · have hf := (if_pos y21).symm.trans hf
              obtain ⟨x22, e23, hf⟩ := nm_i hf
              refine P.iinc 5 (pc' := 79) (lv' := [(4, .int x22), (5, .int x2), (0, .ref tw), (1, .int c1), (2, .int c2), (3, .int c3)]) dX9_voteOf_76 rfl rfl (by decide) e23 (Nat.le_of_ble_eq_true rfl) rfl ?_
              refine P.goto (tgt := 5) dX9_voteOf_79 (by decide) ?_
              exact PW.sub [2, 3, 4, 5, 0] rfl (ih _ hf)
            · have hf := (if_neg y21).symm.trans hf
              refine P.aload_n 1 (pc' := 67) dX9_voteOf_66 rfl rfl rfl ?_
              refine P.get (v := .ref (tw + 7)) (pc' := 70) ci9 13 (by decide) (T_gf rfl) q1568 (Or.inl rfl) dX9_voteOf_67 rfl ?_
              refine P.iload 0 (pc' := 72) dX9_voteOf_70 rfl rfl ?_
              refine P.iconst (v := 3) (pc' := 73) dX9_voteOf_72 rfl (by decide) ?_
              refine P.iadd (pc' := 74) dX9_voteOf_73 rfl ?_
              obtain ⟨x24, h25, hf⟩ := ob hf
              refine P.iald (t := 0) (pc' := 75) rfl (T_aI rfl h25) dX9_voteOf_74 rfl ?_
              cases hf; exact P.iret rfl dX9_voteOf_75
noncomputable def t_X9_voteOf (F : Nat) (p1 : Int32) (p2 : Int32) (p3 : Int32) (τ : Tw) : Option Int32 :=
  nm (p3 - 1) fun x1 =>
  t_X9_voteOf_L5 F p1 p2 p3 τ F x1
set_option maxHeartbeats 4000000 in
theorem ok_X9_voteOf {g : Gx} (F : Nat) (p1 : Int32) (p2 : Int32) (p3 : Int32) (tw : Nat) (μ : Sw) (τ : Tw) {rv : Int32} (hf : t_X9_voteOf F p1 p2 p3 τ = some rv) : Cl g 2 yX9_voteOf cX9_voteOf 6 (some Jvm.ClassFile.FieldType.int) [.ref tw, .int p1, .int p2, .int p3] (mT tw τ μ) (some (.int rv)) (mT tw τ μ) := by
  unfold t_X9_voteOf at hf
  refine Cl.of (own := RX9) (ini := false) (by decide +kernel) rfl (by decide) (Nat.le_of_ble_eq_true rfl) ?_
  show PW g mX9_voteOf 2 (mT tw τ μ) (mT tw τ μ) (QN g (some (.int rv)) (mT tw τ μ) (mT tw τ μ)) 0 [(0, .ref tw), (1, .int p1), (2, .int p2), (3, .int p3)] [] (mT tw τ μ)
  refine P.iload_n 3 (pc' := 1) dX9_voteOf_0 rfl rfl rfl ?_
  refine P.iconst (v := 1) (pc' := 2) dX9_voteOf_1 rfl (by decide) ?_
  refine P.isub (pc' := 3) dX9_voteOf_2 rfl ?_
  obtain ⟨x1, e2, hf⟩ := nm_i hf
  refine P.nmi e2 ?_
  refine P.istore (pc' := 5) (lv' := [(4, .int x1), (0, .ref tw), (1, .int p1), (2, .int p2), (3, .int p3)]) dX9_voteOf_3 rfl (Nat.le_of_ble_eq_true rfl) rfl ?_
  exact PW.sub [1, 2, 3, 4, 0] rfl (ok_t_X9_voteOf_L5 F tw μ p1 p2 p3 τ F _ hf)
theorem yok_X9_voteOf : yOK yX9_voteOf 3 := ⟨by decide +kernel, by decide +kernel, by decide +kernel⟩
abbrev mX9_votesOf : Ym := (RX9, cX9_votesOf, 6, (some Jvm.ClassFile.FieldType.int), false, [])
noncomputable def t_X9_votesOf_L6_b (F : Nat) (c1 : Int32) (c2 : Int32) (c3 : Int32) (τ : Tw) (self : Int32 → Int32 → Option Int32) (v4 : Int32) (v5 : Int32) : Option Int32 :=
  Option.bind (taI τ 6 420 0) fun x1 =>
  if x1 ≤ v5 then
    some v4
  else
    Option.bind (t_X9_voteOf F v5 c1 c3 τ) fun q4 =>
    if q4 = c2 then
      nm (v4 + 1) fun x11 =>
      nm (v5 + 1) fun x13 =>
      self x11 x13
    else
      nm (v4 + 0) fun x7 =>
      nm (v5 + 1) fun x9 =>
      self x7 x9
noncomputable def t_X9_votesOf_L6 (F : Nat) (c1 : Int32) (c2 : Int32) (c3 : Int32) (τ : Tw) (n : Nat) : Int32 → Int32 → Option Int32 := Nat.rec (motive := fun _ => Int32 → Int32 → Option Int32) (fun _ _ => none) (fun _ self => t_X9_votesOf_L6_b F c1 c2 c3 τ self) n
set_option maxHeartbeats 4000000 in
theorem ok_t_X9_votesOf_L6 {g : Gx} {μ0 : Sw} {rv : Int32} (F : Nat) (tw : Nat) (μ : Sw) (c1 : Int32) (c2 : Int32) (c3 : Int32) (τ : Tw) : ∀ (n : Nat) (v4 : Int32) (v5 : Int32), t_X9_votesOf_L6 F c1 c2 c3 τ n v4 v5 = some rv → PW g mX9_votesOf 3 μ0 (mT tw τ μ) (QN g (some (.int rv)) μ0 (mT tw τ μ)) 6 [(0, .ref tw), (1, .int c1), (2, .int c2), (3, .int c3), (4, .int v4), (5, .int v5)] [] (mT tw τ μ) := by
  intro n
  induction n with
  | zero =>
    intro v4 v5 hf
    have hf : (none : Option Int32) = some _ := hf
    cases hf
  | succ n ih =>
    intro v4 v5 hf
    have hf : t_X9_votesOf_L6_b F c1 c2 c3 τ (t_X9_votesOf_L6 F c1 c2 c3 τ n) v4 v5 = some rv := hf
    unfold t_X9_votesOf_L6_b at hf
    refine P.iload 5 (pc' := 8) dX9_votesOf_6 rfl rfl ?_
    refine P.aload_n 0 (pc' := 9) dX9_votesOf_8 rfl rfl rfl ?_
    refine P.get (v := .ref (tw + 6)) (pc' := 12) ci9 12 (by decide) (T_gf rfl) q1567 (Or.inl rfl) dX9_votesOf_9 rfl ?_
    refine P.iconst (v := 0) (pc' := 13) dX9_votesOf_12 rfl (by decide) ?_
    obtain ⟨x1, h2, hf⟩ := ob hf
    refine P.iald (t := 0) (pc' := 14) rfl (T_aI rfl h2) dX9_votesOf_13 rfl ?_
    refine P.icmp_ge (tgt := 45) (pc' := 17) dX9_votesOf_14 (by decide) rfl (fun y3 => ?_) (fun y3 => ?_)
    · have hf := (if_pos y3).symm.trans hf
      refine P.iload 4 (pc' := 47) dX9_votesOf_45 rfl rfl ?_
      cases hf; exact P.iret rfl dX9_votesOf_47
    · have hf := (if_neg y3).symm.trans hf
      refine P.iload 4 (pc' := 19) dX9_votesOf_17 rfl rfl ?_
      refine P.aload_n 0 (pc' := 20) dX9_votesOf_19 rfl rfl rfl ?_
      refine P.iload 5 (pc' := 22) dX9_votesOf_20 rfl rfl ?_
      refine P.iload_n 1 (pc' := 23) dX9_votesOf_22 rfl rfl rfl ?_
      refine P.iload_n 3 (pc' := 24) dX9_votesOf_23 rfl rfl rfl ?_
      obtain ⟨q4, h5, hf⟩ := ob hf
      refine P.callV (pc' := 27) (As := [.int v5, .int c1, .int c3]) 3 (ok_X9_voteOf F v5 c1 c3 tw μ τ h5) (Nat.le_of_ble_eq_true rfl) (lw_V q2233 q2235 qs154 q172 q2236) rfl yok_X9_voteOf rfl (Nat.le_of_ble_eq_true rfl) ci9 T_oc (Nat.le_of_ble_eq_true rfl) rfl dX9_votesOf_24 rfl ?_
      refine P.iload_n 2 (pc' := 28) dX9_votesOf_27 rfl rfl rfl ?_
      refine P.icmp_ne (tgt := 35) (pc' := 31) dX9_votesOf_28 (by decide) rfl (fun y6 => ?_) (fun y6 => ?_)
      · have hf := (if_neg y6).symm.trans hf
        refine P.iconst (v := 0) (pc' := 36) dX9_votesOf_35 rfl (by decide) ?_
        refine P.iadd (pc' := 37) dX9_votesOf_36 rfl ?_
        obtain ⟨x7, e8, hf⟩ := nm_i hf
        refine P.nmi e8 ?_
        refine P.istore (pc' := 39) (lv' := [(4, .int x7), (0, .ref tw), (1, .int c1), (2, .int c2), (3, .int c3), (5, .int v5)]) dX9_votesOf_37 rfl (Nat.le_of_ble_eq_true rfl) rfl ?_
        obtain ⟨x9, e10, hf⟩ := nm_i hf
        refine P.iinc 5 (pc' := 42) (lv' := [(5, .int x9), (4, .int x7), (0, .ref tw), (1, .int c1), (2, .int c2), (3, .int c3)]) dX9_votesOf_39 rfl rfl (by decide) e10 (Nat.le_of_ble_eq_true rfl) rfl ?_
        refine P.goto (tgt := 6) dX9_votesOf_42 (by decide) ?_
        exact PW.sub [2, 3, 4, 5, 1, 0] rfl (ih _ _ hf)
      · have hf := (if_pos y6).symm.trans hf
        refine P.iconst (v := 1) (pc' := 32) dX9_votesOf_31 rfl (by decide) ?_
        refine P.goto (tgt := 36) dX9_votesOf_32 (by decide) ?_
        refine P.iadd (pc' := 37) dX9_votesOf_36 rfl ?_
        obtain ⟨x11, e12, hf⟩ := nm_i hf
        refine P.nmi e12 ?_
        refine P.istore (pc' := 39) (lv' := [(4, .int x11), (0, .ref tw), (1, .int c1), (2, .int c2), (3, .int c3), (5, .int v5)]) dX9_votesOf_37 rfl (Nat.le_of_ble_eq_true rfl) rfl ?_
        obtain ⟨x13, e14, hf⟩ := nm_i hf
        refine P.iinc 5 (pc' := 42) (lv' := [(5, .int x13), (4, .int x11), (0, .ref tw), (1, .int c1), (2, .int c2), (3, .int c3)]) dX9_votesOf_39 rfl rfl (by decide) e14 (Nat.le_of_ble_eq_true rfl) rfl ?_
        refine P.goto (tgt := 6) dX9_votesOf_42 (by decide) ?_
        exact PW.sub [2, 3, 4, 5, 1, 0] rfl (ih _ _ hf)
noncomputable def t_X9_votesOf (F : Nat) (p1 : Int32) (p2 : Int32) (p3 : Int32) (τ : Tw) : Option Int32 :=
  t_X9_votesOf_L6 F p1 p2 p3 τ F 0 0
set_option maxHeartbeats 4000000 in
theorem ok_X9_votesOf {g : Gx} (F : Nat) (p1 : Int32) (p2 : Int32) (p3 : Int32) (tw : Nat) (μ : Sw) (τ : Tw) {rv : Int32} (hf : t_X9_votesOf F p1 p2 p3 τ = some rv) : Cl g 3 yX9_votesOf cX9_votesOf 6 (some Jvm.ClassFile.FieldType.int) [.ref tw, .int p1, .int p2, .int p3] (mT tw τ μ) (some (.int rv)) (mT tw τ μ) := by
  unfold t_X9_votesOf at hf
  refine Cl.of (own := RX9) (ini := false) (by decide +kernel) rfl (by decide) (Nat.le_of_ble_eq_true rfl) ?_
  show PW g mX9_votesOf 3 (mT tw τ μ) (mT tw τ μ) (QN g (some (.int rv)) (mT tw τ μ) (mT tw τ μ)) 0 [(0, .ref tw), (1, .int p1), (2, .int p2), (3, .int p3)] [] (mT tw τ μ)
  refine P.iconst (v := 0) (pc' := 1) dX9_votesOf_0 rfl (by decide) ?_
  refine P.istore (pc' := 3) (lv' := [(4, .int 0), (0, .ref tw), (1, .int p1), (2, .int p2), (3, .int p3)]) dX9_votesOf_1 rfl (Nat.le_of_ble_eq_true rfl) rfl ?_
  refine P.iconst (v := 0) (pc' := 4) dX9_votesOf_3 rfl (by decide) ?_
  refine P.istore (pc' := 6) (lv' := [(5, .int 0), (4, .int 0), (0, .ref tw), (1, .int p1), (2, .int p2), (3, .int p3)]) dX9_votesOf_4 rfl (Nat.le_of_ble_eq_true rfl) rfl ?_
  exact PW.sub [2, 3, 4, 5, 1, 0] rfl (ok_t_X9_votesOf_L6 F tw μ p1 p2 p3 τ F _ _ hf)
theorem yok_X9_isKnown : yOK yX9_isKnown 1 := ⟨by decide +kernel, by decide +kernel, by decide +kernel⟩
theorem yok_X9_votesOf : yOK yX9_votesOf 3 := ⟨by decide +kernel, by decide +kernel, by decide +kernel⟩
abbrev mX9_votes : Ym := (RX9, cX9_votes, 4, (some Jvm.ClassFile.FieldType.int), false, [])
noncomputable def t_X9_votes (F : Nat) (p1 : Int32) (p2 : Int32) (p3 : Int32) (τ : Tw) : Option Int32 :=
  Option.bind (t_X9_isOffice F p1 τ) fun q1 =>
  if q1 = 0 then
    some (-1)
  else
    Option.bind (t_X9_isHouse F p2 τ) fun q4 =>
    if q4 = 0 then
      some (-1)
    else
      Option.bind (t_X9_isKnown F p3 τ) fun q7 =>
      if q7 = 0 then
        some (-1)
      else
        Option.bind (t_X9_votesOf F p1 p2 p3 τ) fun q10 =>
        some q10
set_option maxHeartbeats 4000000 in
theorem ok_X9_votes {g : Gx} (F : Nat) (p1 : Int32) (p2 : Int32) (p3 : Int32) (tw : Nat) (μ : Sw) (τ : Tw) {rv : Int32} (hf : t_X9_votes F p1 p2 p3 τ = some rv) : Cl g 4 yX9_votes cX9_votes 4 (some Jvm.ClassFile.FieldType.int) [.ref tw, .int p1, .int p2, .int p3] (mT tw τ μ) (some (.int rv)) (mT tw τ μ) := by
  unfold t_X9_votes at hf
  refine Cl.of (own := RX9) (ini := false) (by decide +kernel) rfl (by decide) (Nat.le_of_ble_eq_true rfl) ?_
  show PW g mX9_votes 4 (mT tw τ μ) (mT tw τ μ) (QN g (some (.int rv)) (mT tw τ μ) (mT tw τ μ)) 0 [(0, .ref tw), (1, .int p1), (2, .int p2), (3, .int p3)] [] (mT tw τ μ)
  refine P.aload_n 0 (pc' := 1) dX9_votes_0 rfl rfl rfl ?_
  refine P.iload_n 1 (pc' := 2) dX9_votes_1 rfl rfl rfl ?_
  obtain ⟨q1, h2, hf⟩ := ob hf
  refine P.callV (pc' := 5) (As := [.int p1]) 1 (ok_X9_isOffice F p1 tw μ τ h2) (Nat.le_of_ble_eq_true rfl) (lw_V q1959 q1961 qs122 q172 q1962) rfl yok_X9_isOffice rfl (Nat.le_of_ble_eq_true rfl) ci9 T_oc (by decide) rfl dX9_votes_2 rfl ?_
  refine P.if_eq (tgt := 34) (pc' := 8) dX9_votes_5 (by decide) rfl (fun y3 => ?_) (fun y3 => ?_)
  · have hf := (if_pos y3).symm.trans hf
    refine P.iconst (v := (-1)) (pc' := 35) dX9_votes_34 rfl (by decide) ?_
    cases hf; exact P.iret rfl dX9_votes_35
  · have hf := (if_neg y3).symm.trans hf
    refine P.aload_n 0 (pc' := 9) dX9_votes_8 rfl rfl rfl ?_
    refine P.iload_n 2 (pc' := 10) dX9_votes_9 rfl rfl rfl ?_
    obtain ⟨q4, h5, hf⟩ := ob hf
    refine P.callV (pc' := 13) (As := [.int p2]) 1 (ok_X9_isHouse F p2 tw μ τ h5) (Nat.le_of_ble_eq_true rfl) (lw_V q1920 q1922 qs114 q172 q1923) rfl yok_X9_isHouse rfl (Nat.le_of_ble_eq_true rfl) ci9 T_oc (by decide) rfl dX9_votes_10 rfl ?_
    refine P.if_eq (tgt := 34) (pc' := 16) dX9_votes_13 (by decide) rfl (fun y6 => ?_) (fun y6 => ?_)
    · have hf := (if_pos y6).symm.trans hf
      refine P.iconst (v := (-1)) (pc' := 35) dX9_votes_34 rfl (by decide) ?_
      cases hf; exact P.iret rfl dX9_votes_35
    · have hf := (if_neg y6).symm.trans hf
      refine P.aload_n 0 (pc' := 17) dX9_votes_16 rfl rfl rfl ?_
      refine P.iload_n 3 (pc' := 18) dX9_votes_17 rfl rfl rfl ?_
      obtain ⟨q7, h8, hf⟩ := ob hf
      refine P.callV (pc' := 21) (As := [.int p3]) 1 (ok_X9_isKnown F p3 tw μ τ h8) (Nat.le_of_ble_eq_true rfl) (lw_V q2225 q2227 qs152 q172 q2228) rfl yok_X9_isKnown rfl (Nat.le_of_ble_eq_true rfl) ci9 T_oc (by decide) rfl dX9_votes_18 rfl ?_
      refine P.if_eq (tgt := 34) (pc' := 24) dX9_votes_21 (by decide) rfl (fun y9 => ?_) (fun y9 => ?_)
      · have hf := (if_pos y9).symm.trans hf
        refine P.iconst (v := (-1)) (pc' := 35) dX9_votes_34 rfl (by decide) ?_
        cases hf; exact P.iret rfl dX9_votes_35
      · have hf := (if_neg y9).symm.trans hf
        refine P.aload_n 0 (pc' := 25) dX9_votes_24 rfl rfl rfl ?_
        refine P.iload_n 1 (pc' := 26) dX9_votes_25 rfl rfl rfl ?_
        refine P.iload_n 2 (pc' := 27) dX9_votes_26 rfl rfl rfl ?_
        refine P.iload_n 3 (pc' := 28) dX9_votes_27 rfl rfl rfl ?_
        obtain ⟨q10, h11, hf⟩ := ob hf
        refine P.callV (pc' := 31) (As := [.int p1, .int p2, .int p3]) 3 (ok_X9_votesOf F p1 p2 p3 tw μ τ h11) (Nat.le_of_ble_eq_true rfl) (lw_V q2229 q2231 qs153 q172 q2232) rfl yok_X9_votesOf rfl (Nat.le_of_ble_eq_true rfl) ci9 T_oc (by decide) rfl dX9_votes_28 rfl ?_
        refine P.goto (tgt := 35) dX9_votes_31 (by decide) ?_
        cases hf; exact P.iret rfl dX9_votes_35
abbrev mX9_winner : Ym := (RX9, cX9_winner, 7, (some Jvm.ClassFile.FieldType.int), false, [])
noncomputable def t_X9_winner_L27_b (F : Nat) (c1 : Int32) (c2 : Int32) (τ : Tw) (self : Int32 → Int32 → Int32 → Option Int32) (v3 : Int32) (v4 : Int32) (v5 : Int32) : Option Int32 :=
  Option.bind (taI τ 6 420 0) fun x1 =>
  if x1 ≤ v5 then
    some v3
  else
    Option.bind (t_X9_votesOf F c1 v5 c2 τ) fun q4 =>
    if q4 < v4 then
      nm (v5 + 1) fun x7 =>
      self v3 v4 x7
    else
      if q4 = 0 then
        nm (v5 + 1) fun x10 =>
        self v3 v4 x10
      else
        if q4 = v4 then
          if v3 < 0 then
            nm (v5 + 1) fun x16 =>
            self v5 q4 x16
          else
            Option.bind (t_X9_heightOf F v5 τ) fun q18 =>
            Option.bind (t_X9_heightOf F v3 τ) fun q20 =>
            if q20 < q18 then
              nm (v5 + 1) fun x23 =>
              self v5 q4 x23
            else
              nm (v5 + 1) fun x25 =>
              self v3 v4 x25
        else
          nm (v5 + 1) fun x13 =>
          self v5 q4 x13
noncomputable def t_X9_winner_L27 (F : Nat) (c1 : Int32) (c2 : Int32) (τ : Tw) (n : Nat) : Int32 → Int32 → Int32 → Option Int32 := Nat.rec (motive := fun _ => Int32 → Int32 → Int32 → Option Int32) (fun _ _ _ => none) (fun _ self => t_X9_winner_L27_b F c1 c2 τ self) n
set_option maxHeartbeats 4000000 in
theorem ok_t_X9_winner_L27 {g : Gx} {μ0 : Sw} {rv : Int32} (F : Nat) (tw : Nat) (μ : Sw) (c1 : Int32) (c2 : Int32) (τ : Tw) : ∀ (n : Nat) (v3 : Int32) (v4 : Int32) (v5 : Int32), t_X9_winner_L27 F c1 c2 τ n v3 v4 v5 = some rv → PW g mX9_winner 4 μ0 (mT tw τ μ) (QN g (some (.int rv)) μ0 (mT tw τ μ)) 27 [(0, .ref tw), (1, .int c1), (2, .int c2), (3, .int v3), (4, .int v4), (5, .int v5)] [] (mT tw τ μ) := by
  intro n
  induction n with
  | zero =>
    intro v3 v4 v5 hf
    have hf : (none : Option Int32) = some _ := hf
    cases hf
  | succ n ih =>
    intro v3 v4 v5 hf
    have hf : t_X9_winner_L27_b F c1 c2 τ (t_X9_winner_L27 F c1 c2 τ n) v3 v4 v5 = some rv := hf
    unfold t_X9_winner_L27_b at hf
    refine P.iload 5 (pc' := 29) dX9_winner_27 rfl rfl ?_
    refine P.aload_n 0 (pc' := 30) dX9_winner_29 rfl rfl rfl ?_
    refine P.get (v := .ref (tw + 6)) (pc' := 33) ci9 12 (by decide) (T_gf rfl) q1567 (Or.inl rfl) dX9_winner_30 rfl ?_
    refine P.iconst (v := 0) (pc' := 34) dX9_winner_33 rfl (by decide) ?_
    obtain ⟨x1, h2, hf⟩ := ob hf
    refine P.iald (t := 0) (pc' := 35) rfl (T_aI rfl h2) dX9_winner_34 rfl ?_
    refine P.icmp_ge (tgt := 101) (pc' := 38) dX9_winner_35 (by decide) rfl (fun y3 => ?_) (fun y3 => ?_)
    · have hf := (if_pos y3).symm.trans hf
      refine P.iload_n 3 (pc' := 102) dX9_winner_101 rfl rfl rfl ?_
      cases hf; exact P.iret rfl dX9_winner_102
    · have hf := (if_neg y3).symm.trans hf
      refine P.aload_n 0 (pc' := 39) dX9_winner_38 rfl rfl rfl ?_
      refine P.iload_n 1 (pc' := 40) dX9_winner_39 rfl rfl rfl ?_
      refine P.iload 5 (pc' := 42) dX9_winner_40 rfl rfl ?_
      refine P.iload_n 2 (pc' := 43) dX9_winner_42 rfl rfl rfl ?_
      obtain ⟨q4, h5, hf⟩ := ob hf
      refine P.callV (pc' := 46) (As := [.int c1, .int v5, .int c2]) 3 (ok_X9_votesOf F c1 v5 c2 tw μ τ h5) (Nat.le_of_ble_eq_true rfl) (lw_V q2229 q2231 qs153 q172 q2232) rfl yok_X9_votesOf rfl (Nat.le_of_ble_eq_true rfl) ci9 T_oc (by decide) rfl dX9_winner_43 rfl ?_
      refine P.istore (pc' := 48) (lv' := [(6, .int q4), (0, .ref tw), (1, .int c1), (2, .int c2), (3, .int v3), (4, .int v4), (5, .int v5)]) dX9_winner_46 rfl (Nat.le_of_ble_eq_true rfl) rfl ?_
      refine P.iload 0 (pc' := 50) dX9_winner_48 rfl rfl ?_
      refine P.iload 5 (pc' := 52) dX9_winner_50 rfl rfl ?_
      refine P.icmp_lt (tgt := 95) (pc' := 55) dX9_winner_52 (by decide) rfl (fun y6 => ?_) (fun y6 => ?_)
      · have hf := (if_pos y6).symm.trans hf
        obtain ⟨x7, e8, hf⟩ := nm_i hf
        refine P.iinc 6 (pc' := 98) (lv' := [(5, .int x7), (6, .int q4), (0, .ref tw), (1, .int c1), (2, .int c2), (3, .int v3), (4, .int v4)]) dX9_winner_95 rfl rfl (by decide) e8 (Nat.le_of_ble_eq_true rfl) rfl ?_
        refine P.goto (tgt := 27) dX9_winner_98 (by decide) ?_
        exact PW.sub [2, 3, 4, 5, 6, 0] rfl (ih _ _ _ hf)
      · have hf := (if_neg y6).symm.trans hf
        refine P.iload 0 (pc' := 57) dX9_winner_55 rfl rfl ?_
        refine P.if_eq (tgt := 95) (pc' := 60) dX9_winner_57 (by decide) rfl (fun y9 => ?_) (fun y9 => ?_)
        · have hf := (if_pos y9).symm.trans hf
          obtain ⟨x10, e11, hf⟩ := nm_i hf
          refine P.iinc 6 (pc' := 98) (lv' := [(5, .int x10), (6, .int q4), (0, .ref tw), (1, .int c1), (2, .int c2), (3, .int v3), (4, .int v4)]) dX9_winner_95 rfl rfl (by decide) e11 (Nat.le_of_ble_eq_true rfl) rfl ?_
          refine P.goto (tgt := 27) dX9_winner_98 (by decide) ?_
          exact PW.sub [2, 3, 4, 5, 6, 0] rfl (ih _ _ _ hf)
        · have hf := (if_neg y9).symm.trans hf
          refine P.iload 0 (pc' := 62) dX9_winner_60 rfl rfl ?_
          refine P.iload 5 (pc' := 64) dX9_winner_62 rfl rfl ?_
          refine P.icmp_ne (tgt := 88) (pc' := 67) dX9_winner_64 (by decide) rfl (fun y12 => ?_) (fun y12 => ?_)
          · have hf := (if_neg y12).symm.trans hf
            refine P.iload 6 (pc' := 90) dX9_winner_88 rfl rfl ?_
            refine P.istore_n (pc' := 91) (lv' := [(3, .int v5), (6, .int q4), (0, .ref tw), (1, .int c1), (2, .int c2), (4, .int v4), (5, .int v5)]) dX9_winner_90 rfl rfl (Nat.le_of_ble_eq_true rfl) rfl ?_
            refine P.iload 1 (pc' := 93) dX9_winner_91 rfl rfl ?_
            refine P.istore (pc' := 95) (lv' := [(4, .int q4), (3, .int v5), (6, .int q4), (0, .ref tw), (1, .int c1), (2, .int c2), (5, .int v5)]) dX9_winner_93 rfl (Nat.le_of_ble_eq_true rfl) rfl ?_
            obtain ⟨x13, e14, hf⟩ := nm_i hf
            refine P.iinc 6 (pc' := 98) (lv' := [(5, .int x13), (4, .int q4), (3, .int v5), (6, .int q4), (0, .ref tw), (1, .int c1), (2, .int c2)]) dX9_winner_95 rfl rfl (by decide) e14 (Nat.le_of_ble_eq_true rfl) rfl ?_
            refine P.goto (tgt := 27) dX9_winner_98 (by decide) ?_
            exact PW.sub [4, 5, 6, 2, 1, 0] rfl (ih _ _ _ hf)
          · have hf := (if_pos y12).symm.trans hf
            refine P.iload_n 4 (pc' := 68) dX9_winner_67 rfl rfl rfl ?_
            refine P.if_lt (tgt := 88) (pc' := 71) dX9_winner_68 (by decide) rfl (fun y15 => ?_) (fun y15 => ?_)
            · have hf := (if_pos y15).symm.trans hf
              refine P.iload 6 (pc' := 90) dX9_winner_88 rfl rfl ?_
              refine P.istore_n (pc' := 91) (lv' := [(3, .int v5), (6, .int q4), (0, .ref tw), (1, .int c1), (2, .int c2), (4, .int v4), (5, .int v5)]) dX9_winner_90 rfl rfl (Nat.le_of_ble_eq_true rfl) rfl ?_
              refine P.iload 1 (pc' := 93) dX9_winner_91 rfl rfl ?_
              refine P.istore (pc' := 95) (lv' := [(4, .int q4), (3, .int v5), (6, .int q4), (0, .ref tw), (1, .int c1), (2, .int c2), (5, .int v5)]) dX9_winner_93 rfl (Nat.le_of_ble_eq_true rfl) rfl ?_
              obtain ⟨x16, e17, hf⟩ := nm_i hf
              refine P.iinc 6 (pc' := 98) (lv' := [(5, .int x16), (4, .int q4), (3, .int v5), (6, .int q4), (0, .ref tw), (1, .int c1), (2, .int c2)]) dX9_winner_95 rfl rfl (by decide) e17 (Nat.le_of_ble_eq_true rfl) rfl ?_
              refine P.goto (tgt := 27) dX9_winner_98 (by decide) ?_
              exact PW.sub [4, 5, 6, 2, 1, 0] rfl (ih _ _ _ hf)
            · have hf := (if_neg y15).symm.trans hf
              refine P.aload_n 1 (pc' := 72) dX9_winner_71 rfl rfl rfl ?_
              refine P.iload 6 (pc' := 74) dX9_winner_72 rfl rfl ?_
              obtain ⟨q18, h19, hf⟩ := ob hf
              refine P.callV (pc' := 77) (As := [.int v5]) 1 (ok_X9_heightOf F v5 tw μ τ h19) (Nat.le_of_ble_eq_true rfl) (lw_V q1928 q1930 qs116 q172 q1931) rfl yok_X9_heightOf rfl (Nat.le_of_ble_eq_true rfl) ci9 T_oc (by decide) rfl dX9_winner_74 rfl ?_
              refine P.aload_n 1 (pc' := 78) dX9_winner_77 rfl rfl rfl ?_
              refine P.iload_n 4 (pc' := 79) dX9_winner_78 rfl rfl rfl ?_
              obtain ⟨q20, h21, hf⟩ := ob hf
              refine P.callV (pc' := 82) (As := [.int v3]) 1 (ok_X9_heightOf F v3 tw μ τ h21) (Nat.le_of_ble_eq_true rfl) (lw_V q1928 q1930 qs116 q172 q1931) rfl yok_X9_heightOf rfl (Nat.le_of_ble_eq_true rfl) ci9 T_oc (Nat.le_of_ble_eq_true rfl) rfl dX9_winner_79 rfl ?_
              refine P.icmp_gt (tgt := 88) (pc' := 85) dX9_winner_82 (by decide) rfl (fun y22 => ?_) (fun y22 => ?_)
              · have hf := (if_pos y22).symm.trans hf
                refine P.iload 6 (pc' := 90) dX9_winner_88 rfl rfl ?_
                refine P.istore_n (pc' := 91) (lv' := [(3, .int v5), (6, .int q4), (0, .ref tw), (1, .int c1), (2, .int c2), (4, .int v4), (5, .int v5)]) dX9_winner_90 rfl rfl (Nat.le_of_ble_eq_true rfl) rfl ?_
                refine P.iload 1 (pc' := 93) dX9_winner_91 rfl rfl ?_
                refine P.istore (pc' := 95) (lv' := [(4, .int q4), (3, .int v5), (6, .int q4), (0, .ref tw), (1, .int c1), (2, .int c2), (5, .int v5)]) dX9_winner_93 rfl (Nat.le_of_ble_eq_true rfl) rfl ?_
                obtain ⟨x23, e24, hf⟩ := nm_i hf
                refine P.iinc 6 (pc' := 98) (lv' := [(5, .int x23), (4, .int q4), (3, .int v5), (6, .int q4), (0, .ref tw), (1, .int c1), (2, .int c2)]) dX9_winner_95 rfl rfl (by decide) e24 (Nat.le_of_ble_eq_true rfl) rfl ?_
                refine P.goto (tgt := 27) dX9_winner_98 (by decide) ?_
                exact PW.sub [4, 5, 6, 2, 1, 0] rfl (ih _ _ _ hf)
              · have hf := (if_neg y22).symm.trans hf
                refine P.goto (tgt := 95) dX9_winner_85 (by decide) ?_
                obtain ⟨x25, e26, hf⟩ := nm_i hf
                refine P.iinc 6 (pc' := 98) (lv' := [(5, .int x25), (6, .int q4), (0, .ref tw), (1, .int c1), (2, .int c2), (3, .int v3), (4, .int v4)]) dX9_winner_95 rfl rfl (by decide) e26 (Nat.le_of_ble_eq_true rfl) rfl ?_
                refine P.goto (tgt := 27) dX9_winner_98 (by decide) ?_
                exact PW.sub [2, 3, 4, 5, 6, 0] rfl (ih _ _ _ hf)
noncomputable def t_X9_winner (F : Nat) (p1 : Int32) (p2 : Int32) (τ : Tw) : Option Int32 :=
  Option.bind (t_X9_isOffice F p1 τ) fun q1 =>
  if q1 = 0 then
    some (-1)
  else
    Option.bind (t_X9_isKnown F p2 τ) fun q4 =>
    if q4 = 0 then
      some (-1)
    else
      t_X9_winner_L27 F p1 p2 τ F (-2) 0 0
set_option maxHeartbeats 4000000 in
theorem ok_X9_winner {g : Gx} (F : Nat) (p1 : Int32) (p2 : Int32) (tw : Nat) (μ : Sw) (τ : Tw) {rv : Int32} (hf : t_X9_winner F p1 p2 τ = some rv) : Cl g 4 yX9_winner cX9_winner 7 (some Jvm.ClassFile.FieldType.int) [.ref tw, .int p1, .int p2] (mT tw τ μ) (some (.int rv)) (mT tw τ μ) := by
  unfold t_X9_winner at hf
  refine Cl.of (own := RX9) (ini := false) (by decide +kernel) rfl (by decide) (Nat.le_of_ble_eq_true rfl) ?_
  show PW g mX9_winner 4 (mT tw τ μ) (mT tw τ μ) (QN g (some (.int rv)) (mT tw τ μ) (mT tw τ μ)) 0 [(0, .ref tw), (1, .int p1), (2, .int p2)] [] (mT tw τ μ)
  refine P.aload_n 0 (pc' := 1) dX9_winner_0 rfl rfl rfl ?_
  refine P.iload_n 1 (pc' := 2) dX9_winner_1 rfl rfl rfl ?_
  obtain ⟨q1, h2, hf⟩ := ob hf
  refine P.callV (pc' := 5) (As := [.int p1]) 1 (ok_X9_isOffice F p1 tw μ τ h2) (Nat.le_of_ble_eq_true rfl) (lw_V q1959 q1961 qs122 q172 q1962) rfl yok_X9_isOffice rfl (Nat.le_of_ble_eq_true rfl) ci9 T_oc (by decide) rfl dX9_winner_2 rfl ?_
  refine P.if_eq (tgt := 16) (pc' := 8) dX9_winner_5 (by decide) rfl (fun y3 => ?_) (fun y3 => ?_)
  · have hf := (if_pos y3).symm.trans hf
    refine P.iconst (v := (-1)) (pc' := 17) dX9_winner_16 rfl (by decide) ?_
    cases hf; exact P.iret rfl dX9_winner_17
  · have hf := (if_neg y3).symm.trans hf
    refine P.aload_n 0 (pc' := 9) dX9_winner_8 rfl rfl rfl ?_
    refine P.iload_n 2 (pc' := 10) dX9_winner_9 rfl rfl rfl ?_
    obtain ⟨q4, h5, hf⟩ := ob hf
    refine P.callV (pc' := 13) (As := [.int p2]) 1 (ok_X9_isKnown F p2 tw μ τ h5) (Nat.le_of_ble_eq_true rfl) (lw_V q2225 q2227 qs152 q172 q2228) rfl yok_X9_isKnown rfl (Nat.le_of_ble_eq_true rfl) ci9 T_oc (by decide) rfl dX9_winner_10 rfl ?_
    refine P.if_ne (tgt := 18) (pc' := 16) dX9_winner_13 (by decide) rfl (fun y6 => ?_) (fun y6 => ?_)
    · have hf := (if_neg y6).symm.trans hf
      refine P.bipush (v := (-2)) (pc' := 20) dX9_winner_18 rfl (by decide) ?_
      refine P.istore_n (pc' := 21) (lv' := [(3, .int (-2)), (0, .ref tw), (1, .int p1), (2, .int p2)]) dX9_winner_20 rfl rfl (Nat.le_of_ble_eq_true rfl) rfl ?_
      refine P.iconst (v := 0) (pc' := 22) dX9_winner_21 rfl (by decide) ?_
      refine P.istore (pc' := 24) (lv' := [(4, .int 0), (3, .int (-2)), (0, .ref tw), (1, .int p1), (2, .int p2)]) dX9_winner_22 rfl (Nat.le_of_ble_eq_true rfl) rfl ?_
      refine P.iconst (v := 0) (pc' := 25) dX9_winner_24 rfl (by decide) ?_
      refine P.istore (pc' := 27) (lv' := [(5, .int 0), (4, .int 0), (3, .int (-2)), (0, .ref tw), (1, .int p1), (2, .int p2)]) dX9_winner_25 rfl (Nat.le_of_ble_eq_true rfl) rfl ?_
      exact PW.sub [3, 4, 5, 2, 1, 0] rfl (ok_t_X9_winner_L27 F tw μ p1 p2 τ F _ _ _ hf)
    · have hf := (if_pos y6).symm.trans hf
      refine P.iconst (v := (-1)) (pc' := 17) dX9_winner_16 rfl (by decide) ?_
      cases hf; exact P.iret rfl dX9_winner_17
theorem yok_X9_apart : yOK yX9_apart 2 := ⟨by decide +kernel, by decide +kernel, by decide +kernel⟩
abbrev mX9_ends : Ym := (RX9, cX9_ends, 12, (some Jvm.ClassFile.FieldType.int), false, [])
noncomputable def t_X9_ends_L186_b (F : Nat) (k294 : Option Int32) (c1 : Int32) (c2 : Int32) (c3 : Int32) (c4 : Int32) (c5 : Int32) (c6 : Int32) (c7 : Int32) (c8 : Int32) (τ : Tw) (self : Int32 → Option Int32) (v10 : Int32) : Option Int32 :=
  if c7 ≤ v10 then
    k294
  else
    nm (180 + (4 * v10)) fun x2 =>
    Option.bind (taI τ 7 1260 x2) fun x4 =>
    if x4 = 1 then
      Option.bind (taI τ 7 1260 (x2 + 1)) fun x9 =>
      if x9 = c1 then
        Option.bind (t_X9_isLive F v10 c4 τ) fun q14 =>
        if q14 = 0 then
          nm (v10 + 1) fun x17 =>
          self x17
        else
          Option.bind (taI τ 7 1260 (x2 + 3)) fun x19 =>
          Option.bind (taI τ 7 1260 (c8 + 3)) fun x21 =>
          Option.bind (p_X9_apart F x19 x21) fun q23 =>
          Option.bind (taI τ 7 1260 (x2 + 2)) fun x25 =>
          Option.bind (taI τ 7 1260 (c8 + 2)) fun x27 =>
          Option.bind (p_X9_apart F x25 x27) fun q29 =>
          if q23 ≤ (c3 * q29) then
            nm (v10 + 1) fun x32 =>
            self x32
          else
            some (-2)
      else
        nm (v10 + 1) fun x12 =>
        self x12
    else
      nm (v10 + 1) fun x7 =>
      self x7
noncomputable def t_X9_ends_L186 (F : Nat) (k294 : Option Int32) (c1 : Int32) (c2 : Int32) (c3 : Int32) (c4 : Int32) (c5 : Int32) (c6 : Int32) (c7 : Int32) (c8 : Int32) (τ : Tw) (n : Nat) : Int32 → Option Int32 := Nat.rec (motive := fun _ => Int32 → Option Int32) (fun _ => none) (fun _ self => t_X9_ends_L186_b F k294 c1 c2 c3 c4 c5 c6 c7 c8 τ self) n
set_option maxHeartbeats 4000000 in
theorem ok_t_X9_ends_L186 {g : Gx} {μ0 : Sw} {rv : Int32} (F : Nat) (tw : Nat) (μ : Sw) (c1 : Int32) (c2 : Int32) (c3 : Int32) (c4 : Int32) (c5 : Int32) (c6 : Int32) (c7 : Int32) (c8 : Int32) (τ : Tw) (k294 : Option Int32) (hk294 : k294 = some rv → PW g mX9_ends 2 μ0 (mT tw τ μ) (QN g (some (.int rv)) μ0 (mT tw τ μ)) 294 [(0, .ref tw), (1, .int c1), (2, .int c2), (3, .int c3), (4, .int c4), (5, .int c5), (6, .int c6), (7, .int c7)] [] (mT tw τ μ)) : ∀ (n : Nat) (v10 : Int32), t_X9_ends_L186 F k294 c1 c2 c3 c4 c5 c6 c7 c8 τ n v10 = some rv → PW g mX9_ends 2 μ0 (mT tw τ μ) (QN g (some (.int rv)) μ0 (mT tw τ μ)) 186 [(0, .ref tw), (1, .int c1), (2, .int c2), (3, .int c3), (4, .int c4), (5, .int c5), (6, .int c6), (7, .int c7), (8, .int c8), (10, .int v10)] [] (mT tw τ μ) := by
  intro n
  induction n with
  | zero =>
    intro v10 hf
    have hf : (none : Option Int32) = some _ := hf
    cases hf
  | succ n ih =>
    intro v10 hf
    have hf : t_X9_ends_L186_b F k294 c1 c2 c3 c4 c5 c6 c7 c8 τ (t_X9_ends_L186 F k294 c1 c2 c3 c4 c5 c6 c7 c8 τ n) v10 = some rv := hf
    unfold t_X9_ends_L186_b at hf
    refine P.iload 9 (pc' := 188) dX9_ends_186 rfl rfl ?_
    refine P.iload 7 (pc' := 190) dX9_ends_188 rfl rfl ?_
    refine P.icmp_ge (tgt := 294) (pc' := 193) dX9_ends_190 (by decide) rfl (fun y1 => ?_) (fun y1 => ?_)
    · have hf := (if_pos y1).symm.trans hf
      exact PW.sub [0, 1, 2, 3, 4, 5, 6, 7] rfl (hk294 hf)
    · have hf := (if_neg y1).symm.trans hf
      refine P.sipush (v := 180) (pc' := 196) dX9_ends_193 rfl (by decide) ?_
      refine P.iconst (v := 4) (pc' := 197) dX9_ends_196 rfl (by decide) ?_
      refine P.iload 9 (pc' := 199) dX9_ends_197 rfl rfl ?_
      refine P.imul (pc' := 200) dX9_ends_199 rfl ?_
      refine P.iadd (pc' := 201) dX9_ends_200 rfl ?_
      obtain ⟨x2, e3, hf⟩ := nm_i hf
      refine P.nmi e3 ?_
      refine P.istore (pc' := 203) (lv' := [(11, .int x2), (0, .ref tw), (1, .int c1), (2, .int c2), (3, .int c3), (4, .int c4), (5, .int c5), (6, .int c6), (7, .int c7), (8, .int c8), (10, .int v10)]) dX9_ends_201 rfl (Nat.le_of_ble_eq_true rfl) rfl ?_
      refine P.aload_n 1 (pc' := 204) dX9_ends_203 rfl rfl rfl ?_
      refine P.get (v := .ref (tw + 7)) (pc' := 207) ci9 13 (by decide) (T_gf rfl) q1568 (Or.inl rfl) dX9_ends_204 rfl ?_
      refine P.iload 0 (pc' := 209) dX9_ends_207 rfl rfl ?_
      obtain ⟨x4, h5, hf⟩ := ob hf
      refine P.iald (t := 0) (pc' := 210) rfl (T_aI rfl h5) dX9_ends_209 rfl ?_
      refine P.iconst (v := 1) (pc' := 211) dX9_ends_210 rfl (by decide) ?_
      refine P.icmp_ne (tgt := 288) (pc' := 214) dX9_ends_211 (by decide) rfl (fun y6 => ?_) (fun y6 => ?_)
      · have hf := (if_neg y6).symm.trans hf
        obtain ⟨x7, e8, hf⟩ := nm_i hf
        refine P.iinc 10 (pc' := 291) (lv' := [(10, .int x7), (11, .int x2), (0, .ref tw), (1, .int c1), (2, .int c2), (3, .int c3), (4, .int c4), (5, .int c5), (6, .int c6), (7, .int c7), (8, .int c8)]) dX9_ends_288 rfl rfl (by decide) e8 (Nat.le_of_ble_eq_true rfl) rfl ?_
        refine P.goto (tgt := 186) dX9_ends_291 (by decide) ?_
        exact PW.sub [2, 3, 4, 5, 6, 7, 8, 9, 10, 0] rfl (ih _ hf)
      · have hf := (if_pos y6).symm.trans hf
        refine P.aload_n 1 (pc' := 215) dX9_ends_214 rfl rfl rfl ?_
        refine P.get (v := .ref (tw + 7)) (pc' := 218) ci9 13 (by decide) (T_gf rfl) q1568 (Or.inl rfl) dX9_ends_215 rfl ?_
        refine P.iload 0 (pc' := 220) dX9_ends_218 rfl rfl ?_
        refine P.iconst (v := 1) (pc' := 221) dX9_ends_220 rfl (by decide) ?_
        refine P.iadd (pc' := 222) dX9_ends_221 rfl ?_
        obtain ⟨x9, h10, hf⟩ := ob hf
        refine P.iald (t := 0) (pc' := 223) rfl (T_aI rfl h10) dX9_ends_222 rfl ?_
        refine P.iload_n 2 (pc' := 224) dX9_ends_223 rfl rfl rfl ?_
        refine P.icmp_ne (tgt := 288) (pc' := 227) dX9_ends_224 (by decide) rfl (fun y11 => ?_) (fun y11 => ?_)
        · have hf := (if_neg y11).symm.trans hf
          obtain ⟨x12, e13, hf⟩ := nm_i hf
          refine P.iinc 10 (pc' := 291) (lv' := [(10, .int x12), (11, .int x2), (0, .ref tw), (1, .int c1), (2, .int c2), (3, .int c3), (4, .int c4), (5, .int c5), (6, .int c6), (7, .int c7), (8, .int c8)]) dX9_ends_288 rfl rfl (by decide) e13 (Nat.le_of_ble_eq_true rfl) rfl ?_
          refine P.goto (tgt := 186) dX9_ends_291 (by decide) ?_
          exact PW.sub [2, 3, 4, 5, 6, 7, 8, 9, 10, 0] rfl (ih _ hf)
        · have hf := (if_pos y11).symm.trans hf
          refine P.aload_n 1 (pc' := 228) dX9_ends_227 rfl rfl rfl ?_
          refine P.iload 10 (pc' := 230) dX9_ends_228 rfl rfl ?_
          refine P.iload 5 (pc' := 232) dX9_ends_230 rfl rfl ?_
          obtain ⟨q14, h15, hf⟩ := ob hf
          refine P.callV (pc' := 235) (As := [.int v10, .int c4]) 2 (ok_X9_isLive F v10 c4 tw μ τ h15) (Nat.le_of_ble_eq_true rfl) (lw_V q2237 q2239 qs155 q172 q2240) rfl yok_X9_isLive rfl (Nat.le_of_ble_eq_true rfl) ci9 T_oc (by decide) rfl dX9_ends_232 rfl ?_
          refine P.if_eq (tgt := 288) (pc' := 238) dX9_ends_235 (by decide) rfl (fun y16 => ?_) (fun y16 => ?_)
          · have hf := (if_pos y16).symm.trans hf
            obtain ⟨x17, e18, hf⟩ := nm_i hf
            refine P.iinc 10 (pc' := 291) (lv' := [(10, .int x17), (11, .int x2), (0, .ref tw), (1, .int c1), (2, .int c2), (3, .int c3), (4, .int c4), (5, .int c5), (6, .int c6), (7, .int c7), (8, .int c8)]) dX9_ends_288 rfl rfl (by decide) e18 (Nat.le_of_ble_eq_true rfl) rfl ?_
            refine P.goto (tgt := 186) dX9_ends_291 (by decide) ?_
            exact PW.sub [2, 3, 4, 5, 6, 7, 8, 9, 10, 0] rfl (ih _ hf)
          · have hf := (if_neg y16).symm.trans hf
            refine P.aload_n 1 (pc' := 239) dX9_ends_238 rfl rfl rfl ?_
            refine P.get (v := .ref (tw + 7)) (pc' := 242) ci9 13 (by decide) (T_gf rfl) q1568 (Or.inl rfl) dX9_ends_239 rfl ?_
            refine P.iload 0 (pc' := 244) dX9_ends_242 rfl rfl ?_
            refine P.iconst (v := 3) (pc' := 245) dX9_ends_244 rfl (by decide) ?_
            refine P.iadd (pc' := 246) dX9_ends_245 rfl ?_
            obtain ⟨x19, h20, hf⟩ := ob hf
            refine P.iald (t := 0) (pc' := 247) rfl (T_aI rfl h20) dX9_ends_246 rfl ?_
            refine P.aload_n 1 (pc' := 248) dX9_ends_247 rfl rfl rfl ?_
            refine P.get (v := .ref (tw + 7)) (pc' := 251) ci9 13 (by decide) (T_gf rfl) q1568 (Or.inl rfl) dX9_ends_248 rfl ?_
            refine P.iload 9 (pc' := 253) dX9_ends_251 rfl rfl ?_
            refine P.iconst (v := 3) (pc' := 254) dX9_ends_253 rfl (by decide) ?_
            refine P.iadd (pc' := 255) dX9_ends_254 rfl ?_
            obtain ⟨x21, h22, hf⟩ := ob hf
            refine P.iald (t := 0) (pc' := 256) rfl (T_aI rfl h22) dX9_ends_255 rfl ?_
            obtain ⟨q23, h24, hf⟩ := ob hf
            refine P.callS (pc' := 259) (As := [.int x19, .int x21]) 2 (ok_X9_apart F x19 x21 (mT tw τ μ) h24) (Nat.le_of_ble_eq_true rfl) (lw_S q2249 q2250 q172 q2251) yok_X9_apart rfl (Nat.le_of_ble_eq_true rfl) (by decide) rfl dX9_ends_256 rfl ?_
            refine P.iload_n 4 (pc' := 260) dX9_ends_259 rfl rfl rfl ?_
            refine P.aload_n 1 (pc' := 261) dX9_ends_260 rfl rfl rfl ?_
            refine P.get (v := .ref (tw + 7)) (pc' := 264) ci9 13 (by decide) (T_gf rfl) q1568 (Or.inl rfl) dX9_ends_261 rfl ?_
            refine P.iload 0 (pc' := 266) dX9_ends_264 rfl rfl ?_
            refine P.iconst (v := 2) (pc' := 267) dX9_ends_266 rfl (by decide) ?_
            refine P.iadd (pc' := 268) dX9_ends_267 rfl ?_
            obtain ⟨x25, h26, hf⟩ := ob hf
            refine P.iald (t := 0) (pc' := 269) rfl (T_aI rfl h26) dX9_ends_268 rfl ?_
            refine P.aload_n 1 (pc' := 270) dX9_ends_269 rfl rfl rfl ?_
            refine P.get (v := .ref (tw + 7)) (pc' := 273) ci9 13 (by decide) (T_gf rfl) q1568 (Or.inl rfl) dX9_ends_270 rfl ?_
            refine P.iload 9 (pc' := 275) dX9_ends_273 rfl rfl ?_
            refine P.iconst (v := 2) (pc' := 276) dX9_ends_275 rfl (by decide) ?_
            refine P.iadd (pc' := 277) dX9_ends_276 rfl ?_
            obtain ⟨x27, h28, hf⟩ := ob hf
            refine P.iald (t := 0) (pc' := 278) rfl (T_aI rfl h28) dX9_ends_277 rfl ?_
            obtain ⟨q29, h30, hf⟩ := ob hf
            refine P.callS (pc' := 281) (As := [.int x25, .int x27]) 2 (ok_X9_apart F x25 x27 (mT tw τ μ) h30) (Nat.le_of_ble_eq_true rfl) (lw_S q2249 q2250 q172 q2251) yok_X9_apart rfl (Nat.le_of_ble_eq_true rfl) (Nat.le_of_ble_eq_true rfl) rfl dX9_ends_278 rfl ?_
            refine P.imul (pc' := 282) dX9_ends_281 rfl ?_
            refine P.icmp_le (tgt := 288) (pc' := 285) dX9_ends_282 (by decide) rfl (fun y31 => ?_) (fun y31 => ?_)
            · have hf := (if_pos y31).symm.trans hf
              obtain ⟨x32, e33, hf⟩ := nm_i hf
              refine P.iinc 10 (pc' := 291) (lv' := [(10, .int x32), (11, .int x2), (0, .ref tw), (1, .int c1), (2, .int c2), (3, .int c3), (4, .int c4), (5, .int c5), (6, .int c6), (7, .int c7), (8, .int c8)]) dX9_ends_288 rfl rfl (by decide) e33 (Nat.le_of_ble_eq_true rfl) rfl ?_
              refine P.goto (tgt := 186) dX9_ends_291 (by decide) ?_
              exact PW.sub [2, 3, 4, 5, 6, 7, 8, 9, 10, 0] rfl (ih _ hf)
            · have hf := (if_neg y31).symm.trans hf
              refine P.bipush (v := (-2)) (pc' := 287) dX9_ends_285 rfl (by decide) ?_
              cases hf; exact P.iret rfl dX9_ends_287
noncomputable def t_X9_ends_j152 (F : Nat) (self : Int32 → Int32 → Int32 → Option Int32) (v1 : Int32) (v2 : Int32) (v3 : Int32) (v4 : Int32) (v5 : Int32) (v6 : Int32) (v7 : Int32) (v8 : Int32) (v9 : Int32) (τ : Tw) : Option Int32 :=
  Option.bind (taI τ 7 1260 (v8 + 3)) fun x1 =>
  if v6 ≤ (x1 + v9) then
    t_X9_ends_L186 F
      (
        nm (v7 + 1) fun x4 =>
        self v5 v6 x4)
      v1 v2 v3 v4 v5 v6 v7 v8 τ F 0
  else
    Option.bind (taI τ 7 1260 (v8 + 3)) fun x6 =>
    nm (x6 + v9) fun x8 =>
    t_X9_ends_L186 F
      (
        nm (v7 + 1) fun x10 =>
        self v5 x8 x10)
      v1 v2 v3 v4 v5 x8 v7 v8 τ F 0
set_option maxHeartbeats 4000000 in
theorem ok_t_X9_ends_j152 {g : Gx} {μ0 : Sw} {rv : Int32} (F : Nat) (tw : Nat) (μ : Sw) (v1 : Int32) (v2 : Int32) (v3 : Int32) (v4 : Int32) (v5 : Int32) (v6 : Int32) (v7 : Int32) (v8 : Int32) (v9 : Int32) (τ : Tw) (self : Int32 → Int32 → Int32 → Option Int32) (ih : ∀ (w5 : Int32) (w6 : Int32) (w7 : Int32), self w5 w6 w7 = some rv → PW g mX9_ends 2 μ0 (mT tw τ μ) (QN g (some (.int rv)) μ0 (mT tw τ μ)) 49 [(0, .ref tw), (1, .int v1), (2, .int v2), (3, .int v3), (4, .int v4), (5, .int w5), (6, .int w6), (7, .int w7)] [] (mT tw τ μ)) (hf : t_X9_ends_j152 F self v1 v2 v3 v4 v5 v6 v7 v8 v9 τ = some rv) : PW g mX9_ends 2 μ0 (mT tw τ μ) (QN g (some (.int rv)) μ0 (mT tw τ μ)) 152 [(0, .ref tw), (1, .int v1), (2, .int v2), (3, .int v3), (4, .int v4), (5, .int v5), (6, .int v6), (7, .int v7), (8, .int v8), (9, .int v9)] [] (mT tw τ μ) := by
  unfold t_X9_ends_j152 at hf
  refine P.aload_n 0 (pc' := 153) dX9_ends_152 rfl rfl rfl ?_
  refine P.get (v := .ref (tw + 7)) (pc' := 156) ci9 13 (by decide) (T_gf rfl) q1568 (Or.inl rfl) dX9_ends_153 rfl ?_
  refine P.iload 8 (pc' := 158) dX9_ends_156 rfl rfl ?_
  refine P.iconst (v := 3) (pc' := 159) dX9_ends_158 rfl (by decide) ?_
  refine P.iadd (pc' := 160) dX9_ends_159 rfl ?_
  obtain ⟨x1, h2, hf⟩ := ob hf
  refine P.iald (t := 0) (pc' := 161) rfl (T_aI rfl h2) dX9_ends_160 rfl ?_
  refine P.iload 9 (pc' := 163) dX9_ends_161 rfl rfl ?_
  refine P.iadd (pc' := 164) dX9_ends_163 rfl ?_
  refine P.iload 6 (pc' := 166) dX9_ends_164 rfl rfl ?_
  refine P.icmp_ge (tgt := 183) (pc' := 169) dX9_ends_166 (by decide) rfl (fun y3 => ?_) (fun y3 => ?_)
  · have hf := (if_pos y3).symm.trans hf
    refine P.iconst (v := 0) (pc' := 184) dX9_ends_183 rfl (by decide) ?_
    refine P.istore (pc' := 186) (lv' := [(10, .int 0), (0, .ref tw), (1, .int v1), (2, .int v2), (3, .int v3), (4, .int v4), (5, .int v5), (6, .int v6), (7, .int v7), (8, .int v8), (9, .int v9)]) dX9_ends_184 rfl (Nat.le_of_ble_eq_true rfl) rfl ?_
    refine PW.sub [1, 2, 3, 4, 5, 6, 7, 8, 9, 0] rfl (ok_t_X9_ends_L186 F tw μ v1 v2 v3 v4 v5 v6 v7 v8 τ _ ?_ F _ hf)
    · intro hf
      obtain ⟨x4, e5, hf⟩ := nm_i hf
      refine P.iinc 7 (pc' := 297) (lv' := [(7, .int x4), (0, .ref tw), (1, .int v1), (2, .int v2), (3, .int v3), (4, .int v4), (5, .int v5), (6, .int v6)]) dX9_ends_294 rfl rfl (by decide) e5 (Nat.le_of_ble_eq_true rfl) rfl ?_
      refine P.goto (tgt := 49) dX9_ends_297 (by decide) ?_
      exact PW.sub [1, 2, 3, 4, 5, 6, 7, 0] rfl (ih _ _ _ hf)
  · have hf := (if_neg y3).symm.trans hf
    refine P.aload_n 0 (pc' := 170) dX9_ends_169 rfl rfl rfl ?_
    refine P.get (v := .ref (tw + 7)) (pc' := 173) ci9 13 (by decide) (T_gf rfl) q1568 (Or.inl rfl) dX9_ends_170 rfl ?_
    refine P.iload 8 (pc' := 175) dX9_ends_173 rfl rfl ?_
    refine P.iconst (v := 3) (pc' := 176) dX9_ends_175 rfl (by decide) ?_
    refine P.iadd (pc' := 177) dX9_ends_176 rfl ?_
    obtain ⟨x6, h7, hf⟩ := ob hf
    refine P.iald (t := 0) (pc' := 178) rfl (T_aI rfl h7) dX9_ends_177 rfl ?_
    refine P.iload 9 (pc' := 180) dX9_ends_178 rfl rfl ?_
    refine P.iadd (pc' := 181) dX9_ends_180 rfl ?_
    obtain ⟨x8, e9, hf⟩ := nm_i hf
    refine P.nmi e9 ?_
    refine P.istore (pc' := 183) (lv' := [(6, .int x8), (0, .ref tw), (1, .int v1), (2, .int v2), (3, .int v3), (4, .int v4), (5, .int v5), (7, .int v7), (8, .int v8), (9, .int v9)]) dX9_ends_181 rfl (Nat.le_of_ble_eq_true rfl) rfl ?_
    refine P.iconst (v := 0) (pc' := 184) dX9_ends_183 rfl (by decide) ?_
    refine P.istore (pc' := 186) (lv' := [(10, .int 0), (6, .int x8), (0, .ref tw), (1, .int v1), (2, .int v2), (3, .int v3), (4, .int v4), (5, .int v5), (7, .int v7), (8, .int v8), (9, .int v9)]) dX9_ends_184 rfl (Nat.le_of_ble_eq_true rfl) rfl ?_
    refine PW.sub [2, 3, 4, 5, 6, 7, 1, 8, 9, 0] rfl (ok_t_X9_ends_L186 F tw μ v1 v2 v3 v4 v5 x8 v7 v8 τ _ ?_ F _ hf)
    · intro hf
      obtain ⟨x10, e11, hf⟩ := nm_i hf
      refine P.iinc 7 (pc' := 297) (lv' := [(7, .int x10), (0, .ref tw), (1, .int v1), (2, .int v2), (3, .int v3), (4, .int v4), (5, .int v5), (6, .int x8)]) dX9_ends_294 rfl rfl (by decide) e11 (Nat.le_of_ble_eq_true rfl) rfl ?_
      refine P.goto (tgt := 49) dX9_ends_297 (by decide) ?_
      exact PW.sub [1, 2, 3, 4, 5, 6, 7, 0] rfl (ih _ _ _ hf)
noncomputable def t_X9_ends_L49_b (F : Nat) (c1 : Int32) (c2 : Int32) (c3 : Int32) (c4 : Int32) (τ : Tw) (self : Int32 → Int32 → Int32 → Option Int32) (v5 : Int32) (v6 : Int32) (v7 : Int32) : Option Int32 :=
  if c4 ≤ v7 then
    if v5 ≤ v6 then
      some ((100 * v5) + v6)
    else
      some (-2)
  else
    nm (180 + (4 * v7)) fun x3 =>
    Option.bind (taI τ 7 1260 x3) fun x5 =>
    if x5 = 1 then
      Option.bind (taI τ 7 1260 (x3 + 1)) fun x10 =>
      if x10 = c1 then
        Option.bind (t_X9_isLive F v7 c4 τ) fun q15 =>
        if q15 = 0 then
          nm (v7 + 1) fun x31 =>
          self v5 v6 x31
        else
          Option.bind (taI τ 7 1260 (x3 + 2)) fun x18 =>
          Option.bind (p_X9_apart F x18 c2) fun q20 =>
          nm (c3 * q20) fun x22 =>
          Option.bind (taI τ 7 1260 (x3 + 3)) fun x24 =>
          if (x24 - x22) ≤ v5 then
            t_X9_ends_j152 F self c1 c2 c3 c4 v5 v6 v7 x3 x22 τ
          else
            Option.bind (taI τ 7 1260 (x3 + 3)) fun x27 =>
            nm (x27 - x22) fun x29 =>
            t_X9_ends_j152 F self c1 c2 c3 c4 x29 v6 v7 x3 x22 τ
      else
        nm (v7 + 1) fun x13 =>
        self v5 v6 x13
    else
      nm (v7 + 1) fun x8 =>
      self v5 v6 x8
noncomputable def t_X9_ends_L49 (F : Nat) (c1 : Int32) (c2 : Int32) (c3 : Int32) (c4 : Int32) (τ : Tw) (n : Nat) : Int32 → Int32 → Int32 → Option Int32 := Nat.rec (motive := fun _ => Int32 → Int32 → Int32 → Option Int32) (fun _ _ _ => none) (fun _ self => t_X9_ends_L49_b F c1 c2 c3 c4 τ self) n
set_option maxHeartbeats 4000000 in
theorem ok_t_X9_ends_L49 {g : Gx} {μ0 : Sw} {rv : Int32} (F : Nat) (tw : Nat) (μ : Sw) (c1 : Int32) (c2 : Int32) (c3 : Int32) (c4 : Int32) (τ : Tw) : ∀ (n : Nat) (v5 : Int32) (v6 : Int32) (v7 : Int32), t_X9_ends_L49 F c1 c2 c3 c4 τ n v5 v6 v7 = some rv → PW g mX9_ends 2 μ0 (mT tw τ μ) (QN g (some (.int rv)) μ0 (mT tw τ μ)) 49 [(0, .ref tw), (1, .int c1), (2, .int c2), (3, .int c3), (4, .int c4), (5, .int v5), (6, .int v6), (7, .int v7)] [] (mT tw τ μ) := by
  intro n
  induction n with
  | zero =>
    intro v5 v6 v7 hf
    have hf : (none : Option Int32) = some _ := hf
    cases hf
  | succ n ih =>
    intro v5 v6 v7 hf
    have hf : t_X9_ends_L49_b F c1 c2 c3 c4 τ (t_X9_ends_L49 F c1 c2 c3 c4 τ n) v5 v6 v7 = some rv := hf
    unfold t_X9_ends_L49_b at hf
    refine P.iload 7 (pc' := 51) dX9_ends_49 rfl rfl ?_
    refine P.iload 4 (pc' := 53) dX9_ends_51 rfl rfl ?_
    refine P.icmp_ge (tgt := 300) (pc' := 56) dX9_ends_53 (by decide) rfl (fun y1 => ?_) (fun y1 => ?_)
    · have hf := (if_pos y1).symm.trans hf
      refine P.iload 5 (pc' := 302) dX9_ends_300 rfl rfl ?_
      refine P.iload 6 (pc' := 304) dX9_ends_302 rfl rfl ?_
      refine P.icmp_le (tgt := 312) (pc' := 307) dX9_ends_304 (by decide) rfl (fun y2 => ?_) (fun y2 => ?_)
      · have hf := (if_pos y2).symm.trans hf
        refine P.bipush (v := 100) (pc' := 314) dX9_ends_312 rfl (by decide) ?_
        refine P.iload 5 (pc' := 316) dX9_ends_314 rfl rfl ?_
        refine P.imul (pc' := 317) dX9_ends_316 rfl ?_
        refine P.iload 6 (pc' := 319) dX9_ends_317 rfl rfl ?_
        refine P.iadd (pc' := 320) dX9_ends_319 rfl ?_
        cases hf; exact P.iret rfl dX9_ends_320
      · have hf := (if_neg y2).symm.trans hf
        refine P.bipush (v := (-2)) (pc' := 309) dX9_ends_307 rfl (by decide) ?_
        refine P.goto (tgt := 320) dX9_ends_309 (by decide) ?_
        cases hf; exact P.iret rfl dX9_ends_320
    · have hf := (if_neg y1).symm.trans hf
      refine P.sipush (v := 180) (pc' := 59) dX9_ends_56 rfl (by decide) ?_
      refine P.iconst (v := 4) (pc' := 60) dX9_ends_59 rfl (by decide) ?_
      refine P.iload 7 (pc' := 62) dX9_ends_60 rfl rfl ?_
      refine P.imul (pc' := 63) dX9_ends_62 rfl ?_
      refine P.iadd (pc' := 64) dX9_ends_63 rfl ?_
      obtain ⟨x3, e4, hf⟩ := nm_i hf
      refine P.nmi e4 ?_
      refine P.istore (pc' := 66) (lv' := [(8, .int x3), (0, .ref tw), (1, .int c1), (2, .int c2), (3, .int c3), (4, .int c4), (5, .int v5), (6, .int v6), (7, .int v7)]) dX9_ends_64 rfl (Nat.le_of_ble_eq_true rfl) rfl ?_
      refine P.aload_n 1 (pc' := 67) dX9_ends_66 rfl rfl rfl ?_
      refine P.get (v := .ref (tw + 7)) (pc' := 70) ci9 13 (by decide) (T_gf rfl) q1568 (Or.inl rfl) dX9_ends_67 rfl ?_
      refine P.iload 0 (pc' := 72) dX9_ends_70 rfl rfl ?_
      obtain ⟨x5, h6, hf⟩ := ob hf
      refine P.iald (t := 0) (pc' := 73) rfl (T_aI rfl h6) dX9_ends_72 rfl ?_
      refine P.iconst (v := 1) (pc' := 74) dX9_ends_73 rfl (by decide) ?_
      refine P.icmp_ne (tgt := 294) (pc' := 77) dX9_ends_74 (by decide) rfl (fun y7 => ?_) (fun y7 => ?_)
      · have hf := (if_neg y7).symm.trans hf
        obtain ⟨x8, e9, hf⟩ := nm_i hf
        refine P.iinc 8 (pc' := 297) (lv' := [(7, .int x8), (8, .int x3), (0, .ref tw), (1, .int c1), (2, .int c2), (3, .int c3), (4, .int c4), (5, .int v5), (6, .int v6)]) dX9_ends_294 rfl rfl (by decide) e9 (Nat.le_of_ble_eq_true rfl) rfl ?_
        refine P.goto (tgt := 49) dX9_ends_297 (by decide) ?_
        exact PW.sub [2, 3, 4, 5, 6, 7, 8, 0] rfl (ih _ _ _ hf)
      · have hf := (if_pos y7).symm.trans hf
        refine P.aload_n 1 (pc' := 78) dX9_ends_77 rfl rfl rfl ?_
        refine P.get (v := .ref (tw + 7)) (pc' := 81) ci9 13 (by decide) (T_gf rfl) q1568 (Or.inl rfl) dX9_ends_78 rfl ?_
        refine P.iload 0 (pc' := 83) dX9_ends_81 rfl rfl ?_
        refine P.iconst (v := 1) (pc' := 84) dX9_ends_83 rfl (by decide) ?_
        refine P.iadd (pc' := 85) dX9_ends_84 rfl ?_
        obtain ⟨x10, h11, hf⟩ := ob hf
        refine P.iald (t := 0) (pc' := 86) rfl (T_aI rfl h11) dX9_ends_85 rfl ?_
        refine P.iload_n 2 (pc' := 87) dX9_ends_86 rfl rfl rfl ?_
        refine P.icmp_ne (tgt := 294) (pc' := 90) dX9_ends_87 (by decide) rfl (fun y12 => ?_) (fun y12 => ?_)
        · have hf := (if_neg y12).symm.trans hf
          obtain ⟨x13, e14, hf⟩ := nm_i hf
          refine P.iinc 8 (pc' := 297) (lv' := [(7, .int x13), (8, .int x3), (0, .ref tw), (1, .int c1), (2, .int c2), (3, .int c3), (4, .int c4), (5, .int v5), (6, .int v6)]) dX9_ends_294 rfl rfl (by decide) e14 (Nat.le_of_ble_eq_true rfl) rfl ?_
          refine P.goto (tgt := 49) dX9_ends_297 (by decide) ?_
          exact PW.sub [2, 3, 4, 5, 6, 7, 8, 0] rfl (ih _ _ _ hf)
        · have hf := (if_pos y12).symm.trans hf
          refine P.aload_n 1 (pc' := 91) dX9_ends_90 rfl rfl rfl ?_
          refine P.iload 8 (pc' := 93) dX9_ends_91 rfl rfl ?_
          refine P.iload 5 (pc' := 95) dX9_ends_93 rfl rfl ?_
          obtain ⟨q15, h16, hf⟩ := ob hf
          refine P.callV (pc' := 98) (As := [.int v7, .int c4]) 2 (ok_X9_isLive F v7 c4 tw μ τ h16) (Nat.le_of_ble_eq_true rfl) (lw_V q2237 q2239 qs155 q172 q2240) rfl yok_X9_isLive rfl (Nat.le_of_ble_eq_true rfl) ci9 T_oc (by decide) rfl dX9_ends_95 rfl ?_
          refine P.if_ne (tgt := 104) (pc' := 101) dX9_ends_98 (by decide) rfl (fun y17 => ?_) (fun y17 => ?_)
          · have hf := (if_neg y17).symm.trans hf
            refine P.iload_n 4 (pc' := 105) dX9_ends_104 rfl rfl rfl ?_
            refine P.aload_n 1 (pc' := 106) dX9_ends_105 rfl rfl rfl ?_
            refine P.get (v := .ref (tw + 7)) (pc' := 109) ci9 13 (by decide) (T_gf rfl) q1568 (Or.inl rfl) dX9_ends_106 rfl ?_
            refine P.iload 0 (pc' := 111) dX9_ends_109 rfl rfl ?_
            refine P.iconst (v := 2) (pc' := 112) dX9_ends_111 rfl (by decide) ?_
            refine P.iadd (pc' := 113) dX9_ends_112 rfl ?_
            obtain ⟨x18, h19, hf⟩ := ob hf
            refine P.iald (t := 0) (pc' := 114) rfl (T_aI rfl h19) dX9_ends_113 rfl ?_
            refine P.iload_n 3 (pc' := 115) dX9_ends_114 rfl rfl rfl ?_
            obtain ⟨q20, h21, hf⟩ := ob hf
            refine P.callS (pc' := 118) (As := [.int x18, .int c2]) 2 (ok_X9_apart F x18 c2 (mT tw τ μ) h21) (Nat.le_of_ble_eq_true rfl) (lw_S q2249 q2250 q172 q2251) yok_X9_apart rfl (Nat.le_of_ble_eq_true rfl) (Nat.le_of_ble_eq_true rfl) rfl dX9_ends_115 rfl ?_
            refine P.imul (pc' := 119) dX9_ends_118 rfl ?_
            obtain ⟨x22, e23, hf⟩ := nm_i hf
            refine P.nmi e23 ?_
            refine P.istore (pc' := 121) (lv' := [(9, .int x22), (8, .int x3), (0, .ref tw), (1, .int c1), (2, .int c2), (3, .int c3), (4, .int c4), (5, .int v5), (6, .int v6), (7, .int v7)]) dX9_ends_119 rfl (Nat.le_of_ble_eq_true rfl) rfl ?_
            refine P.aload_n 2 (pc' := 122) dX9_ends_121 rfl rfl rfl ?_
            refine P.get (v := .ref (tw + 7)) (pc' := 125) ci9 13 (by decide) (T_gf rfl) q1568 (Or.inl rfl) dX9_ends_122 rfl ?_
            refine P.iload 1 (pc' := 127) dX9_ends_125 rfl rfl ?_
            refine P.iconst (v := 3) (pc' := 128) dX9_ends_127 rfl (by decide) ?_
            refine P.iadd (pc' := 129) dX9_ends_128 rfl ?_
            obtain ⟨x24, h25, hf⟩ := ob hf
            refine P.iald (t := 0) (pc' := 130) rfl (T_aI rfl h25) dX9_ends_129 rfl ?_
            refine P.iload 0 (pc' := 132) dX9_ends_130 rfl rfl ?_
            refine P.isub (pc' := 133) dX9_ends_132 rfl ?_
            refine P.iload 7 (pc' := 135) dX9_ends_133 rfl rfl ?_
            refine P.icmp_le (tgt := 152) (pc' := 138) dX9_ends_135 (by decide) rfl (fun y26 => ?_) (fun y26 => ?_)
            · have hf := (if_pos y26).symm.trans hf
              exact PW.sub [2, 3, 4, 5, 6, 7, 8, 9, 1, 0] rfl (ok_t_X9_ends_j152 F tw μ c1 c2 c3 c4 v5 v6 v7 x3 x22 τ _ ih hf)
            · have hf := (if_neg y26).symm.trans hf
              refine P.aload_n 2 (pc' := 139) dX9_ends_138 rfl rfl rfl ?_
              refine P.get (v := .ref (tw + 7)) (pc' := 142) ci9 13 (by decide) (T_gf rfl) q1568 (Or.inl rfl) dX9_ends_139 rfl ?_
              refine P.iload 1 (pc' := 144) dX9_ends_142 rfl rfl ?_
              refine P.iconst (v := 3) (pc' := 145) dX9_ends_144 rfl (by decide) ?_
              refine P.iadd (pc' := 146) dX9_ends_145 rfl ?_
              obtain ⟨x27, h28, hf⟩ := ob hf
              refine P.iald (t := 0) (pc' := 147) rfl (T_aI rfl h28) dX9_ends_146 rfl ?_
              refine P.iload 0 (pc' := 149) dX9_ends_147 rfl rfl ?_
              refine P.isub (pc' := 150) dX9_ends_149 rfl ?_
              obtain ⟨x29, e30, hf⟩ := nm_i hf
              refine P.nmi e30 ?_
              refine P.istore (pc' := 152) (lv' := [(5, .int x29), (9, .int x22), (8, .int x3), (0, .ref tw), (1, .int c1), (2, .int c2), (3, .int c3), (4, .int c4), (6, .int v6), (7, .int v7)]) dX9_ends_150 rfl (Nat.le_of_ble_eq_true rfl) rfl ?_
              exact PW.sub [3, 4, 5, 6, 7, 0, 8, 9, 2, 1] rfl (ok_t_X9_ends_j152 F tw μ c1 c2 c3 c4 x29 v6 v7 x3 x22 τ _ ih hf)
          · have hf := (if_pos y17).symm.trans hf
            refine P.goto (tgt := 294) dX9_ends_101 (by decide) ?_
            obtain ⟨x31, e32, hf⟩ := nm_i hf
            refine P.iinc 8 (pc' := 297) (lv' := [(7, .int x31), (8, .int x3), (0, .ref tw), (1, .int c1), (2, .int c2), (3, .int c3), (4, .int c4), (5, .int v5), (6, .int v6)]) dX9_ends_294 rfl rfl (by decide) e32 (Nat.le_of_ble_eq_true rfl) rfl ?_
            refine P.goto (tgt := 49) dX9_ends_297 (by decide) ?_
            exact PW.sub [2, 3, 4, 5, 6, 7, 8, 0] rfl (ih _ _ _ hf)
noncomputable def t_X9_ends (F : Nat) (p1 : Int32) (p2 : Int32) (p3 : Int32) (p4 : Int32) (τ : Tw) : Option Int32 :=
  Option.bind (t_X9_isHouse F p1 τ) fun q1 =>
  if q1 = 0 then
    some (-1)
  else
    Option.bind (p_X9_isIn F p2 0 99) fun q4 =>
    if q4 = 0 then
      some (-1)
    else
      Option.bind (p_X9_isIn F p3 0 99) fun q7 =>
      if q7 = 0 then
        some (-1)
      else
        Option.bind (t_X9_isKnown F p4 τ) fun q10 =>
        if q10 = 0 then
          some (-1)
        else
          t_X9_ends_L49 F p1 p2 p3 p4 τ F 0 99 0
set_option maxHeartbeats 4000000 in
theorem ok_X9_ends {g : Gx} (F : Nat) (p1 : Int32) (p2 : Int32) (p3 : Int32) (p4 : Int32) (tw : Nat) (μ : Sw) (τ : Tw) {rv : Int32} (hf : t_X9_ends F p1 p2 p3 p4 τ = some rv) : Cl g 2 yX9_ends cX9_ends 12 (some Jvm.ClassFile.FieldType.int) [.ref tw, .int p1, .int p2, .int p3, .int p4] (mT tw τ μ) (some (.int rv)) (mT tw τ μ) := by
  unfold t_X9_ends at hf
  refine Cl.of (own := RX9) (ini := false) (by decide +kernel) rfl (by decide) (Nat.le_of_ble_eq_true rfl) ?_
  show PW g mX9_ends 2 (mT tw τ μ) (mT tw τ μ) (QN g (some (.int rv)) (mT tw τ μ) (mT tw τ μ)) 0 [(0, .ref tw), (1, .int p1), (2, .int p2), (3, .int p3), (4, .int p4)] [] (mT tw τ μ)
  refine P.aload_n 0 (pc' := 1) dX9_ends_0 rfl rfl rfl ?_
  refine P.iload_n 1 (pc' := 2) dX9_ends_1 rfl rfl rfl ?_
  obtain ⟨q1, h2, hf⟩ := ob hf
  refine P.callV (pc' := 5) (As := [.int p1]) 1 (ok_X9_isHouse F p1 tw μ τ h2) (Nat.le_of_ble_eq_true rfl) (lw_V q1920 q1922 qs114 q172 q1923) rfl yok_X9_isHouse rfl (Nat.le_of_ble_eq_true rfl) ci9 T_oc (by decide) rfl dX9_ends_2 rfl ?_
  refine P.if_eq (tgt := 37) (pc' := 8) dX9_ends_5 (by decide) rfl (fun y3 => ?_) (fun y3 => ?_)
  · have hf := (if_pos y3).symm.trans hf
    refine P.iconst (v := (-1)) (pc' := 38) dX9_ends_37 rfl (by decide) ?_
    cases hf; exact P.iret rfl dX9_ends_38
  · have hf := (if_neg y3).symm.trans hf
    refine P.iload_n 2 (pc' := 9) dX9_ends_8 rfl rfl rfl ?_
    refine P.iconst (v := 0) (pc' := 10) dX9_ends_9 rfl (by decide) ?_
    refine P.bipush (v := 99) (pc' := 12) dX9_ends_10 rfl (by decide) ?_
    obtain ⟨q4, h5, hf⟩ := ob hf
    refine P.callS (pc' := 15) (As := [.int p2, .int 0, .int 99]) 3 (ok_X9_isIn F p2 0 99 (mT tw τ μ) h5) (Nat.le_of_ble_eq_true rfl) (lw_S q1971 q1972 q172 q1973) yok_X9_isIn rfl (Nat.le_of_ble_eq_true rfl) (by decide) rfl dX9_ends_12 rfl ?_
    refine P.if_eq (tgt := 37) (pc' := 18) dX9_ends_15 (by decide) rfl (fun y6 => ?_) (fun y6 => ?_)
    · have hf := (if_pos y6).symm.trans hf
      refine P.iconst (v := (-1)) (pc' := 38) dX9_ends_37 rfl (by decide) ?_
      cases hf; exact P.iret rfl dX9_ends_38
    · have hf := (if_neg y6).symm.trans hf
      refine P.iload_n 3 (pc' := 19) dX9_ends_18 rfl rfl rfl ?_
      refine P.iconst (v := 0) (pc' := 20) dX9_ends_19 rfl (by decide) ?_
      refine P.bipush (v := 99) (pc' := 22) dX9_ends_20 rfl (by decide) ?_
      obtain ⟨q7, h8, hf⟩ := ob hf
      refine P.callS (pc' := 25) (As := [.int p3, .int 0, .int 99]) 3 (ok_X9_isIn F p3 0 99 (mT tw τ μ) h8) (Nat.le_of_ble_eq_true rfl) (lw_S q1971 q1972 q172 q1973) yok_X9_isIn rfl (Nat.le_of_ble_eq_true rfl) (by decide) rfl dX9_ends_22 rfl ?_
      refine P.if_eq (tgt := 37) (pc' := 28) dX9_ends_25 (by decide) rfl (fun y9 => ?_) (fun y9 => ?_)
      · have hf := (if_pos y9).symm.trans hf
        refine P.iconst (v := (-1)) (pc' := 38) dX9_ends_37 rfl (by decide) ?_
        cases hf; exact P.iret rfl dX9_ends_38
      · have hf := (if_neg y9).symm.trans hf
        refine P.aload_n 0 (pc' := 29) dX9_ends_28 rfl rfl rfl ?_
        refine P.iload 4 (pc' := 31) dX9_ends_29 rfl rfl ?_
        obtain ⟨q10, h11, hf⟩ := ob hf
        refine P.callV (pc' := 34) (As := [.int p4]) 1 (ok_X9_isKnown F p4 tw μ τ h11) (Nat.le_of_ble_eq_true rfl) (lw_V q2225 q2227 qs152 q172 q2228) rfl yok_X9_isKnown rfl (Nat.le_of_ble_eq_true rfl) ci9 T_oc (by decide) rfl dX9_ends_31 rfl ?_
        refine P.if_ne (tgt := 39) (pc' := 37) dX9_ends_34 (by decide) rfl (fun y12 => ?_) (fun y12 => ?_)
        · have hf := (if_neg y12).symm.trans hf
          refine P.iconst (v := 0) (pc' := 40) dX9_ends_39 rfl (by decide) ?_
          refine P.istore (pc' := 42) (lv' := [(5, .int 0), (0, .ref tw), (1, .int p1), (2, .int p2), (3, .int p3), (4, .int p4)]) dX9_ends_40 rfl (Nat.le_of_ble_eq_true rfl) rfl ?_
          refine P.bipush (v := 99) (pc' := 44) dX9_ends_42 rfl (by decide) ?_
          refine P.istore (pc' := 46) (lv' := [(6, .int 99), (5, .int 0), (0, .ref tw), (1, .int p1), (2, .int p2), (3, .int p3), (4, .int p4)]) dX9_ends_44 rfl (Nat.le_of_ble_eq_true rfl) rfl ?_
          refine P.iconst (v := 0) (pc' := 47) dX9_ends_46 rfl (by decide) ?_
          refine P.istore (pc' := 49) (lv' := [(7, .int 0), (6, .int 99), (5, .int 0), (0, .ref tw), (1, .int p1), (2, .int p2), (3, .int p3), (4, .int p4)]) dX9_ends_47 rfl (Nat.le_of_ble_eq_true rfl) rfl ?_
          exact PW.sub [3, 4, 5, 6, 7, 2, 1, 0] rfl (ok_t_X9_ends_L49 F tw μ p1 p2 p3 p4 τ F _ _ _ hf)
        · have hf := (if_pos y12).symm.trans hf
          refine P.iconst (v := (-1)) (pc' := 38) dX9_ends_37 rfl (by decide) ?_
          cases hf; exact P.iret rfl dX9_ends_38
