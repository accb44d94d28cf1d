set_option maxRecDepth 100000
abbrev mX9_names : Ym := (RX9, cX9_names, 5, (some Jvm.ClassFile.FieldType.boolean), false, [])
noncomputable def t_X9_names_L18_b (F : Nat) (k56 : Tw → Option (Int32 × Tw)) (c1 : Int32) (c2 : Int32) (c3 : Int32) (self : Int32 → Tw → Option (Int32 × Tw)) (v4 : Int32) (τ : Tw) : Option (Int32 × Tw) :=
  if (τ.1 25) ≤ v4 then
    k56 τ
  else
    Option.bind (taL τ 19 30 v4) fun x2 =>
    Option.bind (taL τ 5 2001 c3) fun x4 =>
    if (lg_cmp x2 x4) = 0 then
      Option.bind (t_X9_tells F 3 c3 τ) fun q9 =>
      nm (v4 + 1) fun x11 =>
      self x11 q9
    else
      nm (v4 + 1) fun x7 =>
      self x7 τ
noncomputable def t_X9_names_L18 (F : Nat) (k56 : Tw → Option (Int32 × Tw)) (c1 : Int32) (c2 : Int32) (c3 : Int32) (n : Nat) : Int32 → Tw → Option (Int32 × Tw) := Nat.rec (motive := fun _ => Int32 → Tw → Option (Int32 × Tw)) (fun _ _ => none) (fun _ self => t_X9_names_L18_b F k56 c1 c2 c3 self) n
set_option maxHeartbeats 4000000 in
theorem ok_t_X9_names_L18 {g : Gx} {μ0 : Sw} {rv : Int32} {τF : Tw} (F : Nat) (tw : Nat) (μ : Sw) (c1 : Int32) (c2 : Int32) (c3 : Int32) (k56 : Tw → Option (Int32 × Tw)) (hk56 : ∀ (τ : Tw), k56 τ = some (rv, τF) → PW g mX9_names 4 μ0 (mT tw τF μ) (QN g (some (.int rv)) μ0 (mT tw τF μ)) 56 [(0, .ref tw), (1, .int c1), (2, .int c2), (3, .int c3)] [] (mT tw τ μ)) : ∀ (n : Nat) (v4 : Int32) (τ : Tw), t_X9_names_L18 F k56 c1 c2 c3 n v4 τ = some (rv, τF) → PW g mX9_names 4 μ0 (mT tw τF μ) (QN g (some (.int rv)) μ0 (mT tw τF μ)) 18 [(0, .ref tw), (1, .int c1), (2, .int c2), (3, .int c3), (4, .int v4)] [] (mT tw τ μ) := by
  intro n
  induction n with
  | zero =>
    intro v4 τ hf
    have hf : (none : Option (Int32 × Tw)) = some _ := hf
    cases hf
  | succ n ih =>
    intro v4 τ hf
    have hf : t_X9_names_L18_b F k56 c1 c2 c3 (t_X9_names_L18 F k56 c1 c2 c3 n) v4 τ = some (rv, τF) := hf
    unfold t_X9_names_L18_b at hf
    refine P.iload 4 (pc' := 20) dX9_names_18 rfl rfl ?_
    refine P.aload_n 0 (pc' := 21) dX9_names_20 rfl rfl rfl ?_
    refine P.get (v := .int (τ.1 25)) (pc' := 24) ci9 25 (by decide) (T_gf rfl) q1580 (Or.inl rfl) dX9_names_21 rfl ?_
    refine P.icmp_ge (tgt := 56) (pc' := 27) dX9_names_24 (by decide) rfl (fun y1 => ?_) (fun y1 => ?_)
    · have hf := (if_pos y1).symm.trans hf
      exact PW.sub [0, 1, 2, 3] rfl (hk56 _ hf)
    · have hf := (if_neg y1).symm.trans hf
      refine P.aload_n 0 (pc' := 28) dX9_names_27 rfl rfl rfl ?_
      refine P.get (v := .ref (tw + 19)) (pc' := 31) ci9 26 (by decide) (T_gf rfl) q1581 (Or.inl rfl) dX9_names_28 rfl ?_
      refine P.iload 4 (pc' := 33) dX9_names_31 rfl rfl ?_
      obtain ⟨x2, h3, hf⟩ := ob hf
      refine P.lald (t := 1) (pc' := 34) rfl (T_aL rfl h3) dX9_names_33 rfl ?_
      refine P.aload_n 0 (pc' := 35) dX9_names_34 rfl rfl rfl ?_
      refine P.get (v := .ref (tw + 5)) (pc' := 38) ci9 6 (by decide) (T_gf rfl) q1561 (Or.inl rfl) dX9_names_35 rfl ?_
      refine P.iload_n 3 (pc' := 39) dX9_names_38 rfl rfl rfl ?_
      obtain ⟨x4, h5, hf⟩ := ob hf
      refine P.lald (t := 1) (pc' := 40) rfl (T_aL rfl h5) dX9_names_39 rfl ?_
      refine P.lcmp (pc' := 41) dX9_names_40 rfl ?_
      refine P.if_ne (tgt := 50) (pc' := 44) dX9_names_41 (by decide) rfl (fun y6 => ?_) (fun y6 => ?_)
      · have hf := (if_neg y6).symm.trans hf
        obtain ⟨x7, e8, hf⟩ := nm_i hf
        refine P.iinc 4 (pc' := 53) (lv' := [(4, .int x7), (0, .ref tw), (1, .int c1), (2, .int c2), (3, .int c3)]) dX9_names_50 rfl rfl (by decide) e8 (Nat.le_of_ble_eq_true rfl) rfl ?_
        refine P.goto (tgt := 18) dX9_names_53 (by decide) ?_
        exact PW.sub [1, 2, 3, 4, 0] rfl (ih _ _ hf)
      · have hf := (if_pos y6).symm.trans hf
        refine P.aload_n 0 (pc' := 45) dX9_names_44 rfl rfl rfl ?_
        refine P.iconst (v := 3) (pc' := 46) dX9_names_45 rfl (by decide) ?_
        refine P.iload_n 3 (pc' := 47) dX9_names_46 rfl rfl rfl ?_
        obtain ⟨q9, h10, hf⟩ := ob hf
        refine P.callV (pc' := 50) (As := [.int 3, .int c3]) 2 (ok_X9_tells F 3 c3 tw μ τ h10) (Nat.le_of_ble_eq_true rfl) (lw_V q1830 q1832 qs95 q172 q1833) rfl yok_X9_tells rfl (Nat.le_of_ble_eq_true rfl) ci9 T_oc (by decide) rfl dX9_names_47 rfl ?_
        obtain ⟨x11, e12, hf⟩ := nm_i hf
        refine P.iinc 4 (pc' := 53) (lv' := [(4, .int x11), (0, .ref tw), (1, .int c1), (2, .int c2), (3, .int c3)]) dX9_names_50 rfl rfl (by decide) e12 (Nat.le_of_ble_eq_true rfl) rfl ?_
        refine P.goto (tgt := 18) dX9_names_53 (by decide) ?_
        exact PW.sub [1, 2, 3, 4, 0] rfl (ih _ _ hf)
noncomputable def t_X9_names (F : Nat) (p1 : Int32) (p2 : Int32) (τ : Tw) : Option (Int32 × Tw) :=
  nm (τ.1 7) fun x1 =>
  Option.bind (t_X9_takes F 0 τ) fun q3 =>
  if q3.1 = 0 then
    some (0, q3.2)
  else
    t_X9_names_L18 F
      (fun τ6 =>
        Option.bind (taL τ6 5 2001 x1) fun x7 =>
        Option.bind (tsL τ6 19 1 30 (τ6.1 25) x7) fun τ10 =>
        Option.bind (tsA τ10 20 0 30 (τ10.1 25) p1) fun τ12 =>
        Option.bind (tsA τ12 21 0 30 (τ12.1 25) p2) fun τ14 =>
        nm (tsI τ14 25 ((τ14.1 25) + 1)) fun τ15 =>
        some (1, τ15))
      p1 p2 x1 F 0 q3.2
set_option maxHeartbeats 4000000 in
theorem ok_X9_names {g : Gx} (F : Nat) (p1 : Int32) (p2 : Int32) (tw : Nat) (μ : Sw) (τ : Tw) {rv : Int32} {τF : Tw} (hf : t_X9_names F p1 p2 τ = some (rv, τF)) : Cl g 4 yX9_names cX9_names 5 (some Jvm.ClassFile.FieldType.boolean) [.ref tw, .int p1, .int p2] (mT tw τ μ) (some (.int rv)) (mT tw τF μ) := by
  unfold t_X9_names at hf
  refine Cl.of (own := RX9) (ini := false) (by decide +kernel) rfl (by decide) (Nat.le_of_ble_eq_true rfl) ?_
  show PW g mX9_names 4 (mT tw τ μ) (mT tw τF μ) (QN g (some (.int rv)) (mT tw τ μ) (mT tw τF μ)) 0 [(0, .ref tw), (1, .int p1), (2, .int p2)] [] (mT tw τ μ)
  refine P.aload_n 0 (pc' := 1) dX9_names_0 rfl rfl rfl ?_
  refine P.get (v := .int (τ.1 7)) (pc' := 4) ci9 7 (by decide) (T_gf rfl) q1562 (Or.inl rfl) dX9_names_1 rfl ?_
  obtain ⟨x1, e2, hf⟩ := nm_i hf
  refine P.nmi e2 ?_
  refine P.istore_n (pc' := 5) (lv' := [(3, .int x1), (0, .ref tw), (1, .int p1), (2, .int p2)]) dX9_names_4 rfl rfl (Nat.le_of_ble_eq_true rfl) rfl ?_
  refine P.aload_n 1 (pc' := 6) dX9_names_5 rfl rfl rfl ?_
  refine P.iconst (v := 0) (pc' := 7) dX9_names_6 rfl (by decide) ?_
  obtain ⟨q3, h4, hf⟩ := ob hf
  refine P.callV (pc' := 10) (As := [.int 0]) 1 (ok_X9_takes F 0 tw μ τ h4) (Nat.le_of_ble_eq_true rfl) (lw_V q1826 q1828 qs94 q172 q1829) rfl yok_X9_takes rfl (Nat.le_of_ble_eq_true rfl) ci9 T_oc (by decide) rfl dX9_names_7 rfl ?_
  refine P.if_ne (tgt := 15) (pc' := 13) dX9_names_10 (by decide) rfl (fun y5 => ?_) (fun y5 => ?_)
  · have hf := (if_neg y5).symm.trans hf
    refine P.iconst (v := 0) (pc' := 16) dX9_names_15 rfl (by decide) ?_
    refine P.istore (pc' := 18) (lv' := [(4, .int 0), (3, .int x1), (0, .ref tw), (1, .int p1), (2, .int p2)]) dX9_names_16 rfl (Nat.le_of_ble_eq_true rfl) rfl ?_
    refine PW.sub [2, 3, 4, 1, 0] rfl (ok_t_X9_names_L18 F tw μ p1 p2 x1 _ ?_ F _ _ hf)
    · intro τ6 hf
      refine P.aload_n 0 (pc' := 57) dX9_names_56 rfl rfl rfl ?_
      refine P.get (v := .ref (tw + 19)) (pc' := 60) ci9 26 (by decide) (T_gf rfl) q1581 (Or.inl rfl) dX9_names_57 rfl ?_
      refine P.aload_n 0 (pc' := 61) dX9_names_60 rfl rfl rfl ?_
      refine P.get (v := .int (τ6.1 25)) (pc' := 64) ci9 25 (by decide) (T_gf rfl) q1580 (Or.inl rfl) dX9_names_61 rfl ?_
      refine P.aload_n 0 (pc' := 65) dX9_names_64 rfl rfl rfl ?_
      refine P.get (v := .ref (tw + 5)) (pc' := 68) ci9 6 (by decide) (T_gf rfl) q1561 (Or.inl rfl) dX9_names_65 rfl ?_
      refine P.iload_n 3 (pc' := 69) dX9_names_68 rfl rfl rfl ?_
      obtain ⟨x7, h8, hf⟩ := ob hf
      refine P.lald (t := 1) (pc' := 70) rfl (T_aL rfl h8) dX9_names_69 rfl ?_
      obtain ⟨τ10, h9, hf⟩ := ob hf
      refine P.last (pc' := 71) (T_sL rfl (by decide) h9) dX9_names_70 rfl ?_
      refine P.aload_n 0 (pc' := 72) dX9_names_71 rfl rfl rfl ?_
      refine P.get (v := .ref (tw + 20)) (pc' := 75) ci9 27 (by decide) (T_gf rfl) q1582 (Or.inl rfl) dX9_names_72 rfl ?_
      refine P.aload_n 0 (pc' := 76) dX9_names_75 rfl rfl rfl ?_
      refine P.get (v := .int (τ10.1 25)) (pc' := 79) ci9 25 (by decide) (T_gf rfl) q1580 (Or.inl rfl) dX9_names_76 rfl ?_
      refine P.iload_n 1 (pc' := 80) dX9_names_79 rfl rfl rfl ?_
      obtain ⟨τ12, h11, hf⟩ := ob hf
      refine P.iast (pc' := 81) (T_sA rfl (by decide) h11) dX9_names_80 rfl ?_
      refine P.aload_n 0 (pc' := 82) dX9_names_81 rfl rfl rfl ?_
      refine P.get (v := .ref (tw + 21)) (pc' := 85) ci9 28 (by decide) (T_gf rfl) q1583 (Or.inl rfl) dX9_names_82 rfl ?_
      refine P.aload_n 0 (pc' := 86) dX9_names_85 rfl rfl rfl ?_
      refine P.get (v := .int (τ12.1 25)) (pc' := 89) ci9 25 (by decide) (T_gf rfl) q1580 (Or.inl rfl) dX9_names_86 rfl ?_
      refine P.iload_n 2 (pc' := 90) dX9_names_89 rfl rfl rfl ?_
      obtain ⟨τ14, h13, hf⟩ := ob hf
      refine P.iast (pc' := 91) (T_sA rfl (by decide) h13) dX9_names_90 rfl ?_
      refine P.aload_n 0 (pc' := 92) dX9_names_91 rfl rfl rfl ?_
      refine P.dup (pc' := 93) dX9_names_92 rfl rfl ?_
      refine P.get (v := .int (τ14.1 25)) (pc' := 96) ci9 25 (by decide) (T_gf rfl) q1580 (Or.inl rfl) dX9_names_93 rfl ?_
      refine P.iconst (v := 1) (pc' := 97) dX9_names_96 rfl (by decide) ?_
      refine P.iadd (pc' := 98) dX9_names_97 rfl ?_
      obtain ⟨τ15, e16, hf⟩ := nm_i hf
      refine P.put (v := .int ((τ14.1 25) + 1)) (pc' := 101) ci9 25 (by decide) (T_put rfl (by decide) e16) q1580 (Or.inl rfl) rfl rfl rfl dX9_names_98 rfl ?_
      refine P.iconst (v := 1) (pc' := 102) dX9_names_101 rfl (by decide) ?_
      cases hf; exact P.zret rfl (Or.inr rfl) dX9_names_102
  · have hf := (if_pos y5).symm.trans hf
    refine P.iconst (v := 0) (pc' := 14) dX9_names_13 rfl (by decide) ?_
    cases hf; exact P.zret rfl (Or.inl rfl) dX9_names_14
theorem yok_X9_names : yOK yX9_names 2 := ⟨by decide +kernel, by decide +kernel, by decide +kernel⟩
abbrev mX9_tellOffice : Ym := (RX9, cX9_tellOffice, 3, (some Jvm.ClassFile.FieldType.boolean), false, [])
noncomputable def t_X9_tellOffice (F : Nat) (τ : Tw) : Option (Int32 × Tw) :=
  Option.bind (t_X9_told F 1 τ) fun q1 =>
  Option.bind (t_X9_next F 1 12 70 1 τ) fun q3 =>
  if 0 ≤ q3.1 then
    Option.bind (t_X9_pass F q3.2) fun q6 =>
    if q6.1 = 0 then
      some (0, q6.2)
    else
      Option.bind (t_X9_names F 1 q1 q6.2) fun q9 =>
      if q9.1 = 0 then
        some (0, q9.2)
      else
        Option.bind (t_X9_takesInt F 0 99 q9.2) fun q12 =>
        if q12.1 = 0 then
          some (0, q12.2)
        else
          Option.bind (t_X9_tell F q3.1 (q12.2.1 29) q12.2) fun q15 =>
          some (1, q15)
  else
    Option.bind (t_X9_wrong F 2 q3.2) fun q17 =>
    if q17.1 = 0 ∨ q17.1 = 1 then
      some (q17.1, q17.2)
    else
      none
set_option maxHeartbeats 4000000 in
theorem ok_X9_tellOffice {g : Gx} (F : Nat) (tw : Nat) (μ : Sw) (τ : Tw) {rv : Int32} {τF : Tw} (hf : t_X9_tellOffice F τ = some (rv, τF)) : Cl g 5 yX9_tellOffice cX9_tellOffice 3 (some Jvm.ClassFile.FieldType.boolean) [.ref tw] (mT tw τ μ) (some (.int rv)) (mT tw τF μ) := by
  unfold t_X9_tellOffice at hf
  refine Cl.of (own := RX9) (ini := false) (by decide +kernel) rfl (by decide) (Nat.le_of_ble_eq_true rfl) ?_
  show PW g mX9_tellOffice 5 (mT tw τ μ) (mT tw τF μ) (QN g (some (.int rv)) (mT tw τ μ) (mT tw τF μ)) 0 [(0, .ref tw)] [] (mT tw τ μ)
  refine P.aload_n 0 (pc' := 1) dX9_tellOffice_0 rfl rfl rfl ?_
  refine P.iconst (v := 1) (pc' := 2) dX9_tellOffice_1 rfl (by decide) ?_
  obtain ⟨q1, h2, hf⟩ := ob hf
  refine P.callV (pc' := 5) (As := [.int 1]) 1 (ok_X9_told F 1 tw μ τ h2) (Nat.le_of_ble_eq_true rfl) (lw_V q1802 q1804 qs88 q172 q1805) rfl yok_X9_told rfl (Nat.le_of_ble_eq_true rfl) ci9 T_oc (by decide) rfl dX9_tellOffice_2 rfl ?_
  refine P.istore_n (pc' := 6) (lv' := [(1, .int q1), (0, .ref tw)]) dX9_tellOffice_5 rfl rfl (Nat.le_of_ble_eq_true rfl) rfl ?_
  refine P.aload_n 1 (pc' := 7) dX9_tellOffice_6 rfl rfl rfl ?_
  refine P.iconst (v := 1) (pc' := 8) dX9_tellOffice_7 rfl (by decide) ?_
  refine P.bipush (v := 12) (pc' := 10) dX9_tellOffice_8 rfl (by decide) ?_
  refine P.bipush (v := 70) (pc' := 12) dX9_tellOffice_10 rfl (by decide) ?_
  refine P.iconst (v := 1) (pc' := 13) dX9_tellOffice_12 rfl (by decide) ?_
  obtain ⟨q3, h4, hf⟩ := ob hf
  refine P.callV (pc' := 16) (As := [.int 1, .int 12, .int 70, .int 1]) 4 (ok_X9_next F 1 12 70 1 tw μ τ h4) (Nat.le_of_ble_eq_true rfl) (lw_V q1806 q1808 qs89 q172 q1809) rfl yok_X9_next rfl (Nat.le_of_ble_eq_true rfl) ci9 T_oc (by decide) rfl dX9_tellOffice_13 rfl ?_
  refine P.istore_n (pc' := 17) (lv' := [(2, .int q3.1), (1, .int q1), (0, .ref tw)]) dX9_tellOffice_16 rfl rfl (Nat.le_of_ble_eq_true rfl) rfl ?_
  refine P.iload_n 0 (pc' := 18) dX9_tellOffice_17 rfl rfl rfl ?_
  refine P.if_ge (tgt := 27) (pc' := 21) dX9_tellOffice_18 (by decide) rfl (fun y5 => ?_) (fun y5 => ?_)
  · have hf := (if_pos y5).symm.trans hf
    refine P.aload_n 2 (pc' := 28) dX9_tellOffice_27 rfl rfl rfl ?_
    obtain ⟨q6, h7, hf⟩ := ob hf
    refine P.callV (pc' := 31) (As := []) 0 (ok_X9_pass F tw μ q3.2 h7) (Nat.le_of_ble_eq_true rfl) (lw_V q1818 q1820 qs92 q172 q1821) rfl yok_X9_pass rfl (Nat.le_of_ble_eq_true rfl) ci9 T_oc (by decide) rfl dX9_tellOffice_28 rfl ?_
    refine P.if_eq (tgt := 53) (pc' := 34) dX9_tellOffice_31 (by decide) rfl (fun y8 => ?_) (fun y8 => ?_)
    · have hf := (if_pos y8).symm.trans hf
      refine P.iconst (v := 0) (pc' := 54) dX9_tellOffice_53 rfl (by decide) ?_
      cases hf; exact P.zret rfl (Or.inl rfl) dX9_tellOffice_54
    · have hf := (if_neg y8).symm.trans hf
      refine P.aload_n 2 (pc' := 35) dX9_tellOffice_34 rfl rfl rfl ?_
      refine P.iconst (v := 1) (pc' := 36) dX9_tellOffice_35 rfl (by decide) ?_
      refine P.iload_n 1 (pc' := 37) dX9_tellOffice_36 rfl rfl rfl ?_
      obtain ⟨q9, h10, hf⟩ := ob hf
      refine P.callV (pc' := 40) (As := [.int 1, .int q1]) 2 (ok_X9_names F 1 q1 tw μ q6.2 h10) (Nat.le_of_ble_eq_true rfl) (lw_V q1822 q1824 qs93 q172 q1825) rfl yok_X9_names rfl (Nat.le_of_ble_eq_true rfl) ci9 T_oc (by decide) rfl dX9_tellOffice_37 rfl ?_
      refine P.if_eq (tgt := 53) (pc' := 43) dX9_tellOffice_40 (by decide) rfl (fun y11 => ?_) (fun y11 => ?_)
      · have hf := (if_pos y11).symm.trans hf
        refine P.iconst (v := 0) (pc' := 54) dX9_tellOffice_53 rfl (by decide) ?_
        cases hf; exact P.zret rfl (Or.inl rfl) dX9_tellOffice_54
      · have hf := (if_neg y11).symm.trans hf
        refine P.aload_n 2 (pc' := 44) dX9_tellOffice_43 rfl rfl rfl ?_
        refine P.iconst (v := 0) (pc' := 45) dX9_tellOffice_44 rfl (by decide) ?_
        refine P.bipush (v := 99) (pc' := 47) dX9_tellOffice_45 rfl (by decide) ?_
        obtain ⟨q12, h13, hf⟩ := ob hf
        refine P.callV (pc' := 50) (As := [.int 0, .int 99]) 2 (ok_X9_takesInt F 0 99 tw μ q9.2 h13) (Nat.le_of_ble_eq_true rfl) (lw_V q1834 q1836 qs96 q172 q1837) rfl yok_X9_takesInt rfl (Nat.le_of_ble_eq_true rfl) ci9 T_oc (by decide) rfl dX9_tellOffice_47 rfl ?_
        refine P.if_ne (tgt := 55) (pc' := 53) dX9_tellOffice_50 (by decide) rfl (fun y14 => ?_) (fun y14 => ?_)
        · have hf := (if_neg y14).symm.trans hf
          refine P.aload_n 2 (pc' := 56) dX9_tellOffice_55 rfl rfl rfl ?_
          refine P.iload_n 0 (pc' := 57) dX9_tellOffice_56 rfl rfl rfl ?_
          refine P.aload_n 2 (pc' := 58) dX9_tellOffice_57 rfl rfl rfl ?_
          refine P.get (v := .int (q12.2.1 29)) (pc' := 61) ci9 29 (by decide) (T_gf rfl) q1584 (Or.inl rfl) dX9_tellOffice_58 rfl ?_
          obtain ⟨q15, h16, hf⟩ := ob hf
          refine P.callV (pc' := 64) (As := [.int q3.1, .int (q12.2.1 29)]) 2 (ok_X9_tell F q3.1 (q12.2.1 29) tw μ q12.2 h16) (Nat.le_of_ble_eq_true rfl) (lw_V q1810 q1812 qs90 q172 q1813) rfl yok_X9_tell rfl (Nat.le_of_ble_eq_true rfl) ci9 T_oc (by decide) rfl dX9_tellOffice_61 rfl ?_
          refine P.iconst (v := 1) (pc' := 65) dX9_tellOffice_64 rfl (by decide) ?_
          cases hf; exact P.zret rfl (Or.inr rfl) dX9_tellOffice_65
        · have hf := (if_pos y14).symm.trans hf
          refine P.iconst (v := 0) (pc' := 54) dX9_tellOffice_53 rfl (by decide) ?_
          cases hf; exact P.zret rfl (Or.inl rfl) dX9_tellOffice_54
  · have hf := (if_neg y5).symm.trans hf
    refine P.aload_n 2 (pc' := 22) dX9_tellOffice_21 rfl rfl rfl ?_
    refine P.iconst (v := 2) (pc' := 23) dX9_tellOffice_22 rfl (by decide) ?_
    obtain ⟨q17, h18, hf⟩ := ob hf
    refine P.callV (pc' := 26) (As := [.int 2]) 1 (ok_X9_wrong F 2 tw μ q3.2 h18) (Nat.le_of_ble_eq_true rfl) (lw_V q1814 q1816 qs91 q172 q1817) rfl yok_X9_wrong rfl (Nat.le_of_ble_eq_true rfl) ci9 T_oc (by decide) rfl dX9_tellOffice_23 rfl ?_
    by_cases y19 : q17.1 = 0 ∨ q17.1 = 1
    · have hf := (if_pos y19).symm.trans hf
      cases hf; exact P.zret rfl y19 dX9_tellOffice_26
    · have hf := (if_neg y19).symm.trans hf
      cases hf
abbrev mX9_tellHouse : Ym := (RX9, cX9_tellHouse, 3, (some Jvm.ClassFile.FieldType.boolean), false, [])
noncomputable def t_X9_tellHouse (F : Nat) (τ : Tw) : Option (Int32 × Tw) :=
  Option.bind (t_X9_told F 0 τ) fun q1 =>
  Option.bind (t_X9_next F 0 16 20 3 τ) fun q3 =>
  if 0 ≤ q3.1 then
    Option.bind (t_X9_pass F q3.2) fun q6 =>
    if q6.1 = 0 then
      some (0, q6.2)
    else
      Option.bind (t_X9_names F 0 q1 q6.2) fun q9 =>
      if q9.1 = 0 then
        some (0, q9.2)
      else
        Option.bind (t_X9_takesInt F 0 40 q9.2) fun q12 =>
        if q12.1 = 0 then
          some (0, q12.2)
        else
          Option.bind (t_X9_tell F q3.1 (q12.2.1 29) q12.2) fun q15 =>
          Option.bind (t_X9_takesInt F 0 99 q15) fun q17 =>
          if q17.1 = 0 then
            some (0, q17.2)
          else
            Option.bind (t_X9_tell F (q3.1 + 1) (q17.2.1 29) q17.2) fun q20 =>
            Option.bind (t_X9_takesInt F 1 9 q20) fun q22 =>
            if q22.1 = 0 then
              some (0, q22.2)
            else
              Option.bind (t_X9_tell F (q3.1 + 2) (q22.2.1 29) q22.2) fun q25 =>
              some (1, q25)
  else
    Option.bind (t_X9_wrong F 2 q3.2) fun q27 =>
    if q27.1 = 0 ∨ q27.1 = 1 then
      some (q27.1, q27.2)
    else
      none
set_option maxHeartbeats 4000000 in
theorem ok_X9_tellHouse {g : Gx} (F : Nat) (tw : Nat) (μ : Sw) (τ : Tw) {rv : Int32} {τF : Tw} (hf : t_X9_tellHouse F τ = some (rv, τF)) : Cl g 5 yX9_tellHouse cX9_tellHouse 3 (some Jvm.ClassFile.FieldType.boolean) [.ref tw] (mT tw τ μ) (some (.int rv)) (mT tw τF μ) := by
  unfold t_X9_tellHouse at hf
  refine Cl.of (own := RX9) (ini := false) (by decide +kernel) rfl (by decide) (Nat.le_of_ble_eq_true rfl) ?_
  show PW g mX9_tellHouse 5 (mT tw τ μ) (mT tw τF μ) (QN g (some (.int rv)) (mT tw τ μ) (mT tw τF μ)) 0 [(0, .ref tw)] [] (mT tw τ μ)
  refine P.aload_n 0 (pc' := 1) dX9_tellHouse_0 rfl rfl rfl ?_
  refine P.iconst (v := 0) (pc' := 2) dX9_tellHouse_1 rfl (by decide) ?_
  obtain ⟨q1, h2, hf⟩ := ob hf
  refine P.callV (pc' := 5) (As := [.int 0]) 1 (ok_X9_told F 0 tw μ τ h2) (Nat.le_of_ble_eq_true rfl) (lw_V q1802 q1804 qs88 q172 q1805) rfl yok_X9_told rfl (Nat.le_of_ble_eq_true rfl) ci9 T_oc (by decide) rfl dX9_tellHouse_2 rfl ?_
  refine P.istore_n (pc' := 6) (lv' := [(1, .int q1), (0, .ref tw)]) dX9_tellHouse_5 rfl rfl (Nat.le_of_ble_eq_true rfl) rfl ?_
  refine P.aload_n 1 (pc' := 7) dX9_tellHouse_6 rfl rfl rfl ?_
  refine P.iconst (v := 0) (pc' := 8) dX9_tellHouse_7 rfl (by decide) ?_
  refine P.bipush (v := 16) (pc' := 10) dX9_tellHouse_8 rfl (by decide) ?_
  refine P.bipush (v := 20) (pc' := 12) dX9_tellHouse_10 rfl (by decide) ?_
  refine P.iconst (v := 3) (pc' := 13) dX9_tellHouse_12 rfl (by decide) ?_
  obtain ⟨q3, h4, hf⟩ := ob hf
  refine P.callV (pc' := 16) (As := [.int 0, .int 16, .int 20, .int 3]) 4 (ok_X9_next F 0 16 20 3 tw μ τ h4) (Nat.le_of_ble_eq_true rfl) (lw_V q1806 q1808 qs89 q172 q1809) rfl yok_X9_next rfl (Nat.le_of_ble_eq_true rfl) ci9 T_oc (by decide) rfl dX9_tellHouse_13 rfl ?_
  refine P.istore_n (pc' := 17) (lv' := [(2, .int q3.1), (1, .int q1), (0, .ref tw)]) dX9_tellHouse_16 rfl rfl (Nat.le_of_ble_eq_true rfl) rfl ?_
  refine P.iload_n 0 (pc' := 18) dX9_tellHouse_17 rfl rfl rfl ?_
  refine P.if_ge (tgt := 27) (pc' := 21) dX9_tellHouse_18 (by decide) rfl (fun y5 => ?_) (fun y5 => ?_)
  · have hf := (if_pos y5).symm.trans hf
    refine P.aload_n 2 (pc' := 28) dX9_tellHouse_27 rfl rfl rfl ?_
    obtain ⟨q6, h7, hf⟩ := ob hf
    refine P.callV (pc' := 31) (As := []) 0 (ok_X9_pass F tw μ q3.2 h7) (Nat.le_of_ble_eq_true rfl) (lw_V q1818 q1820 qs92 q172 q1821) rfl yok_X9_pass rfl (Nat.le_of_ble_eq_true rfl) ci9 T_oc (by decide) rfl dX9_tellHouse_28 rfl ?_
    refine P.if_eq (tgt := 53) (pc' := 34) dX9_tellHouse_31 (by decide) rfl (fun y8 => ?_) (fun y8 => ?_)
    · have hf := (if_pos y8).symm.trans hf
      refine P.iconst (v := 0) (pc' := 54) dX9_tellHouse_53 rfl (by decide) ?_
      cases hf; exact P.zret rfl (Or.inl rfl) dX9_tellHouse_54
    · have hf := (if_neg y8).symm.trans hf
      refine P.aload_n 2 (pc' := 35) dX9_tellHouse_34 rfl rfl rfl ?_
      refine P.iconst (v := 0) (pc' := 36) dX9_tellHouse_35 rfl (by decide) ?_
      refine P.iload_n 1 (pc' := 37) dX9_tellHouse_36 rfl rfl rfl ?_
      obtain ⟨q9, h10, hf⟩ := ob hf
      refine P.callV (pc' := 40) (As := [.int 0, .int q1]) 2 (ok_X9_names F 0 q1 tw μ q6.2 h10) (Nat.le_of_ble_eq_true rfl) (lw_V q1822 q1824 qs93 q172 q1825) rfl yok_X9_names rfl (Nat.le_of_ble_eq_true rfl) ci9 T_oc (by decide) rfl dX9_tellHouse_37 rfl ?_
      refine P.if_eq (tgt := 53) (pc' := 43) dX9_tellHouse_40 (by decide) rfl (fun y11 => ?_) (fun y11 => ?_)
      · have hf := (if_pos y11).symm.trans hf
        refine P.iconst (v := 0) (pc' := 54) dX9_tellHouse_53 rfl (by decide) ?_
        cases hf; exact P.zret rfl (Or.inl rfl) dX9_tellHouse_54
      · have hf := (if_neg y11).symm.trans hf
        refine P.aload_n 2 (pc' := 44) dX9_tellHouse_43 rfl rfl rfl ?_
        refine P.iconst (v := 0) (pc' := 45) dX9_tellHouse_44 rfl (by decide) ?_
        refine P.bipush (v := 40) (pc' := 47) dX9_tellHouse_45 rfl (by decide) ?_
        obtain ⟨q12, h13, hf⟩ := ob hf
        refine P.callV (pc' := 50) (As := [.int 0, .int 40]) 2 (ok_X9_takesInt F 0 40 tw μ q9.2 h13) (Nat.le_of_ble_eq_true rfl) (lw_V q1834 q1836 qs96 q172 q1837) rfl yok_X9_takesInt rfl (Nat.le_of_ble_eq_true rfl) ci9 T_oc (by decide) rfl dX9_tellHouse_47 rfl ?_
        refine P.if_ne (tgt := 55) (pc' := 53) dX9_tellHouse_50 (by decide) rfl (fun y14 => ?_) (fun y14 => ?_)
        · have hf := (if_neg y14).symm.trans hf
          refine P.aload_n 2 (pc' := 56) dX9_tellHouse_55 rfl rfl rfl ?_
          refine P.iload_n 0 (pc' := 57) dX9_tellHouse_56 rfl rfl rfl ?_
          refine P.aload_n 2 (pc' := 58) dX9_tellHouse_57 rfl rfl rfl ?_
          refine P.get (v := .int (q12.2.1 29)) (pc' := 61) ci9 29 (by decide) (T_gf rfl) q1584 (Or.inl rfl) dX9_tellHouse_58 rfl ?_
          obtain ⟨q15, h16, hf⟩ := ob hf
          refine P.callV (pc' := 64) (As := [.int q3.1, .int (q12.2.1 29)]) 2 (ok_X9_tell F q3.1 (q12.2.1 29) tw μ q12.2 h16) (Nat.le_of_ble_eq_true rfl) (lw_V q1810 q1812 qs90 q172 q1813) rfl yok_X9_tell rfl (Nat.le_of_ble_eq_true rfl) ci9 T_oc (by decide) rfl dX9_tellHouse_61 rfl ?_
          refine P.aload_n 2 (pc' := 65) dX9_tellHouse_64 rfl rfl rfl ?_
          refine P.iconst (v := 0) (pc' := 66) dX9_tellHouse_65 rfl (by decide) ?_
          refine P.bipush (v := 99) (pc' := 68) dX9_tellHouse_66 rfl (by decide) ?_
          obtain ⟨q17, h18, hf⟩ := ob hf
          refine P.callV (pc' := 71) (As := [.int 0, .int 99]) 2 (ok_X9_takesInt F 0 99 tw μ q15 h18) (Nat.le_of_ble_eq_true rfl) (lw_V q1834 q1836 qs96 q172 q1837) rfl yok_X9_takesInt rfl (Nat.le_of_ble_eq_true rfl) ci9 T_oc (by decide) rfl dX9_tellHouse_68 rfl ?_
          refine P.if_ne (tgt := 76) (pc' := 74) dX9_tellHouse_71 (by decide) rfl (fun y19 => ?_) (fun y19 => ?_)
          · have hf := (if_neg y19).symm.trans hf
            refine P.aload_n 2 (pc' := 77) dX9_tellHouse_76 rfl rfl rfl ?_
            refine P.iload_n 0 (pc' := 78) dX9_tellHouse_77 rfl rfl rfl ?_
            refine P.iconst (v := 1) (pc' := 79) dX9_tellHouse_78 rfl (by decide) ?_
            refine P.iadd (pc' := 80) dX9_tellHouse_79 rfl ?_
            refine P.aload_n 2 (pc' := 81) dX9_tellHouse_80 rfl rfl rfl ?_
            refine P.get (v := .int (q17.2.1 29)) (pc' := 84) ci9 29 (by decide) (T_gf rfl) q1584 (Or.inl rfl) dX9_tellHouse_81 rfl ?_
            obtain ⟨q20, h21, hf⟩ := ob hf
            refine P.callV (pc' := 87) (As := [.int (q3.1 + 1), .int (q17.2.1 29)]) 2 (ok_X9_tell F (q3.1 + 1) (q17.2.1 29) tw μ q17.2 h21) (Nat.le_of_ble_eq_true rfl) (lw_V q1810 q1812 qs90 q172 q1813) rfl yok_X9_tell rfl (Nat.le_of_ble_eq_true rfl) ci9 T_oc (by decide) rfl dX9_tellHouse_84 rfl ?_
            refine P.aload_n 2 (pc' := 88) dX9_tellHouse_87 rfl rfl rfl ?_
            refine P.iconst (v := 1) (pc' := 89) dX9_tellHouse_88 rfl (by decide) ?_
            refine P.bipush (v := 9) (pc' := 91) dX9_tellHouse_89 rfl (by decide) ?_
            obtain ⟨q22, h23, hf⟩ := ob hf
            refine P.callV (pc' := 94) (As := [.int 1, .int 9]) 2 (ok_X9_takesInt F 1 9 tw μ q20 h23) (Nat.le_of_ble_eq_true rfl) (lw_V q1834 q1836 qs96 q172 q1837) rfl yok_X9_takesInt rfl (Nat.le_of_ble_eq_true rfl) ci9 T_oc (by decide) rfl dX9_tellHouse_91 rfl ?_
            refine P.if_ne (tgt := 99) (pc' := 97) dX9_tellHouse_94 (by decide) rfl (fun y24 => ?_) (fun y24 => ?_)
            · have hf := (if_neg y24).symm.trans hf
              refine P.aload_n 2 (pc' := 100) dX9_tellHouse_99 rfl rfl rfl ?_
              refine P.iload_n 0 (pc' := 101) dX9_tellHouse_100 rfl rfl rfl ?_
              refine P.iconst (v := 2) (pc' := 102) dX9_tellHouse_101 rfl (by decide) ?_
              refine P.iadd (pc' := 103) dX9_tellHouse_102 rfl ?_
              refine P.aload_n 2 (pc' := 104) dX9_tellHouse_103 rfl rfl rfl ?_
              refine P.get (v := .int (q22.2.1 29)) (pc' := 107) ci9 29 (by decide) (T_gf rfl) q1584 (Or.inl rfl) dX9_tellHouse_104 rfl ?_
              obtain ⟨q25, h26, hf⟩ := ob hf
              refine P.callV (pc' := 110) (As := [.int (q3.1 + 2), .int (q22.2.1 29)]) 2 (ok_X9_tell F (q3.1 + 2) (q22.2.1 29) tw μ q22.2 h26) (Nat.le_of_ble_eq_true rfl) (lw_V q1810 q1812 qs90 q172 q1813) rfl yok_X9_tell rfl (Nat.le_of_ble_eq_true rfl) ci9 T_oc (by decide) rfl dX9_tellHouse_107 rfl ?_
              refine P.iconst (v := 1) (pc' := 111) dX9_tellHouse_110 rfl (by decide) ?_
              cases hf; exact P.zret rfl (Or.inr rfl) dX9_tellHouse_111
            · have hf := (if_pos y24).symm.trans hf
              refine P.iconst (v := 0) (pc' := 98) dX9_tellHouse_97 rfl (by decide) ?_
              cases hf; exact P.zret rfl (Or.inl rfl) dX9_tellHouse_98
          · have hf := (if_pos y19).symm.trans hf
            refine P.iconst (v := 0) (pc' := 75) dX9_tellHouse_74 rfl (by decide) ?_
            cases hf; exact P.zret rfl (Or.inl rfl) dX9_tellHouse_75
        · have hf := (if_pos y14).symm.trans hf
          refine P.iconst (v := 0) (pc' := 54) dX9_tellHouse_53 rfl (by decide) ?_
          cases hf; exact P.zret rfl (Or.inl rfl) dX9_tellHouse_54
  · have hf := (if_neg y5).symm.trans hf
    refine P.aload_n 2 (pc' := 22) dX9_tellHouse_21 rfl rfl rfl ?_
    refine P.iconst (v := 2) (pc' := 23) dX9_tellHouse_22 rfl (by decide) ?_
    obtain ⟨q27, h28, hf⟩ := ob hf
    refine P.callV (pc' := 26) (As := [.int 2]) 1 (ok_X9_wrong F 2 tw μ q3.2 h28) (Nat.le_of_ble_eq_true rfl) (lw_V q1814 q1816 qs91 q172 q1817) rfl yok_X9_wrong rfl (Nat.le_of_ble_eq_true rfl) ci9 T_oc (by decide) rfl dX9_tellHouse_23 rfl ?_
    by_cases y29 : q27.1 = 0 ∨ q27.1 = 1
    · have hf := (if_pos y29).symm.trans hf
      cases hf; exact P.zret rfl y29 dX9_tellHouse_26
    · have hf := (if_neg y29).symm.trans hf
      cases hf
theorem yok_X9_tellHouse : yOK yX9_tellHouse 0 := ⟨by decide +kernel, by decide +kernel, by decide +kernel⟩
theorem yok_X9_tellIn : yOK yX9_tellIn 0 := ⟨by decide +kernel, by decide +kernel, by decide +kernel⟩
theorem yok_X9_tellLaw : yOK yX9_tellLaw 1 := ⟨by decide +kernel, by decide +kernel, by decide +kernel⟩
theorem yok_X9_tellNumber : yOK yX9_tellNumber 2 := ⟨by decide +kernel, by decide +kernel, by decide +kernel⟩
theorem yok_X9_tellOffice : yOK yX9_tellOffice 0 := ⟨by decide +kernel, by decide +kernel, by decide +kernel⟩
theorem yok_X9_tellQuay : yOK yX9_tellQuay 0 := ⟨by decide +kernel, by decide +kernel, by decide +kernel⟩
theorem yok_X9_tellRule : yOK yX9_tellRule 2 := ⟨by decide +kernel, by decide +kernel, by decide +kernel⟩
theorem yok_X9_tellStair : yOK yX9_tellStair 0 := ⟨by decide +kernel, by decide +kernel, by decide +kernel⟩
theorem yok_X9_tellWood : yOK yX9_tellWood 0 := ⟨by decide +kernel, by decide +kernel, by decide +kernel⟩
abbrev mX9_tellOne : Ym := (RX9, cX9_tellOne, 2, (some Jvm.ClassFile.FieldType.boolean), false, [])
noncomputable def t_X9_tellOne_j26 (F : Nat) (s0 : Int32) (τ : Tw) : Option (Int32 × Tw) :=
  if s0 = 0 then
    Option.bind (t_X9_tellHouse F τ) fun q53 =>
    if q53.1 = 0 ∨ q53.1 = 1 then
      some (q53.1, q53.2)
    else
      none
  else
    if s0 = 1 then
      Option.bind (t_X9_tellOffice F τ) fun q50 =>
      if q50.1 = 0 ∨ q50.1 = 1 then
        some (q50.1, q50.2)
      else
        none
    else
      if s0 = 2 then
        Option.bind (t_X9_tellIn F τ) fun q47 =>
        if q47.1 = 0 ∨ q47.1 = 1 then
          some (q47.1, q47.2)
        else
          none
      else
        if s0 = 3 then
          Option.bind (t_X9_tellStair F τ) fun q44 =>
          if q44.1 = 0 ∨ q44.1 = 1 then
            some (q44.1, q44.2)
          else
            none
        else
          if s0 = 5 then
            Option.bind (t_X9_tellQuay F τ) fun q41 =>
            if q41.1 = 0 ∨ q41.1 = 1 then
              some (q41.1, q41.2)
            else
              none
          else
            if s0 = 6 then
              Option.bind (t_X9_tellWood F τ) fun q38 =>
              if q38.1 = 0 ∨ q38.1 = 1 then
                some (q38.1, q38.2)
              else
                none
            else
              if s0 = 7 then
                Option.bind (t_X9_tellNumber F 6 9 τ) fun q35 =>
                if q35.1 = 0 ∨ q35.1 = 1 then
                  some (q35.1, q35.2)
                else
                  none
              else
                if s0 = 9 then
                  Option.bind (t_X9_tellNumber F 7 99 τ) fun q32 =>
                  if q32.1 = 0 ∨ q32.1 = 1 then
                    some (q32.1, q32.2)
                  else
                    none
                else
                  if s0 = 30 then
                    Option.bind (t_X9_tellLaw F (s0 - 30) τ) fun q10 =>
                    if q10.1 = 0 ∨ q10.1 = 1 then
                      some (q10.1, q10.2)
                    else
                      none
                  else
                    if s0 = 31 then
                      Option.bind (t_X9_tellLaw F (s0 - 30) τ) fun q29 =>
                      if q29.1 = 0 ∨ q29.1 = 1 then
                        some (q29.1, q29.2)
                      else
                        none
                    else
                      if s0 = 21 then
                        Option.bind (t_X9_tellLaw F 2 τ) fun q26 =>
                        if q26.1 = 0 ∨ q26.1 = 1 then
                          some (q26.1, q26.2)
                        else
                          none
                      else
                        if s0 = 32 then
                          Option.bind (t_X9_tellRule F 8 190 τ) fun q23 =>
                          if q23.1 = 0 ∨ q23.1 = 1 then
                            some (q23.1, q23.2)
                          else
                            none
                        else
                          if s0 = 33 then
                            Option.bind (t_X9_tellRule F 9 200 τ) fun q20 =>
                            if q20.1 = 0 ∨ q20.1 = 1 then
                              some (q20.1, q20.2)
                            else
                              none
                          else
                            Option.bind (t_X9_wrong F 1 τ) fun q17 =>
                            if q17.1 = 0 ∨ q17.1 = 1 then
                              some (q17.1, q17.2)
                            else
                              none
set_option maxHeartbeats 4000000 in
theorem ok_t_X9_tellOne_j26 {g : Gx} {μ0 : Sw} {rv : Int32} {τF : Tw} (F : Nat) (tw : Nat) (μ : Sw) (s0 : Int32) (τ : Tw) (hf : t_X9_tellOne_j26 F s0 τ = some (rv, τF)) : PW g mX9_tellOne 6 μ0 (mT tw τF μ) (QN g (some (.int rv)) μ0 (mT tw τF μ)) 26 [(0, .ref tw)] [.int s0] (mT tw τ μ) := by
  unfold t_X9_tellOne_j26 at hf
  refine P.istore_n (pc' := 27) (lv' := [(1, .int s0), (0, .ref tw)]) dX9_tellOne_26 rfl rfl (Nat.le_of_ble_eq_true rfl) rfl ?_
  refine P.iload_n 0 (pc' := 28) dX9_tellOne_27 rfl rfl rfl ?_
  refine P.if_ne (tgt := 36) (pc' := 31) dX9_tellOne_28 (by decide) rfl (fun y1 => ?_) (fun y1 => ?_)
  · have hf := (if_neg y1).symm.trans hf
    refine P.iload_n 0 (pc' := 37) dX9_tellOne_36 rfl rfl rfl ?_
    refine P.iconst (v := 1) (pc' := 38) dX9_tellOne_37 rfl (by decide) ?_
    refine P.icmp_ne (tgt := 46) (pc' := 41) dX9_tellOne_38 (by decide) rfl (fun y2 => ?_) (fun y2 => ?_)
    · have hf := (if_neg y2).symm.trans hf
      refine P.iload_n 0 (pc' := 47) dX9_tellOne_46 rfl rfl rfl ?_
      refine P.iconst (v := 2) (pc' := 48) dX9_tellOne_47 rfl (by decide) ?_
      refine P.icmp_ne (tgt := 56) (pc' := 51) dX9_tellOne_48 (by decide) rfl (fun y3 => ?_) (fun y3 => ?_)
      · have hf := (if_neg y3).symm.trans hf
        refine P.iload_n 0 (pc' := 57) dX9_tellOne_56 rfl rfl rfl ?_
        refine P.iconst (v := 3) (pc' := 58) dX9_tellOne_57 rfl (by decide) ?_
        refine P.icmp_ne (tgt := 66) (pc' := 61) dX9_tellOne_58 (by decide) rfl (fun y4 => ?_) (fun y4 => ?_)
        · have hf := (if_neg y4).symm.trans hf
          refine P.iload_n 0 (pc' := 67) dX9_tellOne_66 rfl rfl rfl ?_
          refine P.iconst (v := 5) (pc' := 68) dX9_tellOne_67 rfl (by decide) ?_
          refine P.icmp_ne (tgt := 76) (pc' := 71) dX9_tellOne_68 (by decide) rfl (fun y5 => ?_) (fun y5 => ?_)
          · have hf := (if_neg y5).symm.trans hf
            refine P.iload_n 0 (pc' := 77) dX9_tellOne_76 rfl rfl rfl ?_
            refine P.bipush (v := 6) (pc' := 79) dX9_tellOne_77 rfl (by decide) ?_
            refine P.icmp_ne (tgt := 87) (pc' := 82) dX9_tellOne_79 (by decide) rfl (fun y6 => ?_) (fun y6 => ?_)
            · have hf := (if_neg y6).symm.trans hf
              refine P.iload_n 0 (pc' := 88) dX9_tellOne_87 rfl rfl rfl ?_
              refine P.bipush (v := 7) (pc' := 90) dX9_tellOne_88 rfl (by decide) ?_
              refine P.icmp_ne (tgt := 102) (pc' := 93) dX9_tellOne_90 (by decide) rfl (fun y7 => ?_) (fun y7 => ?_)
              · have hf := (if_neg y7).symm.trans hf
                refine P.iload_n 0 (pc' := 103) dX9_tellOne_102 rfl rfl rfl ?_
                refine P.bipush (v := 9) (pc' := 105) dX9_tellOne_103 rfl (by decide) ?_
                refine P.icmp_ne (tgt := 117) (pc' := 108) dX9_tellOne_105 (by decide) rfl (fun y8 => ?_) (fun y8 => ?_)
                · have hf := (if_neg y8).symm.trans hf
                  refine P.iload_n 0 (pc' := 118) dX9_tellOne_117 rfl rfl rfl ?_
                  refine P.bipush (v := 30) (pc' := 120) dX9_tellOne_118 rfl (by decide) ?_
                  refine P.icmp_eq (tgt := 129) (pc' := 123) dX9_tellOne_120 (by decide) rfl (fun y9 => ?_) (fun y9 => ?_)
                  · have hf := (if_pos y9).symm.trans hf
                    refine P.aload_n 1 (pc' := 130) dX9_tellOne_129 rfl rfl rfl ?_
                    refine P.iload_n 0 (pc' := 131) dX9_tellOne_130 rfl rfl rfl ?_
                    refine P.bipush (v := 30) (pc' := 133) dX9_tellOne_131 rfl (by decide) ?_
                    refine P.isub (pc' := 134) dX9_tellOne_133 rfl ?_
                    obtain ⟨q10, h11, hf⟩ := ob hf
                    refine P.callV (pc' := 137) (As := [.int (s0 - 30)]) 1 (ok_X9_tellLaw F (s0 - 30) tw μ τ h11) (Nat.le_of_ble_eq_true rfl) (lw_V q1870 q1872 qs105 q172 q1873) rfl yok_X9_tellLaw rfl (Nat.le_of_ble_eq_true rfl) ci9 T_oc (by decide) rfl dX9_tellOne_134 rfl ?_
                    by_cases y12 : q10.1 = 0 ∨ q10.1 = 1
                    · have hf := (if_pos y12).symm.trans hf
                      cases hf; exact P.zret rfl y12 dX9_tellOne_137
                    · have hf := (if_neg y12).symm.trans hf
                      cases hf
                  · have hf := (if_neg y9).symm.trans hf
                    refine P.iload_n 0 (pc' := 124) dX9_tellOne_123 rfl rfl rfl ?_
                    refine P.bipush (v := 31) (pc' := 126) dX9_tellOne_124 rfl (by decide) ?_
                    refine P.icmp_ne (tgt := 138) (pc' := 129) dX9_tellOne_126 (by decide) rfl (fun y13 => ?_) (fun y13 => ?_)
                    · have hf := (if_neg y13).symm.trans hf
                      refine P.iload_n 0 (pc' := 139) dX9_tellOne_138 rfl rfl rfl ?_
                      refine P.bipush (v := 21) (pc' := 141) dX9_tellOne_139 rfl (by decide) ?_
                      refine P.icmp_ne (tgt := 150) (pc' := 144) dX9_tellOne_141 (by decide) rfl (fun y14 => ?_) (fun y14 => ?_)
                      · have hf := (if_neg y14).symm.trans hf
                        refine P.iload_n 0 (pc' := 151) dX9_tellOne_150 rfl rfl rfl ?_
                        refine P.bipush (v := 32) (pc' := 153) dX9_tellOne_151 rfl (by decide) ?_
                        refine P.icmp_ne (tgt := 166) (pc' := 156) dX9_tellOne_153 (by decide) rfl (fun y15 => ?_) (fun y15 => ?_)
                        · have hf := (if_neg y15).symm.trans hf
                          refine P.iload_n 0 (pc' := 167) dX9_tellOne_166 rfl rfl rfl ?_
                          refine P.bipush (v := 33) (pc' := 169) dX9_tellOne_167 rfl (by decide) ?_
                          refine P.icmp_ne (tgt := 184) (pc' := 172) dX9_tellOne_169 (by decide) rfl (fun y16 => ?_) (fun y16 => ?_)
                          · have hf := (if_neg y16).symm.trans hf
                            refine P.aload_n 1 (pc' := 185) dX9_tellOne_184 rfl rfl rfl ?_
                            refine P.iconst (v := 1) (pc' := 186) dX9_tellOne_185 rfl (by decide) ?_
                            obtain ⟨q17, h18, hf⟩ := ob hf
                            refine P.callV (pc' := 189) (As := [.int 1]) 1 (ok_X9_wrong F 1 tw μ τ h18) (Nat.le_of_ble_eq_true rfl) (lw_V q1814 q1816 qs91 q172 q1817) rfl yok_X9_wrong rfl (Nat.le_of_ble_eq_true rfl) ci9 T_oc (by decide) rfl dX9_tellOne_186 rfl ?_
                            by_cases y19 : q17.1 = 0 ∨ q17.1 = 1
                            · have hf := (if_pos y19).symm.trans hf
                              cases hf; exact P.zret rfl y19 dX9_tellOne_189
                            · have hf := (if_neg y19).symm.trans hf
                              cases hf
                          · have hf := (if_pos y16).symm.trans hf
                            refine P.aload_n 1 (pc' := 173) dX9_tellOne_172 rfl rfl rfl ?_
                            refine P.bipush (v := 9) (pc' := 175) dX9_tellOne_173 rfl (by decide) ?_
                            refine P.sipush (v := 200) (pc' := 178) dX9_tellOne_175 rfl (by decide) ?_
                            obtain ⟨q20, h21, hf⟩ := ob hf
                            refine P.callV (pc' := 181) (As := [.int 9, .int 200]) 2 (ok_X9_tellRule F 9 200 tw μ τ h21) (Nat.le_of_ble_eq_true rfl) (lw_V q1900 q1902 qs111 q172 q1903) rfl yok_X9_tellRule rfl (Nat.le_of_ble_eq_true rfl) ci9 T_oc (by decide) rfl dX9_tellOne_178 rfl ?_
                            refine P.goto (tgt := 189) dX9_tellOne_181 (by decide) ?_
                            by_cases y22 : q20.1 = 0 ∨ q20.1 = 1
                            · have hf := (if_pos y22).symm.trans hf
                              cases hf; exact P.zret rfl y22 dX9_tellOne_189
                            · have hf := (if_neg y22).symm.trans hf
                              cases hf
                        · have hf := (if_pos y15).symm.trans hf
                          refine P.aload_n 1 (pc' := 157) dX9_tellOne_156 rfl rfl rfl ?_
                          refine P.bipush (v := 8) (pc' := 159) dX9_tellOne_157 rfl (by decide) ?_
                          refine P.sipush (v := 190) (pc' := 162) dX9_tellOne_159 rfl (by decide) ?_
                          obtain ⟨q23, h24, hf⟩ := ob hf
                          refine P.callV (pc' := 165) (As := [.int 8, .int 190]) 2 (ok_X9_tellRule F 8 190 tw μ τ h24) (Nat.le_of_ble_eq_true rfl) (lw_V q1900 q1902 qs111 q172 q1903) rfl yok_X9_tellRule rfl (Nat.le_of_ble_eq_true rfl) ci9 T_oc (by decide) rfl dX9_tellOne_162 rfl ?_
                          by_cases y25 : q23.1 = 0 ∨ q23.1 = 1
                          · have hf := (if_pos y25).symm.trans hf
                            cases hf; exact P.zret rfl y25 dX9_tellOne_165
                          · have hf := (if_neg y25).symm.trans hf
                            cases hf
                      · have hf := (if_pos y14).symm.trans hf
                        refine P.aload_n 1 (pc' := 145) dX9_tellOne_144 rfl rfl rfl ?_
                        refine P.iconst (v := 2) (pc' := 146) dX9_tellOne_145 rfl (by decide) ?_
                        obtain ⟨q26, h27, hf⟩ := ob hf
                        refine P.callV (pc' := 149) (As := [.int 2]) 1 (ok_X9_tellLaw F 2 tw μ τ h27) (Nat.le_of_ble_eq_true rfl) (lw_V q1870 q1872 qs105 q172 q1873) rfl yok_X9_tellLaw rfl (Nat.le_of_ble_eq_true rfl) ci9 T_oc (by decide) rfl dX9_tellOne_146 rfl ?_
                        by_cases y28 : q26.1 = 0 ∨ q26.1 = 1
                        · have hf := (if_pos y28).symm.trans hf
                          cases hf; exact P.zret rfl y28 dX9_tellOne_149
                        · have hf := (if_neg y28).symm.trans hf
                          cases hf
                    · have hf := (if_pos y13).symm.trans hf
                      refine P.aload_n 1 (pc' := 130) dX9_tellOne_129 rfl rfl rfl ?_
                      refine P.iload_n 0 (pc' := 131) dX9_tellOne_130 rfl rfl rfl ?_
                      refine P.bipush (v := 30) (pc' := 133) dX9_tellOne_131 rfl (by decide) ?_
                      refine P.isub (pc' := 134) dX9_tellOne_133 rfl ?_
                      obtain ⟨q29, h30, hf⟩ := ob hf
                      refine P.callV (pc' := 137) (As := [.int (s0 - 30)]) 1 (ok_X9_tellLaw F (s0 - 30) tw μ τ h30) (Nat.le_of_ble_eq_true rfl) (lw_V q1870 q1872 qs105 q172 q1873) rfl yok_X9_tellLaw rfl (Nat.le_of_ble_eq_true rfl) ci9 T_oc (by decide) rfl dX9_tellOne_134 rfl ?_
                      by_cases y31 : q29.1 = 0 ∨ q29.1 = 1
                      · have hf := (if_pos y31).symm.trans hf
                        cases hf; exact P.zret rfl y31 dX9_tellOne_137
                      · have hf := (if_neg y31).symm.trans hf
                        cases hf
                · have hf := (if_pos y8).symm.trans hf
                  refine P.aload_n 1 (pc' := 109) dX9_tellOne_108 rfl rfl rfl ?_
                  refine P.bipush (v := 7) (pc' := 111) dX9_tellOne_109 rfl (by decide) ?_
                  refine P.bipush (v := 99) (pc' := 113) dX9_tellOne_111 rfl (by decide) ?_
                  obtain ⟨q32, h33, hf⟩ := ob hf
                  refine P.callV (pc' := 116) (As := [.int 7, .int 99]) 2 (ok_X9_tellNumber F 7 99 tw μ τ h33) (Nat.le_of_ble_eq_true rfl) (lw_V q1866 q1868 qs104 q172 q1869) rfl yok_X9_tellNumber rfl (Nat.le_of_ble_eq_true rfl) ci9 T_oc (by decide) rfl dX9_tellOne_113 rfl ?_
                  by_cases y34 : q32.1 = 0 ∨ q32.1 = 1
                  · have hf := (if_pos y34).symm.trans hf
                    cases hf; exact P.zret rfl y34 dX9_tellOne_116
                  · have hf := (if_neg y34).symm.trans hf
                    cases hf
              · have hf := (if_pos y7).symm.trans hf
                refine P.aload_n 1 (pc' := 94) dX9_tellOne_93 rfl rfl rfl ?_
                refine P.bipush (v := 6) (pc' := 96) dX9_tellOne_94 rfl (by decide) ?_
                refine P.bipush (v := 9) (pc' := 98) dX9_tellOne_96 rfl (by decide) ?_
                obtain ⟨q35, h36, hf⟩ := ob hf
                refine P.callV (pc' := 101) (As := [.int 6, .int 9]) 2 (ok_X9_tellNumber F 6 9 tw μ τ h36) (Nat.le_of_ble_eq_true rfl) (lw_V q1866 q1868 qs104 q172 q1869) rfl yok_X9_tellNumber rfl (Nat.le_of_ble_eq_true rfl) ci9 T_oc (by decide) rfl dX9_tellOne_98 rfl ?_
                by_cases y37 : q35.1 = 0 ∨ q35.1 = 1
                · have hf := (if_pos y37).symm.trans hf
                  cases hf; exact P.zret rfl y37 dX9_tellOne_101
                · have hf := (if_neg y37).symm.trans hf
                  cases hf
            · have hf := (if_pos y6).symm.trans hf
              refine P.aload_n 1 (pc' := 83) dX9_tellOne_82 rfl rfl rfl ?_
              obtain ⟨q38, h39, hf⟩ := ob hf
              refine P.callV (pc' := 86) (As := []) 0 (ok_X9_tellWood F tw μ τ h39) (Nat.le_of_ble_eq_true rfl) (lw_V q1862 q1864 qs103 q172 q1865) rfl yok_X9_tellWood rfl (Nat.le_of_ble_eq_true rfl) ci9 T_oc (by decide) rfl dX9_tellOne_83 rfl ?_
              by_cases y40 : q38.1 = 0 ∨ q38.1 = 1
              · have hf := (if_pos y40).symm.trans hf
                cases hf; exact P.zret rfl y40 dX9_tellOne_86
              · have hf := (if_neg y40).symm.trans hf
                cases hf
          · have hf := (if_pos y5).symm.trans hf
            refine P.aload_n 1 (pc' := 72) dX9_tellOne_71 rfl rfl rfl ?_
            obtain ⟨q41, h42, hf⟩ := ob hf
            refine P.callV (pc' := 75) (As := []) 0 (ok_X9_tellQuay F tw μ τ h42) (Nat.le_of_ble_eq_true rfl) (lw_V q1858 q1860 qs102 q172 q1861) rfl yok_X9_tellQuay rfl (Nat.le_of_ble_eq_true rfl) ci9 T_oc (by decide) rfl dX9_tellOne_72 rfl ?_
            by_cases y43 : q41.1 = 0 ∨ q41.1 = 1
            · have hf := (if_pos y43).symm.trans hf
              cases hf; exact P.zret rfl y43 dX9_tellOne_75
            · have hf := (if_neg y43).symm.trans hf
              cases hf
        · have hf := (if_pos y4).symm.trans hf
          refine P.aload_n 1 (pc' := 62) dX9_tellOne_61 rfl rfl rfl ?_
          obtain ⟨q44, h45, hf⟩ := ob hf
          refine P.callV (pc' := 65) (As := []) 0 (ok_X9_tellStair F tw μ τ h45) (Nat.le_of_ble_eq_true rfl) (lw_V q1850 q1852 qs100 q172 q1853) rfl yok_X9_tellStair rfl (Nat.le_of_ble_eq_true rfl) ci9 T_oc (by decide) rfl dX9_tellOne_62 rfl ?_
          by_cases y46 : q44.1 = 0 ∨ q44.1 = 1
          · have hf := (if_pos y46).symm.trans hf
            cases hf; exact P.zret rfl y46 dX9_tellOne_65
          · have hf := (if_neg y46).symm.trans hf
            cases hf
      · have hf := (if_pos y3).symm.trans hf
        refine P.aload_n 1 (pc' := 52) dX9_tellOne_51 rfl rfl rfl ?_
        obtain ⟨q47, h48, hf⟩ := ob hf
        refine P.callV (pc' := 55) (As := []) 0 (ok_X9_tellIn F tw μ τ h48) (Nat.le_of_ble_eq_true rfl) (lw_V q1842 q1844 qs98 q172 q1845) rfl yok_X9_tellIn rfl (Nat.le_of_ble_eq_true rfl) ci9 T_oc (by decide) rfl dX9_tellOne_52 rfl ?_
        by_cases y49 : q47.1 = 0 ∨ q47.1 = 1
        · have hf := (if_pos y49).symm.trans hf
          cases hf; exact P.zret rfl y49 dX9_tellOne_55
        · have hf := (if_neg y49).symm.trans hf
          cases hf
    · have hf := (if_pos y2).symm.trans hf
      refine P.aload_n 1 (pc' := 42) dX9_tellOne_41 rfl rfl rfl ?_
      obtain ⟨q50, h51, hf⟩ := ob hf
      refine P.callV (pc' := 45) (As := []) 0 (ok_X9_tellOffice F tw μ τ h51) (Nat.le_of_ble_eq_true rfl) (lw_V q1838 q1840 qs97 q172 q1841) rfl yok_X9_tellOffice rfl (Nat.le_of_ble_eq_true rfl) ci9 T_oc (by decide) rfl dX9_tellOne_42 rfl ?_
      by_cases y52 : q50.1 = 0 ∨ q50.1 = 1
      · have hf := (if_pos y52).symm.trans hf
        cases hf; exact P.zret rfl y52 dX9_tellOne_45
      · have hf := (if_neg y52).symm.trans hf
        cases hf
  · have hf := (if_pos y1).symm.trans hf
    refine P.aload_n 1 (pc' := 32) dX9_tellOne_31 rfl rfl rfl ?_
    obtain ⟨q53, h54, hf⟩ := ob hf
    refine P.callV (pc' := 35) (As := []) 0 (ok_X9_tellHouse F tw μ τ h54) (Nat.le_of_ble_eq_true rfl) (lw_V q1798 q1800 qs87 q172 q1801) rfl yok_X9_tellHouse rfl (Nat.le_of_ble_eq_true rfl) ci9 T_oc (by decide) rfl dX9_tellOne_32 rfl ?_
    by_cases y55 : q53.1 = 0 ∨ q53.1 = 1
    · have hf := (if_pos y55).symm.trans hf
      cases hf; exact P.zret rfl y55 dX9_tellOne_35
    · have hf := (if_neg y55).symm.trans hf
      cases hf
noncomputable def t_X9_tellOne (F : Nat) (τ : Tw) : Option (Int32 × Tw) :=
  Option.bind (taI τ 2 2001 (τ.1 7)) fun x1 =>
  if x1 = 3 then
    Option.bind (taI τ 4 2001 (τ.1 7)) fun x4 =>
    t_X9_tellOne_j26 F x4 τ
  else
    t_X9_tellOne_j26 F (-1) τ
set_option maxHeartbeats 4000000 in
theorem ok_X9_tellOne {g : Gx} (F : Nat) (tw : Nat) (μ : Sw) (τ : Tw) {rv : Int32} {τF : Tw} (hf : t_X9_tellOne F τ = some (rv, τF)) : Cl g 6 yX9_tellOne cX9_tellOne 2 (some Jvm.ClassFile.FieldType.boolean) [.ref tw] (mT tw τ μ) (some (.int rv)) (mT tw τF μ) := by
  unfold t_X9_tellOne at hf
  refine Cl.of (own := RX9) (ini := false) (by decide +kernel) rfl (by decide) (Nat.le_of_ble_eq_true rfl) ?_
  show PW g mX9_tellOne 6 (mT tw τ μ) (mT tw τF μ) (QN g (some (.int rv)) (mT tw τ μ) (mT tw τF μ)) 0 [(0, .ref tw)] [] (mT tw τ μ)
  refine P.aload_n 0 (pc' := 1) dX9_tellOne_0 rfl rfl rfl ?_
  refine P.get (v := .ref (tw + 2)) (pc' := 4) ci9 3 (by decide) (T_gf rfl) q1558 (Or.inl rfl) dX9_tellOne_1 rfl ?_
  refine P.aload_n 0 (pc' := 5) dX9_tellOne_4 rfl rfl rfl ?_
  refine P.get (v := .int (τ.1 7)) (pc' := 8) ci9 7 (by decide) (T_gf rfl) q1562 (Or.inl rfl) dX9_tellOne_5 rfl ?_
  obtain ⟨x1, h2, hf⟩ := ob hf
  refine P.iald (t := 0) (pc' := 9) rfl (T_aI rfl h2) dX9_tellOne_8 rfl ?_
  refine P.iconst (v := 3) (pc' := 10) dX9_tellOne_9 rfl (by decide) ?_
  refine P.icmp_ne (tgt := 25) (pc' := 13) dX9_tellOne_10 (by decide) rfl (fun y3 => ?_) (fun y3 => ?_)
  · have hf := (if_neg y3).symm.trans hf
    refine P.iconst (v := (-1)) (pc' := 26) dX9_tellOne_25 rfl (by decide) ?_
    exact PW.sub [0] rfl (ok_t_X9_tellOne_j26 F tw μ (-1) τ hf)
  · have hf := (if_pos y3).symm.trans hf
    refine P.aload_n 0 (pc' := 14) dX9_tellOne_13 rfl rfl rfl ?_
    refine P.get (v := .ref (tw + 4)) (pc' := 17) ci9 5 (by decide) (T_gf rfl) q1560 (Or.inl rfl) dX9_tellOne_14 rfl ?_
    refine P.aload_n 0 (pc' := 18) dX9_tellOne_17 rfl rfl rfl ?_
    refine P.get (v := .int (τ.1 7)) (pc' := 21) ci9 7 (by decide) (T_gf rfl) q1562 (Or.inl rfl) dX9_tellOne_18 rfl ?_
    obtain ⟨x4, h5, hf⟩ := ob hf
    refine P.iald (t := 0) (pc' := 22) rfl (T_aI rfl h5) dX9_tellOne_21 rfl ?_
    refine P.goto (tgt := 26) dX9_tellOne_22 (by decide) ?_
    exact PW.sub [0] rfl (ok_t_X9_tellOne_j26 F tw μ x4 τ hf)
theorem yok_X9_tellOne : yOK yX9_tellOne 0 := ⟨by decide +kernel, by decide +kernel, by decide +kernel⟩
abbrev mX9_parses : Ym := (RX9, cX9_parses, 1, (some Jvm.ClassFile.FieldType.boolean), false, [])
noncomputable def t_X9_parses_L10_b (F : Nat) (self : Tw → Option (Int32 × Tw)) (τ : Tw) : Option (Int32 × Tw) :=
  Option.bind (taI τ 2 2001 (τ.1 7)) fun x1 =>
  if x1 = 4 then
    some (1, τ)
  else
    Option.bind (t_X9_tellOne F τ) fun q4 =>
    if q4.1 = 0 then
      some (0, q4.2)
    else
      Option.bind (t_X9_isSign F 59 q4.2) fun q7 =>
      if q7 = 0 then
        Option.bind (t_X9_wrong F 1 q4.2) fun q13 =>
        if q13.1 = 0 ∨ q13.1 = 1 then
          some (q13.1, q13.2)
        else
          none
      else
        Option.bind (t_X9_pass F q4.2) fun q10 =>
        if q10.1 = 0 then
          some (0, q10.2)
        else
          self q10.2
noncomputable def t_X9_parses_L10 (F : Nat) (n : Nat) : Tw → Option (Int32 × Tw) := Nat.rec (motive := fun _ => Tw → Option (Int32 × Tw)) (fun _ => none) (fun _ self => t_X9_parses_L10_b F self) n
set_option maxHeartbeats 4000000 in
theorem ok_t_X9_parses_L10 {g : Gx} {μ0 : Sw} {rv : Int32} {τF : Tw} (F : Nat) (tw : Nat) (μ : Sw) : ∀ (n : Nat) (τ : Tw), t_X9_parses_L10 F n τ = some (rv, τF) → PW g mX9_parses 7 μ0 (mT tw τF μ) (QN g (some (.int rv)) μ0 (mT tw τF μ)) 10 [(0, .ref tw)] [] (mT tw τ μ) := by
  intro n
  induction n with
  | zero =>
    intro τ hf
    have hf : (none : Option (Int32 × Tw)) = some _ := hf
    cases hf
  | succ n ih =>
    intro τ hf
    have hf : t_X9_parses_L10_b F (t_X9_parses_L10 F n) τ = some (rv, τF) := hf
    unfold t_X9_parses_L10_b at hf
    refine P.aload_n 0 (pc' := 11) dX9_parses_10 rfl rfl rfl ?_
    refine P.get (v := .ref (tw + 2)) (pc' := 14) ci9 3 (by decide) (T_gf rfl) q1558 (Or.inl rfl) dX9_parses_11 rfl ?_
    refine P.aload_n 0 (pc' := 15) dX9_parses_14 rfl rfl rfl ?_
    refine P.get (v := .int (τ.1 7)) (pc' := 18) ci9 7 (by decide) (T_gf rfl) q1562 (Or.inl rfl) dX9_parses_15 rfl ?_
    obtain ⟨x1, h2, hf⟩ := ob hf
    refine P.iald (t := 0) (pc' := 19) rfl (T_aI rfl h2) dX9_parses_18 rfl ?_
    refine P.iconst (v := 4) (pc' := 20) dX9_parses_19 rfl (by decide) ?_
    refine P.icmp_eq (tgt := 56) (pc' := 23) dX9_parses_20 (by decide) rfl (fun y3 => ?_) (fun y3 => ?_)
    · have hf := (if_pos y3).symm.trans hf
      refine P.iconst (v := 1) (pc' := 57) dX9_parses_56 rfl (by decide) ?_
      cases hf; exact P.zret rfl (Or.inr rfl) dX9_parses_57
    · have hf := (if_neg y3).symm.trans hf
      refine P.aload_n 0 (pc' := 24) dX9_parses_23 rfl rfl rfl ?_
      obtain ⟨q4, h5, hf⟩ := ob hf
      refine P.callV (pc' := 27) (As := []) 0 (ok_X9_tellOne F tw μ τ h5) (Nat.le_of_ble_eq_true rfl) (lw_V q1794 q1796 qs86 q172 q1797) rfl yok_X9_tellOne rfl (Nat.le_of_ble_eq_true rfl) ci9 T_oc (by decide) rfl dX9_parses_24 rfl ?_
      refine P.if_ne (tgt := 32) (pc' := 30) dX9_parses_27 (by decide) rfl (fun y6 => ?_) (fun y6 => ?_)
      · have hf := (if_neg y6).symm.trans hf
        refine P.aload_n 0 (pc' := 33) dX9_parses_32 rfl rfl rfl ?_
        refine P.bipush (v := 59) (pc' := 35) dX9_parses_33 rfl (by decide) ?_
        obtain ⟨q7, h8, hf⟩ := ob hf
        refine P.callV (pc' := 38) (As := [.int 59]) 1 (ok_X9_isSign F 59 tw μ q4.2 h8) (Nat.le_of_ble_eq_true rfl) (lw_V q1874 q1876 qs106 q172 q1877) rfl yok_X9_isSign rfl (Nat.le_of_ble_eq_true rfl) ci9 T_oc (by decide) rfl dX9_parses_35 rfl ?_
        refine P.if_ne (tgt := 47) (pc' := 41) dX9_parses_38 (by decide) rfl (fun y9 => ?_) (fun y9 => ?_)
        · have hf := (if_neg y9).symm.trans hf
          refine P.aload_n 0 (pc' := 48) dX9_parses_47 rfl rfl rfl ?_
          obtain ⟨q10, h11, hf⟩ := ob hf
          refine P.callV (pc' := 51) (As := []) 0 (ok_X9_pass F tw μ q4.2 h11) (Nat.le_of_ble_eq_true rfl) (lw_V q1818 q1820 qs92 q172 q1821) rfl yok_X9_pass rfl (Nat.le_of_ble_eq_true rfl) ci9 T_oc (by decide) rfl dX9_parses_48 rfl ?_
          refine P.if_ne (tgt := 10) (pc' := 54) dX9_parses_51 (by decide) rfl (fun y12 => ?_) (fun y12 => ?_)
          · have hf := (if_neg y12).symm.trans hf
            exact PW.sub [0] rfl (ih _ hf)
          · have hf := (if_pos y12).symm.trans hf
            refine P.iconst (v := 0) (pc' := 55) dX9_parses_54 rfl (by decide) ?_
            cases hf; exact P.zret rfl (Or.inl rfl) dX9_parses_55
        · have hf := (if_pos y9).symm.trans hf
          refine P.aload_n 0 (pc' := 42) dX9_parses_41 rfl rfl rfl ?_
          refine P.iconst (v := 1) (pc' := 43) dX9_parses_42 rfl (by decide) ?_
          obtain ⟨q13, h14, hf⟩ := ob hf
          refine P.callV (pc' := 46) (As := [.int 1]) 1 (ok_X9_wrong F 1 tw μ q4.2 h14) (Nat.le_of_ble_eq_true rfl) (lw_V q1814 q1816 qs91 q172 q1817) rfl yok_X9_wrong rfl (Nat.le_of_ble_eq_true rfl) ci9 T_oc (by decide) rfl dX9_parses_43 rfl ?_
          by_cases y15 : q13.1 = 0 ∨ q13.1 = 1
          · have hf := (if_pos y15).symm.trans hf
            cases hf; exact P.zret rfl y15 dX9_parses_46
          · have hf := (if_neg y15).symm.trans hf
            cases hf
      · have hf := (if_pos y6).symm.trans hf
        refine P.iconst (v := 0) (pc' := 31) dX9_parses_30 rfl (by decide) ?_
        cases hf; exact P.zret rfl (Or.inl rfl) dX9_parses_31
noncomputable def t_X9_parses (F : Nat) (τ : Tw) : Option (Int32 × Tw) :=
  nm (tsI τ 7 0) fun τ1 =>
  nm (tsI τ1 25 0) fun τ3 =>
  t_X9_parses_L10 F F τ3
set_option maxHeartbeats 4000000 in
theorem ok_X9_parses {g : Gx} (F : Nat) (tw : Nat) (μ : Sw) (τ : Tw) {rv : Int32} {τF : Tw} (hf : t_X9_parses F τ = some (rv, τF)) : Cl g 7 yX9_parses cX9_parses 1 (some Jvm.ClassFile.FieldType.boolean) [.ref tw] (mT tw τ μ) (some (.int rv)) (mT tw τF μ) := by
  unfold t_X9_parses at hf
  refine Cl.of (own := RX9) (ini := false) (by decide +kernel) rfl (by decide) (Nat.le_of_ble_eq_true rfl) ?_
  show PW g mX9_parses 7 (mT tw τ μ) (mT tw τF μ) (QN g (some (.int rv)) (mT tw τ μ) (mT tw τF μ)) 0 [(0, .ref tw)] [] (mT tw τ μ)
  refine P.aload_n 0 (pc' := 1) dX9_parses_0 rfl rfl rfl ?_
  refine P.iconst (v := 0) (pc' := 2) dX9_parses_1 rfl (by decide) ?_
  obtain ⟨τ1, e2, hf⟩ := nm_i hf
  refine P.put (v := .int 0) (pc' := 5) ci9 7 (by decide) (T_put rfl (by decide) e2) q1562 (Or.inl rfl) rfl rfl rfl dX9_parses_2 rfl ?_
  refine P.aload_n 0 (pc' := 6) dX9_parses_5 rfl rfl rfl ?_
  refine P.iconst (v := 0) (pc' := 7) dX9_parses_6 rfl (by decide) ?_
  obtain ⟨τ3, e4, hf⟩ := nm_i hf
  refine P.put (v := .int 0) (pc' := 10) ci9 25 (by decide) (T_put rfl (by decide) e4) q1580 (Or.inl rfl) rfl rfl rfl dX9_parses_7 rfl ?_
  exact PW.sub [0] rfl (ok_t_X9_parses_L10 F tw μ F _ hf)
theorem yok_X9_settle : yOK yX9_settle 0 := ⟨by decide +kernel, by decide +kernel, by decide +kernel⟩
abbrev mX9_takesHold : Ym := (RX9, cX9_takesHold, 2, none, false, [])
noncomputable def t_X9_takesHold_L2_b (F : Nat) (k31 : Tw → Option Tw) (self : Int32 → Tw → Option Tw) (v1 : Int32) (τ : Tw) : Option Tw :=
  if 210 ≤ v1 then
    k31 τ
  else
    Option.bind (taI τ 6 420 (210 + v1)) fun x2 =>
    Option.bind (tsA τ 6 0 420 v1 x2) fun τ5 =>
    nm (v1 + 1) fun x6 =>
    self x6 τ5
noncomputable def t_X9_takesHold_L2 (F : Nat) (k31 : Tw → Option Tw) (n : Nat) : Int32 → Tw → Option Tw := Nat.rec (motive := fun _ => Int32 → Tw → Option Tw) (fun _ _ => none) (fun _ self => t_X9_takesHold_L2_b F k31 self) n
set_option maxHeartbeats 4000000 in
theorem ok_t_X9_takesHold_L2 {g : Gx} {μ0 : Sw} {τF : Tw} (F : Nat) (tw : Nat) (μ : Sw) (k31 : Tw → Option Tw) (hk31 : ∀ (τ : Tw), k31 τ = some τF → PW g mX9_takesHold 4 μ0 (mT tw τF μ) (QN g none μ0 (mT tw τF μ)) 31 [(0, .ref tw)] [] (mT tw τ μ)) : ∀ (n : Nat) (v1 : Int32) (τ : Tw), t_X9_takesHold_L2 F k31 n v1 τ = some τF → PW g mX9_takesHold 4 μ0 (mT tw τF μ) (QN g none μ0 (mT tw τF μ)) 2 [(0, .ref tw), (1, .int v1)] [] (mT tw τ μ) := by
  intro n
  induction n with
  | zero =>
    intro v1 τ hf
    have hf : (none : Option Tw) = some _ := hf
    cases hf
  | succ n ih =>
    intro v1 τ hf
    have hf : t_X9_takesHold_L2_b F k31 (t_X9_takesHold_L2 F k31 n) v1 τ = some τF := hf
    unfold t_X9_takesHold_L2_b at hf
    refine P.iload_n 1 (pc' := 3) dX9_takesHold_2 rfl rfl rfl ?_
    refine P.sipush (v := 210) (pc' := 6) dX9_takesHold_3 rfl (by decide) ?_
    refine P.icmp_ge (tgt := 31) (pc' := 9) dX9_takesHold_6 (by decide) rfl (fun y1 => ?_) (fun y1 => ?_)
    · have hf := (if_pos y1).symm.trans hf
      exact PW.sub [0] rfl (hk31 _ hf)
    · have hf := (if_neg y1).symm.trans hf
      refine P.aload_n 0 (pc' := 10) dX9_takesHold_9 rfl rfl rfl ?_
      refine P.get (v := .ref (tw + 6)) (pc' := 13) ci9 12 (by decide) (T_gf rfl) q1567 (Or.inl rfl) dX9_takesHold_10 rfl ?_
      refine P.iload_n 1 (pc' := 14) dX9_takesHold_13 rfl rfl rfl ?_
      refine P.aload_n 0 (pc' := 15) dX9_takesHold_14 rfl rfl rfl ?_
      refine P.get (v := .ref (tw + 6)) (pc' := 18) ci9 12 (by decide) (T_gf rfl) q1567 (Or.inl rfl) dX9_takesHold_15 rfl ?_
      refine P.sipush (v := 210) (pc' := 21) dX9_takesHold_18 rfl (by decide) ?_
      refine P.iload_n 1 (pc' := 22) dX9_takesHold_21 rfl rfl rfl ?_
      refine P.iadd (pc' := 23) dX9_takesHold_22 rfl ?_
      obtain ⟨x2, h3, hf⟩ := ob hf
      refine P.iald (t := 0) (pc' := 24) rfl (T_aI rfl h3) dX9_takesHold_23 rfl ?_
      obtain ⟨τ5, h4, hf⟩ := ob hf
      refine P.iast (pc' := 25) (T_sA rfl (by decide) h4) dX9_takesHold_24 rfl ?_
      obtain ⟨x6, e7, hf⟩ := nm_i hf
      refine P.iinc 1 (pc' := 28) (lv' := [(1, .int x6), (0, .ref tw)]) dX9_takesHold_25 rfl rfl (by decide) e7 (Nat.le_of_ble_eq_true rfl) rfl ?_
      refine P.goto (tgt := 2) dX9_takesHold_28 (by decide) ?_
      exact PW.sub [1, 0] rfl (ih _ _ hf)
noncomputable def t_X9_takesHold_L33_b (F : Nat) (k78 : Tw → Option Tw) (self : Int32 → Tw → Option Tw) (v1 : Int32) (τ : Tw) : Option Tw :=
  if 500 ≤ v1 then
    k78 τ
  else
    Option.bind (taI τ 9 1000 (500 + v1)) fun x2 =>
    Option.bind (tsA τ 9 0 1000 v1 x2) fun τ5 =>
    Option.bind (taI τ5 10 1000 (500 + v1)) fun x6 =>
    Option.bind (tsA τ5 10 0 1000 v1 x6) fun τ9 =>
    nm (v1 + 1) fun x10 =>
    self x10 τ9
noncomputable def t_X9_takesHold_L33 (F : Nat) (k78 : Tw → Option Tw) (n : Nat) : Int32 → Tw → Option Tw := Nat.rec (motive := fun _ => Int32 → Tw → Option Tw) (fun _ _ => none) (fun _ self => t_X9_takesHold_L33_b F k78 self) n
set_option maxHeartbeats 4000000 in
theorem ok_t_X9_takesHold_L33 {g : Gx} {μ0 : Sw} {τF : Tw} (F : Nat) (tw : Nat) (μ : Sw) (k78 : Tw → Option Tw) (hk78 : ∀ (τ : Tw), k78 τ = some τF → PW g mX9_takesHold 4 μ0 (mT tw τF μ) (QN g none μ0 (mT tw τF μ)) 78 [(0, .ref tw)] [] (mT tw τ μ)) : ∀ (n : Nat) (v1 : Int32) (τ : Tw), t_X9_takesHold_L33 F k78 n v1 τ = some τF → PW g mX9_takesHold 4 μ0 (mT tw τF μ) (QN g none μ0 (mT tw τF μ)) 33 [(0, .ref tw), (1, .int v1)] [] (mT tw τ μ) := by
  intro n
  induction n with
  | zero =>
    intro v1 τ hf
    have hf : (none : Option Tw) = some _ := hf
    cases hf
  | succ n ih =>
    intro v1 τ hf
    have hf : t_X9_takesHold_L33_b F k78 (t_X9_takesHold_L33 F k78 n) v1 τ = some τF := hf
    unfold t_X9_takesHold_L33_b at hf
    refine P.iload_n 1 (pc' := 34) dX9_takesHold_33 rfl rfl rfl ?_
    refine P.sipush (v := 500) (pc' := 37) dX9_takesHold_34 rfl (by decide) ?_
    refine P.icmp_ge (tgt := 78) (pc' := 40) dX9_takesHold_37 (by decide) rfl (fun y1 => ?_) (fun y1 => ?_)
    · have hf := (if_pos y1).symm.trans hf
      exact PW.sub [0] rfl (hk78 _ hf)
    · have hf := (if_neg y1).symm.trans hf
      refine P.aload_n 0 (pc' := 41) dX9_takesHold_40 rfl rfl rfl ?_
      refine P.get (v := .ref (tw + 9)) (pc' := 44) ci9 15 (by decide) (T_gf rfl) q1570 (Or.inl rfl) dX9_takesHold_41 rfl ?_
      refine P.iload_n 1 (pc' := 45) dX9_takesHold_44 rfl rfl rfl ?_
      refine P.aload_n 0 (pc' := 46) dX9_takesHold_45 rfl rfl rfl ?_
      refine P.get (v := .ref (tw + 9)) (pc' := 49) ci9 15 (by decide) (T_gf rfl) q1570 (Or.inl rfl) dX9_takesHold_46 rfl ?_
      refine P.sipush (v := 500) (pc' := 52) dX9_takesHold_49 rfl (by decide) ?_
      refine P.iload_n 1 (pc' := 53) dX9_takesHold_52 rfl rfl rfl ?_
      refine P.iadd (pc' := 54) dX9_takesHold_53 rfl ?_
      obtain ⟨x2, h3, hf⟩ := ob hf
      refine P.iald (t := 0) (pc' := 55) rfl (T_aI rfl h3) dX9_takesHold_54 rfl ?_
      obtain ⟨τ5, h4, hf⟩ := ob hf
      refine P.iast (pc' := 56) (T_sA rfl (by decide) h4) dX9_takesHold_55 rfl ?_
      refine P.aload_n 0 (pc' := 57) dX9_takesHold_56 rfl rfl rfl ?_
      refine P.get (v := .ref (tw + 10)) (pc' := 60) ci9 16 (by decide) (T_gf rfl) q1571 (Or.inl rfl) dX9_takesHold_57 rfl ?_
      refine P.iload_n 1 (pc' := 61) dX9_takesHold_60 rfl rfl rfl ?_
      refine P.aload_n 0 (pc' := 62) dX9_takesHold_61 rfl rfl rfl ?_
      refine P.get (v := .ref (tw + 10)) (pc' := 65) ci9 16 (by decide) (T_gf rfl) q1571 (Or.inl rfl) dX9_takesHold_62 rfl ?_
      refine P.sipush (v := 500) (pc' := 68) dX9_takesHold_65 rfl (by decide) ?_
      refine P.iload_n 1 (pc' := 69) dX9_takesHold_68 rfl rfl rfl ?_
      refine P.iadd (pc' := 70) dX9_takesHold_69 rfl ?_
      obtain ⟨x6, h7, hf⟩ := ob hf
      refine P.iald (t := 0) (pc' := 71) rfl (T_aI rfl h7) dX9_takesHold_70 rfl ?_
      obtain ⟨τ9, h8, hf⟩ := ob hf
      refine P.iast (pc' := 72) (T_sA rfl (by decide) h8) dX9_takesHold_71 rfl ?_
      obtain ⟨x10, e11, hf⟩ := nm_i hf
      refine P.iinc 1 (pc' := 75) (lv' := [(1, .int x10), (0, .ref tw)]) dX9_takesHold_72 rfl rfl (by decide) e11 (Nat.le_of_ble_eq_true rfl) rfl ?_
      refine P.goto (tgt := 33) dX9_takesHold_75 (by decide) ?_
      exact PW.sub [1, 0] rfl (ih _ _ hf)
noncomputable def t_X9_takesHold_L80_b (F : Nat) (self : Int32 → Tw → Option Tw) (v1 : Int32) (τ : Tw) : Option Tw :=
  if 200 ≤ v1 then
    Option.bind (t_X9_settle F τ) fun q2 =>
    some q2
  else
    Option.bind (taI τ 12 400 (200 + v1)) fun x4 =>
    Option.bind (tsA τ 12 4 400 v1 x4) fun τ7 =>
    Option.bind (taI τ7 13 400 (200 + v1)) fun x8 =>
    Option.bind (tsA τ7 13 0 400 v1 x8) fun τ11 =>
    Option.bind (taI τ11 14 400 (200 + v1)) fun x12 =>
    Option.bind (tsA τ11 14 0 400 v1 x12) fun τ15 =>
    Option.bind (taI τ15 15 400 (200 + v1)) fun x16 =>
    Option.bind (tsA τ15 15 0 400 v1 x16) fun τ19 =>
    Option.bind (taI τ19 16 400 (200 + v1)) fun x20 =>
    Option.bind (tsA τ19 16 0 400 v1 x20) fun τ23 =>
    Option.bind (taI τ23 17 400 (200 + v1)) fun x24 =>
    Option.bind (tsA τ23 17 0 400 v1 x24) fun τ27 =>
    nm (v1 + 1) fun x28 =>
    self x28 τ27
noncomputable def t_X9_takesHold_L80 (F : Nat) (n : Nat) : Int32 → Tw → Option Tw := Nat.rec (motive := fun _ => Int32 → Tw → Option Tw) (fun _ _ => none) (fun _ self => t_X9_takesHold_L80_b F self) n
set_option maxHeartbeats 4000000 in
theorem ok_t_X9_takesHold_L80 {g : Gx} {μ0 : Sw} {τF : Tw} (F : Nat) (tw : Nat) (μ : Sw) : ∀ (n : Nat) (v1 : Int32) (τ : Tw), t_X9_takesHold_L80 F n v1 τ = some τF → PW g mX9_takesHold 4 μ0 (mT tw τF μ) (QN g none μ0 (mT tw τF μ)) 80 [(0, .ref tw), (1, .int v1)] [] (mT tw τ μ) := by
  intro n
  induction n with
  | zero =>
    intro v1 τ hf
    have hf : (none : Option Tw) = some _ := hf
    cases hf
  | succ n ih =>
    intro v1 τ hf
    have hf : t_X9_takesHold_L80_b F (t_X9_takesHold_L80 F n) v1 τ = some τF := hf
    unfold t_X9_takesHold_L80_b at hf
    refine P.iload_n 1 (pc' := 81) dX9_takesHold_80 rfl rfl rfl ?_
    refine P.sipush (v := 200) (pc' := 84) dX9_takesHold_81 rfl (by decide) ?_
    refine P.icmp_ge (tgt := 189) (pc' := 87) dX9_takesHold_84 (by decide) rfl (fun y1 => ?_) (fun y1 => ?_)
    · have hf := (if_pos y1).symm.trans hf
      refine P.aload_n 0 (pc' := 190) dX9_takesHold_189 rfl rfl rfl ?_
      obtain ⟨q2, h3, hf⟩ := ob hf
      refine P.callV (pc' := 193) (As := []) 0 (ok_X9_settle F tw μ τ h3) (Nat.le_of_ble_eq_true rfl) (lw_V q1543 q1545 qs74 q172 q1546) rfl yok_X9_settle rfl (Nat.le_of_ble_eq_true rfl) ci9 T_oc (by decide) rfl dX9_takesHold_190 rfl ?_
      cases hf; exact P.vret rfl dX9_takesHold_193
    · have hf := (if_neg y1).symm.trans hf
      refine P.aload_n 0 (pc' := 88) dX9_takesHold_87 rfl rfl rfl ?_
      refine P.get (v := .ref (tw + 12)) (pc' := 91) ci9 18 (by decide) (T_gf rfl) q1573 (Or.inl rfl) dX9_takesHold_88 rfl ?_
      refine P.iload_n 1 (pc' := 92) dX9_takesHold_91 rfl rfl rfl ?_
      refine P.aload_n 0 (pc' := 93) dX9_takesHold_92 rfl rfl rfl ?_
      refine P.get (v := .ref (tw + 12)) (pc' := 96) ci9 18 (by decide) (T_gf rfl) q1573 (Or.inl rfl) dX9_takesHold_93 rfl ?_
      refine P.sipush (v := 200) (pc' := 99) dX9_takesHold_96 rfl (by decide) ?_
      refine P.iload_n 1 (pc' := 100) dX9_takesHold_99 rfl rfl rfl ?_
      refine P.iadd (pc' := 101) dX9_takesHold_100 rfl ?_
      obtain ⟨x4, h5, hf⟩ := ob hf
      refine P.zald (t := 4) (pc' := 102) rfl (T_aI rfl h5) dX9_takesHold_101 rfl ?_
      obtain ⟨τ7, h6, hf⟩ := ob hf
      refine P.zast (pc' := 103) (T_sA rfl (by decide) h6) dX9_takesHold_102 rfl ?_
      refine P.aload_n 0 (pc' := 104) dX9_takesHold_103 rfl rfl rfl ?_
      refine P.get (v := .ref (tw + 13)) (pc' := 107) ci9 19 (by decide) (T_gf rfl) q1574 (Or.inl rfl) dX9_takesHold_104 rfl ?_
      refine P.iload_n 1 (pc' := 108) dX9_takesHold_107 rfl rfl rfl ?_
      refine P.aload_n 0 (pc' := 109) dX9_takesHold_108 rfl rfl rfl ?_
      refine P.get (v := .ref (tw + 13)) (pc' := 112) ci9 19 (by decide) (T_gf rfl) q1574 (Or.inl rfl) dX9_takesHold_109 rfl ?_
      refine P.sipush (v := 200) (pc' := 115) dX9_takesHold_112 rfl (by decide) ?_
      refine P.iload_n 1 (pc' := 116) dX9_takesHold_115 rfl rfl rfl ?_
      refine P.iadd (pc' := 117) dX9_takesHold_116 rfl ?_
      obtain ⟨x8, h9, hf⟩ := ob hf
      refine P.iald (t := 0) (pc' := 118) rfl (T_aI rfl h9) dX9_takesHold_117 rfl ?_
      obtain ⟨τ11, h10, hf⟩ := ob hf
      refine P.iast (pc' := 119) (T_sA rfl (by decide) h10) dX9_takesHold_118 rfl ?_
      refine P.aload_n 0 (pc' := 120) dX9_takesHold_119 rfl rfl rfl ?_
      refine P.get (v := .ref (tw + 14)) (pc' := 123) ci9 20 (by decide) (T_gf rfl) q1575 (Or.inl rfl) dX9_takesHold_120 rfl ?_
      refine P.iload_n 1 (pc' := 124) dX9_takesHold_123 rfl rfl rfl ?_
      refine P.aload_n 0 (pc' := 125) dX9_takesHold_124 rfl rfl rfl ?_
      refine P.get (v := .ref (tw + 14)) (pc' := 128) ci9 20 (by decide) (T_gf rfl) q1575 (Or.inl rfl) dX9_takesHold_125 rfl ?_
      refine P.sipush (v := 200) (pc' := 131) dX9_takesHold_128 rfl (by decide) ?_
      refine P.iload_n 1 (pc' := 132) dX9_takesHold_131 rfl rfl rfl ?_
      refine P.iadd (pc' := 133) dX9_takesHold_132 rfl ?_
      obtain ⟨x12, h13, hf⟩ := ob hf
      refine P.iald (t := 0) (pc' := 134) rfl (T_aI rfl h13) dX9_takesHold_133 rfl ?_
      obtain ⟨τ15, h14, hf⟩ := ob hf
      refine P.iast (pc' := 135) (T_sA rfl (by decide) h14) dX9_takesHold_134 rfl ?_
      refine P.aload_n 0 (pc' := 136) dX9_takesHold_135 rfl rfl rfl ?_
      refine P.get (v := .ref (tw + 15)) (pc' := 139) ci9 21 (by decide) (T_gf rfl) q1576 (Or.inl rfl) dX9_takesHold_136 rfl ?_
      refine P.iload_n 1 (pc' := 140) dX9_takesHold_139 rfl rfl rfl ?_
      refine P.aload_n 0 (pc' := 141) dX9_takesHold_140 rfl rfl rfl ?_
      refine P.get (v := .ref (tw + 15)) (pc' := 144) ci9 21 (by decide) (T_gf rfl) q1576 (Or.inl rfl) dX9_takesHold_141 rfl ?_
      refine P.sipush (v := 200) (pc' := 147) dX9_takesHold_144 rfl (by decide) ?_
      refine P.iload_n 1 (pc' := 148) dX9_takesHold_147 rfl rfl rfl ?_
      refine P.iadd (pc' := 149) dX9_takesHold_148 rfl ?_
      obtain ⟨x16, h17, hf⟩ := ob hf
      refine P.iald (t := 0) (pc' := 150) rfl (T_aI rfl h17) dX9_takesHold_149 rfl ?_
      obtain ⟨τ19, h18, hf⟩ := ob hf
      refine P.iast (pc' := 151) (T_sA rfl (by decide) h18) dX9_takesHold_150 rfl ?_
      refine P.aload_n 0 (pc' := 152) dX9_takesHold_151 rfl rfl rfl ?_
      refine P.get (v := .ref (tw + 16)) (pc' := 155) ci9 22 (by decide) (T_gf rfl) q1577 (Or.inl rfl) dX9_takesHold_152 rfl ?_
      refine P.iload_n 1 (pc' := 156) dX9_takesHold_155 rfl rfl rfl ?_
      refine P.aload_n 0 (pc' := 157) dX9_takesHold_156 rfl rfl rfl ?_
      refine P.get (v := .ref (tw + 16)) (pc' := 160) ci9 22 (by decide) (T_gf rfl) q1577 (Or.inl rfl) dX9_takesHold_157 rfl ?_
      refine P.sipush (v := 200) (pc' := 163) dX9_takesHold_160 rfl (by decide) ?_
      refine P.iload_n 1 (pc' := 164) dX9_takesHold_163 rfl rfl rfl ?_
      refine P.iadd (pc' := 165) dX9_takesHold_164 rfl ?_
      obtain ⟨x20, h21, hf⟩ := ob hf
      refine P.iald (t := 0) (pc' := 166) rfl (T_aI rfl h21) dX9_takesHold_165 rfl ?_
      obtain ⟨τ23, h22, hf⟩ := ob hf
      refine P.iast (pc' := 167) (T_sA rfl (by decide) h22) dX9_takesHold_166 rfl ?_
      refine P.aload_n 0 (pc' := 168) dX9_takesHold_167 rfl rfl rfl ?_
      refine P.get (v := .ref (tw + 17)) (pc' := 171) ci9 23 (by decide) (T_gf rfl) q1578 (Or.inl rfl) dX9_takesHold_168 rfl ?_
      refine P.iload_n 1 (pc' := 172) dX9_takesHold_171 rfl rfl rfl ?_
      refine P.aload_n 0 (pc' := 173) dX9_takesHold_172 rfl rfl rfl ?_
      refine P.get (v := .ref (tw + 17)) (pc' := 176) ci9 23 (by decide) (T_gf rfl) q1578 (Or.inl rfl) dX9_takesHold_173 rfl ?_
      refine P.sipush (v := 200) (pc' := 179) dX9_takesHold_176 rfl (by decide) ?_
      refine P.iload_n 1 (pc' := 180) dX9_takesHold_179 rfl rfl rfl ?_
      refine P.iadd (pc' := 181) dX9_takesHold_180 rfl ?_
      obtain ⟨x24, h25, hf⟩ := ob hf
      refine P.iald (t := 0) (pc' := 182) rfl (T_aI rfl h25) dX9_takesHold_181 rfl ?_
      obtain ⟨τ27, h26, hf⟩ := ob hf
      refine P.iast (pc' := 183) (T_sA rfl (by decide) h26) dX9_takesHold_182 rfl ?_
      obtain ⟨x28, e29, hf⟩ := nm_i hf
      refine P.iinc 1 (pc' := 186) (lv' := [(1, .int x28), (0, .ref tw)]) dX9_takesHold_183 rfl rfl (by decide) e29 (Nat.le_of_ble_eq_true rfl) rfl ?_
      refine P.goto (tgt := 80) dX9_takesHold_186 (by decide) ?_
      exact PW.sub [1, 0] rfl (ih _ _ hf)
noncomputable def t_X9_takesHold (F : Nat) (τ : Tw) : Option Tw :=
  t_X9_takesHold_L2 F
    (fun τ1 =>
      t_X9_takesHold_L33 F
        (fun τ2 =>
          t_X9_takesHold_L80 F F 0 τ2)
         F 0 τ1)
     F 0 τ
set_option maxHeartbeats 4000000 in
theorem ok_X9_takesHold {g : Gx} (F : Nat) (tw : Nat) (μ : Sw) (τ : Tw) {τF : Tw} (hf : t_X9_takesHold F τ = some τF) : Cl g 4 yX9_takesHold cX9_takesHold 2 none [.ref tw] (mT tw τ μ) none (mT tw τF μ) := by
  unfold t_X9_takesHold at hf
  refine Cl.of (own := RX9) (ini := false) (by decide +kernel) rfl (by decide) (Nat.le_of_ble_eq_true rfl) ?_
  show PW g mX9_takesHold 4 (mT tw τ μ) (mT tw τF μ) (QN g none (mT tw τ μ) (mT tw τF μ)) 0 [(0, .ref tw)] [] (mT tw τ μ)
  refine P.iconst (v := 0) (pc' := 1) dX9_takesHold_0 rfl (by decide) ?_
  refine P.istore_n (pc' := 2) (lv' := [(1, .int 0), (0, .ref tw)]) dX9_takesHold_1 rfl rfl (Nat.le_of_ble_eq_true rfl) rfl ?_
  refine PW.sub [1, 0] rfl (ok_t_X9_takesHold_L2 F tw μ _ ?_ F _ _ hf)
  · intro τ1 hf
    refine P.iconst (v := 0) (pc' := 32) dX9_takesHold_31 rfl (by decide) ?_
    refine P.istore_n (pc' := 33) (lv' := [(1, .int 0), (0, .ref tw)]) dX9_takesHold_32 rfl rfl (Nat.le_of_ble_eq_true rfl) rfl ?_
    refine PW.sub [1, 0] rfl (ok_t_X9_takesHold_L33 F tw μ _ ?_ F _ _ hf)
    · intro τ2 hf
      refine P.iconst (v := 0) (pc' := 79) dX9_takesHold_78 rfl (by decide) ?_
      refine P.istore_n (pc' := 80) (lv' := [(1, .int 0), (0, .ref tw)]) dX9_takesHold_79 rfl rfl (Nat.le_of_ble_eq_true rfl) rfl ?_
      exact PW.sub [1, 0] rfl (ok_t_X9_takesHold_L80 F tw μ F _ _ hf)
theorem yok_X9_begin : yOK yX9_begin 1 := ⟨by decide +kernel, by decide +kernel, by decide +kernel⟩
theorem yok_X9_parses : yOK yX9_parses 0 := ⟨by decide +kernel, by decide +kernel, by decide +kernel⟩
theorem yok_X9_scanAll : yOK yX9_scanAll 0 := ⟨by decide +kernel, by decide +kernel, by decide +kernel⟩
theorem yok_X9_takesHold : yOK yX9_takesHold 0 := ⟨by decide +kernel, by decide +kernel, by decide +kernel⟩
abbrev mX9_read : Ym := (RX9, cX9_read, 1, (some Jvm.ClassFile.FieldType.int), false, [])
noncomputable def t_X9_read_j54 (F : Nat) (τ : Tw) : Option (Int32 × Tw) :=
  nm (tsI τ 0 0) fun τ1 =>
  if (τ1.1 8) = 0 then
    Option.bind (t_X9_takesHold F τ1) fun q4 =>
    some (q4.1 8, q4)
  else
    some (τ1.1 8, τ1)
set_option maxHeartbeats 4000000 in
theorem ok_t_X9_read_j54 {g : Gx} {μ0 : Sw} {rv : Int32} {τF : Tw} (F : Nat) (tw : Nat) (μ : Sw) (τ : Tw) (hf : t_X9_read_j54 F τ = some (rv, τF)) : PW g mX9_read 8 μ0 (mT tw τF μ) (QN g (some (.int rv)) μ0 (mT tw τF μ)) 54 [(0, .ref tw)] [] (mT tw τ μ) := by
  unfold t_X9_read_j54 at hf
  refine P.aload_n 0 (pc' := 55) dX9_read_54 rfl rfl rfl ?_
  refine P.iconst (v := 0) (pc' := 56) dX9_read_55 rfl (by decide) ?_
  obtain ⟨τ1, e2, hf⟩ := nm_i hf
  refine P.put (v := .int 0) (pc' := 59) ci9 0 (by decide) (T_put rfl (by decide) e2) q1555 (Or.inl rfl) rfl rfl rfl dX9_read_56 rfl ?_
  refine P.aload_n 0 (pc' := 60) dX9_read_59 rfl rfl rfl ?_
  refine P.get (v := .int (τ1.1 8)) (pc' := 63) ci9 8 (by decide) (T_gf rfl) q1563 (Or.inl rfl) dX9_read_60 rfl ?_
  refine P.if_ne (tgt := 70) (pc' := 66) dX9_read_63 (by decide) rfl (fun y3 => ?_) (fun y3 => ?_)
  · have hf := (if_neg y3).symm.trans hf
    refine P.aload_n 0 (pc' := 71) dX9_read_70 rfl rfl rfl ?_
    refine P.get (v := .int (τ1.1 8)) (pc' := 74) ci9 8 (by decide) (T_gf rfl) q1563 (Or.inl rfl) dX9_read_71 rfl ?_
    cases hf; exact P.iret rfl dX9_read_74
  · have hf := (if_pos y3).symm.trans hf
    refine P.aload_n 0 (pc' := 67) dX9_read_66 rfl rfl rfl ?_
    obtain ⟨q4, h5, hf⟩ := ob hf
    refine P.callV (pc' := 70) (As := []) 0 (ok_X9_takesHold F tw μ τ1 h5) (Nat.le_of_ble_eq_true rfl) (lw_V q1908 q1910 qs113 q172 q1911) rfl yok_X9_takesHold rfl (Nat.le_of_ble_eq_true rfl) ci9 T_oc (by decide) rfl dX9_read_67 rfl ?_
    refine P.aload_n 0 (pc' := 71) dX9_read_70 rfl rfl rfl ?_
    refine P.get (v := .int (q4.1 8)) (pc' := 74) ci9 8 (by decide) (T_gf rfl) q1563 (Or.inl rfl) dX9_read_71 rfl ?_
    cases hf; exact P.iret rfl dX9_read_74
noncomputable def t_X9_read (F : Nat) (τ : Tw) : Option (Int32 × Tw) :=
  Option.bind (t_X9_scanAll F τ) fun q1 =>
  nm (tsI q1 8 0) fun τ3 =>
  nm (tsI τ3 9 (-1)) fun τ5 =>
  nm (tsI τ5 10 0) fun τ7 =>
  Option.bind (t_X9_begin F 1 τ7) fun q9 =>
  Option.bind (t_X9_parses F q9) fun q11 =>
  if q11.1 = 0 then
    t_X9_read_j54 F q11.2
  else
    if (q11.2.1 10) = 0 then
      t_X9_read_j54 F q11.2
    else
      nm (tsI q11.2 8 (q11.2.1 10)) fun τ15 =>
      nm (tsI τ15 9 (τ15.1 11)) fun τ17 =>
      t_X9_read_j54 F τ17
set_option maxHeartbeats 4000000 in
theorem ok_X9_read {g : Gx} (F : Nat) (tw : Nat) (μ : Sw) (τ : Tw) {rv : Int32} {τF : Tw} (hf : t_X9_read F τ = some (rv, τF)) : Cl g 8 yX9_read cX9_read 1 (some Jvm.ClassFile.FieldType.int) [.ref tw] (mT tw τ μ) (some (.int rv)) (mT tw τF μ) := by
  unfold t_X9_read at hf
  refine Cl.of (own := RX9) (ini := false) (by decide +kernel) rfl (by decide) (Nat.le_of_ble_eq_true rfl) ?_
  show PW g mX9_read 8 (mT tw τ μ) (mT tw τF μ) (QN g (some (.int rv)) (mT tw τ μ) (mT tw τF μ)) 0 [(0, .ref tw)] [] (mT tw τ μ)
  refine P.aload_n 0 (pc' := 1) dX9_read_0 rfl rfl rfl ?_
  obtain ⟨q1, h2, hf⟩ := ob hf
  refine P.callV (pc' := 4) (As := []) 0 (ok_X9_scanAll F tw μ τ h2) (Nat.le_of_ble_eq_true rfl) (lw_V q1731 q1733 qs78 q172 q1734) rfl yok_X9_scanAll rfl (Nat.le_of_ble_eq_true rfl) ci9 T_oc (by decide) rfl dX9_read_1 rfl ?_
  refine P.aload_n 0 (pc' := 5) dX9_read_4 rfl rfl rfl ?_
  refine P.iconst (v := 0) (pc' := 6) dX9_read_5 rfl (by decide) ?_
  obtain ⟨τ3, e4, hf⟩ := nm_i hf
  refine P.put (v := .int 0) (pc' := 9) ci9 8 (by decide) (T_put rfl (by decide) e4) q1563 (Or.inl rfl) rfl rfl rfl dX9_read_6 rfl ?_
  refine P.aload_n 0 (pc' := 10) dX9_read_9 rfl rfl rfl ?_
  refine P.iconst (v := (-1)) (pc' := 11) dX9_read_10 rfl (by decide) ?_
  obtain ⟨τ5, e6, hf⟩ := nm_i hf
  refine P.put (v := .int (-1)) (pc' := 14) ci9 9 (by decide) (T_put rfl (by decide) e6) q1564 (Or.inl rfl) rfl rfl rfl dX9_read_11 rfl ?_
  refine P.aload_n 0 (pc' := 15) dX9_read_14 rfl rfl rfl ?_
  refine P.iconst (v := 0) (pc' := 16) dX9_read_15 rfl (by decide) ?_
  obtain ⟨τ7, e8, hf⟩ := nm_i hf
  refine P.put (v := .int 0) (pc' := 19) ci9 10 (by decide) (T_put rfl (by decide) e8) q1565 (Or.inl rfl) rfl rfl rfl dX9_read_16 rfl ?_
  refine P.aload_n 0 (pc' := 20) dX9_read_19 rfl rfl rfl ?_
  refine P.iconst (v := 1) (pc' := 21) dX9_read_20 rfl (by decide) ?_
  obtain ⟨q9, h10, hf⟩ := ob hf
  refine P.callV (pc' := 24) (As := [.int 1]) 1 (ok_X9_begin F 1 tw μ τ7 h10) (Nat.le_of_ble_eq_true rfl) (lw_V q1539 q1541 qs73 q172 q1542) rfl yok_X9_begin rfl (Nat.le_of_ble_eq_true rfl) ci9 T_oc (by decide) rfl dX9_read_21 rfl ?_
  refine P.aload_n 0 (pc' := 25) dX9_read_24 rfl rfl rfl ?_
  obtain ⟨q11, h12, hf⟩ := ob hf
  refine P.callV (pc' := 28) (As := []) 0 (ok_X9_parses F tw μ q9 h12) (Nat.le_of_ble_eq_true rfl) (lw_V q1790 q1792 qs85 q172 q1793) rfl yok_X9_parses rfl (Nat.le_of_ble_eq_true rfl) ci9 T_oc (by decide) rfl dX9_read_25 rfl ?_
  refine P.if_eq (tgt := 54) (pc' := 31) dX9_read_28 (by decide) rfl (fun y13 => ?_) (fun y13 => ?_)
  · have hf := (if_pos y13).symm.trans hf
    exact PW.sub [0] rfl (ok_t_X9_read_j54 F tw μ q11.2 hf)
  · have hf := (if_neg y13).symm.trans hf
    refine P.aload_n 0 (pc' := 32) dX9_read_31 rfl rfl rfl ?_
    refine P.get (v := .int (q11.2.1 10)) (pc' := 35) ci9 10 (by decide) (T_gf rfl) q1565 (Or.inl rfl) dX9_read_32 rfl ?_
    refine P.if_eq (tgt := 54) (pc' := 38) dX9_read_35 (by decide) rfl (fun y14 => ?_) (fun y14 => ?_)
    · have hf := (if_pos y14).symm.trans hf
      exact PW.sub [0] rfl (ok_t_X9_read_j54 F tw μ q11.2 hf)
    · have hf := (if_neg y14).symm.trans hf
      refine P.aload_n 0 (pc' := 39) dX9_read_38 rfl rfl rfl ?_
      refine P.aload_n 0 (pc' := 40) dX9_read_39 rfl rfl rfl ?_
      refine P.get (v := .int (q11.2.1 10)) (pc' := 43) ci9 10 (by decide) (T_gf rfl) q1565 (Or.inl rfl) dX9_read_40 rfl ?_
      obtain ⟨τ15, e16, hf⟩ := nm_i hf
      refine P.put (v := .int (q11.2.1 10)) (pc' := 46) ci9 8 (by decide) (T_put rfl (by decide) e16) q1563 (Or.inl rfl) rfl rfl rfl dX9_read_43 rfl ?_
      refine P.aload_n 0 (pc' := 47) dX9_read_46 rfl rfl rfl ?_
      refine P.aload_n 0 (pc' := 48) dX9_read_47 rfl rfl rfl ?_
      refine P.get (v := .int (τ15.1 11)) (pc' := 51) ci9 11 (by decide) (T_gf rfl) q1566 (Or.inl rfl) dX9_read_48 rfl ?_
      obtain ⟨τ17, e18, hf⟩ := nm_i hf
      refine P.put (v := .int (τ15.1 11)) (pc' := 54) ci9 9 (by decide) (T_put rfl (by decide) e18) q1564 (Or.inl rfl) rfl rfl rfl dX9_read_51 rfl ?_
      exact PW.sub [0] rfl (ok_t_X9_read_j54 F tw μ τ17 hf)
abbrev mX9_place : Ym := (RX9, cX9_place, 1, (some Jvm.ClassFile.FieldType.int), false, [])
noncomputable def t_X9_place (F : Nat) (τ : Tw) : Option Int32 :=
  some (τ.1 9)
set_option maxHeartbeats 4000000 in
theorem ok_X9_place {g : Gx} (F : Nat) (tw : Nat) (μ : Sw) (τ : Tw) {rv : Int32} (hf : t_X9_place F τ = some rv) : Cl g 1 yX9_place cX9_place 1 (some Jvm.ClassFile.FieldType.int) [.ref tw] (mT tw τ μ) (some (.int rv)) (mT tw τ μ) := by
  unfold t_X9_place at hf
  refine Cl.of (own := RX9) (ini := false) (by decide +kernel) rfl (by decide) (Nat.le_of_ble_eq_true rfl) ?_
  show PW g mX9_place 1 (mT tw τ μ) (mT tw τ μ) (QN g (some (.int rv)) (mT tw τ μ) (mT tw τ μ)) 0 [(0, .ref tw)] [] (mT tw τ μ)
  refine P.aload_n 0 (pc' := 1) dX9_place_0 rfl rfl rfl ?_
  refine P.get (v := .int (τ.1 9)) (pc' := 4) ci9 9 (by decide) (T_gf rfl) q1564 (Or.inl rfl) dX9_place_1 rfl ?_
  cases hf; exact P.iret rfl dX9_place_4
abbrev mX9_isHouse : Ym := (RX9, cX9_isHouse, 2, (some Jvm.ClassFile.FieldType.boolean), false, [])
noncomputable def t_X9_isHouse (F : Nat) (p1 : Int32) (τ : Tw) : Option Int32 :=
  if p1 < 0 then
    some 0
  else
    Option.bind (taI τ 6 420 0) fun x2 =>
    if x2 ≤ p1 then
      some 0
    else
      some 1
set_option maxHeartbeats 4000000 in
theorem ok_X9_isHouse {g : Gx} (F : Nat) (p1 : Int32) (tw : Nat) (μ : Sw) (τ : Tw) {rv : Int32} (hf : t_X9_isHouse F p1 τ = some rv) : Cl g 1 yX9_isHouse cX9_isHouse 2 (some Jvm.ClassFile.FieldType.boolean) [.ref tw, .int p1] (mT tw τ μ) (some (.int rv)) (mT tw τ μ) := by
  unfold t_X9_isHouse at hf
  refine Cl.of (own := RX9) (ini := false) (by decide +kernel) rfl (by decide) (Nat.le_of_ble_eq_true rfl) ?_
  show PW g mX9_isHouse 1 (mT tw τ μ) (mT tw τ μ) (QN g (some (.int rv)) (mT tw τ μ) (mT tw τ μ)) 0 [(0, .ref tw), (1, .int p1)] [] (mT tw τ μ)
  refine P.iload_n 1 (pc' := 1) dX9_isHouse_0 rfl rfl rfl ?_
  refine P.if_lt (tgt := 18) (pc' := 4) dX9_isHouse_1 (by decide) rfl (fun y1 => ?_) (fun y1 => ?_)
  · have hf := (if_pos y1).symm.trans hf
    refine P.iconst (v := 0) (pc' := 19) dX9_isHouse_18 rfl (by decide) ?_
    cases hf; exact P.zret rfl (Or.inl rfl) dX9_isHouse_19
  · have hf := (if_neg y1).symm.trans hf
    refine P.iload_n 1 (pc' := 5) dX9_isHouse_4 rfl rfl rfl ?_
    refine P.aload_n 0 (pc' := 6) dX9_isHouse_5 rfl rfl rfl ?_
    refine P.get (v := .ref (tw + 6)) (pc' := 9) ci9 12 (by decide) (T_gf rfl) q1567 (Or.inl rfl) dX9_isHouse_6 rfl ?_
    refine P.iconst (v := 0) (pc' := 10) dX9_isHouse_9 rfl (by decide) ?_
    obtain ⟨x2, h3, hf⟩ := ob hf
    refine P.iald (t := 0) (pc' := 11) rfl (T_aI rfl h3) dX9_isHouse_10 rfl ?_
    refine P.icmp_ge (tgt := 18) (pc' := 14) dX9_isHouse_11 (by decide) rfl (fun y4 => ?_) (fun y4 => ?_)
    · have hf := (if_pos y4).symm.trans hf
      refine P.iconst (v := 0) (pc' := 19) dX9_isHouse_18 rfl (by decide) ?_
      cases hf; exact P.zret rfl (Or.inl rfl) dX9_isHouse_19
    · have hf := (if_neg y4).symm.trans hf
      refine P.iconst (v := 1) (pc' := 15) dX9_isHouse_14 rfl (by decide) ?_
      refine P.goto (tgt := 19) dX9_isHouse_15 (by decide) ?_
      cases hf; exact P.zret rfl (Or.inr rfl) dX9_isHouse_19
abbrev mX9_askNone : Ym := (RX9, cX9_askNone, 2, none, false, [])
noncomputable def t_X9_askNone_L2_b (F : Nat) (self : Int32 → Tw → Option Tw) (v1 : Int32) (τ : Tw) : Option Tw :=
  if 9 ≤ v1 then
    some τ
  else
    Option.bind (tsA τ 23 0 9 v1 0) fun τ3 =>
    nm (v1 + 1) fun x4 =>
    self x4 τ3
noncomputable def t_X9_askNone_L2 (F : Nat) (n : Nat) : Int32 → Tw → Option Tw := Nat.rec (motive := fun _ => Int32 → Tw → Option Tw) (fun _ _ => none) (fun _ self => t_X9_askNone_L2_b F self) n
set_option maxHeartbeats 4000000 in
theorem ok_t_X9_askNone_L2 {g : Gx} {μ0 : Sw} {τF : Tw} (F : Nat) (tw : Nat) (μ : Sw) : ∀ (n : Nat) (v1 : Int32) (τ : Tw), t_X9_askNone_L2 F n v1 τ = some τF → PW g mX9_askNone 1 μ0 (mT tw τF μ) (QN g none μ0 (mT tw τF μ)) 2 [(0, .ref tw), (1, .int v1)] [] (mT tw τ μ) := by
  intro n
  induction n with
  | zero =>
    intro v1 τ hf
    have hf : (none : Option Tw) = some _ := hf
    cases hf
  | succ n ih =>
    intro v1 τ hf
    have hf : t_X9_askNone_L2_b F (t_X9_askNone_L2 F n) v1 τ = some τF := hf
    unfold t_X9_askNone_L2_b at hf
    refine P.iload_n 1 (pc' := 3) dX9_askNone_2 rfl rfl rfl ?_
    refine P.bipush (v := 9) (pc' := 5) dX9_askNone_3 rfl (by decide) ?_
    refine P.icmp_ge (tgt := 21) (pc' := 8) dX9_askNone_5 (by decide) rfl (fun y1 => ?_) (fun y1 => ?_)
    · have hf := (if_pos y1).symm.trans hf
      cases hf; exact P.vret rfl dX9_askNone_21
    · have hf := (if_neg y1).symm.trans hf
      refine P.aload_n 0 (pc' := 9) dX9_askNone_8 rfl rfl rfl ?_
      refine P.get (v := .ref (tw + 23)) (pc' := 12) ci9 34 (by decide) (T_gf rfl) q1589 (Or.inl rfl) dX9_askNone_9 rfl ?_
      refine P.iload_n 1 (pc' := 13) dX9_askNone_12 rfl rfl rfl ?_
      refine P.iconst (v := 0) (pc' := 14) dX9_askNone_13 rfl (by decide) ?_
      obtain ⟨τ3, h2, hf⟩ := ob hf
      refine P.iast (pc' := 15) (T_sA rfl (by decide) h2) dX9_askNone_14 rfl ?_
      obtain ⟨x4, e5, hf⟩ := nm_i hf
      refine P.iinc 1 (pc' := 18) (lv' := [(1, .int x4), (0, .ref tw)]) dX9_askNone_15 rfl rfl (by decide) e5 (Nat.le_of_ble_eq_true rfl) rfl ?_
      refine P.goto (tgt := 2) dX9_askNone_18 (by decide) ?_
      exact PW.sub [1, 0] rfl (ih _ _ hf)
noncomputable def t_X9_askNone (F : Nat) (τ : Tw) : Option Tw :=
  t_X9_askNone_L2 F F 0 τ
set_option maxHeartbeats 4000000 in
theorem ok_X9_askNone {g : Gx} (F : Nat) (tw : Nat) (μ : Sw) (τ : Tw) {τF : Tw} (hf : t_X9_askNone F τ = some τF) : Cl g 1 yX9_askNone cX9_askNone 2 none [.ref tw] (mT tw τ μ) none (mT tw τF μ) := by
  unfold t_X9_askNone at hf
  refine Cl.of (own := RX9) (ini := false) (by decide +kernel) rfl (by decide) (Nat.le_of_ble_eq_true rfl) ?_
  show PW g mX9_askNone 1 (mT tw τ μ) (mT tw τF μ) (QN g none (mT tw τ μ) (mT tw τF μ)) 0 [(0, .ref tw)] [] (mT tw τ μ)
  refine P.iconst (v := 0) (pc' := 1) dX9_askNone_0 rfl (by decide) ?_
  refine P.istore_n (pc' := 2) (lv' := [(1, .int 0), (0, .ref tw)]) dX9_askNone_1 rfl rfl (Nat.le_of_ble_eq_true rfl) rfl ?_
  exact PW.sub [1, 0] rfl (ok_t_X9_askNone_L2 F tw μ F _ _ hf)
abbrev mX9_rankOf : Ym := (RX9, cX9_rankOf, 3, (some Jvm.ClassFile.FieldType.int), false, [])
noncomputable def t_X9_rankOf (F : Nat) (p1 : Int32) (τ : Tw) : Option Int32 :=
  Option.bind (taI τ 7 1260 (30 + p1)) fun x1 =>
  if 0 ≤ x1 then
    Option.bind (taI τ 6 420 (70 + x1)) fun x4 =>
    some x4
  else
    some 0
set_option maxHeartbeats 4000000 in
theorem ok_X9_rankOf {g : Gx} (F : Nat) (p1 : Int32) (tw : Nat) (μ : Sw) (τ : Tw) {rv : Int32} (hf : t_X9_rankOf F p1 τ = some rv) : Cl g 1 yX9_rankOf cX9_rankOf 3 (some Jvm.ClassFile.FieldType.int) [.ref tw, .int p1] (mT tw τ μ) (some (.int rv)) (mT tw τ μ) := by
  unfold t_X9_rankOf at hf
  refine Cl.of (own := RX9) (ini := false) (by decide +kernel) rfl (by decide) (Nat.le_of_ble_eq_true rfl) ?_
  show PW g mX9_rankOf 1 (mT tw τ μ) (mT tw τ μ) (QN g (some (.int rv)) (mT tw τ μ) (mT tw τ μ)) 0 [(0, .ref tw), (1, .int p1)] [] (mT tw τ μ)
  refine P.aload_n 0 (pc' := 1) dX9_rankOf_0 rfl rfl rfl ?_
  refine P.get (v := .ref (tw + 7)) (pc' := 4) ci9 13 (by decide) (T_gf rfl) q1568 (Or.inl rfl) dX9_rankOf_1 rfl ?_
  refine P.bipush (v := 30) (pc' := 6) dX9_rankOf_4 rfl (by decide) ?_
  refine P.iload_n 1 (pc' := 7) dX9_rankOf_6 rfl rfl rfl ?_
  refine P.iadd (pc' := 8) dX9_rankOf_7 rfl ?_
  obtain ⟨x1, h2, hf⟩ := ob hf
  refine P.iald (t := 0) (pc' := 9) rfl (T_aI rfl h2) dX9_rankOf_8 rfl ?_
  refine P.istore_n (pc' := 10) (lv' := [(2, .int x1), (0, .ref tw), (1, .int p1)]) dX9_rankOf_9 rfl rfl (Nat.le_of_ble_eq_true rfl) rfl ?_
  refine P.iload_n 0 (pc' := 11) dX9_rankOf_10 rfl rfl rfl ?_
  refine P.if_ge (tgt := 18) (pc' := 14) dX9_rankOf_11 (by decide) rfl (fun y3 => ?_) (fun y3 => ?_)
  · have hf := (if_pos y3).symm.trans hf
    refine P.aload_n 1 (pc' := 19) dX9_rankOf_18 rfl rfl rfl ?_
    refine P.get (v := .ref (tw + 6)) (pc' := 22) ci9 12 (by decide) (T_gf rfl) q1567 (Or.inl rfl) dX9_rankOf_19 rfl ?_
    refine P.bipush (v := 70) (pc' := 24) dX9_rankOf_22 rfl (by decide) ?_
    refine P.iload_n 0 (pc' := 25) dX9_rankOf_24 rfl rfl rfl ?_
    refine P.iadd (pc' := 26) dX9_rankOf_25 rfl ?_
    obtain ⟨x4, h5, hf⟩ := ob hf
    refine P.iald (t := 0) (pc' := 27) rfl (T_aI rfl h5) dX9_rankOf_26 rfl ?_
    cases hf; exact P.iret rfl dX9_rankOf_27
  · have hf := (if_neg y3).symm.trans hf
    refine P.iconst (v := 0) (pc' := 15) dX9_rankOf_14 rfl (by decide) ?_
    refine P.goto (tgt := 27) dX9_rankOf_15 (by decide) ?_
    cases hf; exact P.iret rfl dX9_rankOf_27
abbrev mX9_xOf : Ym := (RX9, cX9_xOf, 2, (some Jvm.ClassFile.FieldType.int), false, [])
noncomputable def t_X9_xOf (F : Nat) (p1 : Int32) (τ : Tw) : Option Int32 :=
  Option.bind (taI τ 6 420 (20 + (3 * p1))) fun x1 =>
  some x1
set_option maxHeartbeats 4000000 in
theorem ok_X9_xOf {g : Gx} (F : Nat) (p1 : Int32) (tw : Nat) (μ : Sw) (τ : Tw) {rv : Int32} (hf : t_X9_xOf F p1 τ = some rv) : Cl g 1 yX9_xOf cX9_xOf 2 (some Jvm.ClassFile.FieldType.int) [.ref tw, .int p1] (mT tw τ μ) (some (.int rv)) (mT tw τ μ) := by
  unfold t_X9_xOf at hf
  refine Cl.of (own := RX9) (ini := false) (by decide +kernel) rfl (by decide) (Nat.le_of_ble_eq_true rfl) ?_
  show PW g mX9_xOf 1 (mT tw τ μ) (mT tw τ μ) (QN g (some (.int rv)) (mT tw τ μ) (mT tw τ μ)) 0 [(0, .ref tw), (1, .int p1)] [] (mT tw τ μ)
  refine P.aload_n 0 (pc' := 1) dX9_xOf_0 rfl rfl rfl ?_
  refine P.get (v := .ref (tw + 6)) (pc' := 4) ci9 12 (by decide) (T_gf rfl) q1567 (Or.inl rfl) dX9_xOf_1 rfl ?_
  refine P.bipush (v := 20) (pc' := 6) dX9_xOf_4 rfl (by decide) ?_
  refine P.iconst (v := 3) (pc' := 7) dX9_xOf_6 rfl (by decide) ?_
  refine P.iload_n 1 (pc' := 8) dX9_xOf_7 rfl rfl rfl ?_
  refine P.imul (pc' := 9) dX9_xOf_8 rfl ?_
  refine P.iadd (pc' := 10) dX9_xOf_9 rfl ?_
  obtain ⟨x1, h2, hf⟩ := ob hf
  refine P.iald (t := 0) (pc' := 11) rfl (T_aI rfl h2) dX9_xOf_10 rfl ?_
  cases hf; exact P.iret rfl dX9_xOf_11
abbrev mX9_sum : Ym := (RX9, cX9_sum, 8, (some Jvm.ClassFile.FieldType.int), false, [])
noncomputable def t_X9_sum_j111 (F : Nat) (self : Int32 → Int32 → Tw → Option (Int32 × Tw)) (v2 : Int32) (v3 : Int32) (v4 : Int32) (v5 : Int32) (v6 : Int32) (v7 : Int32) (τ : Tw) : Option (Int32 × Tw) :=
  if v5 = 2 then
    Option.bind (tsA τ 24 0 500 (v3 - 1) (v7 + v6)) fun τ19 =>
    nm (v4 + 1) fun x20 =>
    self v3 x20 τ19
  else
    if v5 = 3 then
      Option.bind (tsA τ 24 0 500 (v3 - 1) (v7 - v6)) fun τ15 =>
      nm (v4 + 1) fun x16 =>
      self v3 x16 τ15
    else
      if v5 = 4 then
        Option.bind (tsA τ 24 0 500 (v3 - 1) (v7 * v6)) fun τ11 =>
        nm (v4 + 1) fun x12 =>
        self v3 x12 τ11
      else
        Option.bind (dvO v7 v6) fun x4 =>
        Option.bind (tsA τ 24 0 500 (v3 - 1) x4) fun τ7 =>
        nm (v4 + 1) fun x8 =>
        self v3 x8 τ7
set_option maxHeartbeats 4000000 in
theorem ok_t_X9_sum_j111 {g : Gx} {μ0 : Sw} {rv : Int32} {τF : Tw} (F : Nat) (tw : Nat) (μ : Sw) (v2 : Int32) (v3 : Int32) (v4 : Int32) (v5 : Int32) (v6 : Int32) (v7 : Int32) (τ : Tw) (self : Int32 → Int32 → Tw → Option (Int32 × Tw)) (ih : ∀ (w3 : Int32) (w4 : Int32) (τ : Tw), self w3 w4 τ = some (rv, τF) → PW g mX9_sum 1 μ0 (mT tw τF μ) (QN g (some (.int rv)) μ0 (mT tw τF μ)) 10 [(0, .ref tw), (2, .int v2), (3, .int w3), (4, .int w4)] [] (mT tw τ μ)) (hf : t_X9_sum_j111 F self v2 v3 v4 v5 v6 v7 τ = some (rv, τF)) : PW g mX9_sum 1 μ0 (mT tw τF μ) (QN g (some (.int rv)) μ0 (mT tw τF μ)) 111 [(0, .ref tw), (2, .int v2), (3, .int v3), (4, .int v4), (5, .int v5), (6, .int v6), (7, .int v7)] [] (mT tw τ μ) := by
  unfold t_X9_sum_j111 at hf
  refine P.aload_n 0 (pc' := 112) dX9_sum_111 rfl rfl rfl ?_
  refine P.get (v := .ref (tw + 24)) (pc' := 115) ci9 36 (by decide) (T_gf rfl) q1591 (Or.inl rfl) dX9_sum_112 rfl ?_
  refine P.iload_n 2 (pc' := 116) dX9_sum_115 rfl rfl rfl ?_
  refine P.iconst (v := 1) (pc' := 117) dX9_sum_116 rfl (by decide) ?_
  refine P.isub (pc' := 118) dX9_sum_117 rfl ?_
  refine P.iload 4 (pc' := 120) dX9_sum_118 rfl rfl ?_
  refine P.iconst (v := 2) (pc' := 121) dX9_sum_120 rfl (by decide) ?_
  refine P.icmp_ne (tgt := 132) (pc' := 124) dX9_sum_121 (by decide) rfl (fun y1 => ?_) (fun y1 => ?_)
  · have hf := (if_neg y1).symm.trans hf
    refine P.iload 4 (pc' := 134) dX9_sum_132 rfl rfl ?_
    refine P.iconst (v := 3) (pc' := 135) dX9_sum_134 rfl (by decide) ?_
    refine P.icmp_ne (tgt := 146) (pc' := 138) dX9_sum_135 (by decide) rfl (fun y2 => ?_) (fun y2 => ?_)
    · have hf := (if_neg y2).symm.trans hf
      refine P.iload 4 (pc' := 148) dX9_sum_146 rfl rfl ?_
      refine P.iconst (v := 4) (pc' := 149) dX9_sum_148 rfl (by decide) ?_
      refine P.icmp_ne (tgt := 160) (pc' := 152) dX9_sum_149 (by decide) rfl (fun y3 => ?_) (fun y3 => ?_)
      · have hf := (if_neg y3).symm.trans hf
        refine P.iload 6 (pc' := 162) dX9_sum_160 rfl rfl ?_
        refine P.iload 5 (pc' := 164) dX9_sum_162 rfl rfl ?_
        obtain ⟨x4, h5, hf⟩ := ob hf
        refine P.idivO (pc' := 165) h5 dX9_sum_164 rfl ?_
        obtain ⟨τ7, h6, hf⟩ := ob hf
        refine P.iast (pc' := 166) (T_sA rfl (by decide) h6) dX9_sum_165 rfl ?_
        obtain ⟨x8, e9, hf⟩ := nm_i hf
        refine P.iinc 3 (pc' := 169) (lv' := [(4, .int x8), (0, .ref tw), (2, .int v2), (3, .int v3), (5, .int v5), (6, .int v6), (7, .int v7)]) dX9_sum_166 rfl rfl (by decide) e9 (Nat.le_of_ble_eq_true rfl) rfl ?_
        refine P.goto (tgt := 10) dX9_sum_169 (by decide) ?_
        exact PW.sub [1, 2, 3, 0] rfl (ih _ _ _ hf)
      · have hf := (if_pos y3).symm.trans hf
        refine P.iload 6 (pc' := 154) dX9_sum_152 rfl rfl ?_
        refine P.iload 5 (pc' := 156) dX9_sum_154 rfl rfl ?_
        refine P.imul (pc' := 157) dX9_sum_156 rfl ?_
        refine P.goto (tgt := 165) dX9_sum_157 (by decide) ?_
        obtain ⟨τ11, h10, hf⟩ := ob hf
        refine P.iast (pc' := 166) (T_sA rfl (by decide) h10) dX9_sum_165 rfl ?_
        obtain ⟨x12, e13, hf⟩ := nm_i hf
        refine P.iinc 3 (pc' := 169) (lv' := [(4, .int x12), (0, .ref tw), (2, .int v2), (3, .int v3), (5, .int v5), (6, .int v6), (7, .int v7)]) dX9_sum_166 rfl rfl (by decide) e13 (Nat.le_of_ble_eq_true rfl) rfl ?_
        refine P.goto (tgt := 10) dX9_sum_169 (by decide) ?_
        exact PW.sub [1, 2, 3, 0] rfl (ih _ _ _ hf)
    · have hf := (if_pos y2).symm.trans hf
      refine P.iload 6 (pc' := 140) dX9_sum_138 rfl rfl ?_
      refine P.iload 5 (pc' := 142) dX9_sum_140 rfl rfl ?_
      refine P.isub (pc' := 143) dX9_sum_142 rfl ?_
      refine P.goto (tgt := 165) dX9_sum_143 (by decide) ?_
      obtain ⟨τ15, h14, hf⟩ := ob hf
      refine P.iast (pc' := 166) (T_sA rfl (by decide) h14) dX9_sum_165 rfl ?_
      obtain ⟨x16, e17, hf⟩ := nm_i hf
      refine P.iinc 3 (pc' := 169) (lv' := [(4, .int x16), (0, .ref tw), (2, .int v2), (3, .int v3), (5, .int v5), (6, .int v6), (7, .int v7)]) dX9_sum_166 rfl rfl (by decide) e17 (Nat.le_of_ble_eq_true rfl) rfl ?_
      refine P.goto (tgt := 10) dX9_sum_169 (by decide) ?_
      exact PW.sub [1, 2, 3, 0] rfl (ih _ _ _ hf)
  · have hf := (if_pos y1).symm.trans hf
    refine P.iload 6 (pc' := 126) dX9_sum_124 rfl rfl ?_
    refine P.iload 5 (pc' := 128) dX9_sum_126 rfl rfl ?_
    refine P.iadd (pc' := 129) dX9_sum_128 rfl ?_
    refine P.goto (tgt := 165) dX9_sum_129 (by decide) ?_
    obtain ⟨τ19, h18, hf⟩ := ob hf
    refine P.iast (pc' := 166) (T_sA rfl (by decide) h18) dX9_sum_165 rfl ?_
    obtain ⟨x20, e21, hf⟩ := nm_i hf
    refine P.iinc 3 (pc' := 169) (lv' := [(4, .int x20), (0, .ref tw), (2, .int v2), (3, .int v3), (5, .int v5), (6, .int v6), (7, .int v7)]) dX9_sum_166 rfl rfl (by decide) e21 (Nat.le_of_ble_eq_true rfl) rfl ?_
    refine P.goto (tgt := 10) dX9_sum_169 (by decide) ?_
    exact PW.sub [1, 2, 3, 0] rfl (ih _ _ _ hf)
noncomputable def t_X9_sum_L10_b (F : Nat) (c2 : Int32) (self : Int32 → Int32 → Tw → Option (Int32 × Tw)) (v3 : Int32) (v4 : Int32) (τ : Tw) : Option (Int32 × Tw) :=
  if c2 ≤ v4 then
    Option.bind (taI τ 24 500 0) fun x2 =>
    some (x2, τ)
  else
    Option.bind (taI τ 9 1000 v4) fun x4 =>
    if 2 ≤ x4 then
      Option.bind (taI τ 24 500 (v3 - 1)) fun x7 =>
      Option.bind (taI τ 24 500 (v3 - 2)) fun x9 =>
      nm (v3 + (-1)) fun x11 =>
      if x4 = 5 then
        if x7 = 0 then
          nm (tsI τ 35 1) fun τ15 =>
          some (0, τ15)
        else
          t_X9_sum_j111 F self c2 x11 v4 x4 x7 x9 τ
      else
        t_X9_sum_j111 F self c2 x11 v4 x4 x7 x9 τ
    else
      if x4 = 0 then
        Option.bind (taI τ 10 1000 v4) fun x28 =>
        Option.bind (tsA τ 24 0 500 v3 x28) fun τ31 =>
        nm (v3 + 1) fun x32 =>
        nm (v4 + 1) fun x34 =>
        self x32 x34 τ31
      else
        Option.bind (taI τ 10 1000 v4) fun x18 =>
        Option.bind (taI τ 23 9 x18) fun x20 =>
        Option.bind (tsA τ 24 0 500 v3 x20) fun τ23 =>
        nm (v3 + 1) fun x24 =>
        nm (v4 + 1) fun x26 =>
        self x24 x26 τ23
noncomputable def t_X9_sum_L10 (F : Nat) (c2 : Int32) (n : Nat) : Int32 → Int32 → Tw → Option (Int32 × Tw) := Nat.rec (motive := fun _ => Int32 → Int32 → Tw → Option (Int32 × Tw)) (fun _ _ _ => none) (fun _ self => t_X9_sum_L10_b F c2 self) n
set_option maxHeartbeats 4000000 in
theorem ok_t_X9_sum_L10 {g : Gx} {μ0 : Sw} {rv : Int32} {τF : Tw} (F : Nat) (tw : Nat) (μ : Sw) (c2 : Int32) : ∀ (n : Nat) (v3 : Int32) (v4 : Int32) (τ : Tw), t_X9_sum_L10 F c2 n v3 v4 τ = some (rv, τF) → PW g mX9_sum 1 μ0 (mT tw τF μ) (QN g (some (.int rv)) μ0 (mT tw τF μ)) 10 [(0, .ref tw), (2, .int c2), (3, .int v3), (4, .int v4)] [] (mT tw τ μ) := by
  intro n
  induction n with
  | zero =>
    intro v3 v4 τ hf
    have hf : (none : Option (Int32 × Tw)) = some _ := hf
    cases hf
  | succ n ih =>
    intro v3 v4 τ hf
    have hf : t_X9_sum_L10_b F c2 (t_X9_sum_L10 F c2 n) v3 v4 τ = some (rv, τF) := hf
    unfold t_X9_sum_L10_b at hf
    refine P.iload 3 (pc' := 12) dX9_sum_10 rfl rfl ?_
    refine P.iload_n 1 (pc' := 13) dX9_sum_12 rfl rfl rfl ?_
    refine P.icmp_ge (tgt := 172) (pc' := 16) dX9_sum_13 (by decide) rfl (fun y1 => ?_) (fun y1 => ?_)
    · have hf := (if_pos y1).symm.trans hf
      refine P.aload_n 0 (pc' := 173) dX9_sum_172 rfl rfl rfl ?_
      refine P.get (v := .ref (tw + 24)) (pc' := 176) ci9 36 (by decide) (T_gf rfl) q1591 (Or.inl rfl) dX9_sum_173 rfl ?_
      refine P.iconst (v := 0) (pc' := 177) dX9_sum_176 rfl (by decide) ?_
      obtain ⟨x2, h3, hf⟩ := ob hf
      refine P.iald (t := 0) (pc' := 178) rfl (T_aI rfl h3) dX9_sum_177 rfl ?_
      cases hf; exact P.iret rfl dX9_sum_178
    · have hf := (if_neg y1).symm.trans hf
      refine P.aload_n 0 (pc' := 17) dX9_sum_16 rfl rfl rfl ?_
      refine P.get (v := .ref (tw + 9)) (pc' := 20) ci9 15 (by decide) (T_gf rfl) q1570 (Or.inl rfl) dX9_sum_17 rfl ?_
      refine P.iload 3 (pc' := 22) dX9_sum_20 rfl rfl ?_
      obtain ⟨x4, h5, hf⟩ := ob hf
      refine P.iald (t := 0) (pc' := 23) rfl (T_aI rfl h5) dX9_sum_22 rfl ?_
      refine P.istore (pc' := 25) (lv' := [(5, .int x4), (0, .ref tw), (2, .int c2), (3, .int v3), (4, .int v4)]) dX9_sum_23 rfl (Nat.le_of_ble_eq_true rfl) rfl ?_
      refine P.iload 0 (pc' := 27) dX9_sum_25 rfl rfl ?_
      refine P.iconst (v := 2) (pc' := 28) dX9_sum_27 rfl (by decide) ?_
      refine P.icmp_ge (tgt := 70) (pc' := 31) dX9_sum_28 (by decide) rfl (fun y6 => ?_) (fun y6 => ?_)
      · have hf := (if_pos y6).symm.trans hf
        refine P.aload_n 1 (pc' := 71) dX9_sum_70 rfl rfl rfl ?_
        refine P.get (v := .ref (tw + 24)) (pc' := 74) ci9 36 (by decide) (T_gf rfl) q1591 (Or.inl rfl) dX9_sum_71 rfl ?_
        refine P.iload_n 3 (pc' := 75) dX9_sum_74 rfl rfl rfl ?_
        refine P.iconst (v := 1) (pc' := 76) dX9_sum_75 rfl (by decide) ?_
        refine P.isub (pc' := 77) dX9_sum_76 rfl ?_
        obtain ⟨x7, h8, hf⟩ := ob hf
        refine P.iald (t := 0) (pc' := 78) rfl (T_aI rfl h8) dX9_sum_77 rfl ?_
        refine P.istore (pc' := 80) (lv' := [(6, .int x7), (5, .int x4), (0, .ref tw), (2, .int c2), (3, .int v3), (4, .int v4)]) dX9_sum_78 rfl (Nat.le_of_ble_eq_true rfl) rfl ?_
        refine P.aload_n 2 (pc' := 81) dX9_sum_80 rfl rfl rfl ?_
        refine P.get (v := .ref (tw + 24)) (pc' := 84) ci9 36 (by decide) (T_gf rfl) q1591 (Or.inl rfl) dX9_sum_81 rfl ?_
        refine P.iload_n 4 (pc' := 85) dX9_sum_84 rfl rfl rfl ?_
        refine P.iconst (v := 2) (pc' := 86) dX9_sum_85 rfl (by decide) ?_
        refine P.isub (pc' := 87) dX9_sum_86 rfl ?_
        obtain ⟨x9, h10, hf⟩ := ob hf
        refine P.iald (t := 0) (pc' := 88) rfl (T_aI rfl h10) dX9_sum_87 rfl ?_
        refine P.istore (pc' := 90) (lv' := [(7, .int x9), (6, .int x7), (5, .int x4), (0, .ref tw), (2, .int c2), (3, .int v3), (4, .int v4)]) dX9_sum_88 rfl (Nat.le_of_ble_eq_true rfl) rfl ?_
        obtain ⟨x11, e12, hf⟩ := nm_i hf
        refine P.iinc 5 (pc' := 93) (lv' := [(3, .int x11), (7, .int x9), (6, .int x7), (5, .int x4), (0, .ref tw), (2, .int c2), (4, .int v4)]) dX9_sum_90 rfl rfl (by decide) e12 (Nat.le_of_ble_eq_true rfl) rfl ?_
        refine P.iload 3 (pc' := 95) dX9_sum_93 rfl rfl ?_
        refine P.iconst (v := 5) (pc' := 96) dX9_sum_95 rfl (by decide) ?_
        refine P.icmp_ne (tgt := 111) (pc' := 99) dX9_sum_96 (by decide) rfl (fun y13 => ?_) (fun y13 => ?_)
        · have hf := (if_neg y13).symm.trans hf
          exact PW.sub [4, 5, 0, 6, 3, 2, 1] rfl (ok_t_X9_sum_j111 F tw μ c2 x11 v4 x4 x7 x9 τ _ ih hf)
        · have hf := (if_pos y13).symm.trans hf
          refine P.iload 2 (pc' := 101) dX9_sum_99 rfl rfl ?_
          refine P.if_ne (tgt := 111) (pc' := 104) dX9_sum_101 (by decide) rfl (fun y14 => ?_) (fun y14 => ?_)
          · have hf := (if_neg y14).symm.trans hf
            exact PW.sub [4, 5, 0, 6, 3, 2, 1] rfl (ok_t_X9_sum_j111 F tw μ c2 x11 v4 x4 x7 x9 τ _ ih hf)
          · have hf := (if_pos y14).symm.trans hf
            refine P.aload_n 4 (pc' := 105) dX9_sum_104 rfl rfl rfl ?_
            refine P.iconst (v := 1) (pc' := 106) dX9_sum_105 rfl (by decide) ?_
            obtain ⟨τ15, e16, hf⟩ := nm_i hf
            refine P.put (v := .int 1) (pc' := 109) ci9 35 (by decide) (T_put rfl (by decide) e16) q1590 (Or.inl rfl) rfl rfl rfl dX9_sum_106 rfl ?_
            refine P.iconst (v := 0) (pc' := 110) dX9_sum_109 rfl (by decide) ?_
            cases hf; exact P.iret rfl dX9_sum_110
      · have hf := (if_neg y6).symm.trans hf
        refine P.aload_n 1 (pc' := 32) dX9_sum_31 rfl rfl rfl ?_
        refine P.get (v := .ref (tw + 24)) (pc' := 35) ci9 36 (by decide) (T_gf rfl) q1591 (Or.inl rfl) dX9_sum_32 rfl ?_
        refine P.iload_n 3 (pc' := 36) dX9_sum_35 rfl rfl rfl ?_
        refine P.iload 0 (pc' := 38) dX9_sum_36 rfl rfl ?_
        refine P.if_ne (tgt := 51) (pc' := 41) dX9_sum_38 (by decide) rfl (fun y17 => ?_) (fun y17 => ?_)
        · have hf := (if_neg y17).symm.trans hf
          refine P.aload_n 1 (pc' := 52) dX9_sum_51 rfl rfl rfl ?_
          refine P.get (v := .ref (tw + 23)) (pc' := 55) ci9 34 (by decide) (T_gf rfl) q1589 (Or.inl rfl) dX9_sum_52 rfl ?_
          refine P.aload_n 1 (pc' := 56) dX9_sum_55 rfl rfl rfl ?_
          refine P.get (v := .ref (tw + 10)) (pc' := 59) ci9 16 (by decide) (T_gf rfl) q1571 (Or.inl rfl) dX9_sum_56 rfl ?_
          refine P.iload 4 (pc' := 61) dX9_sum_59 rfl rfl ?_
          obtain ⟨x18, h19, hf⟩ := ob hf
          refine P.iald (t := 0) (pc' := 62) rfl (T_aI rfl h19) dX9_sum_61 rfl ?_
          obtain ⟨x20, h21, hf⟩ := ob hf
          refine P.iald (t := 0) (pc' := 63) rfl (T_aI rfl h21) dX9_sum_62 rfl ?_
          obtain ⟨τ23, h22, hf⟩ := ob hf
          refine P.iast (pc' := 64) (T_sA rfl (by decide) h22) dX9_sum_63 rfl ?_
          obtain ⟨x24, e25, hf⟩ := nm_i hf
          refine P.iinc 3 (pc' := 67) (lv' := [(3, .int x24), (5, .int x4), (0, .ref tw), (2, .int c2), (4, .int v4)]) dX9_sum_64 rfl rfl (by decide) e25 (Nat.le_of_ble_eq_true rfl) rfl ?_
          refine P.goto (tgt := 166) dX9_sum_67 (by decide) ?_
          obtain ⟨x26, e27, hf⟩ := nm_i hf
          refine P.iinc 4 (pc' := 169) (lv' := [(4, .int x26), (3, .int x24), (5, .int x4), (0, .ref tw), (2, .int c2)]) dX9_sum_166 rfl rfl (by decide) e27 (Nat.le_of_ble_eq_true rfl) rfl ?_
          refine P.goto (tgt := 10) dX9_sum_169 (by decide) ?_
          exact PW.sub [3, 4, 1, 0] rfl (ih _ _ _ hf)
        · have hf := (if_pos y17).symm.trans hf
          refine P.aload_n 1 (pc' := 42) dX9_sum_41 rfl rfl rfl ?_
          refine P.get (v := .ref (tw + 10)) (pc' := 45) ci9 16 (by decide) (T_gf rfl) q1571 (Or.inl rfl) dX9_sum_42 rfl ?_
          refine P.iload 4 (pc' := 47) dX9_sum_45 rfl rfl ?_
          obtain ⟨x28, h29, hf⟩ := ob hf
          refine P.iald (t := 0) (pc' := 48) rfl (T_aI rfl h29) dX9_sum_47 rfl ?_
          refine P.goto (tgt := 63) dX9_sum_48 (by decide) ?_
          obtain ⟨τ31, h30, hf⟩ := ob hf
          refine P.iast (pc' := 64) (T_sA rfl (by decide) h30) dX9_sum_63 rfl ?_
          obtain ⟨x32, e33, hf⟩ := nm_i hf
          refine P.iinc 3 (pc' := 67) (lv' := [(3, .int x32), (5, .int x4), (0, .ref tw), (2, .int c2), (4, .int v4)]) dX9_sum_64 rfl rfl (by decide) e33 (Nat.le_of_ble_eq_true rfl) rfl ?_
          refine P.goto (tgt := 166) dX9_sum_67 (by decide) ?_
          obtain ⟨x34, e35, hf⟩ := nm_i hf
          refine P.iinc 4 (pc' := 169) (lv' := [(4, .int x34), (3, .int x32), (5, .int x4), (0, .ref tw), (2, .int c2)]) dX9_sum_166 rfl rfl (by decide) e35 (Nat.le_of_ble_eq_true rfl) rfl ?_
          refine P.goto (tgt := 10) dX9_sum_169 (by decide) ?_
          exact PW.sub [3, 4, 1, 0] rfl (ih _ _ _ hf)
noncomputable def t_X9_sum (F : Nat) (p1 : Int32) (p2 : Int32) (τ : Tw) : Option (Int32 × Tw) :=
  nm (tsI τ 35 0) fun τ1 =>
  t_X9_sum_L10 F p2 F 0 p1 τ1
set_option maxHeartbeats 4000000 in
theorem ok_X9_sum {g : Gx} (F : Nat) (p1 : Int32) (p2 : Int32) (tw : Nat) (μ : Sw) (τ : Tw) {rv : Int32} {τF : Tw} (hf : t_X9_sum F p1 p2 τ = some (rv, τF)) : Cl g 1 yX9_sum cX9_sum 8 (some Jvm.ClassFile.FieldType.int) [.ref tw, .int p1, .int p2] (mT tw τ μ) (some (.int rv)) (mT tw τF μ) := by
  unfold t_X9_sum at hf
  refine Cl.of (own := RX9) (ini := false) (by decide +kernel) rfl (by decide) (Nat.le_of_ble_eq_true rfl) ?_
  show PW g mX9_sum 1 (mT tw τ μ) (mT tw τF μ) (QN g (some (.int rv)) (mT tw τ μ) (mT tw τF μ)) 0 [(0, .ref tw), (1, .int p1), (2, .int p2)] [] (mT tw τ μ)
  refine P.iconst (v := 0) (pc' := 1) dX9_sum_0 rfl (by decide) ?_
  refine P.istore_n (pc' := 2) (lv' := [(3, .int 0), (0, .ref tw), (1, .int p1), (2, .int p2)]) dX9_sum_1 rfl rfl (Nat.le_of_ble_eq_true rfl) rfl ?_
  refine P.aload_n 1 (pc' := 3) dX9_sum_2 rfl rfl rfl ?_
  refine P.iconst (v := 0) (pc' := 4) dX9_sum_3 rfl (by decide) ?_
  obtain ⟨τ1, e2, hf⟩ := nm_i hf
  refine P.put (v := .int 0) (pc' := 7) ci9 35 (by decide) (T_put rfl (by decide) e2) q1590 (Or.inl rfl) rfl rfl rfl dX9_sum_4 rfl ?_
  refine P.iload_n 2 (pc' := 8) dX9_sum_7 rfl rfl rfl ?_
  refine P.istore (pc' := 10) (lv' := [(4, .int p1), (3, .int 0), (0, .ref tw), (1, .int p1), (2, .int p2)]) dX9_sum_8 rfl (Nat.le_of_ble_eq_true rfl) rfl ?_
  exact PW.sub [2, 4, 1, 0] rfl (ok_t_X9_sum_L10 F tw μ p2 F _ _ _ hf)
theorem yok_X9_sum : yOK yX9_sum 2 := ⟨by decide +kernel, by decide +kernel, by decide +kernel⟩
theorem yok_X9_within : yOK yX9_within 3 := ⟨by decide +kernel, by decide +kernel, by decide +kernel⟩
abbrev mX9_says : Ym := (RX9, cX9_says, 3, (some Jvm.ClassFile.FieldType.int), false, [])
noncomputable def t_X9_says (F : Nat) (p1 : Int32) (p2 : Int32) (τ : Tw) : Option (Int32 × Tw) :=
  Option.bind (taI τ 6 420 (10 + (2 * p1))) fun x1 =>
  if 0 ≤ x1 then
    Option.bind (taI τ 6 420 (10 + (2 * p1))) fun x4 =>
    Option.bind (taI τ 6 420 ((10 + (2 * p1)) + 1)) fun x6 =>
    Option.bind (t_X9_sum F x4 x6 τ) fun q8 =>
    Option.bind (p_X9_within F q8.1 0 99) fun q10 =>
    some (q10, q8.2)
  else
    Option.bind (p_X9_within F p2 0 99) fun q12 =>
    some (q12, τ)
set_option maxHeartbeats 4000000 in
theorem ok_X9_says {g : Gx} (F : Nat) (p1 : Int32) (p2 : Int32) (tw : Nat) (μ : Sw) (τ : Tw) {rv : Int32} {τF : Tw} (hf : t_X9_says F p1 p2 τ = some (rv, τF)) : Cl g 2 yX9_says cX9_says 3 (some Jvm.ClassFile.FieldType.int) [.ref tw, .int p1, .int p2] (mT tw τ μ) (some (.int rv)) (mT tw τF μ) := by
  unfold t_X9_says at hf
  refine Cl.of (own := RX9) (ini := false) (by decide +kernel) rfl (by decide) (Nat.le_of_ble_eq_true rfl) ?_
  show PW g mX9_says 2 (mT tw τ μ) (mT tw τF μ) (QN g (some (.int rv)) (mT tw τ μ) (mT tw τF μ)) 0 [(0, .ref tw), (1, .int p1), (2, .int p2)] [] (mT tw τ μ)
  refine P.aload_n 0 (pc' := 1) dX9_says_0 rfl rfl rfl ?_
  refine P.get (v := .ref (tw + 6)) (pc' := 4) ci9 12 (by decide) (T_gf rfl) q1567 (Or.inl rfl) dX9_says_1 rfl ?_
  refine P.bipush (v := 10) (pc' := 6) dX9_says_4 rfl (by decide) ?_
  refine P.iconst (v := 2) (pc' := 7) dX9_says_6 rfl (by decide) ?_
  refine P.iload_n 1 (pc' := 8) dX9_says_7 rfl rfl rfl ?_
  refine P.imul (pc' := 9) dX9_says_8 rfl ?_
  refine P.iadd (pc' := 10) dX9_says_9 rfl ?_
  obtain ⟨x1, h2, hf⟩ := ob hf
  refine P.iald (t := 0) (pc' := 11) rfl (T_aI rfl h2) dX9_says_10 rfl ?_
  refine P.if_ge (tgt := 18) (pc' := 14) dX9_says_11 (by decide) rfl (fun y3 => ?_) (fun y3 => ?_)
  · have hf := (if_pos y3).symm.trans hf
    refine P.aload_n 0 (pc' := 19) dX9_says_18 rfl rfl rfl ?_
    refine P.aload_n 0 (pc' := 20) dX9_says_19 rfl rfl rfl ?_
    refine P.get (v := .ref (tw + 6)) (pc' := 23) ci9 12 (by decide) (T_gf rfl) q1567 (Or.inl rfl) dX9_says_20 rfl ?_
    refine P.bipush (v := 10) (pc' := 25) dX9_says_23 rfl (by decide) ?_
    refine P.iconst (v := 2) (pc' := 26) dX9_says_25 rfl (by decide) ?_
    refine P.iload_n 1 (pc' := 27) dX9_says_26 rfl rfl rfl ?_
    refine P.imul (pc' := 28) dX9_says_27 rfl ?_
    refine P.iadd (pc' := 29) dX9_says_28 rfl ?_
    obtain ⟨x4, h5, hf⟩ := ob hf
    refine P.iald (t := 0) (pc' := 30) rfl (T_aI rfl h5) dX9_says_29 rfl ?_
    refine P.aload_n 0 (pc' := 31) dX9_says_30 rfl rfl rfl ?_
    refine P.get (v := .ref (tw + 6)) (pc' := 34) ci9 12 (by decide) (T_gf rfl) q1567 (Or.inl rfl) dX9_says_31 rfl ?_
    refine P.bipush (v := 10) (pc' := 36) dX9_says_34 rfl (by decide) ?_
    refine P.iconst (v := 2) (pc' := 37) dX9_says_36 rfl (by decide) ?_
    refine P.iload_n 1 (pc' := 38) dX9_says_37 rfl rfl rfl ?_
    refine P.imul (pc' := 39) dX9_says_38 rfl ?_
    refine P.iadd (pc' := 40) dX9_says_39 rfl ?_
    refine P.iconst (v := 1) (pc' := 41) dX9_says_40 rfl (by decide) ?_
    refine P.iadd (pc' := 42) dX9_says_41 rfl ?_
    obtain ⟨x6, h7, hf⟩ := ob hf
    refine P.iald (t := 0) (pc' := 43) rfl (T_aI rfl h7) dX9_says_42 rfl ?_
    obtain ⟨q8, h9, hf⟩ := ob hf
    refine P.callV (pc' := 46) (As := [.int x4, .int x6]) 2 (ok_X9_sum F x4 x6 tw μ τ h9) (Nat.le_of_ble_eq_true rfl) (lw_V q1948 q1950 qs121 q172 q1951) rfl yok_X9_sum rfl (Nat.le_of_ble_eq_true rfl) ci9 T_oc (by decide) rfl dX9_says_43 rfl ?_
    refine P.iconst (v := 0) (pc' := 47) dX9_says_46 rfl (by decide) ?_
    refine P.bipush (v := 99) (pc' := 49) dX9_says_47 rfl (by decide) ?_
    obtain ⟨q10, h11, hf⟩ := ob hf
    refine P.callS (pc' := 52) (As := [.int q8.1, .int 0, .int 99]) 3 (ok_X9_within F q8.1 0 99 (mT tw q8.2 μ) h11) (Nat.le_of_ble_eq_true rfl) (lw_S q1952 q1953 q172 q1954) yok_X9_within rfl (Nat.le_of_ble_eq_true rfl) (by decide) rfl dX9_says_49 rfl ?_
    cases hf; exact P.iret rfl dX9_says_52
  · have hf := (if_neg y3).symm.trans hf
    refine P.iload_n 2 (pc' := 15) dX9_says_14 rfl rfl rfl ?_
    refine P.goto (tgt := 46) dX9_says_15 (by decide) ?_
    refine P.iconst (v := 0) (pc' := 47) dX9_says_46 rfl (by decide) ?_
    refine P.bipush (v := 99) (pc' := 49) dX9_says_47 rfl (by decide) ?_
    obtain ⟨q12, h13, hf⟩ := ob hf
    refine P.callS (pc' := 52) (As := [.int p2, .int 0, .int 99]) 3 (ok_X9_within F p2 0 99 (mT tw τ μ) h13) (Nat.le_of_ble_eq_true rfl) (lw_S q1952 q1953 q172 q1954) yok_X9_within rfl (Nat.le_of_ble_eq_true rfl) (by decide) rfl dX9_says_49 rfl ?_
    cases hf; exact P.iret rfl dX9_says_52
theorem yok_X9_askNone : yOK yX9_askNone 0 := ⟨by decide +kernel, by decide +kernel, by decide +kernel⟩
theorem yok_X9_rankOf : yOK yX9_rankOf 1 := ⟨by decide +kernel, by decide +kernel, by decide +kernel⟩
theorem yok_X9_says : yOK yX9_says 2 := ⟨by decide +kernel, by decide +kernel, by decide +kernel⟩
theorem yok_X9_xOf : yOK yX9_xOf 1 := ⟨by decide +kernel, by decide +kernel, by decide +kernel⟩
abbrev mX9_dueOf : Ym := (RX9, cX9_dueOf, 2, (some Jvm.ClassFile.FieldType.int), false, [])
noncomputable def t_X9_dueOf (F : Nat) (p1 : Int32) (τ : Tw) : Option (Int32 × Tw) :=
  Option.bind (t_X9_askNone F τ) fun q1 =>
  Option.bind (t_X9_rankOf F p1 q1) fun q3 =>
  Option.bind (tsA q1 23 0 9 1 q3) fun τ6 =>
  Option.bind (taI τ6 6 420 ((20 + (3 * p1)) + 2)) fun x7 =>
  Option.bind (tsA τ6 23 0 9 2 x7) fun τ10 =>
  Option.bind (t_X9_xOf F p1 τ10) fun q11 =>
  Option.bind (tsA τ10 23 0 9 3 q11) fun τ14 =>
  Option.bind (t_X9_rankOf F p1 τ14) fun q15 =>
  Option.bind (t_X9_says F 1 q15 τ14) fun q17 =>
  some (q17.1, q17.2)
set_option maxHeartbeats 4000000 in
theorem ok_X9_dueOf {g : Gx} (F : Nat) (p1 : Int32) (tw : Nat) (μ : Sw) (τ : Tw) {rv : Int32} {τF : Tw} (hf : t_X9_dueOf F p1 τ = some (rv, τF)) : Cl g 3 yX9_dueOf cX9_dueOf 2 (some Jvm.ClassFile.FieldType.int) [.ref tw, .int p1] (mT tw τ μ) (some (.int rv)) (mT tw τF μ) := by
  unfold t_X9_dueOf at hf
  refine Cl.of (own := RX9) (ini := false) (by decide +kernel) rfl (by decide) (Nat.le_of_ble_eq_true rfl) ?_
  show PW g mX9_dueOf 3 (mT tw τ μ) (mT tw τF μ) (QN g (some (.int rv)) (mT tw τ μ) (mT tw τF μ)) 0 [(0, .ref tw), (1, .int p1)] [] (mT tw τ μ)
  refine P.aload_n 0 (pc' := 1) dX9_dueOf_0 rfl rfl rfl ?_
  obtain ⟨q1, h2, hf⟩ := ob hf
  refine P.callV (pc' := 4) (As := []) 0 (ok_X9_askNone F tw μ τ h2) (Nat.le_of_ble_eq_true rfl) (lw_V q1940 q1942 qs119 q172 q1943) rfl yok_X9_askNone rfl (Nat.le_of_ble_eq_true rfl) ci9 T_oc (by decide) rfl dX9_dueOf_1 rfl ?_
  refine P.aload_n 0 (pc' := 5) dX9_dueOf_4 rfl rfl rfl ?_
  refine P.get (v := .ref (tw + 23)) (pc' := 8) ci9 34 (by decide) (T_gf rfl) q1589 (Or.inl rfl) dX9_dueOf_5 rfl ?_
  refine P.iconst (v := 1) (pc' := 9) dX9_dueOf_8 rfl (by decide) ?_
  refine P.aload_n 0 (pc' := 10) dX9_dueOf_9 rfl rfl rfl ?_
  refine P.iload_n 1 (pc' := 11) dX9_dueOf_10 rfl rfl rfl ?_
  obtain ⟨q3, h4, hf⟩ := ob hf
  refine P.callV (pc' := 14) (As := [.int p1]) 1 (ok_X9_rankOf F p1 tw μ q1 h4) (Nat.le_of_ble_eq_true rfl) (lw_V q1932 q1934 qs117 q172 q1935) rfl yok_X9_rankOf rfl (Nat.le_of_ble_eq_true rfl) ci9 T_oc (Nat.le_of_ble_eq_true rfl) rfl dX9_dueOf_11 rfl ?_
  obtain ⟨τ6, h5, hf⟩ := ob hf
  refine P.iast (pc' := 15) (T_sA rfl (by decide) h5) dX9_dueOf_14 rfl ?_
  refine P.aload_n 0 (pc' := 16) dX9_dueOf_15 rfl rfl rfl ?_
  refine P.get (v := .ref (tw + 23)) (pc' := 19) ci9 34 (by decide) (T_gf rfl) q1589 (Or.inl rfl) dX9_dueOf_16 rfl ?_
  refine P.iconst (v := 2) (pc' := 20) dX9_dueOf_19 rfl (by decide) ?_
  refine P.aload_n 0 (pc' := 21) dX9_dueOf_20 rfl rfl rfl ?_
  refine P.get (v := .ref (tw + 6)) (pc' := 24) ci9 12 (by decide) (T_gf rfl) q1567 (Or.inl rfl) dX9_dueOf_21 rfl ?_
  refine P.bipush (v := 20) (pc' := 26) dX9_dueOf_24 rfl (by decide) ?_
  refine P.iconst (v := 3) (pc' := 27) dX9_dueOf_26 rfl (by decide) ?_
  refine P.iload_n 1 (pc' := 28) dX9_dueOf_27 rfl rfl rfl ?_
  refine P.imul (pc' := 29) dX9_dueOf_28 rfl ?_
  refine P.iadd (pc' := 30) dX9_dueOf_29 rfl ?_
  refine P.iconst (v := 2) (pc' := 31) dX9_dueOf_30 rfl (by decide) ?_
  refine P.iadd (pc' := 32) dX9_dueOf_31 rfl ?_
  obtain ⟨x7, h8, hf⟩ := ob hf
  refine P.iald (t := 0) (pc' := 33) rfl (T_aI rfl h8) dX9_dueOf_32 rfl ?_
  obtain ⟨τ10, h9, hf⟩ := ob hf
  refine P.iast (pc' := 34) (T_sA rfl (by decide) h9) dX9_dueOf_33 rfl ?_
  refine P.aload_n 0 (pc' := 35) dX9_dueOf_34 rfl rfl rfl ?_
  refine P.get (v := .ref (tw + 23)) (pc' := 38) ci9 34 (by decide) (T_gf rfl) q1589 (Or.inl rfl) dX9_dueOf_35 rfl ?_
  refine P.iconst (v := 3) (pc' := 39) dX9_dueOf_38 rfl (by decide) ?_
  refine P.aload_n 0 (pc' := 40) dX9_dueOf_39 rfl rfl rfl ?_
  refine P.iload_n 1 (pc' := 41) dX9_dueOf_40 rfl rfl rfl ?_
  obtain ⟨q11, h12, hf⟩ := ob hf
  refine P.callV (pc' := 44) (As := [.int p1]) 1 (ok_X9_xOf F p1 tw μ τ10 h12) (Nat.le_of_ble_eq_true rfl) (lw_V q1924 q1926 qs115 q172 q1927) rfl yok_X9_xOf rfl (Nat.le_of_ble_eq_true rfl) ci9 T_oc (Nat.le_of_ble_eq_true rfl) rfl dX9_dueOf_41 rfl ?_
  obtain ⟨τ14, h13, hf⟩ := ob hf
  refine P.iast (pc' := 45) (T_sA rfl (by decide) h13) dX9_dueOf_44 rfl ?_
  refine P.aload_n 0 (pc' := 46) dX9_dueOf_45 rfl rfl rfl ?_
  refine P.iconst (v := 1) (pc' := 47) dX9_dueOf_46 rfl (by decide) ?_
  refine P.aload_n 0 (pc' := 48) dX9_dueOf_47 rfl rfl rfl ?_
  refine P.iload_n 1 (pc' := 49) dX9_dueOf_48 rfl rfl rfl ?_
  obtain ⟨q15, h16, hf⟩ := ob hf
  refine P.callV (pc' := 52) (As := [.int p1]) 1 (ok_X9_rankOf F p1 tw μ τ14 h16) (Nat.le_of_ble_eq_true rfl) (lw_V q1932 q1934 qs117 q172 q1935) rfl yok_X9_rankOf rfl (Nat.le_of_ble_eq_true rfl) ci9 T_oc (Nat.le_of_ble_eq_true rfl) rfl dX9_dueOf_49 rfl ?_
  obtain ⟨q17, h18, hf⟩ := ob hf
  refine P.callV (pc' := 55) (As := [.int 1, .int q15]) 2 (ok_X9_says F 1 q15 tw μ τ14 h18) (Nat.le_of_ble_eq_true rfl) (lw_V q1944 q1946 qs120 q172 q1947) rfl yok_X9_says rfl (Nat.le_of_ble_eq_true rfl) ci9 T_oc (by decide) rfl dX9_dueOf_52 rfl ?_
  cases hf; exact P.iret rfl dX9_dueOf_55
abbrev mX9_heightOf : Ym := (RX9, cX9_heightOf, 2, (some Jvm.ClassFile.FieldType.int), false, [])
noncomputable def t_X9_heightOf (F : Nat) (p1 : Int32) (τ : Tw) : Option Int32 :=
  Option.bind (taI τ 7 1260 (10 + p1)) fun x1 =>
  some x1
set_option maxHeartbeats 4000000 in
theorem ok_X9_heightOf {g : Gx} (F : Nat) (p1 : Int32) (tw : Nat) (μ : Sw) (τ : Tw) {rv : Int32} (hf : t_X9_heightOf F p1 τ = some rv) : Cl g 1 yX9_heightOf cX9_heightOf 2 (some Jvm.ClassFile.FieldType.int) [.ref tw, .int p1] (mT tw τ μ) (some (.int rv)) (mT tw τ μ) := by
  unfold t_X9_heightOf at hf
  refine Cl.of (own := RX9) (ini := false) (by decide +kernel) rfl (by decide) (Nat.le_of_ble_eq_true rfl) ?_
  show PW g mX9_heightOf 1 (mT tw τ μ) (mT tw τ μ) (QN g (some (.int rv)) (mT tw τ μ) (mT tw τ μ)) 0 [(0, .ref tw), (1, .int p1)] [] (mT tw τ μ)
  refine P.aload_n 0 (pc' := 1) dX9_heightOf_0 rfl rfl rfl ?_
  refine P.get (v := .ref (tw + 7)) (pc' := 4) ci9 13 (by decide) (T_gf rfl) q1568 (Or.inl rfl) dX9_heightOf_1 rfl ?_
  refine P.bipush (v := 10) (pc' := 6) dX9_heightOf_4 rfl (by decide) ?_
  refine P.iload_n 1 (pc' := 7) dX9_heightOf_6 rfl rfl rfl ?_
  refine P.iadd (pc' := 8) dX9_heightOf_7 rfl ?_
  obtain ⟨x1, h2, hf⟩ := ob hf
  refine P.iald (t := 0) (pc' := 9) rfl (T_aI rfl h2) dX9_heightOf_8 rfl ?_
  cases hf; exact P.iret rfl dX9_heightOf_9
theorem yok_X9_dueOf : yOK yX9_dueOf 1 := ⟨by decide +kernel, by decide +kernel, by decide +kernel⟩
theorem yok_X9_heightOf : yOK yX9_heightOf 1 := ⟨by decide +kernel, by decide +kernel, by decide +kernel⟩
theorem yok_X9_isHouse : yOK yX9_isHouse 1 := ⟨by decide +kernel, by decide +kernel, by decide +kernel⟩
abbrev mX9_house : Ym := (RX9, cX9_house, 3, (some Jvm.ClassFile.FieldType.int), false, [])
noncomputable def t_X9_house (F : Nat) (p1 : Int32) (p2 : Int32) (τ : Tw) : Option (Int32 × Tw) :=
  Option.bind (t_X9_isHouse F p1 τ) fun q1 =>
  if q1 = 0 then
    some ((-1), τ)
  else
    if p2 = 0 then
      Option.bind (t_X9_xOf F p1 τ) fun q5 =>
      some (q5, τ)
    else
      if p2 = 1 then
        Option.bind (t_X9_heightOf F p1 τ) fun q8 =>
        some (q8, τ)
      else
        if p2 = 2 then
          Option.bind (taI τ 6 420 ((20 + (3 * p1)) + 2)) fun x11 =>
          some (x11, τ)
        else
          if p2 = 3 then
            Option.bind (taI τ 7 1260 (30 + p1)) fun x14 =>
            some (x14, τ)
          else
            if p2 = 4 then
              Option.bind (t_X9_rankOf F p1 τ) fun q17 =>
              some (q17, τ)
            else
              if p2 = 5 then
                Option.bind (t_X9_dueOf F p1 τ) fun q20 =>
                some (q20.1, q20.2)
              else
                some ((-1), τ)
set_option maxHeartbeats 4000000 in
theorem ok_X9_house {g : Gx} (F : Nat) (p1 : Int32) (p2 : Int32) (tw : Nat) (μ : Sw) (τ : Tw) {rv : Int32} {τF : Tw} (hf : t_X9_house F p1 p2 τ = some (rv, τF)) : Cl g 4 yX9_house cX9_house 3 (some Jvm.ClassFile.FieldType.int) [.ref tw, .int p1, .int p2] (mT tw τ μ) (some (.int rv)) (mT tw τF μ) := by
  unfold t_X9_house at hf
  refine Cl.of (own := RX9) (ini := false) (by decide +kernel) rfl (by decide) (Nat.le_of_ble_eq_true rfl) ?_
  show PW g mX9_house 4 (mT tw τ μ) (mT tw τF μ) (QN g (some (.int rv)) (mT tw τ μ) (mT tw τF μ)) 0 [(0, .ref tw), (1, .int p1), (2, .int p2)] [] (mT tw τ μ)
  refine P.aload_n 0 (pc' := 1) dX9_house_0 rfl rfl rfl ?_
  refine P.iload_n 1 (pc' := 2) dX9_house_1 rfl rfl rfl ?_
  obtain ⟨q1, h2, hf⟩ := ob hf
  refine P.callV (pc' := 5) (As := [.int p1]) 1 (ok_X9_isHouse F p1 tw μ τ h2) (Nat.le_of_ble_eq_true rfl) (lw_V q1920 q1922 qs114 q172 q1923) rfl yok_X9_isHouse rfl (Nat.le_of_ble_eq_true rfl) ci9 T_oc (by decide) rfl dX9_house_2 rfl ?_
  refine P.if_ne (tgt := 10) (pc' := 8) dX9_house_5 (by decide) rfl (fun y3 => ?_) (fun y3 => ?_)
  · have hf := (if_neg y3).symm.trans hf
    refine P.iload_n 2 (pc' := 11) dX9_house_10 rfl rfl rfl ?_
    by_cases y4 : p2 = 0
    · have hf := (if_pos y4).symm.trans hf
      refine P.tsIn (tgt := 48) dX9_house_11 (by rw [y4]; decide) (by rw [y4]; decide) (by rw [y4]; rfl) (by decide) ?_
      refine P.aload_n 0 (pc' := 49) dX9_house_48 rfl rfl rfl ?_
      refine P.iload_n 1 (pc' := 50) dX9_house_49 rfl rfl rfl ?_
      obtain ⟨q5, h6, hf⟩ := ob hf
      refine P.callV (pc' := 53) (As := [.int p1]) 1 (ok_X9_xOf F p1 tw μ τ h6) (Nat.le_of_ble_eq_true rfl) (lw_V q1924 q1926 qs115 q172 q1927) rfl yok_X9_xOf rfl (Nat.le_of_ble_eq_true rfl) ci9 T_oc (by decide) rfl dX9_house_50 rfl ?_
      cases hf; exact P.iret rfl dX9_house_53
    · have hf := (if_neg y4).symm.trans hf
      by_cases y7 : p2 = 1
      · have hf := (if_pos y7).symm.trans hf
        refine P.tsIn (tgt := 54) dX9_house_11 (by rw [y7]; decide) (by rw [y7]; decide) (by rw [y7]; rfl) (by decide) ?_
        refine P.aload_n 0 (pc' := 55) dX9_house_54 rfl rfl rfl ?_
        refine P.iload_n 1 (pc' := 56) dX9_house_55 rfl rfl rfl ?_
        obtain ⟨q8, h9, hf⟩ := ob hf
        refine P.callV (pc' := 59) (As := [.int p1]) 1 (ok_X9_heightOf F p1 tw μ τ h9) (Nat.le_of_ble_eq_true rfl) (lw_V q1928 q1930 qs116 q172 q1931) rfl yok_X9_heightOf rfl (Nat.le_of_ble_eq_true rfl) ci9 T_oc (by decide) rfl dX9_house_56 rfl ?_
        cases hf; exact P.iret rfl dX9_house_59
      · have hf := (if_neg y7).symm.trans hf
        by_cases y10 : p2 = 2
        · have hf := (if_pos y10).symm.trans hf
          refine P.tsIn (tgt := 60) dX9_house_11 (by rw [y10]; decide) (by rw [y10]; decide) (by rw [y10]; rfl) (by decide) ?_
          refine P.aload_n 0 (pc' := 61) dX9_house_60 rfl rfl rfl ?_
          refine P.get (v := .ref (tw + 6)) (pc' := 64) ci9 12 (by decide) (T_gf rfl) q1567 (Or.inl rfl) dX9_house_61 rfl ?_
          refine P.bipush (v := 20) (pc' := 66) dX9_house_64 rfl (by decide) ?_
          refine P.iconst (v := 3) (pc' := 67) dX9_house_66 rfl (by decide) ?_
          refine P.iload_n 1 (pc' := 68) dX9_house_67 rfl rfl rfl ?_
          refine P.imul (pc' := 69) dX9_house_68 rfl ?_
          refine P.iadd (pc' := 70) dX9_house_69 rfl ?_
          refine P.iconst (v := 2) (pc' := 71) dX9_house_70 rfl (by decide) ?_
          refine P.iadd (pc' := 72) dX9_house_71 rfl ?_
          obtain ⟨x11, h12, hf⟩ := ob hf
          refine P.iald (t := 0) (pc' := 73) rfl (T_aI rfl h12) dX9_house_72 rfl ?_
          cases hf; exact P.iret rfl dX9_house_73
        · have hf := (if_neg y10).symm.trans hf
          by_cases y13 : p2 = 3
          · have hf := (if_pos y13).symm.trans hf
            refine P.tsIn (tgt := 74) dX9_house_11 (by rw [y13]; decide) (by rw [y13]; decide) (by rw [y13]; rfl) (by decide) ?_
            refine P.aload_n 0 (pc' := 75) dX9_house_74 rfl rfl rfl ?_
            refine P.get (v := .ref (tw + 7)) (pc' := 78) ci9 13 (by decide) (T_gf rfl) q1568 (Or.inl rfl) dX9_house_75 rfl ?_
            refine P.bipush (v := 30) (pc' := 80) dX9_house_78 rfl (by decide) ?_
            refine P.iload_n 1 (pc' := 81) dX9_house_80 rfl rfl rfl ?_
            refine P.iadd (pc' := 82) dX9_house_81 rfl ?_
            obtain ⟨x14, h15, hf⟩ := ob hf
            refine P.iald (t := 0) (pc' := 83) rfl (T_aI rfl h15) dX9_house_82 rfl ?_
            cases hf; exact P.iret rfl dX9_house_83
          · have hf := (if_neg y13).symm.trans hf
            by_cases y16 : p2 = 4
            · have hf := (if_pos y16).symm.trans hf
              refine P.tsIn (tgt := 84) dX9_house_11 (by rw [y16]; decide) (by rw [y16]; decide) (by rw [y16]; rfl) (by decide) ?_
              refine P.aload_n 0 (pc' := 85) dX9_house_84 rfl rfl rfl ?_
              refine P.iload_n 1 (pc' := 86) dX9_house_85 rfl rfl rfl ?_
              obtain ⟨q17, h18, hf⟩ := ob hf
              refine P.callV (pc' := 89) (As := [.int p1]) 1 (ok_X9_rankOf F p1 tw μ τ h18) (Nat.le_of_ble_eq_true rfl) (lw_V q1932 q1934 qs117 q172 q1935) rfl yok_X9_rankOf rfl (Nat.le_of_ble_eq_true rfl) ci9 T_oc (by decide) rfl dX9_house_86 rfl ?_
              cases hf; exact P.iret rfl dX9_house_89
            · have hf := (if_neg y16).symm.trans hf
              by_cases y19 : p2 = 5
              · have hf := (if_pos y19).symm.trans hf
                refine P.tsIn (tgt := 90) dX9_house_11 (by rw [y19]; decide) (by rw [y19]; decide) (by rw [y19]; rfl) (by decide) ?_
                refine P.aload_n 0 (pc' := 91) dX9_house_90 rfl rfl rfl ?_
                refine P.iload_n 1 (pc' := 92) dX9_house_91 rfl rfl rfl ?_
                obtain ⟨q20, h21, hf⟩ := ob hf
                refine P.callV (pc' := 95) (As := [.int p1]) 1 (ok_X9_dueOf F p1 tw μ τ h21) (Nat.le_of_ble_eq_true rfl) (lw_V q1936 q1938 qs118 q172 q1939) rfl yok_X9_dueOf rfl (Nat.le_of_ble_eq_true rfl) ci9 T_oc (by decide) rfl dX9_house_92 rfl ?_
                cases hf; exact P.iret rfl dX9_house_95
              · have hf := (if_neg y19).symm.trans hf
                refine P.tsOut (tgt := 96) dX9_house_11 (by have z0 := lv_neT y4 (a := 0) (by decide); have z1 := lv_neT y7 (a := 1) (by decide); have z2 := lv_neT y10 (a := 2) (by decide); have z3 := lv_neT y13 (a := 3) (by decide); have z4 := lv_neT y16 (a := 4) (by decide); have z5 := lv_neT y19 (a := 5) (by decide); omega) (by decide) ?_
                refine P.iconst (v := (-1)) (pc' := 97) dX9_house_96 rfl (by decide) ?_
                cases hf; exact P.iret rfl dX9_house_97
  · have hf := (if_pos y3).symm.trans hf
    refine P.iconst (v := (-1)) (pc' := 9) dX9_house_8 rfl (by decide) ?_
    cases hf; exact P.iret rfl dX9_house_9
abbrev mX9_isOffice : Ym := (RX9, cX9_isOffice, 2, (some Jvm.ClassFile.FieldType.boolean), false, [])
noncomputable def t_X9_isOffice (F : Nat) (p1 : Int32) (τ : Tw) : Option Int32 :=
  if p1 < 0 then
    some 0
  else
    Option.bind (taI τ 6 420 1) fun x2 =>
    if x2 ≤ p1 then
      some 0
    else
      some 1
set_option maxHeartbeats 4000000 in
theorem ok_X9_isOffice {g : Gx} (F : Nat) (p1 : Int32) (tw : Nat) (μ : Sw) (τ : Tw) {rv : Int32} (hf : t_X9_isOffice F p1 τ = some rv) : Cl g 1 yX9_isOffice cX9_isOffice 2 (some Jvm.ClassFile.FieldType.boolean) [.ref tw, .int p1] (mT tw τ μ) (some (.int rv)) (mT tw τ μ) := by
  unfold t_X9_isOffice at hf
  refine Cl.of (own := RX9) (ini := false) (by decide +kernel) rfl (by decide) (Nat.le_of_ble_eq_true rfl) ?_
  show PW g mX9_isOffice 1 (mT tw τ μ) (mT tw τ μ) (QN g (some (.int rv)) (mT tw τ μ) (mT tw τ μ)) 0 [(0, .ref tw), (1, .int p1)] [] (mT tw τ μ)
  refine P.iload_n 1 (pc' := 1) dX9_isOffice_0 rfl rfl rfl ?_
  refine P.if_lt (tgt := 18) (pc' := 4) dX9_isOffice_1 (by decide) rfl (fun y1 => ?_) (fun y1 => ?_)
  · have hf := (if_pos y1).symm.trans hf
    refine P.iconst (v := 0) (pc' := 19) dX9_isOffice_18 rfl (by decide) ?_
    cases hf; exact P.zret rfl (Or.inl rfl) dX9_isOffice_19
  · have hf := (if_neg y1).symm.trans hf
    refine P.iload_n 1 (pc' := 5) dX9_isOffice_4 rfl rfl rfl ?_
    refine P.aload_n 0 (pc' := 6) dX9_isOffice_5 rfl rfl rfl ?_
    refine P.get (v := .ref (tw + 6)) (pc' := 9) ci9 12 (by decide) (T_gf rfl) q1567 (Or.inl rfl) dX9_isOffice_6 rfl ?_
    refine P.iconst (v := 1) (pc' := 10) dX9_isOffice_9 rfl (by decide) ?_
    obtain ⟨x2, h3, hf⟩ := ob hf
    refine P.iald (t := 0) (pc' := 11) rfl (T_aI rfl h3) dX9_isOffice_10 rfl ?_
    refine P.icmp_ge (tgt := 18) (pc' := 14) dX9_isOffice_11 (by decide) rfl (fun y4 => ?_) (fun y4 => ?_)
    · have hf := (if_pos y4).symm.trans hf
      refine P.iconst (v := 0) (pc' := 19) dX9_isOffice_18 rfl (by decide) ?_
      cases hf; exact P.zret rfl (Or.inl rfl) dX9_isOffice_19
    · have hf := (if_neg y4).symm.trans hf
      refine P.iconst (v := 1) (pc' := 15) dX9_isOffice_14 rfl (by decide) ?_
      refine P.goto (tgt := 19) dX9_isOffice_15 (by decide) ?_
      cases hf; exact P.zret rfl (Or.inr rfl) dX9_isOffice_19
theorem yok_X9_isOffice : yOK yX9_isOffice 1 := ⟨by decide +kernel, by decide +kernel, by decide +kernel⟩
abbrev mX9_give : Ym := (RX9, cX9_give, 3, (some Jvm.ClassFile.FieldType.boolean), false, [])
noncomputable def t_X9_give_j23 (F : Nat) (v1 : Int32) (v2 : Int32) (τ : Tw) : Option (Int32 × Tw) :=
  if 0 ≤ v2 then
    Option.bind (t_X9_gives F v1 v2 τ) fun q2 =>
    some (1, q2)
  else
    Option.bind (tsA τ 7 0 1260 (30 + v1) (-2)) fun τ5 =>
    some (1, τ5)
set_option maxHeartbeats 4000000 in
theorem ok_t_X9_give_j23 {g : Gx} {μ0 : Sw} {rv : Int32} {τF : Tw} (F : Nat) (tw : Nat) (μ : Sw) (v1 : Int32) (v2 : Int32) (τ : Tw) (hf : t_X9_give_j23 F v1 v2 τ = some (rv, τF)) : PW g mX9_give 3 μ0 (mT tw τF μ) (QN g (some (.int rv)) μ0 (mT tw τF μ)) 23 [(0, .ref tw), (1, .int v1), (2, .int v2)] [] (mT tw τ μ) := by
  unfold t_X9_give_j23 at hf
  refine P.iload_n 2 (pc' := 24) dX9_give_23 rfl rfl rfl ?_
  refine P.if_ge (tgt := 41) (pc' := 27) dX9_give_24 (by decide) rfl (fun y1 => ?_) (fun y1 => ?_)
  · have hf := (if_pos y1).symm.trans hf
    refine P.aload_n 0 (pc' := 42) dX9_give_41 rfl rfl rfl ?_
    refine P.iload_n 1 (pc' := 43) dX9_give_42 rfl rfl rfl ?_
    refine P.iload_n 2 (pc' := 44) dX9_give_43 rfl rfl rfl ?_
    obtain ⟨q2, h3, hf⟩ := ob hf
    refine P.callV (pc' := 47) (As := [.int v1, .int v2]) 2 (ok_X9_gives F v1 v2 tw μ τ h3) (Nat.le_of_ble_eq_true rfl) (lw_V q1547 q1549 qs75 q172 q1550) rfl yok_X9_gives rfl (Nat.le_of_ble_eq_true rfl) ci9 T_oc (by decide) rfl dX9_give_44 rfl ?_
    refine P.iconst (v := 1) (pc' := 48) dX9_give_47 rfl (by decide) ?_
    cases hf; exact P.zret rfl (Or.inr rfl) dX9_give_48
  · have hf := (if_neg y1).symm.trans hf
    refine P.aload_n 0 (pc' := 28) dX9_give_27 rfl rfl rfl ?_
    refine P.get (v := .ref (tw + 7)) (pc' := 31) ci9 13 (by decide) (T_gf rfl) q1568 (Or.inl rfl) dX9_give_28 rfl ?_
    refine P.bipush (v := 30) (pc' := 33) dX9_give_31 rfl (by decide) ?_
    refine P.iload_n 1 (pc' := 34) dX9_give_33 rfl rfl rfl ?_
    refine P.iadd (pc' := 35) dX9_give_34 rfl ?_
    refine P.bipush (v := (-2)) (pc' := 37) dX9_give_35 rfl (by decide) ?_
    obtain ⟨τ5, h4, hf⟩ := ob hf
    refine P.iast (pc' := 38) (T_sA rfl (by decide) h4) dX9_give_37 rfl ?_
    refine P.goto (tgt := 47) dX9_give_38 (by decide) ?_
    refine P.iconst (v := 1) (pc' := 48) dX9_give_47 rfl (by decide) ?_
    cases hf; exact P.zret rfl (Or.inr rfl) dX9_give_48
noncomputable def t_X9_give (F : Nat) (p1 : Int32) (p2 : Int32) (τ : Tw) : Option (Int32 × Tw) :=
  Option.bind (t_X9_isHouse F p1 τ) fun q1 =>
  if q1 = 0 then
    some (0, τ)
  else
    if p2 = (-1) then
      t_X9_give_j23 F p1 p2 τ
    else
      Option.bind (t_X9_isOffice F p2 τ) fun q5 =>
      if q5 = 0 then
        some (0, τ)
      else
        t_X9_give_j23 F p1 p2 τ
set_option maxHeartbeats 4000000 in
theorem ok_X9_give {g : Gx} (F : Nat) (p1 : Int32) (p2 : Int32) (tw : Nat) (μ : Sw) (τ : Tw) {rv : Int32} {τF : Tw} (hf : t_X9_give F p1 p2 τ = some (rv, τF)) : Cl g 3 yX9_give cX9_give 3 (some Jvm.ClassFile.FieldType.boolean) [.ref tw, .int p1, .int p2] (mT tw τ μ) (some (.int rv)) (mT tw τF μ) := by
  unfold t_X9_give at hf
  refine Cl.of (own := RX9) (ini := false) (by decide +kernel) rfl (by decide) (Nat.le_of_ble_eq_true rfl) ?_
  show PW g mX9_give 3 (mT tw τ μ) (mT tw τF μ) (QN g (some (.int rv)) (mT tw τ μ) (mT tw τF μ)) 0 [(0, .ref tw), (1, .int p1), (2, .int p2)] [] (mT tw τ μ)
  refine P.aload_n 0 (pc' := 1) dX9_give_0 rfl rfl rfl ?_
  refine P.iload_n 1 (pc' := 2) dX9_give_1 rfl rfl rfl ?_
  obtain ⟨q1, h2, hf⟩ := ob hf
  refine P.callV (pc' := 5) (As := [.int p1]) 1 (ok_X9_isHouse F p1 tw μ τ h2) (Nat.le_of_ble_eq_true rfl) (lw_V q1920 q1922 qs114 q172 q1923) rfl yok_X9_isHouse rfl (Nat.le_of_ble_eq_true rfl) ci9 T_oc (by decide) rfl dX9_give_2 rfl ?_
  refine P.if_eq (tgt := 21) (pc' := 8) dX9_give_5 (by decide) rfl (fun y3 => ?_) (fun y3 => ?_)
  · have hf := (if_pos y3).symm.trans hf
    refine P.iconst (v := 0) (pc' := 22) dX9_give_21 rfl (by decide) ?_
    cases hf; exact P.zret rfl (Or.inl rfl) dX9_give_22
  · have hf := (if_neg y3).symm.trans hf
    refine P.iload_n 2 (pc' := 9) dX9_give_8 rfl rfl rfl ?_
    refine P.iconst (v := (-1)) (pc' := 10) dX9_give_9 rfl (by decide) ?_
    refine P.icmp_eq (tgt := 23) (pc' := 13) dX9_give_10 (by decide) rfl (fun y4 => ?_) (fun y4 => ?_)
    · have hf := (if_pos y4).symm.trans hf
      exact PW.sub [0, 1, 2] rfl (ok_t_X9_give_j23 F tw μ p1 p2 τ hf)
    · have hf := (if_neg y4).symm.trans hf
      refine P.aload_n 0 (pc' := 14) dX9_give_13 rfl rfl rfl ?_
      refine P.iload_n 2 (pc' := 15) dX9_give_14 rfl rfl rfl ?_
      obtain ⟨q5, h6, hf⟩ := ob hf
      refine P.callV (pc' := 18) (As := [.int p2]) 1 (ok_X9_isOffice F p2 tw μ τ h6) (Nat.le_of_ble_eq_true rfl) (lw_V q1959 q1961 qs122 q172 q1962) rfl yok_X9_isOffice rfl (Nat.le_of_ble_eq_true rfl) ci9 T_oc (by decide) rfl dX9_give_15 rfl ?_
      refine P.if_ne (tgt := 23) (pc' := 21) dX9_give_18 (by decide) rfl (fun y7 => ?_) (fun y7 => ?_)
      · have hf := (if_neg y7).symm.trans hf
        exact PW.sub [0, 1, 2] rfl (ok_t_X9_give_j23 F tw μ p1 p2 τ hf)
      · have hf := (if_pos y7).symm.trans hf
        refine P.iconst (v := 0) (pc' := 22) dX9_give_21 rfl (by decide) ?_
        cases hf; exact P.zret rfl (Or.inl rfl) dX9_give_22
abbrev mX9_holder : Ym := (RX9, cX9_holder, 2, (some Jvm.ClassFile.FieldType.int), false, [])
noncomputable def t_X9_holder (F : Nat) (p1 : Int32) (τ : Tw) : Option Int32 :=
  Option.bind (t_X9_isOffice F p1 τ) fun q1 =>
  if q1 = 0 then
    some (-1)
  else
    Option.bind (t_X9_holderOf F p1 τ) fun q4 =>
    some q4
set_option maxHeartbeats 4000000 in
theorem ok_X9_holder {g : Gx} (F : Nat) (p1 : Int32) (tw : Nat) (μ : Sw) (τ : Tw) {rv : Int32} (hf : t_X9_holder F p1 τ = some rv) : Cl g 2 yX9_holder cX9_holder 2 (some Jvm.ClassFile.FieldType.int) [.ref tw, .int p1] (mT tw τ μ) (some (.int rv)) (mT tw τ μ) := by
  unfold t_X9_holder at hf
  refine Cl.of (own := RX9) (ini := false) (by decide +kernel) rfl (by decide) (Nat.le_of_ble_eq_true rfl) ?_
  show PW g mX9_holder 2 (mT tw τ μ) (mT tw τ μ) (QN g (some (.int rv)) (mT tw τ μ) (mT tw τ μ)) 0 [(0, .ref tw), (1, .int p1)] [] (mT tw τ μ)
  refine P.aload_n 0 (pc' := 1) dX9_holder_0 rfl rfl rfl ?_
  refine P.iload_n 1 (pc' := 2) dX9_holder_1 rfl rfl rfl ?_
  obtain ⟨q1, h2, hf⟩ := ob hf
  refine P.callV (pc' := 5) (As := [.int p1]) 1 (ok_X9_isOffice F p1 tw μ τ h2) (Nat.le_of_ble_eq_true rfl) (lw_V q1959 q1961 qs122 q172 q1962) rfl yok_X9_isOffice rfl (Nat.le_of_ble_eq_true rfl) ci9 T_oc (by decide) rfl dX9_holder_2 rfl ?_
  refine P.if_eq (tgt := 16) (pc' := 8) dX9_holder_5 (by decide) rfl (fun y3 => ?_) (fun y3 => ?_)
  · have hf := (if_pos y3).symm.trans hf
    refine P.iconst (v := (-1)) (pc' := 17) dX9_holder_16 rfl (by decide) ?_
    cases hf; exact P.iret rfl dX9_holder_17
  · have hf := (if_neg y3).symm.trans hf
    refine P.aload_n 0 (pc' := 9) dX9_holder_8 rfl rfl rfl ?_
    refine P.iload_n 1 (pc' := 10) dX9_holder_9 rfl rfl rfl ?_
    obtain ⟨q4, h5, hf⟩ := ob hf
    refine P.callV (pc' := 13) (As := [.int p1]) 1 (ok_X9_holderOf F p1 tw μ τ h5) (Nat.le_of_ble_eq_true rfl) (lw_V q1551 q1553 qs76 q172 q1554) rfl yok_X9_holderOf rfl (Nat.le_of_ble_eq_true rfl) ci9 T_oc (by decide) rfl dX9_holder_10 rfl ?_
    refine P.goto (tgt := 17) dX9_holder_13 (by decide) ?_
    cases hf; exact P.iret rfl dX9_holder_17
abbrev mX9_months : Ym := (RX9, cX9_months, 2, (some Jvm.ClassFile.FieldType.int), false, [])
noncomputable def t_X9_months (F : Nat) (p1 : Int32) (τ : Tw) : Option (Int32 × Tw) :=
  Option.bind (p_X9_isIn F p1 0 240) fun q1 =>
  if q1 = 0 then
    some ((-1), τ)
  else
    Option.bind (taI τ 7 1260 0) fun x4 =>
    Option.bind (rmO (x4 + p1) 12) fun x6 =>
    Option.bind (tsA τ 7 0 1260 0 x6) fun τ9 =>
    Option.bind (taI τ9 7 1260 0) fun x10 =>
    some (x10, τ9)
set_option maxHeartbeats 4000000 in
theorem ok_X9_months {g : Gx} (F : Nat) (p1 : Int32) (tw : Nat) (μ : Sw) (τ : Tw) {rv : Int32} {τF : Tw} (hf : t_X9_months F p1 τ = some (rv, τF)) : Cl g 2 yX9_months cX9_months 2 (some Jvm.ClassFile.FieldType.int) [.ref tw, .int p1] (mT tw τ μ) (some (.int rv)) (mT tw τF μ) := by
  unfold t_X9_months at hf
  refine Cl.of (own := RX9) (ini := false) (by decide +kernel) rfl (by decide) (Nat.le_of_ble_eq_true rfl) ?_
  show PW g mX9_months 2 (mT tw τ μ) (mT tw τF μ) (QN g (some (.int rv)) (mT tw τ μ) (mT tw τF μ)) 0 [(0, .ref tw), (1, .int p1)] [] (mT tw τ μ)
  refine P.iload_n 1 (pc' := 1) dX9_months_0 rfl rfl rfl ?_
  refine P.iconst (v := 0) (pc' := 2) dX9_months_1 rfl (by decide) ?_
  refine P.sipush (v := 240) (pc' := 5) dX9_months_2 rfl (by decide) ?_
  obtain ⟨q1, h2, hf⟩ := ob hf
  refine P.callS (pc' := 8) (As := [.int p1, .int 0, .int 240]) 3 (ok_X9_isIn F p1 0 240 (mT tw τ μ) h2) (Nat.le_of_ble_eq_true rfl) (lw_S q1971 q1972 q172 q1973) yok_X9_isIn rfl (Nat.le_of_ble_eq_true rfl) (by decide) rfl dX9_months_5 rfl ?_
  refine P.if_ne (tgt := 13) (pc' := 11) dX9_months_8 (by decide) rfl (fun y3 => ?_) (fun y3 => ?_)
  · have hf := (if_neg y3).symm.trans hf
    refine P.aload_n 0 (pc' := 14) dX9_months_13 rfl rfl rfl ?_
    refine P.get (v := .ref (tw + 7)) (pc' := 17) ci9 13 (by decide) (T_gf rfl) q1568 (Or.inl rfl) dX9_months_14 rfl ?_
    refine P.iconst (v := 0) (pc' := 18) dX9_months_17 rfl (by decide) ?_
    refine P.aload_n 0 (pc' := 19) dX9_months_18 rfl rfl rfl ?_
    refine P.get (v := .ref (tw + 7)) (pc' := 22) ci9 13 (by decide) (T_gf rfl) q1568 (Or.inl rfl) dX9_months_19 rfl ?_
    refine P.iconst (v := 0) (pc' := 23) dX9_months_22 rfl (by decide) ?_
    obtain ⟨x4, h5, hf⟩ := ob hf
    refine P.iald (t := 0) (pc' := 24) rfl (T_aI rfl h5) dX9_months_23 rfl ?_
    refine P.iload_n 1 (pc' := 25) dX9_months_24 rfl rfl rfl ?_
    refine P.iadd (pc' := 26) dX9_months_25 rfl ?_
    refine P.bipush (v := 12) (pc' := 28) dX9_months_26 rfl (by decide) ?_
    obtain ⟨x6, h7, hf⟩ := ob hf
    refine P.iremO (pc' := 29) h7 dX9_months_28 rfl ?_
    obtain ⟨τ9, h8, hf⟩ := ob hf
    refine P.iast (pc' := 30) (T_sA rfl (by decide) h8) dX9_months_29 rfl ?_
    refine P.aload_n 0 (pc' := 31) dX9_months_30 rfl rfl rfl ?_
    refine P.get (v := .ref (tw + 7)) (pc' := 34) ci9 13 (by decide) (T_gf rfl) q1568 (Or.inl rfl) dX9_months_31 rfl ?_
    refine P.iconst (v := 0) (pc' := 35) dX9_months_34 rfl (by decide) ?_
    obtain ⟨x10, h11, hf⟩ := ob hf
    refine P.iald (t := 0) (pc' := 36) rfl (T_aI rfl h11) dX9_months_35 rfl ?_
    cases hf; exact P.iret rfl dX9_months_36
  · have hf := (if_pos y3).symm.trans hf
    refine P.iconst (v := (-1)) (pc' := 12) dX9_months_11 rfl (by decide) ?_
    cases hf; exact P.iret rfl dX9_months_12
abbrev mX9_tideOf : Ym := (RX9, cX9_tideOf, 2, (some Jvm.ClassFile.FieldType.int), false, [])
noncomputable def t_X9_tideOf (F : Nat) (p1 : Int32) (τ : Tw) : Option (Int32 × Tw) :=
  Option.bind (t_X9_askNone F τ) fun q1 =>
  Option.bind (tsA q1 23 0 9 4 p1) fun τ4 =>
  Option.bind (taI τ4 7 1260 0) fun x5 =>
  Option.bind (tsA τ4 23 0 9 5 x5) fun τ8 =>
  Option.bind (t_X9_says F 0 0 τ8) fun q9 =>
  some (q9.1, q9.2)
set_option maxHeartbeats 4000000 in
theorem ok_X9_tideOf {g : Gx} (F : Nat) (p1 : Int32) (tw : Nat) (μ : Sw) (τ : Tw) {rv : Int32} {τF : Tw} (hf : t_X9_tideOf F p1 τ = some (rv, τF)) : Cl g 3 yX9_tideOf cX9_tideOf 2 (some Jvm.ClassFile.FieldType.int) [.ref tw, .int p1] (mT tw τ μ) (some (.int rv)) (mT tw τF μ) := by
  unfold t_X9_tideOf at hf
  refine Cl.of (own := RX9) (ini := false) (by decide +kernel) rfl (by decide) (Nat.le_of_ble_eq_true rfl) ?_
  show PW g mX9_tideOf 3 (mT tw τ μ) (mT tw τF μ) (QN g (some (.int rv)) (mT tw τ μ) (mT tw τF μ)) 0 [(0, .ref tw), (1, .int p1)] [] (mT tw τ μ)
  refine P.aload_n 0 (pc' := 1) dX9_tideOf_0 rfl rfl rfl ?_
  obtain ⟨q1, h2, hf⟩ := ob hf
  refine P.callV (pc' := 4) (As := []) 0 (ok_X9_askNone F tw μ τ h2) (Nat.le_of_ble_eq_true rfl) (lw_V q1940 q1942 qs119 q172 q1943) rfl yok_X9_askNone rfl (Nat.le_of_ble_eq_true rfl) ci9 T_oc (by decide) rfl dX9_tideOf_1 rfl ?_
  refine P.aload_n 0 (pc' := 5) dX9_tideOf_4 rfl rfl rfl ?_
  refine P.get (v := .ref (tw + 23)) (pc' := 8) ci9 34 (by decide) (T_gf rfl) q1589 (Or.inl rfl) dX9_tideOf_5 rfl ?_
  refine P.iconst (v := 4) (pc' := 9) dX9_tideOf_8 rfl (by decide) ?_
  refine P.iload_n 1 (pc' := 10) dX9_tideOf_9 rfl rfl rfl ?_
  obtain ⟨τ4, h3, hf⟩ := ob hf
  refine P.iast (pc' := 11) (T_sA rfl (by decide) h3) dX9_tideOf_10 rfl ?_
  refine P.aload_n 0 (pc' := 12) dX9_tideOf_11 rfl rfl rfl ?_
  refine P.get (v := .ref (tw + 23)) (pc' := 15) ci9 34 (by decide) (T_gf rfl) q1589 (Or.inl rfl) dX9_tideOf_12 rfl ?_
  refine P.iconst (v := 5) (pc' := 16) dX9_tideOf_15 rfl (by decide) ?_
  refine P.aload_n 0 (pc' := 17) dX9_tideOf_16 rfl rfl rfl ?_
  refine P.get (v := .ref (tw + 7)) (pc' := 20) ci9 13 (by decide) (T_gf rfl) q1568 (Or.inl rfl) dX9_tideOf_17 rfl ?_
  refine P.iconst (v := 0) (pc' := 21) dX9_tideOf_20 rfl (by decide) ?_
  obtain ⟨x5, h6, hf⟩ := ob hf
  refine P.iald (t := 0) (pc' := 22) rfl (T_aI rfl h6) dX9_tideOf_21 rfl ?_
  obtain ⟨τ8, h7, hf⟩ := ob hf
  refine P.iast (pc' := 23) (T_sA rfl (by decide) h7) dX9_tideOf_22 rfl ?_
  refine P.aload_n 0 (pc' := 24) dX9_tideOf_23 rfl rfl rfl ?_
  refine P.iconst (v := 0) (pc' := 25) dX9_tideOf_24 rfl (by decide) ?_
  refine P.iconst (v := 0) (pc' := 26) dX9_tideOf_25 rfl (by decide) ?_
  obtain ⟨q9, h10, hf⟩ := ob hf
  refine P.callV (pc' := 29) (As := [.int 0, .int 0]) 2 (ok_X9_says F 0 0 tw μ τ8 h10) (Nat.le_of_ble_eq_true rfl) (lw_V q1944 q1946 qs120 q172 q1947) rfl yok_X9_says rfl (Nat.le_of_ble_eq_true rfl) ci9 T_oc (by decide) rfl dX9_tideOf_26 rfl ?_
  cases hf; exact P.iret rfl dX9_tideOf_29
theorem yok_X9_isHour : yOK yX9_isHour 1 := ⟨by decide +kernel, by decide +kernel, by decide +kernel⟩
theorem yok_X9_tideOf : yOK yX9_tideOf 1 := ⟨by decide +kernel, by decide +kernel, by decide +kernel⟩
abbrev mX9_tide : Ym := (RX9, cX9_tide, 2, (some Jvm.ClassFile.FieldType.int), false, [])
noncomputable def t_X9_tide (F : Nat) (p1 : Int32) (τ : Tw) : Option (Int32 × Tw) :=
  Option.bind (p_X9_isHour F p1) fun q1 =>
  if q1 = 0 then
    some ((-1), τ)
  else
    Option.bind (t_X9_tideOf F p1 τ) fun q4 =>
    some (q4.1, q4.2)
set_option maxHeartbeats 4000000 in
theorem ok_X9_tide {g : Gx} (F : Nat) (p1 : Int32) (tw : Nat) (μ : Sw) (τ : Tw) {rv : Int32} {τF : Tw} (hf : t_X9_tide F p1 τ = some (rv, τF)) : Cl g 4 yX9_tide cX9_tide 2 (some Jvm.ClassFile.FieldType.int) [.ref tw, .int p1] (mT tw τ μ) (some (.int rv)) (mT tw τF μ) := by
  unfold t_X9_tide at hf
  refine Cl.of (own := RX9) (ini := false) (by decide +kernel) rfl (by decide) (Nat.le_of_ble_eq_true rfl) ?_
  show PW g mX9_tide 4 (mT tw τ μ) (mT tw τF μ) (QN g (some (.int rv)) (mT tw τ μ) (mT tw τF μ)) 0 [(0, .ref tw), (1, .int p1)] [] (mT tw τ μ)
  refine P.iload_n 1 (pc' := 1) dX9_tide_0 rfl rfl rfl ?_
  obtain ⟨q1, h2, hf⟩ := ob hf
  refine P.callS (pc' := 4) (As := [.int p1]) 1 (ok_X9_isHour F p1 (mT tw τ μ) h2) (Nat.le_of_ble_eq_true rfl) (lw_S q1978 q1979 q172 q1980) yok_X9_isHour rfl (Nat.le_of_ble_eq_true rfl) (by decide) rfl dX9_tide_1 rfl ?_
  refine P.if_eq (tgt := 15) (pc' := 7) dX9_tide_4 (by decide) rfl (fun y3 => ?_) (fun y3 => ?_)
  · have hf := (if_pos y3).symm.trans hf
    refine P.iconst (v := (-1)) (pc' := 16) dX9_tide_15 rfl (by decide) ?_
    cases hf; exact P.iret rfl dX9_tide_16
  · have hf := (if_neg y3).symm.trans hf
    refine P.aload_n 0 (pc' := 8) dX9_tide_7 rfl rfl rfl ?_
    refine P.iload_n 1 (pc' := 9) dX9_tide_8 rfl rfl rfl ?_
    obtain ⟨q4, h5, hf⟩ := ob hf
    refine P.callV (pc' := 12) (As := [.int p1]) 1 (ok_X9_tideOf F p1 tw μ τ h5) (Nat.le_of_ble_eq_true rfl) (lw_V q1981 q1983 qs123 q172 q1984) rfl yok_X9_tideOf rfl (Nat.le_of_ble_eq_true rfl) ci9 T_oc (by decide) rfl dX9_tide_9 rfl ?_
    refine P.goto (tgt := 16) dX9_tide_12 (by decide) ?_
    cases hf; exact P.iret rfl dX9_tide_16
