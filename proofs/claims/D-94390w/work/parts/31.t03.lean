set_option maxRecDepth 100000
abbrev mX9_wet : Ym := (RX9, cX9_wet, 5, (some Jvm.ClassFile.FieldType.int), false, [])
noncomputable def t_X9_wet_L20_b (F : Nat) (c2 : Int32) (τ : Tw) (self : Int32 → Int32 → Option (Int32 × Tw)) (v3 : Int32) (v4 : Int32) : Option (Int32 × Tw) :=
  Option.bind (taI τ 6 420 0) fun x1 =>
  if x1 ≤ v4 then
    some (v3, τ)
  else
    Option.bind (t_X9_heightOf F v4 τ) fun q4 =>
    if c2 ≤ q4 then
      nm (v4 + 1) fun x7 =>
      self v3 x7
    else
      nm (v3 ||| ((1 : Int32) <<< (v4 &&& 31))) fun x9 =>
      nm (v4 + 1) fun x11 =>
      self x9 x11
noncomputable def t_X9_wet_L20 (F : Nat) (c2 : Int32) (τ : Tw) (n : Nat) : Int32 → Int32 → Option (Int32 × Tw) := Nat.rec (motive := fun _ => Int32 → Int32 → Option (Int32 × Tw)) (fun _ _ => none) (fun _ self => t_X9_wet_L20_b F c2 τ self) n
set_option maxHeartbeats 4000000 in
theorem ok_t_X9_wet_L20 {g : Gx} {μ0 : Sw} {rv : Int32} {τF : Tw} (F : Nat) (tw : Nat) (μ : Sw) (c2 : Int32) (τ : Tw) : ∀ (n : Nat) (v3 : Int32) (v4 : Int32), t_X9_wet_L20 F c2 τ n v3 v4 = some (rv, τF) → PW g mX9_wet 4 μ0 (mT tw τF μ) (QN g (some (.int rv)) μ0 (mT tw τF μ)) 20 [(0, .ref tw), (2, .int c2), (3, .int v3), (4, .int v4)] [] (mT tw τ μ) := by
  intro n
  induction n with
  | zero =>
    intro v3 v4 hf
    have hf : (none : Option (Int32 × Tw)) = some _ := hf
    cases hf
  | succ n ih =>
    intro v3 v4 hf
    have hf : t_X9_wet_L20_b F c2 τ (t_X9_wet_L20 F c2 τ n) v3 v4 = some (rv, τF) := hf
    unfold t_X9_wet_L20_b at hf
    refine P.iload 3 (pc' := 22) dX9_wet_20 rfl rfl ?_
    refine P.aload_n 0 (pc' := 23) dX9_wet_22 rfl rfl rfl ?_
    refine P.get (v := .ref (tw + 6)) (pc' := 26) ci9 12 (by decide) (T_gf rfl) q1567 (Or.inl rfl) dX9_wet_23 rfl ?_
    refine P.iconst (v := 0) (pc' := 27) dX9_wet_26 rfl (by decide) ?_
    obtain ⟨x1, h2, hf⟩ := ob hf
    refine P.iald (t := 0) (pc' := 28) rfl (T_aI rfl h2) dX9_wet_27 rfl ?_
    refine P.icmp_ge (tgt := 54) (pc' := 31) dX9_wet_28 (by decide) rfl (fun y3 => ?_) (fun y3 => ?_)
    · have hf := (if_pos y3).symm.trans hf
      refine P.iload_n 2 (pc' := 55) dX9_wet_54 rfl rfl rfl ?_
      cases hf; exact P.iret rfl dX9_wet_55
    · have hf := (if_neg y3).symm.trans hf
      refine P.aload_n 0 (pc' := 32) dX9_wet_31 rfl rfl rfl ?_
      refine P.iload 3 (pc' := 34) dX9_wet_32 rfl rfl ?_
      obtain ⟨q4, h5, hf⟩ := ob hf
      refine P.callV (pc' := 37) (As := [.int v4]) 1 (ok_X9_heightOf F v4 tw μ τ h5) (Nat.le_of_ble_eq_true rfl) (lw_V q1928 q1930 qs116 q172 q1931) rfl yok_X9_heightOf rfl (Nat.le_of_ble_eq_true rfl) ci9 T_oc (by decide) rfl dX9_wet_34 rfl ?_
      refine P.iload_n 1 (pc' := 38) dX9_wet_37 rfl rfl rfl ?_
      refine P.icmp_ge (tgt := 48) (pc' := 41) dX9_wet_38 (by decide) rfl (fun y6 => ?_) (fun y6 => ?_)
      · have hf := (if_pos y6).symm.trans hf
        obtain ⟨x7, e8, hf⟩ := nm_i hf
        refine P.iinc 3 (pc' := 51) (lv' := [(4, .int x7), (0, .ref tw), (2, .int c2), (3, .int v3)]) dX9_wet_48 rfl rfl (by decide) e8 (Nat.le_of_ble_eq_true rfl) rfl ?_
        refine P.goto (tgt := 20) dX9_wet_51 (by decide) ?_
        exact PW.sub [1, 2, 3, 0] rfl (ih _ _ hf)
      · have hf := (if_neg y6).symm.trans hf
        refine P.iload_n 2 (pc' := 42) dX9_wet_41 rfl rfl rfl ?_
        refine P.iconst (v := 1) (pc' := 43) dX9_wet_42 rfl (by decide) ?_
        refine P.iload 3 (pc' := 45) dX9_wet_43 rfl rfl ?_
        refine P.ishl (pc' := 46) dX9_wet_45 rfl ?_
        refine P.ior (pc' := 47) dX9_wet_46 rfl ?_
        obtain ⟨x9, e10, hf⟩ := nm_i hf
        refine P.nmi e10 ?_
        refine P.istore_n (pc' := 48) (lv' := [(3, .int x9), (0, .ref tw), (2, .int c2), (4, .int v4)]) dX9_wet_47 rfl rfl (Nat.le_of_ble_eq_true rfl) rfl ?_
        obtain ⟨x11, e12, hf⟩ := nm_i hf
        refine P.iinc 3 (pc' := 51) (lv' := [(4, .int x11), (3, .int x9), (0, .ref tw), (2, .int c2)]) dX9_wet_48 rfl rfl (by decide) e12 (Nat.le_of_ble_eq_true rfl) rfl ?_
        refine P.goto (tgt := 20) dX9_wet_51 (by decide) ?_
        exact PW.sub [2, 3, 1, 0] rfl (ih _ _ hf)
noncomputable def t_X9_wet (F : Nat) (p1 : Int32) (τ : Tw) : Option (Int32 × Tw) :=
  Option.bind (p_X9_isHour F p1) fun q1 =>
  if q1 = 0 then
    some ((-1), τ)
  else
    Option.bind (t_X9_tideOf F p1 τ) fun q4 =>
    t_X9_wet_L20 F q4.1 q4.2 F 0 0
set_option maxHeartbeats 4000000 in
theorem ok_X9_wet {g : Gx} (F : Nat) (p1 : Int32) (tw : Nat) (μ : Sw) (τ : Tw) {rv : Int32} {τF : Tw} (hf : t_X9_wet F p1 τ = some (rv, τF)) : Cl g 4 yX9_wet cX9_wet 5 (some Jvm.ClassFile.FieldType.int) [.ref tw, .int p1] (mT tw τ μ) (some (.int rv)) (mT tw τF μ) := by
  unfold t_X9_wet at hf
  refine Cl.of (own := RX9) (ini := false) (by decide +kernel) rfl (by decide) (Nat.le_of_ble_eq_true rfl) ?_
  show PW g mX9_wet 4 (mT tw τ μ) (mT tw τF μ) (QN g (some (.int rv)) (mT tw τ μ) (mT tw τF μ)) 0 [(0, .ref tw), (1, .int p1)] [] (mT tw τ μ)
  refine P.iload_n 1 (pc' := 1) dX9_wet_0 rfl rfl rfl ?_
  obtain ⟨q1, h2, hf⟩ := ob hf
  refine P.callS (pc' := 4) (As := [.int p1]) 1 (ok_X9_isHour F p1 (mT tw τ μ) h2) (Nat.le_of_ble_eq_true rfl) (lw_S q1978 q1979 q172 q1980) yok_X9_isHour rfl (Nat.le_of_ble_eq_true rfl) (by decide) rfl dX9_wet_1 rfl ?_
  refine P.if_ne (tgt := 9) (pc' := 7) dX9_wet_4 (by decide) rfl (fun y3 => ?_) (fun y3 => ?_)
  · have hf := (if_neg y3).symm.trans hf
    refine P.aload_n 0 (pc' := 10) dX9_wet_9 rfl rfl rfl ?_
    refine P.iload_n 1 (pc' := 11) dX9_wet_10 rfl rfl rfl ?_
    obtain ⟨q4, h5, hf⟩ := ob hf
    refine P.callV (pc' := 14) (As := [.int p1]) 1 (ok_X9_tideOf F p1 tw μ τ h5) (Nat.le_of_ble_eq_true rfl) (lw_V q1981 q1983 qs123 q172 q1984) rfl yok_X9_tideOf rfl (Nat.le_of_ble_eq_true rfl) ci9 T_oc (by decide) rfl dX9_wet_11 rfl ?_
    refine P.istore_n (pc' := 15) (lv' := [(2, .int q4.1), (0, .ref tw), (1, .int p1)]) dX9_wet_14 rfl rfl (Nat.le_of_ble_eq_true rfl) rfl ?_
    refine P.iconst (v := 0) (pc' := 16) dX9_wet_15 rfl (by decide) ?_
    refine P.istore_n (pc' := 17) (lv' := [(3, .int 0), (2, .int q4.1), (0, .ref tw), (1, .int p1)]) dX9_wet_16 rfl rfl (Nat.le_of_ble_eq_true rfl) rfl ?_
    refine P.iconst (v := 0) (pc' := 18) dX9_wet_17 rfl (by decide) ?_
    refine P.istore (pc' := 20) (lv' := [(4, .int 0), (3, .int 0), (2, .int q4.1), (0, .ref tw), (1, .int p1)]) dX9_wet_18 rfl (Nat.le_of_ble_eq_true rfl) rfl ?_
    exact PW.sub [3, 2, 1, 0] rfl (ok_t_X9_wet_L20 F tw μ q4.1 q4.2 F _ _ hf)
  · have hf := (if_pos y3).symm.trans hf
    refine P.iconst (v := (-1)) (pc' := 8) dX9_wet_7 rfl (by decide) ?_
    cases hf; exact P.iret rfl dX9_wet_8
abbrev mX9_isMeeting : Ym := (RX9, cX9_isMeeting, 5, (some Jvm.ClassFile.FieldType.boolean), false, [])
noncomputable def t_X9_isMeeting_j62 (F : Nat) (v1 : Int32) (s0 : Int32) (τ : Tw) : Option Int32 :=
  Option.bind (taI τ 6 420 ((120 + (3 * v1)) + 2)) fun x1 =>
  if x1 < s0 then
    some 0
  else
    some 1
set_option maxHeartbeats 4000000 in
theorem ok_t_X9_isMeeting_j62 {g : Gx} {μ0 : Sw} {rv : Int32} (F : Nat) (tw : Nat) (μ : Sw) (v1 : Int32) (s0 : Int32) (τ : Tw) (hf : t_X9_isMeeting_j62 F v1 s0 τ = some rv) : PW g mX9_isMeeting 2 μ0 (mT tw τ μ) (QN g (some (.int rv)) μ0 (mT tw τ μ)) 62 [(0, .ref tw), (1, .int v1)] [.int s0] (mT tw τ μ) := by
  unfold t_X9_isMeeting_j62 at hf
  refine P.aload_n 0 (pc' := 63) dX9_isMeeting_62 rfl rfl rfl ?_
  refine P.get (v := .ref (tw + 6)) (pc' := 66) ci9 12 (by decide) (T_gf rfl) q1567 (Or.inl rfl) dX9_isMeeting_63 rfl ?_
  refine P.bipush (v := 120) (pc' := 68) dX9_isMeeting_66 rfl (by decide) ?_
  refine P.iconst (v := 3) (pc' := 69) dX9_isMeeting_68 rfl (by decide) ?_
  refine P.iload_n 1 (pc' := 70) dX9_isMeeting_69 rfl rfl rfl ?_
  refine P.imul (pc' := 71) dX9_isMeeting_70 rfl ?_
  refine P.iadd (pc' := 72) dX9_isMeeting_71 rfl ?_
  refine P.iconst (v := 2) (pc' := 73) dX9_isMeeting_72 rfl (by decide) ?_
  refine P.iadd (pc' := 74) dX9_isMeeting_73 rfl ?_
  obtain ⟨x1, h2, hf⟩ := ob hf
  refine P.iald (t := 0) (pc' := 75) rfl (T_aI rfl h2) dX9_isMeeting_74 rfl ?_
  refine P.icmp_gt (tgt := 82) (pc' := 78) dX9_isMeeting_75 (by decide) rfl (fun y3 => ?_) (fun y3 => ?_)
  · have hf := (if_pos y3).symm.trans hf
    refine P.iconst (v := 0) (pc' := 83) dX9_isMeeting_82 rfl (by decide) ?_
    cases hf; exact P.zret rfl (Or.inl rfl) dX9_isMeeting_83
  · have hf := (if_neg y3).symm.trans hf
    refine P.iconst (v := 1) (pc' := 79) dX9_isMeeting_78 rfl (by decide) ?_
    refine P.goto (tgt := 83) dX9_isMeeting_79 (by decide) ?_
    cases hf; exact P.zret rfl (Or.inr rfl) dX9_isMeeting_83
noncomputable def t_X9_isMeeting_j43 (F : Nat) (v1 : Int32) (v2 : Int32) (s0 : Int32) (τ : Tw) : Option Int32 :=
  if v2 ≤ s0 then
    t_X9_isMeeting_j62 F v1 (s0 - v2) τ
  else
    t_X9_isMeeting_j62 F v1 (v2 - s0) τ
set_option maxHeartbeats 4000000 in
theorem ok_t_X9_isMeeting_j43 {g : Gx} {μ0 : Sw} {rv : Int32} (F : Nat) (tw : Nat) (μ : Sw) (v1 : Int32) (v2 : Int32) (s0 : Int32) (τ : Tw) (hf : t_X9_isMeeting_j43 F v1 v2 s0 τ = some rv) : PW g mX9_isMeeting 2 μ0 (mT tw τ μ) (QN g (some (.int rv)) μ0 (mT tw τ μ)) 43 [(0, .ref tw), (1, .int v1), (2, .int v2)] [.int s0] (mT tw τ μ) := by
  unfold t_X9_isMeeting_j43 at hf
  refine P.istore (pc' := 45) (lv' := [(4, .int s0), (0, .ref tw), (1, .int v1), (2, .int v2)]) dX9_isMeeting_43 rfl (Nat.le_of_ble_eq_true rfl) rfl ?_
  refine P.iload_n 3 (pc' := 46) dX9_isMeeting_45 rfl rfl rfl ?_
  refine P.iload 0 (pc' := 48) dX9_isMeeting_46 rfl rfl ?_
  refine P.icmp_le (tgt := 58) (pc' := 51) dX9_isMeeting_48 (by decide) rfl (fun y1 => ?_) (fun y1 => ?_)
  · have hf := (if_pos y1).symm.trans hf
    refine P.iload 0 (pc' := 60) dX9_isMeeting_58 rfl rfl ?_
    refine P.iload_n 3 (pc' := 61) dX9_isMeeting_60 rfl rfl rfl ?_
    refine P.isub (pc' := 62) dX9_isMeeting_61 rfl ?_
    exact PW.sub [1, 2] rfl (ok_t_X9_isMeeting_j62 F tw μ v1 (s0 - v2) τ hf)
  · have hf := (if_neg y1).symm.trans hf
    refine P.iload_n 3 (pc' := 52) dX9_isMeeting_51 rfl rfl rfl ?_
    refine P.iload 0 (pc' := 54) dX9_isMeeting_52 rfl rfl ?_
    refine P.isub (pc' := 55) dX9_isMeeting_54 rfl ?_
    refine P.goto (tgt := 62) dX9_isMeeting_55 (by decide) ?_
    exact PW.sub [1, 2] rfl (ok_t_X9_isMeeting_j62 F tw μ v1 (v2 - s0) τ hf)
noncomputable def t_X9_isMeeting (F : Nat) (p1 : Int32) (τ : Tw) : Option Int32 :=
  Option.bind (taI τ 6 420 (120 + (3 * p1))) fun x1 =>
  Option.bind (t_X9_heightOf F x1 τ) fun q3 =>
  Option.bind (taI τ 6 420 ((120 + (3 * p1)) + 1)) fun x5 =>
  if 0 ≤ x5 then
    Option.bind (t_X9_heightOf F x5 τ) fun q8 =>
    t_X9_isMeeting_j43 F p1 q3 q8 τ
  else
    t_X9_isMeeting_j43 F p1 q3 0 τ
set_option maxHeartbeats 4000000 in
theorem ok_X9_isMeeting {g : Gx} (F : Nat) (p1 : Int32) (tw : Nat) (μ : Sw) (τ : Tw) {rv : Int32} (hf : t_X9_isMeeting F p1 τ = some rv) : Cl g 2 yX9_isMeeting cX9_isMeeting 5 (some Jvm.ClassFile.FieldType.boolean) [.ref tw, .int p1] (mT tw τ μ) (some (.int rv)) (mT tw τ μ) := by
  unfold t_X9_isMeeting at hf
  refine Cl.of (own := RX9) (ini := false) (by decide +kernel) rfl (by decide) (Nat.le_of_ble_eq_true rfl) ?_
  show PW g mX9_isMeeting 2 (mT tw τ μ) (mT tw τ μ) (QN g (some (.int rv)) (mT tw τ μ) (mT tw τ μ)) 0 [(0, .ref tw), (1, .int p1)] [] (mT tw τ μ)
  refine P.aload_n 0 (pc' := 1) dX9_isMeeting_0 rfl rfl rfl ?_
  refine P.aload_n 0 (pc' := 2) dX9_isMeeting_1 rfl rfl rfl ?_
  refine P.get (v := .ref (tw + 6)) (pc' := 5) ci9 12 (by decide) (T_gf rfl) q1567 (Or.inl rfl) dX9_isMeeting_2 rfl ?_
  refine P.bipush (v := 120) (pc' := 7) dX9_isMeeting_5 rfl (by decide) ?_
  refine P.iconst (v := 3) (pc' := 8) dX9_isMeeting_7 rfl (by decide) ?_
  refine P.iload_n 1 (pc' := 9) dX9_isMeeting_8 rfl rfl rfl ?_
  refine P.imul (pc' := 10) dX9_isMeeting_9 rfl ?_
  refine P.iadd (pc' := 11) dX9_isMeeting_10 rfl ?_
  obtain ⟨x1, h2, hf⟩ := ob hf
  refine P.iald (t := 0) (pc' := 12) rfl (T_aI rfl h2) dX9_isMeeting_11 rfl ?_
  obtain ⟨q3, h4, hf⟩ := ob hf
  refine P.callV (pc' := 15) (As := [.int x1]) 1 (ok_X9_heightOf F x1 tw μ τ h4) (Nat.le_of_ble_eq_true rfl) (lw_V q1928 q1930 qs116 q172 q1931) rfl yok_X9_heightOf rfl (Nat.le_of_ble_eq_true rfl) ci9 T_oc (by decide) rfl dX9_isMeeting_12 rfl ?_
  refine P.istore_n (pc' := 16) (lv' := [(2, .int q3), (0, .ref tw), (1, .int p1)]) dX9_isMeeting_15 rfl rfl (Nat.le_of_ble_eq_true rfl) rfl ?_
  refine P.aload_n 1 (pc' := 17) dX9_isMeeting_16 rfl rfl rfl ?_
  refine P.get (v := .ref (tw + 6)) (pc' := 20) ci9 12 (by decide) (T_gf rfl) q1567 (Or.inl rfl) dX9_isMeeting_17 rfl ?_
  refine P.bipush (v := 120) (pc' := 22) dX9_isMeeting_20 rfl (by decide) ?_
  refine P.iconst (v := 3) (pc' := 23) dX9_isMeeting_22 rfl (by decide) ?_
  refine P.iload_n 2 (pc' := 24) dX9_isMeeting_23 rfl rfl rfl ?_
  refine P.imul (pc' := 25) dX9_isMeeting_24 rfl ?_
  refine P.iadd (pc' := 26) dX9_isMeeting_25 rfl ?_
  refine P.iconst (v := 1) (pc' := 27) dX9_isMeeting_26 rfl (by decide) ?_
  refine P.iadd (pc' := 28) dX9_isMeeting_27 rfl ?_
  obtain ⟨x5, h6, hf⟩ := ob hf
  refine P.iald (t := 0) (pc' := 29) rfl (T_aI rfl h6) dX9_isMeeting_28 rfl ?_
  refine P.istore_n (pc' := 30) (lv' := [(3, .int x5), (2, .int q3), (0, .ref tw), (1, .int p1)]) dX9_isMeeting_29 rfl rfl (Nat.le_of_ble_eq_true rfl) rfl ?_
  refine P.iload_n 0 (pc' := 31) dX9_isMeeting_30 rfl rfl rfl ?_
  refine P.if_ge (tgt := 38) (pc' := 34) dX9_isMeeting_31 (by decide) rfl (fun y7 => ?_) (fun y7 => ?_)
  · have hf := (if_pos y7).symm.trans hf
    refine P.aload_n 2 (pc' := 39) dX9_isMeeting_38 rfl rfl rfl ?_
    refine P.iload_n 0 (pc' := 40) dX9_isMeeting_39 rfl rfl rfl ?_
    obtain ⟨q8, h9, hf⟩ := ob hf
    refine P.callV (pc' := 43) (As := [.int x5]) 1 (ok_X9_heightOf F x5 tw μ τ h9) (Nat.le_of_ble_eq_true rfl) (lw_V q1928 q1930 qs116 q172 q1931) rfl yok_X9_heightOf rfl (Nat.le_of_ble_eq_true rfl) ci9 T_oc (by decide) rfl dX9_isMeeting_40 rfl ?_
    exact PW.sub [2, 3, 1] rfl (ok_t_X9_isMeeting_j43 F tw μ p1 q3 q8 τ hf)
  · have hf := (if_neg y7).symm.trans hf
    refine P.iconst (v := 0) (pc' := 35) dX9_isMeeting_34 rfl (by decide) ?_
    refine P.goto (tgt := 43) dX9_isMeeting_35 (by decide) ?_
    exact PW.sub [2, 3, 1] rfl (ok_t_X9_isMeeting_j43 F tw μ p1 q3 0 τ hf)
theorem yok_X9_isMeeting : yOK yX9_isMeeting 1 := ⟨by decide +kernel, by decide +kernel, by decide +kernel⟩
abbrev mX9_reachedAt : Ym := (RX9, cX9_reachedAt, 13, (some Jvm.ClassFile.FieldType.int), false, [])
noncomputable def t_X9_reachedAt_L13_b (F : Nat) (k56 : Int32 → Option (Int32 × Tw)) (c2 : Int32) (c3 : Int32) (c4 : Int32) (τ : Tw) (self : Int32 → Int32 → Option (Int32 × Tw)) (v5 : Int32) (v6 : Int32) : Option (Int32 × Tw) :=
  Option.bind (taI τ 6 420 0) fun x1 =>
  if x1 ≤ v6 then
    k56 v5
  else
    Option.bind (t_X9_heightOf F v6 τ) fun q4 =>
    if q4 < c4 then
      nm (v6 + 1) fun x7 =>
      self v5 x7
    else
      if v6 = c3 then
        nm (v6 + 1) fun x10 =>
        self v5 x10
      else
        nm (v5 ||| ((1 : Int32) <<< (v6 &&& 31))) fun x12 =>
        nm (v6 + 1) fun x14 =>
        self x12 x14
noncomputable def t_X9_reachedAt_L13 (F : Nat) (k56 : Int32 → Option (Int32 × Tw)) (c2 : Int32) (c3 : Int32) (c4 : Int32) (τ : Tw) (n : Nat) : Int32 → Int32 → Option (Int32 × Tw) := Nat.rec (motive := fun _ => Int32 → Int32 → Option (Int32 × Tw)) (fun _ _ => none) (fun _ self => t_X9_reachedAt_L13_b F k56 c2 c3 c4 τ self) n
set_option maxHeartbeats 4000000 in
theorem ok_t_X9_reachedAt_L13 {g : Gx} {μ0 : Sw} {rv : Int32} {τF : Tw} (F : Nat) (tw : Nat) (μ : Sw) (c2 : Int32) (c3 : Int32) (c4 : Int32) (τ : Tw) (k56 : Int32 → Option (Int32 × Tw)) (hk56 : ∀ (w5 : Int32), k56 w5 = some (rv, τF) → PW g mX9_reachedAt 4 μ0 (mT tw τF μ) (QN g (some (.int rv)) μ0 (mT tw τF μ)) 56 [(0, .ref tw), (2, .int c2), (4, .int c4), (5, .int w5)] [] (mT tw τ μ)) : ∀ (n : Nat) (v5 : Int32) (v6 : Int32), t_X9_reachedAt_L13 F k56 c2 c3 c4 τ n v5 v6 = some (rv, τF) → PW g mX9_reachedAt 4 μ0 (mT tw τF μ) (QN g (some (.int rv)) μ0 (mT tw τF μ)) 13 [(0, .ref tw), (2, .int c2), (3, .int c3), (4, .int c4), (5, .int v5), (6, .int v6)] [] (mT tw τ μ) := by
  intro n
  induction n with
  | zero =>
    intro v5 v6 hf
    have hf : (none : Option (Int32 × Tw)) = some _ := hf
    cases hf
  | succ n ih =>
    intro v5 v6 hf
    have hf : t_X9_reachedAt_L13_b F k56 c2 c3 c4 τ (t_X9_reachedAt_L13 F k56 c2 c3 c4 τ n) v5 v6 = some (rv, τF) := hf
    unfold t_X9_reachedAt_L13_b at hf
    refine P.iload 5 (pc' := 15) dX9_reachedAt_13 rfl rfl ?_
    refine P.aload_n 0 (pc' := 16) dX9_reachedAt_15 rfl rfl rfl ?_
    refine P.get (v := .ref (tw + 6)) (pc' := 19) ci9 12 (by decide) (T_gf rfl) q1567 (Or.inl rfl) dX9_reachedAt_16 rfl ?_
    refine P.iconst (v := 0) (pc' := 20) dX9_reachedAt_19 rfl (by decide) ?_
    obtain ⟨x1, h2, hf⟩ := ob hf
    refine P.iald (t := 0) (pc' := 21) rfl (T_aI rfl h2) dX9_reachedAt_20 rfl ?_
    refine P.icmp_ge (tgt := 56) (pc' := 24) dX9_reachedAt_21 (by decide) rfl (fun y3 => ?_) (fun y3 => ?_)
    · have hf := (if_pos y3).symm.trans hf
      exact PW.sub [0, 1, 3, 4] rfl (hk56 _ hf)
    · have hf := (if_neg y3).symm.trans hf
      refine P.aload_n 0 (pc' := 25) dX9_reachedAt_24 rfl rfl rfl ?_
      refine P.iload 5 (pc' := 27) dX9_reachedAt_25 rfl rfl ?_
      obtain ⟨q4, h5, hf⟩ := ob hf
      refine P.callV (pc' := 30) (As := [.int v6]) 1 (ok_X9_heightOf F v6 tw μ τ h5) (Nat.le_of_ble_eq_true rfl) (lw_V q1928 q1930 qs116 q172 q1931) rfl yok_X9_heightOf rfl (Nat.le_of_ble_eq_true rfl) ci9 T_oc (by decide) rfl dX9_reachedAt_27 rfl ?_
      refine P.iload 3 (pc' := 32) dX9_reachedAt_30 rfl rfl ?_
      refine P.icmp_lt (tgt := 50) (pc' := 35) dX9_reachedAt_32 (by decide) rfl (fun y6 => ?_) (fun y6 => ?_)
      · have hf := (if_pos y6).symm.trans hf
        obtain ⟨x7, e8, hf⟩ := nm_i hf
        refine P.iinc 5 (pc' := 53) (lv' := [(6, .int x7), (0, .ref tw), (2, .int c2), (3, .int c3), (4, .int c4), (5, .int v5)]) dX9_reachedAt_50 rfl rfl (by decide) e8 (Nat.le_of_ble_eq_true rfl) rfl ?_
        refine P.goto (tgt := 13) dX9_reachedAt_53 (by decide) ?_
        exact PW.sub [1, 2, 3, 4, 5, 0] rfl (ih _ _ hf)
      · have hf := (if_neg y6).symm.trans hf
        refine P.iload 5 (pc' := 37) dX9_reachedAt_35 rfl rfl ?_
        refine P.iload_n 2 (pc' := 38) dX9_reachedAt_37 rfl rfl rfl ?_
        refine P.icmp_eq (tgt := 50) (pc' := 41) dX9_reachedAt_38 (by decide) rfl (fun y9 => ?_) (fun y9 => ?_)
        · have hf := (if_pos y9).symm.trans hf
          obtain ⟨x10, e11, hf⟩ := nm_i hf
          refine P.iinc 5 (pc' := 53) (lv' := [(6, .int x10), (0, .ref tw), (2, .int c2), (3, .int c3), (4, .int c4), (5, .int v5)]) dX9_reachedAt_50 rfl rfl (by decide) e11 (Nat.le_of_ble_eq_true rfl) rfl ?_
          refine P.goto (tgt := 13) dX9_reachedAt_53 (by decide) ?_
          exact PW.sub [1, 2, 3, 4, 5, 0] rfl (ih _ _ hf)
        · have hf := (if_neg y9).symm.trans hf
          refine P.iload 4 (pc' := 43) dX9_reachedAt_41 rfl rfl ?_
          refine P.iconst (v := 1) (pc' := 44) dX9_reachedAt_43 rfl (by decide) ?_
          refine P.iload 5 (pc' := 46) dX9_reachedAt_44 rfl rfl ?_
          refine P.ishl (pc' := 47) dX9_reachedAt_46 rfl ?_
          refine P.ior (pc' := 48) dX9_reachedAt_47 rfl ?_
          obtain ⟨x12, e13, hf⟩ := nm_i hf
          refine P.nmi e13 ?_
          refine P.istore (pc' := 50) (lv' := [(5, .int x12), (0, .ref tw), (2, .int c2), (3, .int c3), (4, .int c4), (6, .int v6)]) dX9_reachedAt_48 rfl (Nat.le_of_ble_eq_true rfl) rfl ?_
          obtain ⟨x14, e15, hf⟩ := nm_i hf
          refine P.iinc 5 (pc' := 53) (lv' := [(6, .int x14), (5, .int x12), (0, .ref tw), (2, .int c2), (3, .int c3), (4, .int c4)]) dX9_reachedAt_50 rfl rfl (by decide) e15 (Nat.le_of_ble_eq_true rfl) rfl ?_
          refine P.goto (tgt := 13) dX9_reachedAt_53 (by decide) ?_
          exact PW.sub [2, 3, 4, 5, 1, 0] rfl (ih _ _ hf)
noncomputable def t_X9_reachedAt_L62_b (F : Nat) (k100 : Int32 → Option (Int32 × Tw)) (c2 : Int32) (c4 : Int32) (c5 : Int32) (τ : Tw) (self : Int32 → Int32 → Option (Int32 × Tw)) (v6 : Int32) (v7 : Int32) : Option (Int32 × Tw) :=
  Option.bind (taI τ 6 420 4) fun x1 =>
  if x1 ≤ v7 then
    k100 v6
  else
    Option.bind (taI τ 6 420 (160 + v7)) fun x4 =>
    nm (v6 ||| (((1 : Int32) <<< (x4 &&& 31)) &&& c5)) fun x6 =>
    nm (v7 + 1) fun x8 =>
    self x6 x8
noncomputable def t_X9_reachedAt_L62 (F : Nat) (k100 : Int32 → Option (Int32 × Tw)) (c2 : Int32) (c4 : Int32) (c5 : Int32) (τ : Tw) (n : Nat) : Int32 → Int32 → Option (Int32 × Tw) := Nat.rec (motive := fun _ => Int32 → Int32 → Option (Int32 × Tw)) (fun _ _ => none) (fun _ self => t_X9_reachedAt_L62_b F k100 c2 c4 c5 τ self) n
set_option maxHeartbeats 4000000 in
theorem ok_t_X9_reachedAt_L62 {g : Gx} {μ0 : Sw} {rv : Int32} {τF : Tw} (F : Nat) (tw : Nat) (μ : Sw) (c2 : Int32) (c4 : Int32) (c5 : Int32) (τ : Tw) (k100 : Int32 → Option (Int32 × Tw)) (hk100 : ∀ (w6 : Int32), k100 w6 = some (rv, τF) → PW g mX9_reachedAt 4 μ0 (mT tw τF μ) (QN g (some (.int rv)) μ0 (mT tw τF μ)) 100 [(0, .ref tw), (2, .int c2), (4, .int c4), (5, .int c5), (6, .int w6)] [] (mT tw τ μ)) : ∀ (n : Nat) (v6 : Int32) (v7 : Int32), t_X9_reachedAt_L62 F k100 c2 c4 c5 τ n v6 v7 = some (rv, τF) → PW g mX9_reachedAt 4 μ0 (mT tw τF μ) (QN g (some (.int rv)) μ0 (mT tw τF μ)) 62 [(0, .ref tw), (2, .int c2), (4, .int c4), (5, .int c5), (6, .int v6), (7, .int v7)] [] (mT tw τ μ) := by
  intro n
  induction n with
  | zero =>
    intro v6 v7 hf
    have hf : (none : Option (Int32 × Tw)) = some _ := hf
    cases hf
  | succ n ih =>
    intro v6 v7 hf
    have hf : t_X9_reachedAt_L62_b F k100 c2 c4 c5 τ (t_X9_reachedAt_L62 F k100 c2 c4 c5 τ n) v6 v7 = some (rv, τF) := hf
    unfold t_X9_reachedAt_L62_b at hf
    refine P.iload 5 (pc' := 64) dX9_reachedAt_62 rfl rfl ?_
    refine P.aload_n 0 (pc' := 65) dX9_reachedAt_64 rfl rfl rfl ?_
    refine P.get (v := .ref (tw + 6)) (pc' := 68) ci9 12 (by decide) (T_gf rfl) q1567 (Or.inl rfl) dX9_reachedAt_65 rfl ?_
    refine P.iconst (v := 4) (pc' := 69) dX9_reachedAt_68 rfl (by decide) ?_
    obtain ⟨x1, h2, hf⟩ := ob hf
    refine P.iald (t := 0) (pc' := 70) rfl (T_aI rfl h2) dX9_reachedAt_69 rfl ?_
    refine P.icmp_ge (tgt := 100) (pc' := 73) dX9_reachedAt_70 (by decide) rfl (fun y3 => ?_) (fun y3 => ?_)
    · have hf := (if_pos y3).symm.trans hf
      exact PW.sub [0, 1, 2, 3, 4] rfl (hk100 _ hf)
    · have hf := (if_neg y3).symm.trans hf
      refine P.iload 4 (pc' := 75) dX9_reachedAt_73 rfl rfl ?_
      refine P.iconst (v := 1) (pc' := 76) dX9_reachedAt_75 rfl (by decide) ?_
      refine P.aload_n 0 (pc' := 77) dX9_reachedAt_76 rfl rfl rfl ?_
      refine P.get (v := .ref (tw + 6)) (pc' := 80) ci9 12 (by decide) (T_gf rfl) q1567 (Or.inl rfl) dX9_reachedAt_77 rfl ?_
      refine P.sipush (v := 160) (pc' := 83) dX9_reachedAt_80 rfl (by decide) ?_
      refine P.iload 5 (pc' := 85) dX9_reachedAt_83 rfl rfl ?_
      refine P.iadd (pc' := 86) dX9_reachedAt_85 rfl ?_
      obtain ⟨x4, h5, hf⟩ := ob hf
      refine P.iald (t := 0) (pc' := 87) rfl (T_aI rfl h5) dX9_reachedAt_86 rfl ?_
      refine P.ishl (pc' := 88) dX9_reachedAt_87 rfl ?_
      refine P.iload 3 (pc' := 90) dX9_reachedAt_88 rfl rfl ?_
      refine P.iand (pc' := 91) dX9_reachedAt_90 rfl ?_
      refine P.ior (pc' := 92) dX9_reachedAt_91 rfl ?_
      obtain ⟨x6, e7, hf⟩ := nm_i hf
      refine P.nmi e7 ?_
      refine P.istore (pc' := 94) (lv' := [(6, .int x6), (0, .ref tw), (2, .int c2), (4, .int c4), (5, .int c5), (7, .int v7)]) dX9_reachedAt_92 rfl (Nat.le_of_ble_eq_true rfl) rfl ?_
      obtain ⟨x8, e9, hf⟩ := nm_i hf
      refine P.iinc 5 (pc' := 97) (lv' := [(7, .int x8), (6, .int x6), (0, .ref tw), (2, .int c2), (4, .int c4), (5, .int c5)]) dX9_reachedAt_94 rfl rfl (by decide) e9 (Nat.le_of_ble_eq_true rfl) rfl ?_
      refine P.goto (tgt := 62) dX9_reachedAt_97 (by decide) ?_
      exact PW.sub [2, 3, 4, 5, 1, 0] rfl (ih _ _ hf)
noncomputable def t_X9_reachedAt_j223 (F : Nat) (self : Int32 → Int32 → Option (Int32 × Tw)) (v2 : Int32) (v4 : Int32) (v5 : Int32) (v6 : Int32) (v8 : Int32) (v9 : Int32) (v10 : Int32) (v12 : Int32) (τ : Tw) : Option (Int32 × Tw) :=
  if (v6 &&& v12) = 0 then
    nm (v9 + 1) fun x2 =>
    self v6 x2
  else
    nm (v6 ||| (v10 &&& v5)) fun x4 =>
    nm (v9 + 1) fun x6 =>
    self x4 x6
set_option maxHeartbeats 4000000 in
theorem ok_t_X9_reachedAt_j223 {g : Gx} {μ0 : Sw} {rv : Int32} {τF : Tw} (F : Nat) (tw : Nat) (μ : Sw) (v2 : Int32) (v4 : Int32) (v5 : Int32) (v6 : Int32) (v8 : Int32) (v9 : Int32) (v10 : Int32) (v12 : Int32) (τ : Tw) (self : Int32 → Int32 → Option (Int32 × Tw)) (ih : ∀ (w6 : Int32) (w9 : Int32), self w6 w9 = some (rv, τF) → PW g mX9_reachedAt 4 μ0 (mT tw τF μ) (QN g (some (.int rv)) μ0 (mT tw τF μ)) 115 [(0, .ref tw), (2, .int v2), (4, .int v4), (5, .int v5), (6, .int w6), (8, .int v8), (9, .int w9)] [] (mT tw τ μ)) (hf : t_X9_reachedAt_j223 F self v2 v4 v5 v6 v8 v9 v10 v12 τ = some (rv, τF)) : PW g mX9_reachedAt 4 μ0 (mT tw τF μ) (QN g (some (.int rv)) μ0 (mT tw τF μ)) 223 [(0, .ref tw), (2, .int v2), (4, .int v4), (5, .int v5), (6, .int v6), (8, .int v8), (9, .int v9), (10, .int v10), (12, .int v12)] [] (mT tw τ μ) := by
  unfold t_X9_reachedAt_j223 at hf
  refine P.iload 4 (pc' := 225) dX9_reachedAt_223 rfl rfl ?_
  refine P.iload 8 (pc' := 227) dX9_reachedAt_225 rfl rfl ?_
  refine P.iand (pc' := 228) dX9_reachedAt_227 rfl ?_
  refine P.if_eq (tgt := 241) (pc' := 231) dX9_reachedAt_228 (by decide) rfl (fun y1 => ?_) (fun y1 => ?_)
  · have hf := (if_pos y1).symm.trans hf
    obtain ⟨x2, e3, hf⟩ := nm_i hf
    refine P.iinc 6 (pc' := 244) (lv' := [(9, .int x2), (0, .ref tw), (2, .int v2), (4, .int v4), (5, .int v5), (6, .int v6), (8, .int v8), (10, .int v10), (12, .int v12)]) dX9_reachedAt_241 rfl rfl (by decide) e3 (Nat.le_of_ble_eq_true rfl) rfl ?_
    refine P.goto (tgt := 115) dX9_reachedAt_244 (by decide) ?_
    exact PW.sub [1, 2, 3, 4, 5, 6, 0] rfl (ih _ _ hf)
  · have hf := (if_neg y1).symm.trans hf
    refine P.iload 4 (pc' := 233) dX9_reachedAt_231 rfl rfl ?_
    refine P.iload 7 (pc' := 235) dX9_reachedAt_233 rfl rfl ?_
    refine P.iload 3 (pc' := 237) dX9_reachedAt_235 rfl rfl ?_
    refine P.iand (pc' := 238) dX9_reachedAt_237 rfl ?_
    refine P.ior (pc' := 239) dX9_reachedAt_238 rfl ?_
    obtain ⟨x4, e5, hf⟩ := nm_i hf
    refine P.nmi e5 ?_
    refine P.istore (pc' := 241) (lv' := [(6, .int x4), (0, .ref tw), (2, .int v2), (4, .int v4), (5, .int v5), (8, .int v8), (9, .int v9), (10, .int v10), (12, .int v12)]) dX9_reachedAt_239 rfl (Nat.le_of_ble_eq_true rfl) rfl ?_
    obtain ⟨x6, e7, hf⟩ := nm_i hf
    refine P.iinc 6 (pc' := 244) (lv' := [(9, .int x6), (6, .int x4), (0, .ref tw), (2, .int v2), (4, .int v4), (5, .int v5), (8, .int v8), (10, .int v10), (12, .int v12)]) dX9_reachedAt_241 rfl rfl (by decide) e7 (Nat.le_of_ble_eq_true rfl) rfl ?_
    refine P.goto (tgt := 115) dX9_reachedAt_244 (by decide) ?_
    exact PW.sub [2, 3, 4, 5, 1, 6, 0] rfl (ih _ _ hf)
noncomputable def t_X9_reachedAt_L115_b (F : Nat) (k247 : Int32 → Option (Int32 × Tw)) (c2 : Int32) (c4 : Int32) (c5 : Int32) (c8 : Int32) (τ : Tw) (self : Int32 → Int32 → Option (Int32 × Tw)) (v6 : Int32) (v9 : Int32) : Option (Int32 × Tw) :=
  Option.bind (taI τ 6 420 3) fun x1 =>
  if x1 ≤ v9 then
    k247 v6
  else
    if v9 = c2 then
      nm (v9 + 1) fun x5 =>
      self v6 x5
    else
      Option.bind (t_X9_isMeeting F v9 τ) fun q7 =>
      if q7 = 0 then
        nm (v9 + 1) fun x29 =>
        self v6 x29
      else
        Option.bind (taI τ 6 420 (120 + (3 * v9))) fun x10 =>
        nm ((1 : Int32) <<< (x10 &&& 31)) fun x12 =>
        Option.bind (taI τ 6 420 ((120 + (3 * v9)) + 1)) fun x14 =>
        if 0 ≤ x14 then
          nm ((1 : Int32) <<< (x14 &&& 31)) fun x17 =>
          if (v6 &&& x12) = 0 then
            t_X9_reachedAt_j223 F self c2 c4 c5 v6 c8 v9 x12 x17 τ
          else
            nm (v6 ||| (x17 &&& c5)) fun x20 =>
            t_X9_reachedAt_j223 F self c2 c4 c5 x20 c8 v9 x12 x17 τ
        else
          if c4 = 0 then
            nm (v6 ||| (x12 &&& c5)) fun x25 =>
            nm (v9 + 1) fun x27 =>
            self x25 x27
          else
            nm (v9 + 1) fun x23 =>
            self v6 x23
noncomputable def t_X9_reachedAt_L115 (F : Nat) (k247 : Int32 → Option (Int32 × Tw)) (c2 : Int32) (c4 : Int32) (c5 : Int32) (c8 : Int32) (τ : Tw) (n : Nat) : Int32 → Int32 → Option (Int32 × Tw) := Nat.rec (motive := fun _ => Int32 → Int32 → Option (Int32 × Tw)) (fun _ _ => none) (fun _ self => t_X9_reachedAt_L115_b F k247 c2 c4 c5 c8 τ self) n
set_option maxHeartbeats 4000000 in
theorem ok_t_X9_reachedAt_L115 {g : Gx} {μ0 : Sw} {rv : Int32} {τF : Tw} (F : Nat) (tw : Nat) (μ : Sw) (c2 : Int32) (c4 : Int32) (c5 : Int32) (c8 : Int32) (τ : Tw) (k247 : Int32 → Option (Int32 × Tw)) (hk247 : ∀ (w6 : Int32), k247 w6 = some (rv, τF) → PW g mX9_reachedAt 4 μ0 (mT tw τF μ) (QN g (some (.int rv)) μ0 (mT tw τF μ)) 247 [(0, .ref tw), (2, .int c2), (4, .int c4), (5, .int c5), (6, .int w6), (8, .int c8)] [] (mT tw τ μ)) : ∀ (n : Nat) (v6 : Int32) (v9 : Int32), t_X9_reachedAt_L115 F k247 c2 c4 c5 c8 τ n v6 v9 = some (rv, τF) → PW g mX9_reachedAt 4 μ0 (mT tw τF μ) (QN g (some (.int rv)) μ0 (mT tw τF μ)) 115 [(0, .ref tw), (2, .int c2), (4, .int c4), (5, .int c5), (6, .int v6), (8, .int c8), (9, .int v9)] [] (mT tw τ μ) := by
  intro n
  induction n with
  | zero =>
    intro v6 v9 hf
    have hf : (none : Option (Int32 × Tw)) = some _ := hf
    cases hf
  | succ n ih =>
    intro v6 v9 hf
    have hf : t_X9_reachedAt_L115_b F k247 c2 c4 c5 c8 τ (t_X9_reachedAt_L115 F k247 c2 c4 c5 c8 τ n) v6 v9 = some (rv, τF) := hf
    unfold t_X9_reachedAt_L115_b at hf
    refine P.iload 6 (pc' := 117) dX9_reachedAt_115 rfl rfl ?_
    refine P.aload_n 0 (pc' := 118) dX9_reachedAt_117 rfl rfl rfl ?_
    refine P.get (v := .ref (tw + 6)) (pc' := 121) ci9 12 (by decide) (T_gf rfl) q1567 (Or.inl rfl) dX9_reachedAt_118 rfl ?_
    refine P.iconst (v := 3) (pc' := 122) dX9_reachedAt_121 rfl (by decide) ?_
    obtain ⟨x1, h2, hf⟩ := ob hf
    refine P.iald (t := 0) (pc' := 123) rfl (T_aI rfl h2) dX9_reachedAt_122 rfl ?_
    refine P.icmp_ge (tgt := 247) (pc' := 126) dX9_reachedAt_123 (by decide) rfl (fun y3 => ?_) (fun y3 => ?_)
    · have hf := (if_pos y3).symm.trans hf
      exact PW.sub [0, 1, 2, 3, 4, 5] rfl (hk247 _ hf)
    · have hf := (if_neg y3).symm.trans hf
      refine P.iload 6 (pc' := 128) dX9_reachedAt_126 rfl rfl ?_
      refine P.iload_n 1 (pc' := 129) dX9_reachedAt_128 rfl rfl rfl ?_
      refine P.icmp_eq (tgt := 241) (pc' := 132) dX9_reachedAt_129 (by decide) rfl (fun y4 => ?_) (fun y4 => ?_)
      · have hf := (if_pos y4).symm.trans hf
        obtain ⟨x5, e6, hf⟩ := nm_i hf
        refine P.iinc 6 (pc' := 244) (lv' := [(9, .int x5), (0, .ref tw), (2, .int c2), (4, .int c4), (5, .int c5), (6, .int v6), (8, .int c8)]) dX9_reachedAt_241 rfl rfl (by decide) e6 (Nat.le_of_ble_eq_true rfl) rfl ?_
        refine P.goto (tgt := 115) dX9_reachedAt_244 (by decide) ?_
        exact PW.sub [1, 2, 3, 4, 5, 6, 0] rfl (ih _ _ hf)
      · have hf := (if_neg y4).symm.trans hf
        refine P.aload_n 0 (pc' := 133) dX9_reachedAt_132 rfl rfl rfl ?_
        refine P.iload 6 (pc' := 135) dX9_reachedAt_133 rfl rfl ?_
        obtain ⟨q7, h8, hf⟩ := ob hf
        refine P.callV (pc' := 138) (As := [.int v9]) 1 (ok_X9_isMeeting F v9 tw μ τ h8) (Nat.le_of_ble_eq_true rfl) (lw_V q1997 q1999 qs125 q172 q2000) rfl yok_X9_isMeeting rfl (Nat.le_of_ble_eq_true rfl) ci9 T_oc (by decide) rfl dX9_reachedAt_135 rfl ?_
        refine P.if_ne (tgt := 144) (pc' := 141) dX9_reachedAt_138 (by decide) rfl (fun y9 => ?_) (fun y9 => ?_)
        · have hf := (if_neg y9).symm.trans hf
          refine P.iconst (v := 1) (pc' := 145) dX9_reachedAt_144 rfl (by decide) ?_
          refine P.aload_n 0 (pc' := 146) dX9_reachedAt_145 rfl rfl rfl ?_
          refine P.get (v := .ref (tw + 6)) (pc' := 149) ci9 12 (by decide) (T_gf rfl) q1567 (Or.inl rfl) dX9_reachedAt_146 rfl ?_
          refine P.bipush (v := 120) (pc' := 151) dX9_reachedAt_149 rfl (by decide) ?_
          refine P.iconst (v := 3) (pc' := 152) dX9_reachedAt_151 rfl (by decide) ?_
          refine P.iload 6 (pc' := 154) dX9_reachedAt_152 rfl rfl ?_
          refine P.imul (pc' := 155) dX9_reachedAt_154 rfl ?_
          refine P.iadd (pc' := 156) dX9_reachedAt_155 rfl ?_
          obtain ⟨x10, h11, hf⟩ := ob hf
          refine P.iald (t := 0) (pc' := 157) rfl (T_aI rfl h11) dX9_reachedAt_156 rfl ?_
          refine P.ishl (pc' := 158) dX9_reachedAt_157 rfl ?_
          obtain ⟨x12, e13, hf⟩ := nm_i hf
          refine P.nmi e13 ?_
          refine P.istore (pc' := 160) (lv' := [(10, .int x12), (0, .ref tw), (2, .int c2), (4, .int c4), (5, .int c5), (6, .int v6), (8, .int c8), (9, .int v9)]) dX9_reachedAt_158 rfl (Nat.le_of_ble_eq_true rfl) rfl ?_
          refine P.aload_n 1 (pc' := 161) dX9_reachedAt_160 rfl rfl rfl ?_
          refine P.get (v := .ref (tw + 6)) (pc' := 164) ci9 12 (by decide) (T_gf rfl) q1567 (Or.inl rfl) dX9_reachedAt_161 rfl ?_
          refine P.bipush (v := 120) (pc' := 166) dX9_reachedAt_164 rfl (by decide) ?_
          refine P.iconst (v := 3) (pc' := 167) dX9_reachedAt_166 rfl (by decide) ?_
          refine P.iload 7 (pc' := 169) dX9_reachedAt_167 rfl rfl ?_
          refine P.imul (pc' := 170) dX9_reachedAt_169 rfl ?_
          refine P.iadd (pc' := 171) dX9_reachedAt_170 rfl ?_
          refine P.iconst (v := 1) (pc' := 172) dX9_reachedAt_171 rfl (by decide) ?_
          refine P.iadd (pc' := 173) dX9_reachedAt_172 rfl ?_
          obtain ⟨x14, h15, hf⟩ := ob hf
          refine P.iald (t := 0) (pc' := 174) rfl (T_aI rfl h15) dX9_reachedAt_173 rfl ?_
          refine P.istore (pc' := 176) (lv' := [(11, .int x14), (10, .int x12), (0, .ref tw), (2, .int c2), (4, .int c4), (5, .int c5), (6, .int v6), (8, .int c8), (9, .int v9)]) dX9_reachedAt_174 rfl (Nat.le_of_ble_eq_true rfl) rfl ?_
          refine P.iload 0 (pc' := 178) dX9_reachedAt_176 rfl rfl ?_
          refine P.if_ge (tgt := 199) (pc' := 181) dX9_reachedAt_178 (by decide) rfl (fun y16 => ?_) (fun y16 => ?_)
          · have hf := (if_pos y16).symm.trans hf
            refine P.iconst (v := 1) (pc' := 200) dX9_reachedAt_199 rfl (by decide) ?_
            refine P.iload 0 (pc' := 202) dX9_reachedAt_200 rfl rfl ?_
            refine P.ishl (pc' := 203) dX9_reachedAt_202 rfl ?_
            obtain ⟨x17, e18, hf⟩ := nm_i hf
            refine P.nmi e18 ?_
            refine P.istore (pc' := 205) (lv' := [(12, .int x17), (11, .int x14), (10, .int x12), (0, .ref tw), (2, .int c2), (4, .int c4), (5, .int c5), (6, .int v6), (8, .int c8), (9, .int v9)]) dX9_reachedAt_203 rfl (Nat.le_of_ble_eq_true rfl) rfl ?_
            refine P.iload 7 (pc' := 207) dX9_reachedAt_205 rfl rfl ?_
            refine P.iload 2 (pc' := 209) dX9_reachedAt_207 rfl rfl ?_
            refine P.iand (pc' := 210) dX9_reachedAt_209 rfl ?_
            refine P.if_eq (tgt := 223) (pc' := 213) dX9_reachedAt_210 (by decide) rfl (fun y19 => ?_) (fun y19 => ?_)
            · have hf := (if_pos y19).symm.trans hf
              exact PW.sub [3, 4, 5, 6, 7, 8, 9, 2, 0] rfl (ok_t_X9_reachedAt_j223 F tw μ c2 c4 c5 v6 c8 v9 x12 x17 τ _ ih hf)
            · have hf := (if_neg y19).symm.trans hf
              refine P.iload 7 (pc' := 215) dX9_reachedAt_213 rfl rfl ?_
              refine P.iload 0 (pc' := 217) dX9_reachedAt_215 rfl rfl ?_
              refine P.iload 6 (pc' := 219) dX9_reachedAt_217 rfl rfl ?_
              refine P.iand (pc' := 220) dX9_reachedAt_219 rfl ?_
              refine P.ior (pc' := 221) dX9_reachedAt_220 rfl ?_
              obtain ⟨x20, e21, hf⟩ := nm_i hf
              refine P.nmi e21 ?_
              refine P.istore (pc' := 223) (lv' := [(6, .int x20), (12, .int x17), (11, .int x14), (10, .int x12), (0, .ref tw), (2, .int c2), (4, .int c4), (5, .int c5), (8, .int c8), (9, .int v9)]) dX9_reachedAt_221 rfl (Nat.le_of_ble_eq_true rfl) rfl ?_
              exact PW.sub [4, 5, 6, 7, 0, 8, 9, 3, 1] rfl (ok_t_X9_reachedAt_j223 F tw μ c2 c4 c5 x20 c8 v9 x12 x17 τ _ ih hf)
          · have hf := (if_neg y16).symm.trans hf
            refine P.iload 4 (pc' := 183) dX9_reachedAt_181 rfl rfl ?_
            refine P.if_ne (tgt := 241) (pc' := 186) dX9_reachedAt_183 (by decide) rfl (fun y22 => ?_) (fun y22 => ?_)
            · have hf := (if_neg y22).symm.trans hf
              obtain ⟨x23, e24, hf⟩ := nm_i hf
              refine P.iinc 8 (pc' := 244) (lv' := [(9, .int x23), (11, .int x14), (10, .int x12), (0, .ref tw), (2, .int c2), (4, .int c4), (5, .int c5), (6, .int v6), (8, .int c8)]) dX9_reachedAt_241 rfl rfl (by decide) e24 (Nat.le_of_ble_eq_true rfl) rfl ?_
              refine P.goto (tgt := 115) dX9_reachedAt_244 (by decide) ?_
              exact PW.sub [3, 4, 5, 6, 7, 8, 0] rfl (ih _ _ hf)
            · have hf := (if_pos y22).symm.trans hf
              refine P.iload 6 (pc' := 188) dX9_reachedAt_186 rfl rfl ?_
              refine P.iload 1 (pc' := 190) dX9_reachedAt_188 rfl rfl ?_
              refine P.iload 5 (pc' := 192) dX9_reachedAt_190 rfl rfl ?_
              refine P.iand (pc' := 193) dX9_reachedAt_192 rfl ?_
              refine P.ior (pc' := 194) dX9_reachedAt_193 rfl ?_
              obtain ⟨x25, e26, hf⟩ := nm_i hf
              refine P.nmi e26 ?_
              refine P.istore (pc' := 196) (lv' := [(6, .int x25), (11, .int x14), (10, .int x12), (0, .ref tw), (2, .int c2), (4, .int c4), (5, .int c5), (8, .int c8), (9, .int v9)]) dX9_reachedAt_194 rfl (Nat.le_of_ble_eq_true rfl) rfl ?_
              refine P.goto (tgt := 241) dX9_reachedAt_196 (by decide) ?_
              obtain ⟨x27, e28, hf⟩ := nm_i hf
              refine P.iinc 8 (pc' := 244) (lv' := [(9, .int x27), (6, .int x25), (11, .int x14), (10, .int x12), (0, .ref tw), (2, .int c2), (4, .int c4), (5, .int c5), (8, .int c8)]) dX9_reachedAt_241 rfl rfl (by decide) e28 (Nat.le_of_ble_eq_true rfl) rfl ?_
              refine P.goto (tgt := 115) dX9_reachedAt_244 (by decide) ?_
              exact PW.sub [4, 5, 6, 7, 1, 8, 0] rfl (ih _ _ hf)
        · have hf := (if_pos y9).symm.trans hf
          refine P.goto (tgt := 241) dX9_reachedAt_141 (by decide) ?_
          obtain ⟨x29, e30, hf⟩ := nm_i hf
          refine P.iinc 6 (pc' := 244) (lv' := [(9, .int x29), (0, .ref tw), (2, .int c2), (4, .int c4), (5, .int c5), (6, .int v6), (8, .int c8)]) dX9_reachedAt_241 rfl rfl (by decide) e30 (Nat.le_of_ble_eq_true rfl) rfl ?_
          refine P.goto (tgt := 115) dX9_reachedAt_244 (by decide) ?_
          exact PW.sub [1, 2, 3, 4, 5, 6, 0] rfl (ih _ _ hf)
noncomputable def t_X9_reachedAt_L103_b (F : Nat) (c2 : Int32) (c4 : Int32) (c5 : Int32) (τ : Tw) (self : Int32 → Int32 → Option (Int32 × Tw)) (v6 : Int32) (v7 : Int32) : Option (Int32 × Tw) :=
  if v7 = 0 then
    some (v6, τ)
  else
    t_X9_reachedAt_L115 F
      (fun w2 =>
        if w2 = v6 then
          self w2 0
        else
          self w2 1)
      c2 c4 c5 v6 τ F v6 0
noncomputable def t_X9_reachedAt_L103 (F : Nat) (c2 : Int32) (c4 : Int32) (c5 : Int32) (τ : Tw) (n : Nat) : Int32 → Int32 → Option (Int32 × Tw) := Nat.rec (motive := fun _ => Int32 → Int32 → Option (Int32 × Tw)) (fun _ _ => none) (fun _ self => t_X9_reachedAt_L103_b F c2 c4 c5 τ self) n
set_option maxHeartbeats 4000000 in
theorem ok_t_X9_reachedAt_L103 {g : Gx} {μ0 : Sw} {rv : Int32} {τF : Tw} (F : Nat) (tw : Nat) (μ : Sw) (c2 : Int32) (c4 : Int32) (c5 : Int32) (τ : Tw) : ∀ (n : Nat) (v6 : Int32) (v7 : Int32), t_X9_reachedAt_L103 F c2 c4 c5 τ n v6 v7 = some (rv, τF) → PW g mX9_reachedAt 4 μ0 (mT tw τF μ) (QN g (some (.int rv)) μ0 (mT tw τF μ)) 103 [(0, .ref tw), (2, .int c2), (4, .int c4), (5, .int c5), (6, .int v6), (7, .int v7)] [] (mT tw τ μ) := by
  intro n
  induction n with
  | zero =>
    intro v6 v7 hf
    have hf : (none : Option (Int32 × Tw)) = some _ := hf
    cases hf
  | succ n ih =>
    intro v6 v7 hf
    have hf : t_X9_reachedAt_L103_b F c2 c4 c5 τ (t_X9_reachedAt_L103 F c2 c4 c5 τ n) v6 v7 = some (rv, τF) := hf
    unfold t_X9_reachedAt_L103_b at hf
    refine P.iload 5 (pc' := 105) dX9_reachedAt_103 rfl rfl ?_
    refine P.if_eq (tgt := 264) (pc' := 108) dX9_reachedAt_105 (by decide) rfl (fun y1 => ?_) (fun y1 => ?_)
    · have hf := (if_pos y1).symm.trans hf
      refine P.iload 4 (pc' := 266) dX9_reachedAt_264 rfl rfl ?_
      cases hf; exact P.iret rfl dX9_reachedAt_266
    · have hf := (if_neg y1).symm.trans hf
      refine P.iload 4 (pc' := 110) dX9_reachedAt_108 rfl rfl ?_
      refine P.istore (pc' := 112) (lv' := [(8, .int v6), (0, .ref tw), (2, .int c2), (4, .int c4), (5, .int c5), (6, .int v6), (7, .int v7)]) dX9_reachedAt_110 rfl (Nat.le_of_ble_eq_true rfl) rfl ?_
      refine P.iconst (v := 0) (pc' := 113) dX9_reachedAt_112 rfl (by decide) ?_
      refine P.istore (pc' := 115) (lv' := [(9, .int 0), (8, .int v6), (0, .ref tw), (2, .int c2), (4, .int c4), (5, .int c5), (6, .int v6), (7, .int v7)]) dX9_reachedAt_113 rfl (Nat.le_of_ble_eq_true rfl) rfl ?_
      refine PW.sub [2, 3, 4, 5, 6, 1, 0] rfl (ok_t_X9_reachedAt_L115 F tw μ c2 c4 c5 v6 τ _ ?_ F _ _ hf)
      · intro w2 hf
        refine P.iload 4 (pc' := 249) dX9_reachedAt_247 rfl rfl ?_
        refine P.iload 5 (pc' := 251) dX9_reachedAt_249 rfl rfl ?_
        refine P.icmp_eq (tgt := 258) (pc' := 254) dX9_reachedAt_251 (by decide) rfl (fun y3 => ?_) (fun y3 => ?_)
        · have hf := (if_pos y3).symm.trans hf
          refine P.iconst (v := 0) (pc' := 259) dX9_reachedAt_258 rfl (by decide) ?_
          refine P.istore (pc' := 261) (lv' := [(7, .int 0), (0, .ref tw), (2, .int c2), (4, .int c4), (5, .int c5), (6, .int w2), (8, .int v6)]) dX9_reachedAt_259 rfl (Nat.le_of_ble_eq_true rfl) rfl ?_
          refine P.goto (tgt := 103) dX9_reachedAt_261 (by decide) ?_
          exact PW.sub [1, 2, 3, 4, 5, 0] rfl (ih _ _ hf)
        · have hf := (if_neg y3).symm.trans hf
          refine P.iconst (v := 1) (pc' := 255) dX9_reachedAt_254 rfl (by decide) ?_
          refine P.goto (tgt := 259) dX9_reachedAt_255 (by decide) ?_
          refine P.istore (pc' := 261) (lv' := [(7, .int 1), (0, .ref tw), (2, .int c2), (4, .int c4), (5, .int c5), (6, .int w2), (8, .int v6)]) dX9_reachedAt_259 rfl (Nat.le_of_ble_eq_true rfl) rfl ?_
          refine P.goto (tgt := 103) dX9_reachedAt_261 (by decide) ?_
          exact PW.sub [1, 2, 3, 4, 5, 0] rfl (ih _ _ hf)
noncomputable def t_X9_reachedAt (F : Nat) (p1 : Int32) (p2 : Int32) (p3 : Int32) (τ : Tw) : Option (Int32 × Tw) :=
  Option.bind (t_X9_tideOf F p1 τ) fun q1 =>
  t_X9_reachedAt_L13 F
    (fun w3 =>
      t_X9_reachedAt_L62 F
        (fun w4 =>
          t_X9_reachedAt_L103 F p2 q1.1 w3 q1.2 F w4 1)
        p2 q1.1 w3 q1.2 F 0 0)
    p2 p3 q1.1 q1.2 F 0 0
set_option maxHeartbeats 4000000 in
theorem ok_X9_reachedAt {g : Gx} (F : Nat) (p1 : Int32) (p2 : Int32) (p3 : Int32) (tw : Nat) (μ : Sw) (τ : Tw) {rv : Int32} {τF : Tw} (hf : t_X9_reachedAt F p1 p2 p3 τ = some (rv, τF)) : Cl g 4 yX9_reachedAt cX9_reachedAt 13 (some Jvm.ClassFile.FieldType.int) [.ref tw, .int p1, .int p2, .int p3] (mT tw τ μ) (some (.int rv)) (mT tw τF μ) := by
  unfold t_X9_reachedAt at hf
  refine Cl.of (own := RX9) (ini := false) (by decide +kernel) rfl (by decide) (Nat.le_of_ble_eq_true rfl) ?_
  show PW g mX9_reachedAt 4 (mT tw τ μ) (mT tw τF μ) (QN g (some (.int rv)) (mT tw τ μ) (mT tw τF μ)) 0 [(0, .ref tw), (1, .int p1), (2, .int p2), (3, .int p3)] [] (mT tw τ μ)
  refine P.aload_n 0 (pc' := 1) dX9_reachedAt_0 rfl rfl rfl ?_
  refine P.iload_n 1 (pc' := 2) dX9_reachedAt_1 rfl rfl rfl ?_
  obtain ⟨q1, h2, hf⟩ := ob hf
  refine P.callV (pc' := 5) (As := [.int p1]) 1 (ok_X9_tideOf F p1 tw μ τ h2) (Nat.le_of_ble_eq_true rfl) (lw_V q1981 q1983 qs123 q172 q1984) rfl yok_X9_tideOf rfl (Nat.le_of_ble_eq_true rfl) ci9 T_oc (by decide) rfl dX9_reachedAt_2 rfl ?_
  refine P.istore (pc' := 7) (lv' := [(4, .int q1.1), (0, .ref tw), (1, .int p1), (2, .int p2), (3, .int p3)]) dX9_reachedAt_5 rfl (Nat.le_of_ble_eq_true rfl) rfl ?_
  refine P.iconst (v := 0) (pc' := 8) dX9_reachedAt_7 rfl (by decide) ?_
  refine P.istore (pc' := 10) (lv' := [(5, .int 0), (4, .int q1.1), (0, .ref tw), (1, .int p1), (2, .int p2), (3, .int p3)]) dX9_reachedAt_8 rfl (Nat.le_of_ble_eq_true rfl) rfl ?_
  refine P.iconst (v := 0) (pc' := 11) dX9_reachedAt_10 rfl (by decide) ?_
  refine P.istore (pc' := 13) (lv' := [(6, .int 0), (5, .int 0), (4, .int q1.1), (0, .ref tw), (1, .int p1), (2, .int p2), (3, .int p3)]) dX9_reachedAt_11 rfl (Nat.le_of_ble_eq_true rfl) rfl ?_
  refine PW.sub [3, 5, 6, 2, 1, 0] rfl (ok_t_X9_reachedAt_L13 F tw μ p2 p3 q1.1 q1.2 _ ?_ F _ _ hf)
  · intro w3 hf
    refine P.iconst (v := 0) (pc' := 57) dX9_reachedAt_56 rfl (by decide) ?_
    refine P.istore (pc' := 59) (lv' := [(6, .int 0), (0, .ref tw), (2, .int p2), (4, .int q1.1), (5, .int w3)]) dX9_reachedAt_57 rfl (Nat.le_of_ble_eq_true rfl) rfl ?_
    refine P.iconst (v := 0) (pc' := 60) dX9_reachedAt_59 rfl (by decide) ?_
    refine P.istore (pc' := 62) (lv' := [(7, .int 0), (6, .int 0), (0, .ref tw), (2, .int p2), (4, .int q1.1), (5, .int w3)]) dX9_reachedAt_60 rfl (Nat.le_of_ble_eq_true rfl) rfl ?_
    refine PW.sub [2, 3, 4, 5, 1, 0] rfl (ok_t_X9_reachedAt_L62 F tw μ p2 q1.1 w3 q1.2 _ ?_ F _ _ hf)
    · intro w4 hf
      refine P.iconst (v := 1) (pc' := 101) dX9_reachedAt_100 rfl (by decide) ?_
      refine P.istore (pc' := 103) (lv' := [(7, .int 1), (0, .ref tw), (2, .int p2), (4, .int q1.1), (5, .int w3), (6, .int w4)]) dX9_reachedAt_101 rfl (Nat.le_of_ble_eq_true rfl) rfl ?_
      exact PW.sub [1, 2, 3, 4, 5, 0] rfl (ok_t_X9_reachedAt_L103 F tw μ p2 q1.1 w3 q1.2 F _ _ hf)
theorem yok_X9_reachedAt : yOK yX9_reachedAt 3 := ⟨by decide +kernel, by decide +kernel, by decide +kernel⟩
abbrev mX9_reached : Ym := (RX9, cX9_reached, 2, (some Jvm.ClassFile.FieldType.int), false, [])
noncomputable def t_X9_reached (F : Nat) (p1 : Int32) (τ : Tw) : Option (Int32 × Tw) :=
  Option.bind (p_X9_isHour F p1) fun q1 =>
  if q1 = 0 then
    some ((-1), τ)
  else
    Option.bind (t_X9_reachedAt F p1 (-1) (-1) τ) fun q4 =>
    some (q4.1, q4.2)
set_option maxHeartbeats 4000000 in
theorem ok_X9_reached {g : Gx} (F : Nat) (p1 : Int32) (tw : Nat) (μ : Sw) (τ : Tw) {rv : Int32} {τF : Tw} (hf : t_X9_reached F p1 τ = some (rv, τF)) : Cl g 5 yX9_reached cX9_reached 2 (some Jvm.ClassFile.FieldType.int) [.ref tw, .int p1] (mT tw τ μ) (some (.int rv)) (mT tw τF μ) := by
  unfold t_X9_reached at hf
  refine Cl.of (own := RX9) (ini := false) (by decide +kernel) rfl (by decide) (Nat.le_of_ble_eq_true rfl) ?_
  show PW g mX9_reached 5 (mT tw τ μ) (mT tw τF μ) (QN g (some (.int rv)) (mT tw τ μ) (mT tw τF μ)) 0 [(0, .ref tw), (1, .int p1)] [] (mT tw τ μ)
  refine P.iload_n 1 (pc' := 1) dX9_reached_0 rfl rfl rfl ?_
  obtain ⟨q1, h2, hf⟩ := ob hf
  refine P.callS (pc' := 4) (As := [.int p1]) 1 (ok_X9_isHour F p1 (mT tw τ μ) h2) (Nat.le_of_ble_eq_true rfl) (lw_S q1978 q1979 q172 q1980) yok_X9_isHour rfl (Nat.le_of_ble_eq_true rfl) (by decide) rfl dX9_reached_1 rfl ?_
  refine P.if_eq (tgt := 17) (pc' := 7) dX9_reached_4 (by decide) rfl (fun y3 => ?_) (fun y3 => ?_)
  · have hf := (if_pos y3).symm.trans hf
    refine P.iconst (v := (-1)) (pc' := 18) dX9_reached_17 rfl (by decide) ?_
    cases hf; exact P.iret rfl dX9_reached_18
  · have hf := (if_neg y3).symm.trans hf
    refine P.aload_n 0 (pc' := 8) dX9_reached_7 rfl rfl rfl ?_
    refine P.iload_n 1 (pc' := 9) dX9_reached_8 rfl rfl rfl ?_
    refine P.iconst (v := (-1)) (pc' := 10) dX9_reached_9 rfl (by decide) ?_
    refine P.iconst (v := (-1)) (pc' := 11) dX9_reached_10 rfl (by decide) ?_
    obtain ⟨q4, h5, hf⟩ := ob hf
    refine P.callV (pc' := 14) (As := [.int p1, .int (-1), .int (-1)]) 3 (ok_X9_reachedAt F p1 (-1) (-1) tw μ τ h5) (Nat.le_of_ble_eq_true rfl) (lw_V q1993 q1995 qs124 q172 q1996) rfl yok_X9_reachedAt rfl (Nat.le_of_ble_eq_true rfl) ci9 T_oc (by decide) rfl dX9_reached_11 rfl ?_
    refine P.goto (tgt := 18) dX9_reached_14 (by decide) ?_
    cases hf; exact P.iret rfl dX9_reached_18
abbrev mX9_hours : Ym := (RX9, cX9_hours, 4, (some Jvm.ClassFile.FieldType.int), false, [])
noncomputable def t_X9_hours_L14_b (F : Nat) (c1 : Int32) (self : Int32 → Int32 → Tw → Option (Int32 × Tw)) (v2 : Int32) (v3 : Int32) (τ : Tw) : Option (Int32 × Tw) :=
  if 24 ≤ v3 then
    some (v2, τ)
  else
    Option.bind (t_X9_reachedAt F v3 (-1) (-1) τ) fun q2 =>
    nm (v2 + ((q2.1 >>> (c1 &&& 31)) &&& 1)) fun x4 =>
    nm (v3 + 1) fun x6 =>
    self x4 x6 q2.2
noncomputable def t_X9_hours_L14 (F : Nat) (c1 : Int32) (n : Nat) : Int32 → Int32 → Tw → Option (Int32 × Tw) := Nat.rec (motive := fun _ => Int32 → Int32 → Tw → Option (Int32 × Tw)) (fun _ _ _ => none) (fun _ self => t_X9_hours_L14_b F c1 self) n
set_option maxHeartbeats 4000000 in
theorem ok_t_X9_hours_L14 {g : Gx} {μ0 : Sw} {rv : Int32} {τF : Tw} (F : Nat) (tw : Nat) (μ : Sw) (c1 : Int32) : ∀ (n : Nat) (v2 : Int32) (v3 : Int32) (τ : Tw), t_X9_hours_L14 F c1 n v2 v3 τ = some (rv, τF) → PW g mX9_hours 5 μ0 (mT tw τF μ) (QN g (some (.int rv)) μ0 (mT tw τF μ)) 14 [(0, .ref tw), (1, .int c1), (2, .int v2), (3, .int v3)] [] (mT tw τ μ) := by
  intro n
  induction n with
  | zero =>
    intro v2 v3 τ hf
    have hf : (none : Option (Int32 × Tw)) = some _ := hf
    cases hf
  | succ n ih =>
    intro v2 v3 τ hf
    have hf : t_X9_hours_L14_b F c1 (t_X9_hours_L14 F c1 n) v2 v3 τ = some (rv, τF) := hf
    unfold t_X9_hours_L14_b at hf
    refine P.iload_n 3 (pc' := 15) dX9_hours_14 rfl rfl rfl ?_
    refine P.bipush (v := 24) (pc' := 17) dX9_hours_15 rfl (by decide) ?_
    refine P.icmp_ge (tgt := 40) (pc' := 20) dX9_hours_17 (by decide) rfl (fun y1 => ?_) (fun y1 => ?_)
    · have hf := (if_pos y1).symm.trans hf
      refine P.iload_n 2 (pc' := 41) dX9_hours_40 rfl rfl rfl ?_
      cases hf; exact P.iret rfl dX9_hours_41
    · have hf := (if_neg y1).symm.trans hf
      refine P.iload_n 2 (pc' := 21) dX9_hours_20 rfl rfl rfl ?_
      refine P.aload_n 0 (pc' := 22) dX9_hours_21 rfl rfl rfl ?_
      refine P.iload_n 3 (pc' := 23) dX9_hours_22 rfl rfl rfl ?_
      refine P.iconst (v := (-1)) (pc' := 24) dX9_hours_23 rfl (by decide) ?_
      refine P.iconst (v := (-1)) (pc' := 25) dX9_hours_24 rfl (by decide) ?_
      obtain ⟨q2, h3, hf⟩ := ob hf
      refine P.callV (pc' := 28) (As := [.int v3, .int (-1), .int (-1)]) 3 (ok_X9_reachedAt F v3 (-1) (-1) tw μ τ h3) (Nat.le_of_ble_eq_true rfl) (lw_V q1993 q1995 qs124 q172 q1996) rfl yok_X9_reachedAt rfl (Nat.le_of_ble_eq_true rfl) ci9 T_oc (Nat.le_of_ble_eq_true rfl) rfl dX9_hours_25 rfl ?_
      refine P.iload_n 1 (pc' := 29) dX9_hours_28 rfl rfl rfl ?_
      refine P.ishr (pc' := 30) dX9_hours_29 rfl ?_
      refine P.iconst (v := 1) (pc' := 31) dX9_hours_30 rfl (by decide) ?_
      refine P.iand (pc' := 32) dX9_hours_31 rfl ?_
      refine P.iadd (pc' := 33) dX9_hours_32 rfl ?_
      obtain ⟨x4, e5, hf⟩ := nm_i hf
      refine P.nmi e5 ?_
      refine P.istore_n (pc' := 34) (lv' := [(2, .int x4), (0, .ref tw), (1, .int c1), (3, .int v3)]) dX9_hours_33 rfl rfl (Nat.le_of_ble_eq_true rfl) rfl ?_
      obtain ⟨x6, e7, hf⟩ := nm_i hf
      refine P.iinc 3 (pc' := 37) (lv' := [(3, .int x6), (2, .int x4), (0, .ref tw), (1, .int c1)]) dX9_hours_34 rfl rfl (by decide) e7 (Nat.le_of_ble_eq_true rfl) rfl ?_
      refine P.goto (tgt := 14) dX9_hours_37 (by decide) ?_
      exact PW.sub [2, 3, 1, 0] rfl (ih _ _ _ hf)
noncomputable def t_X9_hours (F : Nat) (p1 : Int32) (τ : Tw) : Option (Int32 × Tw) :=
  Option.bind (t_X9_isHouse F p1 τ) fun q1 =>
  if q1 = 0 then
    some ((-1), τ)
  else
    t_X9_hours_L14 F p1 F 0 0 τ
set_option maxHeartbeats 4000000 in
theorem ok_X9_hours {g : Gx} (F : Nat) (p1 : Int32) (tw : Nat) (μ : Sw) (τ : Tw) {rv : Int32} {τF : Tw} (hf : t_X9_hours F p1 τ = some (rv, τF)) : Cl g 5 yX9_hours cX9_hours 4 (some Jvm.ClassFile.FieldType.int) [.ref tw, .int p1] (mT tw τ μ) (some (.int rv)) (mT tw τF μ) := by
  unfold t_X9_hours at hf
  refine Cl.of (own := RX9) (ini := false) (by decide +kernel) rfl (by decide) (Nat.le_of_ble_eq_true rfl) ?_
  show PW g mX9_hours 5 (mT tw τ μ) (mT tw τF μ) (QN g (some (.int rv)) (mT tw τ μ) (mT tw τF μ)) 0 [(0, .ref tw), (1, .int p1)] [] (mT tw τ μ)
  refine P.aload_n 0 (pc' := 1) dX9_hours_0 rfl rfl rfl ?_
  refine P.iload_n 1 (pc' := 2) dX9_hours_1 rfl rfl rfl ?_
  obtain ⟨q1, h2, hf⟩ := ob hf
  refine P.callV (pc' := 5) (As := [.int p1]) 1 (ok_X9_isHouse F p1 tw μ τ h2) (Nat.le_of_ble_eq_true rfl) (lw_V q1920 q1922 qs114 q172 q1923) rfl yok_X9_isHouse rfl (Nat.le_of_ble_eq_true rfl) ci9 T_oc (by decide) rfl dX9_hours_2 rfl ?_
  refine P.if_ne (tgt := 10) (pc' := 8) dX9_hours_5 (by decide) rfl (fun y3 => ?_) (fun y3 => ?_)
  · have hf := (if_neg y3).symm.trans hf
    refine P.iconst (v := 0) (pc' := 11) dX9_hours_10 rfl (by decide) ?_
    refine P.istore_n (pc' := 12) (lv' := [(2, .int 0), (0, .ref tw), (1, .int p1)]) dX9_hours_11 rfl rfl (Nat.le_of_ble_eq_true rfl) rfl ?_
    refine P.iconst (v := 0) (pc' := 13) dX9_hours_12 rfl (by decide) ?_
    refine P.istore_n (pc' := 14) (lv' := [(3, .int 0), (2, .int 0), (0, .ref tw), (1, .int p1)]) dX9_hours_13 rfl rfl (Nat.le_of_ble_eq_true rfl) rfl ?_
    exact PW.sub [2, 3, 1, 0] rfl (ok_t_X9_hours_L14 F tw μ p1 F _ _ _ hf)
  · have hf := (if_pos y3).symm.trans hf
    refine P.iconst (v := (-1)) (pc' := 9) dX9_hours_8 rfl (by decide) ?_
    cases hf; exact P.iret rfl dX9_hours_9
abbrev mX9_meets : Ym := (RX9, cX9_meets, 2, (some Jvm.ClassFile.FieldType.int), false, [])
noncomputable def t_X9_meets (F : Nat) (p1 : Int32) (τ : Tw) : Option Int32 :=
  if p1 < 0 then
    some (-1)
  else
    Option.bind (taI τ 6 420 3) fun x2 =>
    if p1 < x2 then
      Option.bind (t_X9_isMeeting F p1 τ) fun q5 =>
      if q5 = 0 then
        some 0
      else
        some 1
    else
      some (-1)
set_option maxHeartbeats 4000000 in
theorem ok_X9_meets {g : Gx} (F : Nat) (p1 : Int32) (tw : Nat) (μ : Sw) (τ : Tw) {rv : Int32} (hf : t_X9_meets F p1 τ = some rv) : Cl g 3 yX9_meets cX9_meets 2 (some Jvm.ClassFile.FieldType.int) [.ref tw, .int p1] (mT tw τ μ) (some (.int rv)) (mT tw τ μ) := by
  unfold t_X9_meets at hf
  refine Cl.of (own := RX9) (ini := false) (by decide +kernel) rfl (by decide) (Nat.le_of_ble_eq_true rfl) ?_
  show PW g mX9_meets 3 (mT tw τ μ) (mT tw τ μ) (QN g (some (.int rv)) (mT tw τ μ) (mT tw τ μ)) 0 [(0, .ref tw), (1, .int p1)] [] (mT tw τ μ)
  refine P.iload_n 1 (pc' := 1) dX9_meets_0 rfl rfl rfl ?_
  refine P.if_lt (tgt := 14) (pc' := 4) dX9_meets_1 (by decide) rfl (fun y1 => ?_) (fun y1 => ?_)
  · have hf := (if_pos y1).symm.trans hf
    refine P.iconst (v := (-1)) (pc' := 15) dX9_meets_14 rfl (by decide) ?_
    refine P.goto (tgt := 31) dX9_meets_15 (by decide) ?_
    cases hf; exact P.iret rfl dX9_meets_31
  · have hf := (if_neg y1).symm.trans hf
    refine P.iload_n 1 (pc' := 5) dX9_meets_4 rfl rfl rfl ?_
    refine P.aload_n 0 (pc' := 6) dX9_meets_5 rfl rfl rfl ?_
    refine P.get (v := .ref (tw + 6)) (pc' := 9) ci9 12 (by decide) (T_gf rfl) q1567 (Or.inl rfl) dX9_meets_6 rfl ?_
    refine P.iconst (v := 3) (pc' := 10) dX9_meets_9 rfl (by decide) ?_
    obtain ⟨x2, h3, hf⟩ := ob hf
    refine P.iald (t := 0) (pc' := 11) rfl (T_aI rfl h3) dX9_meets_10 rfl ?_
    refine P.icmp_lt (tgt := 18) (pc' := 14) dX9_meets_11 (by decide) rfl (fun y4 => ?_) (fun y4 => ?_)
    · have hf := (if_pos y4).symm.trans hf
      refine P.aload_n 0 (pc' := 19) dX9_meets_18 rfl rfl rfl ?_
      refine P.iload_n 1 (pc' := 20) dX9_meets_19 rfl rfl rfl ?_
      obtain ⟨q5, h6, hf⟩ := ob hf
      refine P.callV (pc' := 23) (As := [.int p1]) 1 (ok_X9_isMeeting F p1 tw μ τ h6) (Nat.le_of_ble_eq_true rfl) (lw_V q1997 q1999 qs125 q172 q2000) rfl yok_X9_isMeeting rfl (Nat.le_of_ble_eq_true rfl) ci9 T_oc (by decide) rfl dX9_meets_20 rfl ?_
      refine P.if_eq (tgt := 30) (pc' := 26) dX9_meets_23 (by decide) rfl (fun y7 => ?_) (fun y7 => ?_)
      · have hf := (if_pos y7).symm.trans hf
        refine P.iconst (v := 0) (pc' := 31) dX9_meets_30 rfl (by decide) ?_
        cases hf; exact P.iret rfl dX9_meets_31
      · have hf := (if_neg y7).symm.trans hf
        refine P.iconst (v := 1) (pc' := 27) dX9_meets_26 rfl (by decide) ?_
        refine P.goto (tgt := 31) dX9_meets_27 (by decide) ?_
        cases hf; exact P.iret rfl dX9_meets_31
    · have hf := (if_neg y4).symm.trans hf
      refine P.iconst (v := (-1)) (pc' := 15) dX9_meets_14 rfl (by decide) ?_
      refine P.goto (tgt := 31) dX9_meets_15 (by decide) ?_
      cases hf; exact P.iret rfl dX9_meets_31
abbrev mX9_manyOf : Ym := (RX9, cX9_manyOf, 2, (some Jvm.ClassFile.FieldType.int), false, [])
noncomputable def t_X9_manyOf (F : Nat) (p1 : Int32) (τ : Tw) : Option Int32 :=
  if p1 = 0 then
    Option.bind (taI τ 6 420 0) fun x2 =>
    some x2
  else
    Option.bind (taI τ 6 420 3) fun x4 =>
    some x4
set_option maxHeartbeats 4000000 in
theorem ok_X9_manyOf {g : Gx} (F : Nat) (p1 : Int32) (tw : Nat) (μ : Sw) (τ : Tw) {rv : Int32} (hf : t_X9_manyOf F p1 τ = some rv) : Cl g 1 yX9_manyOf cX9_manyOf 2 (some Jvm.ClassFile.FieldType.int) [.ref tw, .int p1] (mT tw τ μ) (some (.int rv)) (mT tw τ μ) := by
  unfold t_X9_manyOf at hf
  refine Cl.of (own := RX9) (ini := false) (by decide +kernel) rfl (by decide) (Nat.le_of_ble_eq_true rfl) ?_
  show PW g mX9_manyOf 1 (mT tw τ μ) (mT tw τ μ) (QN g (some (.int rv)) (mT tw τ μ) (mT tw τ μ)) 0 [(0, .ref tw), (1, .int p1)] [] (mT tw τ μ)
  refine P.iload_n 1 (pc' := 1) dX9_manyOf_0 rfl rfl rfl ?_
  refine P.if_eq (tgt := 13) (pc' := 4) dX9_manyOf_1 (by decide) rfl (fun y1 => ?_) (fun y1 => ?_)
  · have hf := (if_pos y1).symm.trans hf
    refine P.aload_n 0 (pc' := 14) dX9_manyOf_13 rfl rfl rfl ?_
    refine P.get (v := .ref (tw + 6)) (pc' := 17) ci9 12 (by decide) (T_gf rfl) q1567 (Or.inl rfl) dX9_manyOf_14 rfl ?_
    refine P.iconst (v := 0) (pc' := 18) dX9_manyOf_17 rfl (by decide) ?_
    obtain ⟨x2, h3, hf⟩ := ob hf
    refine P.iald (t := 0) (pc' := 19) rfl (T_aI rfl h3) dX9_manyOf_18 rfl ?_
    cases hf; exact P.iret rfl dX9_manyOf_19
  · have hf := (if_neg y1).symm.trans hf
    refine P.aload_n 0 (pc' := 5) dX9_manyOf_4 rfl rfl rfl ?_
    refine P.get (v := .ref (tw + 6)) (pc' := 8) ci9 12 (by decide) (T_gf rfl) q1567 (Or.inl rfl) dX9_manyOf_5 rfl ?_
    refine P.iconst (v := 3) (pc' := 9) dX9_manyOf_8 rfl (by decide) ?_
    obtain ⟨x4, h5, hf⟩ := ob hf
    refine P.iald (t := 0) (pc' := 10) rfl (T_aI rfl h5) dX9_manyOf_9 rfl ?_
    refine P.goto (tgt := 19) dX9_manyOf_10 (by decide) ?_
    cases hf; exact P.iret rfl dX9_manyOf_19
theorem yok_X9_bitsOf : yOK yX9_bitsOf 1 := ⟨by decide +kernel, by decide +kernel, by decide +kernel⟩
abbrev mX9_cutOf : Ym := (RX9, cX9_cutOf, 6, (some Jvm.ClassFile.FieldType.int), false, [])
noncomputable def t_X9_cutOf_j29 (F : Nat) (v1 : Int32) (v2 : Int32) (v4 : Int32) (s1 : Int32) (s2 : Int32) (s3 : Int32) (τ : Tw) : Option (Int32 × Tw) :=
  Option.bind (t_X9_reachedAt F s1 s2 s3 τ) fun q1 =>
  if v2 = 0 then
    Option.bind (p_X9_bitsOf F ((v4 &&& (q1.1 ^^^ (-1))) &&& (((1 : Int32) <<< (v1 &&& 31)) ^^^ (-1)))) fun q4 =>
    some (q4, q1.2)
  else
    Option.bind (p_X9_bitsOf F ((v4 &&& (q1.1 ^^^ (-1))) &&& (-1))) fun q6 =>
    some (q6, q1.2)
set_option maxHeartbeats 4000000 in
theorem ok_t_X9_cutOf_j29 {g : Gx} {μ0 : Sw} {rv : Int32} {τF : Tw} (F : Nat) (tw : Nat) (μ : Sw) (v1 : Int32) (v2 : Int32) (v4 : Int32) (s1 : Int32) (s2 : Int32) (s3 : Int32) (τ : Tw) (hf : t_X9_cutOf_j29 F v1 v2 v4 s1 s2 s3 τ = some (rv, τF)) : PW g mX9_cutOf 5 μ0 (mT tw τF μ) (QN g (some (.int rv)) μ0 (mT tw τF μ)) 29 [(1, .int v1), (2, .int v2), (4, .int v4)] [.int s3, .int s2, .int s1, .ref tw] (mT tw τ μ) := by
  unfold t_X9_cutOf_j29 at hf
  obtain ⟨q1, h2, hf⟩ := ob hf
  refine P.callV (pc' := 32) (As := [.int s1, .int s2, .int s3]) 3 (ok_X9_reachedAt F s1 s2 s3 tw μ τ h2) (Nat.le_of_ble_eq_true rfl) (lw_V q1993 q1995 qs124 q172 q1996) rfl yok_X9_reachedAt rfl (Nat.le_of_ble_eq_true rfl) ci9 T_oc (by decide) rfl dX9_cutOf_29 rfl ?_
  refine P.istore (pc' := 34) (lv' := [(5, .int q1.1), (1, .int v1), (2, .int v2), (4, .int v4)]) dX9_cutOf_32 rfl (Nat.le_of_ble_eq_true rfl) rfl ?_
  refine P.iload 3 (pc' := 36) dX9_cutOf_34 rfl rfl ?_
  refine P.iload 0 (pc' := 38) dX9_cutOf_36 rfl rfl ?_
  refine P.iconst (v := (-1)) (pc' := 39) dX9_cutOf_38 rfl (by decide) ?_
  refine P.ixor (pc' := 40) dX9_cutOf_39 rfl ?_
  refine P.iand (pc' := 41) dX9_cutOf_40 rfl ?_
  refine P.iload_n 2 (pc' := 42) dX9_cutOf_41 rfl rfl rfl ?_
  refine P.if_eq (tgt := 49) (pc' := 45) dX9_cutOf_42 (by decide) rfl (fun y3 => ?_) (fun y3 => ?_)
  · have hf := (if_pos y3).symm.trans hf
    refine P.iconst (v := 1) (pc' := 50) dX9_cutOf_49 rfl (by decide) ?_
    refine P.iload_n 1 (pc' := 51) dX9_cutOf_50 rfl rfl rfl ?_
    refine P.ishl (pc' := 52) dX9_cutOf_51 rfl ?_
    refine P.iconst (v := (-1)) (pc' := 53) dX9_cutOf_52 rfl (by decide) ?_
    refine P.ixor (pc' := 54) dX9_cutOf_53 rfl ?_
    refine P.iand (pc' := 55) dX9_cutOf_54 rfl ?_
    obtain ⟨q4, h5, hf⟩ := ob hf
    refine P.callS (pc' := 58) (As := [.int ((v4 &&& (q1.1 ^^^ (-1))) &&& (((1 : Int32) <<< (v1 &&& 31)) ^^^ (-1)))]) 1 (ok_X9_bitsOf F ((v4 &&& (q1.1 ^^^ (-1))) &&& (((1 : Int32) <<< (v1 &&& 31)) ^^^ (-1))) (mT tw q1.2 μ) h5) (Nat.le_of_ble_eq_true rfl) (lw_S q2021 q2022 q172 q2023) yok_X9_bitsOf rfl (Nat.le_of_ble_eq_true rfl) (by decide) rfl dX9_cutOf_55 rfl ?_
    cases hf; exact P.iret rfl dX9_cutOf_58
  · have hf := (if_neg y3).symm.trans hf
    refine P.iconst (v := (-1)) (pc' := 46) dX9_cutOf_45 rfl (by decide) ?_
    refine P.goto (tgt := 54) dX9_cutOf_46 (by decide) ?_
    refine P.iand (pc' := 55) dX9_cutOf_54 rfl ?_
    obtain ⟨q6, h7, hf⟩ := ob hf
    refine P.callS (pc' := 58) (As := [.int ((v4 &&& (q1.1 ^^^ (-1))) &&& (-1))]) 1 (ok_X9_bitsOf F ((v4 &&& (q1.1 ^^^ (-1))) &&& (-1)) (mT tw q1.2 μ) h7) (Nat.le_of_ble_eq_true rfl) (lw_S q2021 q2022 q172 q2023) yok_X9_bitsOf rfl (Nat.le_of_ble_eq_true rfl) (by decide) rfl dX9_cutOf_55 rfl ?_
    cases hf; exact P.iret rfl dX9_cutOf_58
noncomputable def t_X9_cutOf_j20 (F : Nat) (v1 : Int32) (v2 : Int32) (v4 : Int32) (s1 : Int32) (s2 : Int32) (τ : Tw) : Option (Int32 × Tw) :=
  if v2 = 0 then
    t_X9_cutOf_j29 F v1 v2 v4 s1 s2 v1 τ
  else
    t_X9_cutOf_j29 F v1 v2 v4 s1 s2 (-1) τ
set_option maxHeartbeats 4000000 in
theorem ok_t_X9_cutOf_j20 {g : Gx} {μ0 : Sw} {rv : Int32} {τF : Tw} (F : Nat) (tw : Nat) (μ : Sw) (v1 : Int32) (v2 : Int32) (v4 : Int32) (s1 : Int32) (s2 : Int32) (τ : Tw) (hf : t_X9_cutOf_j20 F v1 v2 v4 s1 s2 τ = some (rv, τF)) : PW g mX9_cutOf 5 μ0 (mT tw τF μ) (QN g (some (.int rv)) μ0 (mT tw τF μ)) 20 [(1, .int v1), (2, .int v2), (4, .int v4)] [.int s2, .int s1, .ref tw] (mT tw τ μ) := by
  unfold t_X9_cutOf_j20 at hf
  refine P.iload_n 1 (pc' := 21) dX9_cutOf_20 rfl rfl rfl ?_
  refine P.if_eq (tgt := 28) (pc' := 24) dX9_cutOf_21 (by decide) rfl (fun y1 => ?_) (fun y1 => ?_)
  · have hf := (if_pos y1).symm.trans hf
    refine P.iload_n 0 (pc' := 29) dX9_cutOf_28 rfl rfl rfl ?_
    exact PW.sub [0, 1, 2] rfl (ok_t_X9_cutOf_j29 F tw μ v1 v2 v4 s1 s2 v1 τ hf)
  · have hf := (if_neg y1).symm.trans hf
    refine P.iconst (v := (-1)) (pc' := 25) dX9_cutOf_24 rfl (by decide) ?_
    refine P.goto (tgt := 29) dX9_cutOf_25 (by decide) ?_
    exact PW.sub [0, 1, 2] rfl (ok_t_X9_cutOf_j29 F tw μ v1 v2 v4 s1 s2 (-1) τ hf)
noncomputable def t_X9_cutOf (F : Nat) (p1 : Int32) (p2 : Int32) (p3 : Int32) (τ : Tw) : Option (Int32 × Tw) :=
  Option.bind (t_X9_reachedAt F p3 (-1) (-1) τ) fun q1 =>
  if p2 = 0 then
    t_X9_cutOf_j20 F p1 p2 q1.1 p3 (-1) q1.2
  else
    t_X9_cutOf_j20 F p1 p2 q1.1 p3 p1 q1.2
set_option maxHeartbeats 4000000 in
theorem ok_X9_cutOf {g : Gx} (F : Nat) (p1 : Int32) (p2 : Int32) (p3 : Int32) (tw : Nat) (μ : Sw) (τ : Tw) {rv : Int32} {τF : Tw} (hf : t_X9_cutOf F p1 p2 p3 τ = some (rv, τF)) : Cl g 5 yX9_cutOf cX9_cutOf 6 (some Jvm.ClassFile.FieldType.int) [.ref tw, .int p1, .int p2, .int p3] (mT tw τ μ) (some (.int rv)) (mT tw τF μ) := by
  unfold t_X9_cutOf at hf
  refine Cl.of (own := RX9) (ini := false) (by decide +kernel) rfl (by decide) (Nat.le_of_ble_eq_true rfl) ?_
  show PW g mX9_cutOf 5 (mT tw τ μ) (mT tw τF μ) (QN g (some (.int rv)) (mT tw τ μ) (mT tw τF μ)) 0 [(0, .ref tw), (1, .int p1), (2, .int p2), (3, .int p3)] [] (mT tw τ μ)
  refine P.aload_n 0 (pc' := 1) dX9_cutOf_0 rfl rfl rfl ?_
  refine P.iload_n 3 (pc' := 2) dX9_cutOf_1 rfl rfl rfl ?_
  refine P.iconst (v := (-1)) (pc' := 3) dX9_cutOf_2 rfl (by decide) ?_
  refine P.iconst (v := (-1)) (pc' := 4) dX9_cutOf_3 rfl (by decide) ?_
  obtain ⟨q1, h2, hf⟩ := ob hf
  refine P.callV (pc' := 7) (As := [.int p3, .int (-1), .int (-1)]) 3 (ok_X9_reachedAt F p3 (-1) (-1) tw μ τ h2) (Nat.le_of_ble_eq_true rfl) (lw_V q1993 q1995 qs124 q172 q1996) rfl yok_X9_reachedAt rfl (Nat.le_of_ble_eq_true rfl) ci9 T_oc (by decide) rfl dX9_cutOf_4 rfl ?_
  refine P.istore (pc' := 9) (lv' := [(4, .int q1.1), (0, .ref tw), (1, .int p1), (2, .int p2), (3, .int p3)]) dX9_cutOf_7 rfl (Nat.le_of_ble_eq_true rfl) rfl ?_
  refine P.aload_n 1 (pc' := 10) dX9_cutOf_9 rfl rfl rfl ?_
  refine P.iload_n 4 (pc' := 11) dX9_cutOf_10 rfl rfl rfl ?_
  refine P.iload_n 3 (pc' := 12) dX9_cutOf_11 rfl rfl rfl ?_
  refine P.if_eq (tgt := 19) (pc' := 15) dX9_cutOf_12 (by decide) rfl (fun y3 => ?_) (fun y3 => ?_)
  · have hf := (if_pos y3).symm.trans hf
    refine P.iconst (v := (-1)) (pc' := 20) dX9_cutOf_19 rfl (by decide) ?_
    exact PW.sub [2, 3, 0] rfl (ok_t_X9_cutOf_j20 F tw μ p1 p2 q1.1 p3 (-1) q1.2 hf)
  · have hf := (if_neg y3).symm.trans hf
    refine P.iload_n 2 (pc' := 16) dX9_cutOf_15 rfl rfl rfl ?_
    refine P.goto (tgt := 20) dX9_cutOf_16 (by decide) ?_
    exact PW.sub [2, 3, 0] rfl (ok_t_X9_cutOf_j20 F tw μ p1 p2 q1.1 p3 p1 q1.2 hf)
theorem yok_X9_cutOf : yOK yX9_cutOf 3 := ⟨by decide +kernel, by decide +kernel, by decide +kernel⟩
theorem yok_X9_manyOf : yOK yX9_manyOf 1 := ⟨by decide +kernel, by decide +kernel, by decide +kernel⟩
abbrev mX9_cut : Ym := (RX9, cX9_cut, 4, (some Jvm.ClassFile.FieldType.int), false, [])
noncomputable def t_X9_cut (F : Nat) (p1 : Int32) (p2 : Int32) (p3 : Int32) (τ : Tw) : Option (Int32 × Tw) :=
  if p1 < 0 then
    some ((-1), τ)
  else
    Option.bind (t_X9_manyOf F p2 τ) fun q2 =>
    if q2 ≤ p1 then
      some ((-1), τ)
    else
      Option.bind (p_X9_isHour F p3) fun q5 =>
      if q5 = 0 then
        some ((-1), τ)
      else
        Option.bind (t_X9_cutOf F p1 p2 p3 τ) fun q8 =>
        some (q8.1, q8.2)
set_option maxHeartbeats 4000000 in
theorem ok_X9_cut {g : Gx} (F : Nat) (p1 : Int32) (p2 : Int32) (p3 : Int32) (tw : Nat) (μ : Sw) (τ : Tw) {rv : Int32} {τF : Tw} (hf : t_X9_cut F p1 p2 p3 τ = some (rv, τF)) : Cl g 6 yX9_cut cX9_cut 4 (some Jvm.ClassFile.FieldType.int) [.ref tw, .int p1, .int p2, .int p3] (mT tw τ μ) (some (.int rv)) (mT tw τF μ) := by
  unfold t_X9_cut at hf
  refine Cl.of (own := RX9) (ini := false) (by decide +kernel) rfl (by decide) (Nat.le_of_ble_eq_true rfl) ?_
  show PW g mX9_cut 6 (mT tw τ μ) (mT tw τF μ) (QN g (some (.int rv)) (mT tw τ μ) (mT tw τF μ)) 0 [(0, .ref tw), (1, .int p1), (2, .int p2), (3, .int p3)] [] (mT tw τ μ)
  refine P.iload_n 1 (pc' := 1) dX9_cut_0 rfl rfl rfl ?_
  refine P.if_lt (tgt := 20) (pc' := 4) dX9_cut_1 (by decide) rfl (fun y1 => ?_) (fun y1 => ?_)
  · have hf := (if_pos y1).symm.trans hf
    refine P.iconst (v := (-1)) (pc' := 21) dX9_cut_20 rfl (by decide) ?_
    refine P.goto (tgt := 31) dX9_cut_21 (by decide) ?_
    cases hf; exact P.iret rfl dX9_cut_31
  · have hf := (if_neg y1).symm.trans hf
    refine P.iload_n 1 (pc' := 5) dX9_cut_4 rfl rfl rfl ?_
    refine P.aload_n 0 (pc' := 6) dX9_cut_5 rfl rfl rfl ?_
    refine P.iload_n 2 (pc' := 7) dX9_cut_6 rfl rfl rfl ?_
    obtain ⟨q2, h3, hf⟩ := ob hf
    refine P.callV (pc' := 10) (As := [.int p2]) 1 (ok_X9_manyOf F p2 tw μ τ h3) (Nat.le_of_ble_eq_true rfl) (lw_V q2013 q2015 qs126 q172 q2016) rfl yok_X9_manyOf rfl (Nat.le_of_ble_eq_true rfl) ci9 T_oc (Nat.le_of_ble_eq_true rfl) rfl dX9_cut_7 rfl ?_
    refine P.icmp_ge (tgt := 20) (pc' := 13) dX9_cut_10 (by decide) rfl (fun y4 => ?_) (fun y4 => ?_)
    · have hf := (if_pos y4).symm.trans hf
      refine P.iconst (v := (-1)) (pc' := 21) dX9_cut_20 rfl (by decide) ?_
      refine P.goto (tgt := 31) dX9_cut_21 (by decide) ?_
      cases hf; exact P.iret rfl dX9_cut_31
    · have hf := (if_neg y4).symm.trans hf
      refine P.iload_n 3 (pc' := 14) dX9_cut_13 rfl rfl rfl ?_
      obtain ⟨q5, h6, hf⟩ := ob hf
      refine P.callS (pc' := 17) (As := [.int p3]) 1 (ok_X9_isHour F p3 (mT tw τ μ) h6) (Nat.le_of_ble_eq_true rfl) (lw_S q1978 q1979 q172 q1980) yok_X9_isHour rfl (Nat.le_of_ble_eq_true rfl) (by decide) rfl dX9_cut_14 rfl ?_
      refine P.if_ne (tgt := 24) (pc' := 20) dX9_cut_17 (by decide) rfl (fun y7 => ?_) (fun y7 => ?_)
      · have hf := (if_neg y7).symm.trans hf
        refine P.aload_n 0 (pc' := 25) dX9_cut_24 rfl rfl rfl ?_
        refine P.iload_n 1 (pc' := 26) dX9_cut_25 rfl rfl rfl ?_
        refine P.iload_n 2 (pc' := 27) dX9_cut_26 rfl rfl rfl ?_
        refine P.iload_n 3 (pc' := 28) dX9_cut_27 rfl rfl rfl ?_
        obtain ⟨q8, h9, hf⟩ := ob hf
        refine P.callV (pc' := 31) (As := [.int p1, .int p2, .int p3]) 3 (ok_X9_cutOf F p1 p2 p3 tw μ τ h9) (Nat.le_of_ble_eq_true rfl) (lw_V q2017 q2019 qs127 q172 q2020) rfl yok_X9_cutOf rfl (Nat.le_of_ble_eq_true rfl) ci9 T_oc (by decide) rfl dX9_cut_28 rfl ?_
        cases hf; exact P.iret rfl dX9_cut_31
      · have hf := (if_pos y7).symm.trans hf
        refine P.iconst (v := (-1)) (pc' := 21) dX9_cut_20 rfl (by decide) ?_
        refine P.goto (tgt := 31) dX9_cut_21 (by decide) ?_
        cases hf; exact P.iret rfl dX9_cut_31
abbrev mX9_worst : Ym := (RX9, cX9_worst, 7, (some Jvm.ClassFile.FieldType.int), false, [])
noncomputable def t_X9_worst_L18_b (F : Nat) (c1 : Int32) (c2 : Int32) (self : Int32 → Int32 → Int32 → Tw → Option (Int32 × Tw)) (v3 : Int32) (v4 : Int32) (v5 : Int32) (τ : Tw) : Option (Int32 × Tw) :=
  Option.bind (t_X9_manyOf F c1 τ) fun q1 =>
  if q1 ≤ v5 then
    some (v3, τ)
  else
    Option.bind (t_X9_cutOf F v5 c1 c2 τ) fun q4 =>
    if v3 < 0 then
      nm (v5 + 1) fun x7 =>
      self v5 q4.1 x7 q4.2
    else
      if v4 < q4.1 then
        nm (v5 + 1) fun x10 =>
        self v5 q4.1 x10 q4.2
      else
        nm (v5 + 1) fun x12 =>
        self v3 v4 x12 q4.2
noncomputable def t_X9_worst_L18 (F : Nat) (c1 : Int32) (c2 : Int32) (n : Nat) : Int32 → Int32 → Int32 → Tw → Option (Int32 × Tw) := Nat.rec (motive := fun _ => Int32 → Int32 → Int32 → Tw → Option (Int32 × Tw)) (fun _ _ _ _ => none) (fun _ self => t_X9_worst_L18_b F c1 c2 self) n
set_option maxHeartbeats 4000000 in
theorem ok_t_X9_worst_L18 {g : Gx} {μ0 : Sw} {rv : Int32} {τF : Tw} (F : Nat) (tw : Nat) (μ : Sw) (c1 : Int32) (c2 : Int32) : ∀ (n : Nat) (v3 : Int32) (v4 : Int32) (v5 : Int32) (τ : Tw), t_X9_worst_L18 F c1 c2 n v3 v4 v5 τ = some (rv, τF) → PW g mX9_worst 6 μ0 (mT tw τF μ) (QN g (some (.int rv)) μ0 (mT tw τF μ)) 18 [(0, .ref tw), (1, .int c1), (2, .int c2), (3, .int v3), (4, .int v4), (5, .int v5)] [] (mT tw τ μ) := by
  intro n
  induction n with
  | zero =>
    intro v3 v4 v5 τ hf
    have hf : (none : Option (Int32 × Tw)) = some _ := hf
    cases hf
  | succ n ih =>
    intro v3 v4 v5 τ hf
    have hf : t_X9_worst_L18_b F c1 c2 (t_X9_worst_L18 F c1 c2 n) v3 v4 v5 τ = some (rv, τF) := hf
    unfold t_X9_worst_L18_b at hf
    refine P.iload 5 (pc' := 20) dX9_worst_18 rfl rfl ?_
    refine P.aload_n 0 (pc' := 21) dX9_worst_20 rfl rfl rfl ?_
    refine P.iload_n 1 (pc' := 22) dX9_worst_21 rfl rfl rfl ?_
    obtain ⟨q1, h2, hf⟩ := ob hf
    refine P.callV (pc' := 25) (As := [.int c1]) 1 (ok_X9_manyOf F c1 tw μ τ h2) (Nat.le_of_ble_eq_true rfl) (lw_V q2013 q2015 qs126 q172 q2016) rfl yok_X9_manyOf rfl (Nat.le_of_ble_eq_true rfl) ci9 T_oc (Nat.le_of_ble_eq_true rfl) rfl dX9_worst_22 rfl ?_
    refine P.icmp_ge (tgt := 65) (pc' := 28) dX9_worst_25 (by decide) rfl (fun y3 => ?_) (fun y3 => ?_)
    · have hf := (if_pos y3).symm.trans hf
      refine P.iload_n 3 (pc' := 66) dX9_worst_65 rfl rfl rfl ?_
      cases hf; exact P.iret rfl dX9_worst_66
    · have hf := (if_neg y3).symm.trans hf
      refine P.aload_n 0 (pc' := 29) dX9_worst_28 rfl rfl rfl ?_
      refine P.iload 5 (pc' := 31) dX9_worst_29 rfl rfl ?_
      refine P.iload_n 1 (pc' := 32) dX9_worst_31 rfl rfl rfl ?_
      refine P.iload_n 2 (pc' := 33) dX9_worst_32 rfl rfl rfl ?_
      obtain ⟨q4, h5, hf⟩ := ob hf
      refine P.callV (pc' := 36) (As := [.int v5, .int c1, .int c2]) 3 (ok_X9_cutOf F v5 c1 c2 tw μ τ h5) (Nat.le_of_ble_eq_true rfl) (lw_V q2017 q2019 qs127 q172 q2020) rfl yok_X9_cutOf rfl (Nat.le_of_ble_eq_true rfl) ci9 T_oc (by decide) rfl dX9_worst_33 rfl ?_
      refine P.istore (pc' := 38) (lv' := [(6, .int q4.1), (0, .ref tw), (1, .int c1), (2, .int c2), (3, .int v3), (4, .int v4), (5, .int v5)]) dX9_worst_36 rfl (Nat.le_of_ble_eq_true rfl) rfl ?_
      refine P.iload_n 4 (pc' := 39) dX9_worst_38 rfl rfl rfl ?_
      refine P.if_lt (tgt := 52) (pc' := 42) dX9_worst_39 (by decide) rfl (fun y6 => ?_) (fun y6 => ?_)
      · have hf := (if_pos y6).symm.trans hf
        refine P.iload 6 (pc' := 54) dX9_worst_52 rfl rfl ?_
        refine P.istore_n (pc' := 55) (lv' := [(3, .int v5), (6, .int q4.1), (0, .ref tw), (1, .int c1), (2, .int c2), (4, .int v4), (5, .int v5)]) dX9_worst_54 rfl rfl (Nat.le_of_ble_eq_true rfl) rfl ?_
        refine P.iload 1 (pc' := 57) dX9_worst_55 rfl rfl ?_
        refine P.istore (pc' := 59) (lv' := [(4, .int q4.1), (3, .int v5), (6, .int q4.1), (0, .ref tw), (1, .int c1), (2, .int c2), (5, .int v5)]) dX9_worst_57 rfl (Nat.le_of_ble_eq_true rfl) rfl ?_
        obtain ⟨x7, e8, hf⟩ := nm_i hf
        refine P.iinc 6 (pc' := 62) (lv' := [(5, .int x7), (4, .int q4.1), (3, .int v5), (6, .int q4.1), (0, .ref tw), (1, .int c1), (2, .int c2)]) dX9_worst_59 rfl rfl (by decide) e8 (Nat.le_of_ble_eq_true rfl) rfl ?_
        refine P.goto (tgt := 18) dX9_worst_62 (by decide) ?_
        exact PW.sub [4, 5, 6, 2, 1, 0] rfl (ih _ _ _ _ hf)
      · have hf := (if_neg y6).symm.trans hf
        refine P.iload 0 (pc' := 44) dX9_worst_42 rfl rfl ?_
        refine P.iload 5 (pc' := 46) dX9_worst_44 rfl rfl ?_
        refine P.icmp_gt (tgt := 52) (pc' := 49) dX9_worst_46 (by decide) rfl (fun y9 => ?_) (fun y9 => ?_)
        · have hf := (if_pos y9).symm.trans hf
          refine P.iload 6 (pc' := 54) dX9_worst_52 rfl rfl ?_
          refine P.istore_n (pc' := 55) (lv' := [(3, .int v5), (6, .int q4.1), (0, .ref tw), (1, .int c1), (2, .int c2), (4, .int v4), (5, .int v5)]) dX9_worst_54 rfl rfl (Nat.le_of_ble_eq_true rfl) rfl ?_
          refine P.iload 1 (pc' := 57) dX9_worst_55 rfl rfl ?_
          refine P.istore (pc' := 59) (lv' := [(4, .int q4.1), (3, .int v5), (6, .int q4.1), (0, .ref tw), (1, .int c1), (2, .int c2), (5, .int v5)]) dX9_worst_57 rfl (Nat.le_of_ble_eq_true rfl) rfl ?_
          obtain ⟨x10, e11, hf⟩ := nm_i hf
          refine P.iinc 6 (pc' := 62) (lv' := [(5, .int x10), (4, .int q4.1), (3, .int v5), (6, .int q4.1), (0, .ref tw), (1, .int c1), (2, .int c2)]) dX9_worst_59 rfl rfl (by decide) e11 (Nat.le_of_ble_eq_true rfl) rfl ?_
          refine P.goto (tgt := 18) dX9_worst_62 (by decide) ?_
          exact PW.sub [4, 5, 6, 2, 1, 0] rfl (ih _ _ _ _ hf)
        · have hf := (if_neg y9).symm.trans hf
          refine P.goto (tgt := 59) dX9_worst_49 (by decide) ?_
          obtain ⟨x12, e13, hf⟩ := nm_i hf
          refine P.iinc 6 (pc' := 62) (lv' := [(5, .int x12), (6, .int q4.1), (0, .ref tw), (1, .int c1), (2, .int c2), (3, .int v3), (4, .int v4)]) dX9_worst_59 rfl rfl (by decide) e13 (Nat.le_of_ble_eq_true rfl) rfl ?_
          refine P.goto (tgt := 18) dX9_worst_62 (by decide) ?_
          exact PW.sub [2, 3, 4, 5, 6, 0] rfl (ih _ _ _ _ hf)
noncomputable def t_X9_worst (F : Nat) (p1 : Int32) (p2 : Int32) (τ : Tw) : Option (Int32 × Tw) :=
  Option.bind (p_X9_isHour F p2) fun q1 =>
  if q1 = 0 then
    some ((-1), τ)
  else
    t_X9_worst_L18 F p1 p2 F (-2) 0 0 τ
set_option maxHeartbeats 4000000 in
theorem ok_X9_worst {g : Gx} (F : Nat) (p1 : Int32) (p2 : Int32) (tw : Nat) (μ : Sw) (τ : Tw) {rv : Int32} {τF : Tw} (hf : t_X9_worst F p1 p2 τ = some (rv, τF)) : Cl g 6 yX9_worst cX9_worst 7 (some Jvm.ClassFile.FieldType.int) [.ref tw, .int p1, .int p2] (mT tw τ μ) (some (.int rv)) (mT tw τF μ) := by
  unfold t_X9_worst at hf
  refine Cl.of (own := RX9) (ini := false) (by decide +kernel) rfl (by decide) (Nat.le_of_ble_eq_true rfl) ?_
  show PW g mX9_worst 6 (mT tw τ μ) (mT tw τF μ) (QN g (some (.int rv)) (mT tw τ μ) (mT tw τF μ)) 0 [(0, .ref tw), (1, .int p1), (2, .int p2)] [] (mT tw τ μ)
  refine P.iload_n 2 (pc' := 1) dX9_worst_0 rfl rfl rfl ?_
  obtain ⟨q1, h2, hf⟩ := ob hf
  refine P.callS (pc' := 4) (As := [.int p2]) 1 (ok_X9_isHour F p2 (mT tw τ μ) h2) (Nat.le_of_ble_eq_true rfl) (lw_S q1978 q1979 q172 q1980) yok_X9_isHour rfl (Nat.le_of_ble_eq_true rfl) (by decide) rfl dX9_worst_1 rfl ?_
  refine P.if_ne (tgt := 9) (pc' := 7) dX9_worst_4 (by decide) rfl (fun y3 => ?_) (fun y3 => ?_)
  · have hf := (if_neg y3).symm.trans hf
    refine P.bipush (v := (-2)) (pc' := 11) dX9_worst_9 rfl (by decide) ?_
    refine P.istore_n (pc' := 12) (lv' := [(3, .int (-2)), (0, .ref tw), (1, .int p1), (2, .int p2)]) dX9_worst_11 rfl rfl (Nat.le_of_ble_eq_true rfl) rfl ?_
    refine P.iconst (v := 0) (pc' := 13) dX9_worst_12 rfl (by decide) ?_
    refine P.istore (pc' := 15) (lv' := [(4, .int 0), (3, .int (-2)), (0, .ref tw), (1, .int p1), (2, .int p2)]) dX9_worst_13 rfl (Nat.le_of_ble_eq_true rfl) rfl ?_
    refine P.iconst (v := 0) (pc' := 16) dX9_worst_15 rfl (by decide) ?_
    refine P.istore (pc' := 18) (lv' := [(5, .int 0), (4, .int 0), (3, .int (-2)), (0, .ref tw), (1, .int p1), (2, .int p2)]) dX9_worst_16 rfl (Nat.le_of_ble_eq_true rfl) rfl ?_
    exact PW.sub [3, 4, 5, 2, 1, 0] rfl (ok_t_X9_worst_L18 F tw μ p1 p2 F _ _ _ _ hf)
  · have hf := (if_pos y3).symm.trans hf
    refine P.iconst (v := (-1)) (pc' := 8) dX9_worst_7 rfl (by decide) ?_
    cases hf; exact P.iret rfl dX9_worst_8
abbrev mX9_look : Ym := (RX9, cX9_look, 3, none, false, [])
noncomputable def t_X9_look (F : Nat) (p1 : Int32) (p2 : Int32) (τ : Tw) : Option Tw :=
  Option.bind (t_X9_askNone F τ) fun q1 =>
  Option.bind (t_X9_heightOf F p1 q1) fun q3 =>
  Option.bind (tsA q1 23 0 9 0 q3) fun τ6 =>
  Option.bind (t_X9_rankOf F p1 τ6) fun q7 =>
  Option.bind (tsA τ6 23 0 9 1 q7) fun τ10 =>
  Option.bind (taI τ10 6 420 ((20 + (3 * p1)) + 2)) fun x11 =>
  Option.bind (tsA τ10 23 0 9 2 x11) fun τ14 =>
  Option.bind (t_X9_xOf F p1 τ14) fun q15 =>
  Option.bind (tsA τ14 23 0 9 3 q15) fun τ18 =>
  Option.bind (taI τ18 7 1260 0) fun x19 =>
  Option.bind (tsA τ18 23 0 9 5 x19) fun τ22 =>
  Option.bind (tsA τ22 23 0 9 6 p2) fun τ24 =>
  some τ24
set_option maxHeartbeats 4000000 in
theorem ok_X9_look {g : Gx} (F : Nat) (p1 : Int32) (p2 : Int32) (tw : Nat) (μ : Sw) (τ : Tw) {τF : Tw} (hf : t_X9_look F p1 p2 τ = some τF) : Cl g 2 yX9_look cX9_look 3 none [.ref tw, .int p1, .int p2] (mT tw τ μ) none (mT tw τF μ) := by
  unfold t_X9_look at hf
  refine Cl.of (own := RX9) (ini := false) (by decide +kernel) rfl (by decide) (Nat.le_of_ble_eq_true rfl) ?_
  show PW g mX9_look 2 (mT tw τ μ) (mT tw τF μ) (QN g none (mT tw τ μ) (mT tw τF μ)) 0 [(0, .ref tw), (1, .int p1), (2, .int p2)] [] (mT tw τ μ)
  refine P.aload_n 0 (pc' := 1) dX9_look_0 rfl rfl rfl ?_
  obtain ⟨q1, h2, hf⟩ := ob hf
  refine P.callV (pc' := 4) (As := []) 0 (ok_X9_askNone F tw μ τ h2) (Nat.le_of_ble_eq_true rfl) (lw_V q1940 q1942 qs119 q172 q1943) rfl yok_X9_askNone rfl (Nat.le_of_ble_eq_true rfl) ci9 T_oc (by decide) rfl dX9_look_1 rfl ?_
  refine P.aload_n 0 (pc' := 5) dX9_look_4 rfl rfl rfl ?_
  refine P.get (v := .ref (tw + 23)) (pc' := 8) ci9 34 (by decide) (T_gf rfl) q1589 (Or.inl rfl) dX9_look_5 rfl ?_
  refine P.iconst (v := 0) (pc' := 9) dX9_look_8 rfl (by decide) ?_
  refine P.aload_n 0 (pc' := 10) dX9_look_9 rfl rfl rfl ?_
  refine P.iload_n 1 (pc' := 11) dX9_look_10 rfl rfl rfl ?_
  obtain ⟨q3, h4, hf⟩ := ob hf
  refine P.callV (pc' := 14) (As := [.int p1]) 1 (ok_X9_heightOf F p1 tw μ q1 h4) (Nat.le_of_ble_eq_true rfl) (lw_V q1928 q1930 qs116 q172 q1931) rfl yok_X9_heightOf rfl (Nat.le_of_ble_eq_true rfl) ci9 T_oc (Nat.le_of_ble_eq_true rfl) rfl dX9_look_11 rfl ?_
  obtain ⟨τ6, h5, hf⟩ := ob hf
  refine P.iast (pc' := 15) (T_sA rfl (by decide) h5) dX9_look_14 rfl ?_
  refine P.aload_n 0 (pc' := 16) dX9_look_15 rfl rfl rfl ?_
  refine P.get (v := .ref (tw + 23)) (pc' := 19) ci9 34 (by decide) (T_gf rfl) q1589 (Or.inl rfl) dX9_look_16 rfl ?_
  refine P.iconst (v := 1) (pc' := 20) dX9_look_19 rfl (by decide) ?_
  refine P.aload_n 0 (pc' := 21) dX9_look_20 rfl rfl rfl ?_
  refine P.iload_n 1 (pc' := 22) dX9_look_21 rfl rfl rfl ?_
  obtain ⟨q7, h8, hf⟩ := ob hf
  refine P.callV (pc' := 25) (As := [.int p1]) 1 (ok_X9_rankOf F p1 tw μ τ6 h8) (Nat.le_of_ble_eq_true rfl) (lw_V q1932 q1934 qs117 q172 q1935) rfl yok_X9_rankOf rfl (Nat.le_of_ble_eq_true rfl) ci9 T_oc (Nat.le_of_ble_eq_true rfl) rfl dX9_look_22 rfl ?_
  obtain ⟨τ10, h9, hf⟩ := ob hf
  refine P.iast (pc' := 26) (T_sA rfl (by decide) h9) dX9_look_25 rfl ?_
  refine P.aload_n 0 (pc' := 27) dX9_look_26 rfl rfl rfl ?_
  refine P.get (v := .ref (tw + 23)) (pc' := 30) ci9 34 (by decide) (T_gf rfl) q1589 (Or.inl rfl) dX9_look_27 rfl ?_
  refine P.iconst (v := 2) (pc' := 31) dX9_look_30 rfl (by decide) ?_
  refine P.aload_n 0 (pc' := 32) dX9_look_31 rfl rfl rfl ?_
  refine P.get (v := .ref (tw + 6)) (pc' := 35) ci9 12 (by decide) (T_gf rfl) q1567 (Or.inl rfl) dX9_look_32 rfl ?_
  refine P.bipush (v := 20) (pc' := 37) dX9_look_35 rfl (by decide) ?_
  refine P.iconst (v := 3) (pc' := 38) dX9_look_37 rfl (by decide) ?_
  refine P.iload_n 1 (pc' := 39) dX9_look_38 rfl rfl rfl ?_
  refine P.imul (pc' := 40) dX9_look_39 rfl ?_
  refine P.iadd (pc' := 41) dX9_look_40 rfl ?_
  refine P.iconst (v := 2) (pc' := 42) dX9_look_41 rfl (by decide) ?_
  refine P.iadd (pc' := 43) dX9_look_42 rfl ?_
  obtain ⟨x11, h12, hf⟩ := ob hf
  refine P.iald (t := 0) (pc' := 44) rfl (T_aI rfl h12) dX9_look_43 rfl ?_
  obtain ⟨τ14, h13, hf⟩ := ob hf
  refine P.iast (pc' := 45) (T_sA rfl (by decide) h13) dX9_look_44 rfl ?_
  refine P.aload_n 0 (pc' := 46) dX9_look_45 rfl rfl rfl ?_
  refine P.get (v := .ref (tw + 23)) (pc' := 49) ci9 34 (by decide) (T_gf rfl) q1589 (Or.inl rfl) dX9_look_46 rfl ?_
  refine P.iconst (v := 3) (pc' := 50) dX9_look_49 rfl (by decide) ?_
  refine P.aload_n 0 (pc' := 51) dX9_look_50 rfl rfl rfl ?_
  refine P.iload_n 1 (pc' := 52) dX9_look_51 rfl rfl rfl ?_
  obtain ⟨q15, h16, hf⟩ := ob hf
  refine P.callV (pc' := 55) (As := [.int p1]) 1 (ok_X9_xOf F p1 tw μ τ14 h16) (Nat.le_of_ble_eq_true rfl) (lw_V q1924 q1926 qs115 q172 q1927) rfl yok_X9_xOf rfl (Nat.le_of_ble_eq_true rfl) ci9 T_oc (Nat.le_of_ble_eq_true rfl) rfl dX9_look_52 rfl ?_
  obtain ⟨τ18, h17, hf⟩ := ob hf
  refine P.iast (pc' := 56) (T_sA rfl (by decide) h17) dX9_look_55 rfl ?_
  refine P.aload_n 0 (pc' := 57) dX9_look_56 rfl rfl rfl ?_
  refine P.get (v := .ref (tw + 23)) (pc' := 60) ci9 34 (by decide) (T_gf rfl) q1589 (Or.inl rfl) dX9_look_57 rfl ?_
  refine P.iconst (v := 5) (pc' := 61) dX9_look_60 rfl (by decide) ?_
  refine P.aload_n 0 (pc' := 62) dX9_look_61 rfl rfl rfl ?_
  refine P.get (v := .ref (tw + 7)) (pc' := 65) ci9 13 (by decide) (T_gf rfl) q1568 (Or.inl rfl) dX9_look_62 rfl ?_
  refine P.iconst (v := 0) (pc' := 66) dX9_look_65 rfl (by decide) ?_
  obtain ⟨x19, h20, hf⟩ := ob hf
  refine P.iald (t := 0) (pc' := 67) rfl (T_aI rfl h20) dX9_look_66 rfl ?_
  obtain ⟨τ22, h21, hf⟩ := ob hf
  refine P.iast (pc' := 68) (T_sA rfl (by decide) h21) dX9_look_67 rfl ?_
  refine P.aload_n 0 (pc' := 69) dX9_look_68 rfl rfl rfl ?_
  refine P.get (v := .ref (tw + 23)) (pc' := 72) ci9 34 (by decide) (T_gf rfl) q1589 (Or.inl rfl) dX9_look_69 rfl ?_
  refine P.bipush (v := 6) (pc' := 74) dX9_look_72 rfl (by decide) ?_
  refine P.iload_n 2 (pc' := 75) dX9_look_74 rfl rfl rfl ?_
  obtain ⟨τ24, h23, hf⟩ := ob hf
  refine P.iast (pc' := 76) (T_sA rfl (by decide) h23) dX9_look_75 rfl ?_
  cases hf; exact P.vret rfl dX9_look_76
theorem yok_X9_look : yOK yX9_look 2 := ⟨by decide +kernel, by decide +kernel, by decide +kernel⟩
abbrev mX9_swayOf : Ym := (RX9, cX9_swayOf, 3, (some Jvm.ClassFile.FieldType.int), false, [])
noncomputable def t_X9_swayOf (F : Nat) (p1 : Int32) (p2 : Int32) (τ : Tw) : Option (Int32 × Tw) :=
  Option.bind (t_X9_look F p1 p2 τ) fun q1 =>
  Option.bind (t_X9_says F 2 0 q1) fun q3 =>
  some (q3.1, q3.2)
set_option maxHeartbeats 4000000 in
theorem ok_X9_swayOf {g : Gx} (F : Nat) (p1 : Int32) (p2 : Int32) (tw : Nat) (μ : Sw) (τ : Tw) {rv : Int32} {τF : Tw} (hf : t_X9_swayOf F p1 p2 τ = some (rv, τF)) : Cl g 3 yX9_swayOf cX9_swayOf 3 (some Jvm.ClassFile.FieldType.int) [.ref tw, .int p1, .int p2] (mT tw τ μ) (some (.int rv)) (mT tw τF μ) := by
  unfold t_X9_swayOf at hf
  refine Cl.of (own := RX9) (ini := false) (by decide +kernel) rfl (by decide) (Nat.le_of_ble_eq_true rfl) ?_
  show PW g mX9_swayOf 3 (mT tw τ μ) (mT tw τF μ) (QN g (some (.int rv)) (mT tw τ μ) (mT tw τF μ)) 0 [(0, .ref tw), (1, .int p1), (2, .int p2)] [] (mT tw τ μ)
  refine P.aload_n 0 (pc' := 1) dX9_swayOf_0 rfl rfl rfl ?_
  refine P.iload_n 1 (pc' := 2) dX9_swayOf_1 rfl rfl rfl ?_
  refine P.iload_n 2 (pc' := 3) dX9_swayOf_2 rfl rfl rfl ?_
  obtain ⟨q1, h2, hf⟩ := ob hf
  refine P.callV (pc' := 6) (As := [.int p1, .int p2]) 2 (ok_X9_look F p1 p2 tw μ τ h2) (Nat.le_of_ble_eq_true rfl) (lw_V q2048 q2050 qs132 q172 q2051) rfl yok_X9_look rfl (Nat.le_of_ble_eq_true rfl) ci9 T_oc (by decide) rfl dX9_swayOf_3 rfl ?_
  refine P.aload_n 0 (pc' := 7) dX9_swayOf_6 rfl rfl rfl ?_
  refine P.iconst (v := 2) (pc' := 8) dX9_swayOf_7 rfl (by decide) ?_
  refine P.iconst (v := 0) (pc' := 9) dX9_swayOf_8 rfl (by decide) ?_
  obtain ⟨q3, h4, hf⟩ := ob hf
  refine P.callV (pc' := 12) (As := [.int 2, .int 0]) 2 (ok_X9_says F 2 0 tw μ q1 h4) (Nat.le_of_ble_eq_true rfl) (lw_V q1944 q1946 qs120 q172 q1947) rfl yok_X9_says rfl (Nat.le_of_ble_eq_true rfl) ci9 T_oc (by decide) rfl dX9_swayOf_9 rfl ?_
  cases hf; exact P.iret rfl dX9_swayOf_12
abbrev mX9_isLit : Ym := (RX9, cX9_isLit, 5, (some Jvm.ClassFile.FieldType.boolean), false, [])
noncomputable def t_X9_isLit_j147 (F : Nat) (v1 : Int32) (s0 : Int32) (τ : Tw) : Option (Int32 × Tw) :=
  Option.bind (taI τ 12 400 v1) fun x1 =>
  if s0 = x1 then
    some (0, τ)
  else
    some (1, τ)
set_option maxHeartbeats 4000000 in
theorem ok_t_X9_isLit_j147 {g : Gx} {μ0 : Sw} {rv : Int32} {τF : Tw} (F : Nat) (tw : Nat) (μ : Sw) (v1 : Int32) (s0 : Int32) (τ : Tw) (hf : t_X9_isLit_j147 F v1 s0 τ = some (rv, τF)) : PW g mX9_isLit 2 μ0 (mT tw τF μ) (QN g (some (.int rv)) μ0 (mT tw τF μ)) 147 [(0, .ref tw), (1, .int v1)] [.int s0] (mT tw τ μ) := by
  unfold t_X9_isLit_j147 at hf
  refine P.istore (pc' := 149) (lv' := [(4, .int s0), (0, .ref tw), (1, .int v1)]) dX9_isLit_147 rfl (Nat.le_of_ble_eq_true rfl) rfl ?_
  refine P.iload 0 (pc' := 151) dX9_isLit_149 rfl rfl ?_
  refine P.aload_n 1 (pc' := 152) dX9_isLit_151 rfl rfl rfl ?_
  refine P.get (v := .ref (tw + 12)) (pc' := 155) ci9 18 (by decide) (T_gf rfl) q1573 (Or.inl rfl) dX9_isLit_152 rfl ?_
  refine P.iload_n 2 (pc' := 156) dX9_isLit_155 rfl rfl rfl ?_
  obtain ⟨x1, h2, hf⟩ := ob hf
  refine P.zald (t := 4) (pc' := 157) rfl (T_aI rfl h2) dX9_isLit_156 rfl ?_
  refine P.icmp_eq (tgt := 164) (pc' := 160) dX9_isLit_157 (by decide) rfl (fun y3 => ?_) (fun y3 => ?_)
  · have hf := (if_pos y3).symm.trans hf
    refine P.iconst (v := 0) (pc' := 165) dX9_isLit_164 rfl (by decide) ?_
    cases hf; exact P.zret rfl (Or.inl rfl) dX9_isLit_165
  · have hf := (if_neg y3).symm.trans hf
    refine P.iconst (v := 1) (pc' := 161) dX9_isLit_160 rfl (by decide) ?_
    refine P.goto (tgt := 165) dX9_isLit_161 (by decide) ?_
    cases hf; exact P.zret rfl (Or.inr rfl) dX9_isLit_165
noncomputable def t_X9_isLit (F : Nat) (p1 : Int32) (τ : Tw) : Option (Int32 × Tw) :=
  Option.bind (taI τ 14 400 p1) fun x1 =>
  Option.bind (taI τ 15 400 p1) fun x3 =>
  Option.bind (t_X9_sum F x1 x3 τ) fun q5 =>
  if (q5.2.1 35) = 0 then
    Option.bind (taI q5.2 15 400 p1) fun x8 =>
    Option.bind (taI q5.2 16 400 p1) fun x10 =>
    Option.bind (t_X9_sum F x8 x10 q5.2) fun q12 =>
    if (q12.2.1 35) = 0 then
      Option.bind (taI q12.2 13 400 p1) fun x15 =>
      if x15 = 300 then
        if q5.1 = q12.1 then
          t_X9_isLit_j147 F p1 1 q12.2
        else
          t_X9_isLit_j147 F p1 0 q12.2
      else
        Option.bind (taI q12.2 13 400 p1) fun x18 =>
        if x18 = 301 then
          if q5.1 = q12.1 then
            t_X9_isLit_j147 F p1 0 q12.2
          else
            t_X9_isLit_j147 F p1 1 q12.2
        else
          Option.bind (taI q12.2 13 400 p1) fun x21 =>
          if x21 = 302 then
            if q12.1 < q5.1 then
              t_X9_isLit_j147 F p1 0 q12.2
            else
              t_X9_isLit_j147 F p1 1 q12.2
          else
            if q12.1 ≤ q5.1 then
              t_X9_isLit_j147 F p1 0 q12.2
            else
              t_X9_isLit_j147 F p1 1 q12.2
    else
      Option.bind (taI q12.2 12 400 p1) fun x28 =>
      if x28 = 0 ∨ x28 = 1 then
        some (x28, q12.2)
      else
        none
  else
    Option.bind (taI q5.2 12 400 p1) fun x31 =>
    if x31 = 0 ∨ x31 = 1 then
      some (x31, q5.2)
    else
      none
set_option maxHeartbeats 4000000 in
theorem ok_X9_isLit {g : Gx} (F : Nat) (p1 : Int32) (tw : Nat) (μ : Sw) (τ : Tw) {rv : Int32} {τF : Tw} (hf : t_X9_isLit F p1 τ = some (rv, τF)) : Cl g 2 yX9_isLit cX9_isLit 5 (some Jvm.ClassFile.FieldType.boolean) [.ref tw, .int p1] (mT tw τ μ) (some (.int rv)) (mT tw τF μ) := by
  unfold t_X9_isLit at hf
  refine Cl.of (own := RX9) (ini := false) (by decide +kernel) rfl (by decide) (Nat.le_of_ble_eq_true rfl) ?_
  show PW g mX9_isLit 2 (mT tw τ μ) (mT tw τF μ) (QN g (some (.int rv)) (mT tw τ μ) (mT tw τF μ)) 0 [(0, .ref tw), (1, .int p1)] [] (mT tw τ μ)
  refine P.aload_n 0 (pc' := 1) dX9_isLit_0 rfl rfl rfl ?_
  refine P.aload_n 0 (pc' := 2) dX9_isLit_1 rfl rfl rfl ?_
  refine P.get (v := .ref (tw + 14)) (pc' := 5) ci9 20 (by decide) (T_gf rfl) q1575 (Or.inl rfl) dX9_isLit_2 rfl ?_
  refine P.iload_n 1 (pc' := 6) dX9_isLit_5 rfl rfl rfl ?_
  obtain ⟨x1, h2, hf⟩ := ob hf
  refine P.iald (t := 0) (pc' := 7) rfl (T_aI rfl h2) dX9_isLit_6 rfl ?_
  refine P.aload_n 0 (pc' := 8) dX9_isLit_7 rfl rfl rfl ?_
  refine P.get (v := .ref (tw + 15)) (pc' := 11) ci9 21 (by decide) (T_gf rfl) q1576 (Or.inl rfl) dX9_isLit_8 rfl ?_
  refine P.iload_n 1 (pc' := 12) dX9_isLit_11 rfl rfl rfl ?_
  obtain ⟨x3, h4, hf⟩ := ob hf
  refine P.iald (t := 0) (pc' := 13) rfl (T_aI rfl h4) dX9_isLit_12 rfl ?_
  obtain ⟨q5, h6, hf⟩ := ob hf
  refine P.callV (pc' := 16) (As := [.int x1, .int x3]) 2 (ok_X9_sum F x1 x3 tw μ τ h6) (Nat.le_of_ble_eq_true rfl) (lw_V q1948 q1950 qs121 q172 q1951) rfl yok_X9_sum rfl (Nat.le_of_ble_eq_true rfl) ci9 T_oc (by decide) rfl dX9_isLit_13 rfl ?_
  refine P.istore_n (pc' := 17) (lv' := [(2, .int q5.1), (0, .ref tw), (1, .int p1)]) dX9_isLit_16 rfl rfl (Nat.le_of_ble_eq_true rfl) rfl ?_
  refine P.aload_n 1 (pc' := 18) dX9_isLit_17 rfl rfl rfl ?_
  refine P.get (v := .int (q5.2.1 35)) (pc' := 21) ci9 35 (by decide) (T_gf rfl) q1590 (Or.inl rfl) dX9_isLit_18 rfl ?_
  refine P.if_eq (tgt := 31) (pc' := 24) dX9_isLit_21 (by decide) rfl (fun y7 => ?_) (fun y7 => ?_)
  · have hf := (if_pos y7).symm.trans hf
    refine P.aload_n 1 (pc' := 32) dX9_isLit_31 rfl rfl rfl ?_
    refine P.aload_n 1 (pc' := 33) dX9_isLit_32 rfl rfl rfl ?_
    refine P.get (v := .ref (tw + 15)) (pc' := 36) ci9 21 (by decide) (T_gf rfl) q1576 (Or.inl rfl) dX9_isLit_33 rfl ?_
    refine P.iload_n 2 (pc' := 37) dX9_isLit_36 rfl rfl rfl ?_
    obtain ⟨x8, h9, hf⟩ := ob hf
    refine P.iald (t := 0) (pc' := 38) rfl (T_aI rfl h9) dX9_isLit_37 rfl ?_
    refine P.aload_n 1 (pc' := 39) dX9_isLit_38 rfl rfl rfl ?_
    refine P.get (v := .ref (tw + 16)) (pc' := 42) ci9 22 (by decide) (T_gf rfl) q1577 (Or.inl rfl) dX9_isLit_39 rfl ?_
    refine P.iload_n 2 (pc' := 43) dX9_isLit_42 rfl rfl rfl ?_
    obtain ⟨x10, h11, hf⟩ := ob hf
    refine P.iald (t := 0) (pc' := 44) rfl (T_aI rfl h11) dX9_isLit_43 rfl ?_
    obtain ⟨q12, h13, hf⟩ := ob hf
    refine P.callV (pc' := 47) (As := [.int x8, .int x10]) 2 (ok_X9_sum F x8 x10 tw μ q5.2 h13) (Nat.le_of_ble_eq_true rfl) (lw_V q1948 q1950 qs121 q172 q1951) rfl yok_X9_sum rfl (Nat.le_of_ble_eq_true rfl) ci9 T_oc (by decide) rfl dX9_isLit_44 rfl ?_
    refine P.istore_n (pc' := 48) (lv' := [(3, .int q12.1), (2, .int q5.1), (0, .ref tw), (1, .int p1)]) dX9_isLit_47 rfl rfl (Nat.le_of_ble_eq_true rfl) rfl ?_
    refine P.aload_n 2 (pc' := 49) dX9_isLit_48 rfl rfl rfl ?_
    refine P.get (v := .int (q12.2.1 35)) (pc' := 52) ci9 35 (by decide) (T_gf rfl) q1590 (Or.inl rfl) dX9_isLit_49 rfl ?_
    refine P.if_eq (tgt := 62) (pc' := 55) dX9_isLit_52 (by decide) rfl (fun y14 => ?_) (fun y14 => ?_)
    · have hf := (if_pos y14).symm.trans hf
      refine P.aload_n 2 (pc' := 63) dX9_isLit_62 rfl rfl rfl ?_
      refine P.get (v := .ref (tw + 13)) (pc' := 66) ci9 19 (by decide) (T_gf rfl) q1574 (Or.inl rfl) dX9_isLit_63 rfl ?_
      refine P.iload_n 3 (pc' := 67) dX9_isLit_66 rfl rfl rfl ?_
      obtain ⟨x15, h16, hf⟩ := ob hf
      refine P.iald (t := 0) (pc' := 68) rfl (T_aI rfl h16) dX9_isLit_67 rfl ?_
      refine P.sipush (v := 300) (pc' := 71) dX9_isLit_68 rfl (by decide) ?_
      refine P.icmp_ne (tgt := 87) (pc' := 74) dX9_isLit_71 (by decide) rfl (fun y17 => ?_) (fun y17 => ?_)
      · have hf := (if_neg y17).symm.trans hf
        refine P.aload_n 2 (pc' := 88) dX9_isLit_87 rfl rfl rfl ?_
        refine P.get (v := .ref (tw + 13)) (pc' := 91) ci9 19 (by decide) (T_gf rfl) q1574 (Or.inl rfl) dX9_isLit_88 rfl ?_
        refine P.iload_n 3 (pc' := 92) dX9_isLit_91 rfl rfl rfl ?_
        obtain ⟨x18, h19, hf⟩ := ob hf
        refine P.iald (t := 0) (pc' := 93) rfl (T_aI rfl h19) dX9_isLit_92 rfl ?_
        refine P.sipush (v := 301) (pc' := 96) dX9_isLit_93 rfl (by decide) ?_
        refine P.icmp_ne (tgt := 112) (pc' := 99) dX9_isLit_96 (by decide) rfl (fun y20 => ?_) (fun y20 => ?_)
        · have hf := (if_neg y20).symm.trans hf
          refine P.aload_n 2 (pc' := 113) dX9_isLit_112 rfl rfl rfl ?_
          refine P.get (v := .ref (tw + 13)) (pc' := 116) ci9 19 (by decide) (T_gf rfl) q1574 (Or.inl rfl) dX9_isLit_113 rfl ?_
          refine P.iload_n 3 (pc' := 117) dX9_isLit_116 rfl rfl rfl ?_
          obtain ⟨x21, h22, hf⟩ := ob hf
          refine P.iald (t := 0) (pc' := 118) rfl (T_aI rfl h22) dX9_isLit_117 rfl ?_
          refine P.sipush (v := 302) (pc' := 121) dX9_isLit_118 rfl (by decide) ?_
          refine P.icmp_ne (tgt := 137) (pc' := 124) dX9_isLit_121 (by decide) rfl (fun y23 => ?_) (fun y23 => ?_)
          · have hf := (if_neg y23).symm.trans hf
            refine P.iload_n 1 (pc' := 138) dX9_isLit_137 rfl rfl rfl ?_
            refine P.iload_n 0 (pc' := 139) dX9_isLit_138 rfl rfl rfl ?_
            refine P.icmp_ge (tgt := 146) (pc' := 142) dX9_isLit_139 (by decide) rfl (fun y24 => ?_) (fun y24 => ?_)
            · have hf := (if_pos y24).symm.trans hf
              refine P.iconst (v := 0) (pc' := 147) dX9_isLit_146 rfl (by decide) ?_
              exact PW.sub [2, 3] rfl (ok_t_X9_isLit_j147 F tw μ p1 0 q12.2 hf)
            · have hf := (if_neg y24).symm.trans hf
              refine P.iconst (v := 1) (pc' := 143) dX9_isLit_142 rfl (by decide) ?_
              refine P.goto (tgt := 147) dX9_isLit_143 (by decide) ?_
              exact PW.sub [2, 3] rfl (ok_t_X9_isLit_j147 F tw μ p1 1 q12.2 hf)
          · have hf := (if_pos y23).symm.trans hf
            refine P.iload_n 1 (pc' := 125) dX9_isLit_124 rfl rfl rfl ?_
            refine P.iload_n 0 (pc' := 126) dX9_isLit_125 rfl rfl rfl ?_
            refine P.icmp_gt (tgt := 133) (pc' := 129) dX9_isLit_126 (by decide) rfl (fun y25 => ?_) (fun y25 => ?_)
            · have hf := (if_pos y25).symm.trans hf
              refine P.iconst (v := 0) (pc' := 134) dX9_isLit_133 rfl (by decide) ?_
              refine P.goto (tgt := 147) dX9_isLit_134 (by decide) ?_
              exact PW.sub [2, 3] rfl (ok_t_X9_isLit_j147 F tw μ p1 0 q12.2 hf)
            · have hf := (if_neg y25).symm.trans hf
              refine P.iconst (v := 1) (pc' := 130) dX9_isLit_129 rfl (by decide) ?_
              refine P.goto (tgt := 147) dX9_isLit_130 (by decide) ?_
              exact PW.sub [2, 3] rfl (ok_t_X9_isLit_j147 F tw μ p1 1 q12.2 hf)
        · have hf := (if_pos y20).symm.trans hf
          refine P.iload_n 1 (pc' := 100) dX9_isLit_99 rfl rfl rfl ?_
          refine P.iload_n 0 (pc' := 101) dX9_isLit_100 rfl rfl rfl ?_
          refine P.icmp_eq (tgt := 108) (pc' := 104) dX9_isLit_101 (by decide) rfl (fun y26 => ?_) (fun y26 => ?_)
          · have hf := (if_pos y26).symm.trans hf
            refine P.iconst (v := 0) (pc' := 109) dX9_isLit_108 rfl (by decide) ?_
            refine P.goto (tgt := 147) dX9_isLit_109 (by decide) ?_
            exact PW.sub [2, 3] rfl (ok_t_X9_isLit_j147 F tw μ p1 0 q12.2 hf)
          · have hf := (if_neg y26).symm.trans hf
            refine P.iconst (v := 1) (pc' := 105) dX9_isLit_104 rfl (by decide) ?_
            refine P.goto (tgt := 147) dX9_isLit_105 (by decide) ?_
            exact PW.sub [2, 3] rfl (ok_t_X9_isLit_j147 F tw μ p1 1 q12.2 hf)
      · have hf := (if_pos y17).symm.trans hf
        refine P.iload_n 1 (pc' := 75) dX9_isLit_74 rfl rfl rfl ?_
        refine P.iload_n 0 (pc' := 76) dX9_isLit_75 rfl rfl rfl ?_
        refine P.icmp_ne (tgt := 83) (pc' := 79) dX9_isLit_76 (by decide) rfl (fun y27 => ?_) (fun y27 => ?_)
        · have hf := (if_neg y27).symm.trans hf
          refine P.iconst (v := 0) (pc' := 84) dX9_isLit_83 rfl (by decide) ?_
          refine P.goto (tgt := 147) dX9_isLit_84 (by decide) ?_
          exact PW.sub [2, 3] rfl (ok_t_X9_isLit_j147 F tw μ p1 0 q12.2 hf)
        · have hf := (if_pos y27).symm.trans hf
          refine P.iconst (v := 1) (pc' := 80) dX9_isLit_79 rfl (by decide) ?_
          refine P.goto (tgt := 147) dX9_isLit_80 (by decide) ?_
          exact PW.sub [2, 3] rfl (ok_t_X9_isLit_j147 F tw μ p1 1 q12.2 hf)
    · have hf := (if_neg y14).symm.trans hf
      refine P.aload_n 2 (pc' := 56) dX9_isLit_55 rfl rfl rfl ?_
      refine P.get (v := .ref (tw + 12)) (pc' := 59) ci9 18 (by decide) (T_gf rfl) q1573 (Or.inl rfl) dX9_isLit_56 rfl ?_
      refine P.iload_n 3 (pc' := 60) dX9_isLit_59 rfl rfl rfl ?_
      obtain ⟨x28, h29, hf⟩ := ob hf
      refine P.zald (t := 4) (pc' := 61) rfl (T_aI rfl h29) dX9_isLit_60 rfl ?_
      by_cases y30 : x28 = 0 ∨ x28 = 1
      · have hf := (if_pos y30).symm.trans hf
        cases hf; exact P.zret rfl y30 dX9_isLit_61
      · have hf := (if_neg y30).symm.trans hf
        cases hf
  · have hf := (if_neg y7).symm.trans hf
    refine P.aload_n 1 (pc' := 25) dX9_isLit_24 rfl rfl rfl ?_
    refine P.get (v := .ref (tw + 12)) (pc' := 28) ci9 18 (by decide) (T_gf rfl) q1573 (Or.inl rfl) dX9_isLit_25 rfl ?_
    refine P.iload_n 2 (pc' := 29) dX9_isLit_28 rfl rfl rfl ?_
    obtain ⟨x31, h32, hf⟩ := ob hf
    refine P.zald (t := 4) (pc' := 30) rfl (T_aI rfl h32) dX9_isLit_29 rfl ?_
    by_cases y33 : x31 = 0 ∨ x31 = 1
    · have hf := (if_pos y33).symm.trans hf
      cases hf; exact P.zret rfl y33 dX9_isLit_30
    · have hf := (if_neg y33).symm.trans hf
      cases hf
theorem yok_X9_isLit : yOK yX9_isLit 1 := ⟨by decide +kernel, by decide +kernel, by decide +kernel⟩
abbrev mX9_isHeld : Ym := (RX9, cX9_isHeld, 6, (some Jvm.ClassFile.FieldType.boolean), false, [])
noncomputable def t_X9_isHeld_L18_b (F : Nat) (k52 : Int32 → Int32 → Tw → Option (Int32 × Tw)) (c2 : Int32) (c4 : Int32) (self : Int32 → Int32 → Tw → Option (Int32 × Tw)) (v3 : Int32) (v5 : Int32) (τ : Tw) : Option (Int32 × Tw) :=
  if c2 ≤ v3 then
    k52 v3 v5 τ
  else
    Option.bind (taI τ 17 400 v3) fun x2 =>
    if x2 = c4 then
      if v5 = 0 then
        nm (v3 + 1) fun x6 =>
        self x6 v5 τ
      else
        Option.bind (t_X9_isLit F v3 τ) fun q8 =>
        nm (v3 + 1) fun x10 =>
        self x10 q8.1 q8.2
    else
      k52 v3 v5 τ
noncomputable def t_X9_isHeld_L18 (F : Nat) (k52 : Int32 → Int32 → Tw → Option (Int32 × Tw)) (c2 : Int32) (c4 : Int32) (n : Nat) : Int32 → Int32 → Tw → Option (Int32 × Tw) := Nat.rec (motive := fun _ => Int32 → Int32 → Tw → Option (Int32 × Tw)) (fun _ _ _ => none) (fun _ self => t_X9_isHeld_L18_b F k52 c2 c4 self) n
set_option maxHeartbeats 4000000 in
theorem ok_t_X9_isHeld_L18 {g : Gx} {μ0 : Sw} {rv : Int32} {τF : Tw} (F : Nat) (tw : Nat) (μ : Sw) (c2 : Int32) (c4 : Int32) (k52 : Int32 → Int32 → Tw → Option (Int32 × Tw)) (hk52 : ∀ (w3 : Int32) (w5 : Int32) (τ : Tw), k52 w3 w5 τ = some (rv, τF) → PW g mX9_isHeld 3 μ0 (mT tw τF μ) (QN g (some (.int rv)) μ0 (mT tw τF μ)) 52 [(0, .ref tw), (2, .int c2), (3, .int w3), (5, .int w5)] [] (mT tw τ μ)) : ∀ (n : Nat) (v3 : Int32) (v5 : Int32) (τ : Tw), t_X9_isHeld_L18 F k52 c2 c4 n v3 v5 τ = some (rv, τF) → PW g mX9_isHeld 3 μ0 (mT tw τF μ) (QN g (some (.int rv)) μ0 (mT tw τF μ)) 18 [(0, .ref tw), (2, .int c2), (3, .int v3), (4, .int c4), (5, .int v5)] [] (mT tw τ μ) := by
  intro n
  induction n with
  | zero =>
    intro v3 v5 τ hf
    have hf : (none : Option (Int32 × Tw)) = some _ := hf
    cases hf
  | succ n ih =>
    intro v3 v5 τ hf
    have hf : t_X9_isHeld_L18_b F k52 c2 c4 (t_X9_isHeld_L18 F k52 c2 c4 n) v3 v5 τ = some (rv, τF) := hf
    unfold t_X9_isHeld_L18_b at hf
    refine P.iload_n 2 (pc' := 19) dX9_isHeld_18 rfl rfl rfl ?_
    refine P.iload_n 1 (pc' := 20) dX9_isHeld_19 rfl rfl rfl ?_
    refine P.icmp_ge (tgt := 52) (pc' := 23) dX9_isHeld_20 (by decide) rfl (fun y1 => ?_) (fun y1 => ?_)
    · have hf := (if_pos y1).symm.trans hf
      exact PW.sub [0, 1, 2, 4] rfl (hk52 _ _ _ hf)
    · have hf := (if_neg y1).symm.trans hf
      refine P.aload_n 0 (pc' := 24) dX9_isHeld_23 rfl rfl rfl ?_
      refine P.get (v := .ref (tw + 17)) (pc' := 27) ci9 23 (by decide) (T_gf rfl) q1578 (Or.inl rfl) dX9_isHeld_24 rfl ?_
      refine P.iload_n 2 (pc' := 28) dX9_isHeld_27 rfl rfl rfl ?_
      obtain ⟨x2, h3, hf⟩ := ob hf
      refine P.iald (t := 0) (pc' := 29) rfl (T_aI rfl h3) dX9_isHeld_28 rfl ?_
      refine P.iload 3 (pc' := 31) dX9_isHeld_29 rfl rfl ?_
      refine P.icmp_ne (tgt := 52) (pc' := 34) dX9_isHeld_31 (by decide) rfl (fun y4 => ?_) (fun y4 => ?_)
      · have hf := (if_neg y4).symm.trans hf
        exact PW.sub [0, 1, 2, 4] rfl (hk52 _ _ _ hf)
      · have hf := (if_pos y4).symm.trans hf
        refine P.iload 4 (pc' := 36) dX9_isHeld_34 rfl rfl ?_
        refine P.if_eq (tgt := 46) (pc' := 39) dX9_isHeld_36 (by decide) rfl (fun y5 => ?_) (fun y5 => ?_)
        · have hf := (if_pos y5).symm.trans hf
          obtain ⟨x6, e7, hf⟩ := nm_i hf
          refine P.iinc 2 (pc' := 49) (lv' := [(3, .int x6), (0, .ref tw), (2, .int c2), (4, .int c4), (5, .int v5)]) dX9_isHeld_46 rfl rfl (by decide) e7 (Nat.le_of_ble_eq_true rfl) rfl ?_
          refine P.goto (tgt := 18) dX9_isHeld_49 (by decide) ?_
          exact PW.sub [1, 2, 0, 3, 4] rfl (ih _ _ _ hf)
        · have hf := (if_neg y5).symm.trans hf
          refine P.aload_n 0 (pc' := 40) dX9_isHeld_39 rfl rfl rfl ?_
          refine P.iload_n 2 (pc' := 41) dX9_isHeld_40 rfl rfl rfl ?_
          obtain ⟨q8, h9, hf⟩ := ob hf
          refine P.callV (pc' := 44) (As := [.int v3]) 1 (ok_X9_isLit F v3 tw μ τ h9) (Nat.le_of_ble_eq_true rfl) (lw_V q2060 q2062 qs135 q172 q2063) rfl yok_X9_isLit rfl (Nat.le_of_ble_eq_true rfl) ci9 T_oc (by decide) rfl dX9_isHeld_41 rfl ?_
          refine P.istore (pc' := 46) (lv' := [(5, .int q8.1), (0, .ref tw), (2, .int c2), (3, .int v3), (4, .int c4)]) dX9_isHeld_44 rfl (Nat.le_of_ble_eq_true rfl) rfl ?_
          obtain ⟨x10, e11, hf⟩ := nm_i hf
          refine P.iinc 3 (pc' := 49) (lv' := [(3, .int x10), (5, .int q8.1), (0, .ref tw), (2, .int c2), (4, .int c4)]) dX9_isHeld_46 rfl rfl (by decide) e11 (Nat.le_of_ble_eq_true rfl) rfl ?_
          refine P.goto (tgt := 18) dX9_isHeld_49 (by decide) ?_
          exact PW.sub [2, 3, 0, 4, 1] rfl (ih _ _ _ hf)
noncomputable def t_X9_isHeld_L2_b (F : Nat) (c2 : Int32) (self : Int32 → Tw → Option (Int32 × Tw)) (v3 : Int32) (τ : Tw) : Option (Int32 × Tw) :=
  if c2 ≤ v3 then
    some (0, τ)
  else
    Option.bind (taI τ 17 400 v3) fun x2 =>
    t_X9_isHeld_L18 F
      (fun w4 w5 τ6 =>
        if w5 = 0 then
          self w4 τ6
        else
          some (1, τ6))
      c2 x2 F v3 1 τ
noncomputable def t_X9_isHeld_L2 (F : Nat) (c2 : Int32) (n : Nat) : Int32 → Tw → Option (Int32 × Tw) := Nat.rec (motive := fun _ => Int32 → Tw → Option (Int32 × Tw)) (fun _ _ => none) (fun _ self => t_X9_isHeld_L2_b F c2 self) n
set_option maxHeartbeats 4000000 in
theorem ok_t_X9_isHeld_L2 {g : Gx} {μ0 : Sw} {rv : Int32} {τF : Tw} (F : Nat) (tw : Nat) (μ : Sw) (c2 : Int32) : ∀ (n : Nat) (v3 : Int32) (τ : Tw), t_X9_isHeld_L2 F c2 n v3 τ = some (rv, τF) → PW g mX9_isHeld 3 μ0 (mT tw τF μ) (QN g (some (.int rv)) μ0 (mT tw τF μ)) 2 [(0, .ref tw), (2, .int c2), (3, .int v3)] [] (mT tw τ μ) := by
  intro n
  induction n with
  | zero =>
    intro v3 τ hf
    have hf : (none : Option (Int32 × Tw)) = some _ := hf
    cases hf
  | succ n ih =>
    intro v3 τ hf
    have hf : t_X9_isHeld_L2_b F c2 (t_X9_isHeld_L2 F c2 n) v3 τ = some (rv, τF) := hf
    unfold t_X9_isHeld_L2_b at hf
    refine P.iload_n 2 (pc' := 3) dX9_isHeld_2 rfl rfl rfl ?_
    refine P.iload_n 1 (pc' := 4) dX9_isHeld_3 rfl rfl rfl ?_
    refine P.icmp_ge (tgt := 62) (pc' := 7) dX9_isHeld_4 (by decide) rfl (fun y1 => ?_) (fun y1 => ?_)
    · have hf := (if_pos y1).symm.trans hf
      refine P.iconst (v := 0) (pc' := 63) dX9_isHeld_62 rfl (by decide) ?_
      cases hf; exact P.zret rfl (Or.inl rfl) dX9_isHeld_63
    · have hf := (if_neg y1).symm.trans hf
      refine P.aload_n 0 (pc' := 8) dX9_isHeld_7 rfl rfl rfl ?_
      refine P.get (v := .ref (tw + 17)) (pc' := 11) ci9 23 (by decide) (T_gf rfl) q1578 (Or.inl rfl) dX9_isHeld_8 rfl ?_
      refine P.iload_n 2 (pc' := 12) dX9_isHeld_11 rfl rfl rfl ?_
      obtain ⟨x2, h3, hf⟩ := ob hf
      refine P.iald (t := 0) (pc' := 13) rfl (T_aI rfl h3) dX9_isHeld_12 rfl ?_
      refine P.istore (pc' := 15) (lv' := [(4, .int x2), (0, .ref tw), (2, .int c2), (3, .int v3)]) dX9_isHeld_13 rfl (Nat.le_of_ble_eq_true rfl) rfl ?_
      refine P.iconst (v := 1) (pc' := 16) dX9_isHeld_15 rfl (by decide) ?_
      refine P.istore (pc' := 18) (lv' := [(5, .int 1), (4, .int x2), (0, .ref tw), (2, .int c2), (3, .int v3)]) dX9_isHeld_16 rfl (Nat.le_of_ble_eq_true rfl) rfl ?_
      refine PW.sub [2, 3, 4, 1, 0] rfl (ok_t_X9_isHeld_L18 F tw μ c2 x2 _ ?_ F _ _ _ hf)
      · intro w4 w5 τ6 hf
        refine P.iload 3 (pc' := 54) dX9_isHeld_52 rfl rfl ?_
        refine P.if_eq (tgt := 59) (pc' := 57) dX9_isHeld_54 (by decide) rfl (fun y7 => ?_) (fun y7 => ?_)
        · have hf := (if_pos y7).symm.trans hf
          refine P.goto (tgt := 2) dX9_isHeld_59 (by decide) ?_
          exact PW.sub [0, 1, 2] rfl (ih _ _ hf)
        · have hf := (if_neg y7).symm.trans hf
          refine P.iconst (v := 1) (pc' := 58) dX9_isHeld_57 rfl (by decide) ?_
          cases hf; exact P.zret rfl (Or.inr rfl) dX9_isHeld_58
noncomputable def t_X9_isHeld (F : Nat) (p1 : Int32) (p2 : Int32) (τ : Tw) : Option (Int32 × Tw) :=
  t_X9_isHeld_L2 F p2 F p1 τ
set_option maxHeartbeats 4000000 in
theorem ok_X9_isHeld {g : Gx} (F : Nat) (p1 : Int32) (p2 : Int32) (tw : Nat) (μ : Sw) (τ : Tw) {rv : Int32} {τF : Tw} (hf : t_X9_isHeld F p1 p2 τ = some (rv, τF)) : Cl g 3 yX9_isHeld cX9_isHeld 6 (some Jvm.ClassFile.FieldType.boolean) [.ref tw, .int p1, .int p2] (mT tw τ μ) (some (.int rv)) (mT tw τF μ) := by
  unfold t_X9_isHeld at hf
  refine Cl.of (own := RX9) (ini := false) (by decide +kernel) rfl (by decide) (Nat.le_of_ble_eq_true rfl) ?_
  show PW g mX9_isHeld 3 (mT tw τ μ) (mT tw τF μ) (QN g (some (.int rv)) (mT tw τ μ) (mT tw τF μ)) 0 [(0, .ref tw), (1, .int p1), (2, .int p2)] [] (mT tw τ μ)
  refine P.iload_n 1 (pc' := 1) dX9_isHeld_0 rfl rfl rfl ?_
  refine P.istore_n (pc' := 2) (lv' := [(3, .int p1), (0, .ref tw), (1, .int p1), (2, .int p2)]) dX9_isHeld_1 rfl rfl (Nat.le_of_ble_eq_true rfl) rfl ?_
  exact PW.sub [1, 3, 0] rfl (ok_t_X9_isHeld_L2 F tw μ p2 F _ _ hf)
theorem yok_X9_isHeld : yOK yX9_isHeld 2 := ⟨by decide +kernel, by decide +kernel, by decide +kernel⟩
abbrev mX9_isRule : Ym := (RX9, cX9_isRule, 4, (some Jvm.ClassFile.FieldType.boolean), false, [])
noncomputable def t_X9_isRule_L2_b (F : Nat) (c1 : Int32) (c2 : Int32) (self : Int32 → Tw → Option (Int32 × Tw)) (v3 : Int32) (τ : Tw) : Option (Int32 × Tw) :=
  Option.bind (taI τ 6 420 c1) fun x1 =>
  if x1 ≤ v3 then
    some (0, τ)
  else
    Option.bind (taI τ 6 420 (c2 + (2 * v3))) fun x4 =>
    Option.bind (taI τ 6 420 ((c2 + (2 * v3)) + 1)) fun x6 =>
    Option.bind (t_X9_isHeld F x4 x6 τ) fun q8 =>
    if q8.1 = 0 then
      nm (v3 + 1) fun x11 =>
      self x11 q8.2
    else
      some (1, q8.2)
noncomputable def t_X9_isRule_L2 (F : Nat) (c1 : Int32) (c2 : Int32) (n : Nat) : Int32 → Tw → Option (Int32 × Tw) := Nat.rec (motive := fun _ => Int32 → Tw → Option (Int32 × Tw)) (fun _ _ => none) (fun _ self => t_X9_isRule_L2_b F c1 c2 self) n
set_option maxHeartbeats 4000000 in
theorem ok_t_X9_isRule_L2 {g : Gx} {μ0 : Sw} {rv : Int32} {τF : Tw} (F : Nat) (tw : Nat) (μ : Sw) (c1 : Int32) (c2 : Int32) : ∀ (n : Nat) (v3 : Int32) (τ : Tw), t_X9_isRule_L2 F c1 c2 n v3 τ = some (rv, τF) → PW g mX9_isRule 4 μ0 (mT tw τF μ) (QN g (some (.int rv)) μ0 (mT tw τF μ)) 2 [(0, .ref tw), (1, .int c1), (2, .int c2), (3, .int v3)] [] (mT tw τ μ) := by
  intro n
  induction n with
  | zero =>
    intro v3 τ hf
    have hf : (none : Option (Int32 × Tw)) = some _ := hf
    cases hf
  | succ n ih =>
    intro v3 τ hf
    have hf : t_X9_isRule_L2_b F c1 c2 (t_X9_isRule_L2 F c1 c2 n) v3 τ = some (rv, τF) := hf
    unfold t_X9_isRule_L2_b at hf
    refine P.iload_n 3 (pc' := 3) dX9_isRule_2 rfl rfl rfl ?_
    refine P.aload_n 0 (pc' := 4) dX9_isRule_3 rfl rfl rfl ?_
    refine P.get (v := .ref (tw + 6)) (pc' := 7) ci9 12 (by decide) (T_gf rfl) q1567 (Or.inl rfl) dX9_isRule_4 rfl ?_
    refine P.iload_n 1 (pc' := 8) dX9_isRule_7 rfl rfl rfl ?_
    obtain ⟨x1, h2, hf⟩ := ob hf
    refine P.iald (t := 0) (pc' := 9) rfl (T_aI rfl h2) dX9_isRule_8 rfl ?_
    refine P.icmp_ge (tgt := 49) (pc' := 12) dX9_isRule_9 (by decide) rfl (fun y3 => ?_) (fun y3 => ?_)
    · have hf := (if_pos y3).symm.trans hf
      refine P.iconst (v := 0) (pc' := 50) dX9_isRule_49 rfl (by decide) ?_
      cases hf; exact P.zret rfl (Or.inl rfl) dX9_isRule_50
    · have hf := (if_neg y3).symm.trans hf
      refine P.aload_n 0 (pc' := 13) dX9_isRule_12 rfl rfl rfl ?_
      refine P.aload_n 0 (pc' := 14) dX9_isRule_13 rfl rfl rfl ?_
      refine P.get (v := .ref (tw + 6)) (pc' := 17) ci9 12 (by decide) (T_gf rfl) q1567 (Or.inl rfl) dX9_isRule_14 rfl ?_
      refine P.iload_n 2 (pc' := 18) dX9_isRule_17 rfl rfl rfl ?_
      refine P.iconst (v := 2) (pc' := 19) dX9_isRule_18 rfl (by decide) ?_
      refine P.iload_n 3 (pc' := 20) dX9_isRule_19 rfl rfl rfl ?_
      refine P.imul (pc' := 21) dX9_isRule_20 rfl ?_
      refine P.iadd (pc' := 22) dX9_isRule_21 rfl ?_
      obtain ⟨x4, h5, hf⟩ := ob hf
      refine P.iald (t := 0) (pc' := 23) rfl (T_aI rfl h5) dX9_isRule_22 rfl ?_
      refine P.aload_n 0 (pc' := 24) dX9_isRule_23 rfl rfl rfl ?_
      refine P.get (v := .ref (tw + 6)) (pc' := 27) ci9 12 (by decide) (T_gf rfl) q1567 (Or.inl rfl) dX9_isRule_24 rfl ?_
      refine P.iload_n 2 (pc' := 28) dX9_isRule_27 rfl rfl rfl ?_
      refine P.iconst (v := 2) (pc' := 29) dX9_isRule_28 rfl (by decide) ?_
      refine P.iload_n 3 (pc' := 30) dX9_isRule_29 rfl rfl rfl ?_
      refine P.imul (pc' := 31) dX9_isRule_30 rfl ?_
      refine P.iadd (pc' := 32) dX9_isRule_31 rfl ?_
      refine P.iconst (v := 1) (pc' := 33) dX9_isRule_32 rfl (by decide) ?_
      refine P.iadd (pc' := 34) dX9_isRule_33 rfl ?_
      obtain ⟨x6, h7, hf⟩ := ob hf
      refine P.iald (t := 0) (pc' := 35) rfl (T_aI rfl h7) dX9_isRule_34 rfl ?_
      obtain ⟨q8, h9, hf⟩ := ob hf
      refine P.callV (pc' := 38) (As := [.int x4, .int x6]) 2 (ok_X9_isHeld F x4 x6 tw μ τ h9) (Nat.le_of_ble_eq_true rfl) (lw_V q2056 q2058 qs134 q172 q2059) rfl yok_X9_isHeld rfl (Nat.le_of_ble_eq_true rfl) ci9 T_oc (by decide) rfl dX9_isRule_35 rfl ?_
      refine P.if_eq (tgt := 43) (pc' := 41) dX9_isRule_38 (by decide) rfl (fun y10 => ?_) (fun y10 => ?_)
      · have hf := (if_pos y10).symm.trans hf
        obtain ⟨x11, e12, hf⟩ := nm_i hf
        refine P.iinc 3 (pc' := 46) (lv' := [(3, .int x11), (0, .ref tw), (1, .int c1), (2, .int c2)]) dX9_isRule_43 rfl rfl (by decide) e12 (Nat.le_of_ble_eq_true rfl) rfl ?_
        refine P.goto (tgt := 2) dX9_isRule_46 (by decide) ?_
        exact PW.sub [1, 2, 3, 0] rfl (ih _ _ hf)
      · have hf := (if_neg y10).symm.trans hf
        refine P.iconst (v := 1) (pc' := 42) dX9_isRule_41 rfl (by decide) ?_
        cases hf; exact P.zret rfl (Or.inr rfl) dX9_isRule_42
noncomputable def t_X9_isRule (F : Nat) (p1 : Int32) (p2 : Int32) (τ : Tw) : Option (Int32 × Tw) :=
  t_X9_isRule_L2 F p1 p2 F 0 τ
set_option maxHeartbeats 4000000 in
theorem ok_X9_isRule {g : Gx} (F : Nat) (p1 : Int32) (p2 : Int32) (tw : Nat) (μ : Sw) (τ : Tw) {rv : Int32} {τF : Tw} (hf : t_X9_isRule F p1 p2 τ = some (rv, τF)) : Cl g 4 yX9_isRule cX9_isRule 4 (some Jvm.ClassFile.FieldType.boolean) [.ref tw, .int p1, .int p2] (mT tw τ μ) (some (.int rv)) (mT tw τF μ) := by
  unfold t_X9_isRule at hf
  refine Cl.of (own := RX9) (ini := false) (by decide +kernel) rfl (by decide) (Nat.le_of_ble_eq_true rfl) ?_
  show PW g mX9_isRule 4 (mT tw τ μ) (mT tw τF μ) (QN g (some (.int rv)) (mT tw τ μ) (mT tw τF μ)) 0 [(0, .ref tw), (1, .int p1), (2, .int p2)] [] (mT tw τ μ)
  refine P.iconst (v := 0) (pc' := 1) dX9_isRule_0 rfl (by decide) ?_
  refine P.istore_n (pc' := 2) (lv' := [(3, .int 0), (0, .ref tw), (1, .int p1), (2, .int p2)]) dX9_isRule_1 rfl rfl (Nat.le_of_ble_eq_true rfl) rfl ?_
  exact PW.sub [1, 2, 3, 0] rfl (ok_t_X9_isRule_L2 F tw μ p1 p2 F _ _ hf)
theorem yok_X9_isRule : yOK yX9_isRule 2 := ⟨by decide +kernel, by decide +kernel, by decide +kernel⟩
theorem yok_X9_swayOf : yOK yX9_swayOf 2 := ⟨by decide +kernel, by decide +kernel, by decide +kernel⟩
abbrev mX9_isBad : Ym := (RX9, cX9_isBad, 3, (some Jvm.ClassFile.FieldType.boolean), false, [])
noncomputable def t_X9_isBad (F : Nat) (p1 : Int32) (τ : Tw) : Option (Int32 × Tw) :=
  Option.bind (t_X9_swayOf F p1 0 τ) fun q1 =>
  Option.bind (t_X9_look F p1 0 q1.2) fun q3 =>
  Option.bind (tsA q3 23 0 9 8 q1.1) fun τ6 =>
  Option.bind (t_X9_isRule F 9 200 τ6) fun q7 =>
  if q7.1 = 0 ∨ q7.1 = 1 then
    some (q7.1, q7.2)
  else
    none
set_option maxHeartbeats 4000000 in
theorem ok_X9_isBad {g : Gx} (F : Nat) (p1 : Int32) (tw : Nat) (μ : Sw) (τ : Tw) {rv : Int32} {τF : Tw} (hf : t_X9_isBad F p1 τ = some (rv, τF)) : Cl g 5 yX9_isBad cX9_isBad 3 (some Jvm.ClassFile.FieldType.boolean) [.ref tw, .int p1] (mT tw τ μ) (some (.int rv)) (mT tw τF μ) := by
  unfold t_X9_isBad at hf
  refine Cl.of (own := RX9) (ini := false) (by decide +kernel) rfl (by decide) (Nat.le_of_ble_eq_true rfl) ?_
  show PW g mX9_isBad 5 (mT tw τ μ) (mT tw τF μ) (QN g (some (.int rv)) (mT tw τ μ) (mT tw τF μ)) 0 [(0, .ref tw), (1, .int p1)] [] (mT tw τ μ)
  refine P.aload_n 0 (pc' := 1) dX9_isBad_0 rfl rfl rfl ?_
  refine P.iload_n 1 (pc' := 2) dX9_isBad_1 rfl rfl rfl ?_
  refine P.iconst (v := 0) (pc' := 3) dX9_isBad_2 rfl (by decide) ?_
  obtain ⟨q1, h2, hf⟩ := ob hf
  refine P.callV (pc' := 6) (As := [.int p1, .int 0]) 2 (ok_X9_swayOf F p1 0 tw μ τ h2) (Nat.le_of_ble_eq_true rfl) (lw_V q2044 q2046 qs131 q172 q2047) rfl yok_X9_swayOf rfl (Nat.le_of_ble_eq_true rfl) ci9 T_oc (by decide) rfl dX9_isBad_3 rfl ?_
  refine P.istore_n (pc' := 7) (lv' := [(2, .int q1.1), (0, .ref tw), (1, .int p1)]) dX9_isBad_6 rfl rfl (Nat.le_of_ble_eq_true rfl) rfl ?_
  refine P.aload_n 1 (pc' := 8) dX9_isBad_7 rfl rfl rfl ?_
  refine P.iload_n 2 (pc' := 9) dX9_isBad_8 rfl rfl rfl ?_
  refine P.iconst (v := 0) (pc' := 10) dX9_isBad_9 rfl (by decide) ?_
  obtain ⟨q3, h4, hf⟩ := ob hf
  refine P.callV (pc' := 13) (As := [.int p1, .int 0]) 2 (ok_X9_look F p1 0 tw μ q1.2 h4) (Nat.le_of_ble_eq_true rfl) (lw_V q2048 q2050 qs132 q172 q2051) rfl yok_X9_look rfl (Nat.le_of_ble_eq_true rfl) ci9 T_oc (by decide) rfl dX9_isBad_10 rfl ?_
  refine P.aload_n 1 (pc' := 14) dX9_isBad_13 rfl rfl rfl ?_
  refine P.get (v := .ref (tw + 23)) (pc' := 17) ci9 34 (by decide) (T_gf rfl) q1589 (Or.inl rfl) dX9_isBad_14 rfl ?_
  refine P.bipush (v := 8) (pc' := 19) dX9_isBad_17 rfl (by decide) ?_
  refine P.iload_n 0 (pc' := 20) dX9_isBad_19 rfl rfl rfl ?_
  obtain ⟨τ6, h5, hf⟩ := ob hf
  refine P.iast (pc' := 21) (T_sA rfl (by decide) h5) dX9_isBad_20 rfl ?_
  refine P.aload_n 1 (pc' := 22) dX9_isBad_21 rfl rfl rfl ?_
  refine P.bipush (v := 9) (pc' := 24) dX9_isBad_22 rfl (by decide) ?_
  refine P.sipush (v := 200) (pc' := 27) dX9_isBad_24 rfl (by decide) ?_
  obtain ⟨q7, h8, hf⟩ := ob hf
  refine P.callV (pc' := 30) (As := [.int 9, .int 200]) 2 (ok_X9_isRule F 9 200 tw μ τ6 h8) (Nat.le_of_ble_eq_true rfl) (lw_V q2052 q2054 qs133 q172 q2055) rfl yok_X9_isRule rfl (Nat.le_of_ble_eq_true rfl) ci9 T_oc (by decide) rfl dX9_isBad_27 rfl ?_
  by_cases y9 : q7.1 = 0 ∨ q7.1 = 1
  · have hf := (if_pos y9).symm.trans hf
    cases hf; exact P.zret rfl y9 dX9_isBad_30
  · have hf := (if_neg y9).symm.trans hf
    cases hf
abbrev mX9_untrue : Ym := (RX9, cX9_untrue, 3, (some Jvm.ClassFile.FieldType.int), false, [])
noncomputable def t_X9_untrue_L4_b (F : Nat) (self : Int32 → Int32 → Tw → Option (Int32 × Tw)) (v1 : Int32) (v2 : Int32) (τ : Tw) : Option (Int32 × Tw) :=
  Option.bind (taI τ 6 420 0) fun x1 =>
  if x1 ≤ v2 then
    some (v1, τ)
  else
    Option.bind (t_X9_heightOf F v2 τ) fun q4 =>
    Option.bind (t_X9_dueOf F v2 τ) fun q6 =>
    if q4 = q6.1 then
      nm (v2 + 1) fun x9 =>
      self v1 x9 q6.2
    else
      nm (v1 ||| ((1 : Int32) <<< (v2 &&& 31))) fun x11 =>
      nm (v2 + 1) fun x13 =>
      self x11 x13 q6.2
noncomputable def t_X9_untrue_L4 (F : Nat) (n : Nat) : Int32 → Int32 → Tw → Option (Int32 × Tw) := Nat.rec (motive := fun _ => Int32 → Int32 → Tw → Option (Int32 × Tw)) (fun _ _ _ => none) (fun _ self => t_X9_untrue_L4_b F self) n
set_option maxHeartbeats 4000000 in
theorem ok_t_X9_untrue_L4 {g : Gx} {μ0 : Sw} {rv : Int32} {τF : Tw} (F : Nat) (tw : Nat) (μ : Sw) : ∀ (n : Nat) (v1 : Int32) (v2 : Int32) (τ : Tw), t_X9_untrue_L4 F n v1 v2 τ = some (rv, τF) → PW g mX9_untrue 4 μ0 (mT tw τF μ) (QN g (some (.int rv)) μ0 (mT tw τF μ)) 4 [(0, .ref tw), (1, .int v1), (2, .int v2)] [] (mT tw τ μ) := by
  intro n
  induction n with
  | zero =>
    intro v1 v2 τ hf
    have hf : (none : Option (Int32 × Tw)) = some _ := hf
    cases hf
  | succ n ih =>
    intro v1 v2 τ hf
    have hf : t_X9_untrue_L4_b F (t_X9_untrue_L4 F n) v1 v2 τ = some (rv, τF) := hf
    unfold t_X9_untrue_L4_b at hf
    refine P.iload_n 2 (pc' := 5) dX9_untrue_4 rfl rfl rfl ?_
    refine P.aload_n 0 (pc' := 6) dX9_untrue_5 rfl rfl rfl ?_
    refine P.get (v := .ref (tw + 6)) (pc' := 9) ci9 12 (by decide) (T_gf rfl) q1567 (Or.inl rfl) dX9_untrue_6 rfl ?_
    refine P.iconst (v := 0) (pc' := 10) dX9_untrue_9 rfl (by decide) ?_
    obtain ⟨x1, h2, hf⟩ := ob hf
    refine P.iald (t := 0) (pc' := 11) rfl (T_aI rfl h2) dX9_untrue_10 rfl ?_
    refine P.icmp_ge (tgt := 39) (pc' := 14) dX9_untrue_11 (by decide) rfl (fun y3 => ?_) (fun y3 => ?_)
    · have hf := (if_pos y3).symm.trans hf
      refine P.iload_n 1 (pc' := 40) dX9_untrue_39 rfl rfl rfl ?_
      cases hf; exact P.iret rfl dX9_untrue_40
    · have hf := (if_neg y3).symm.trans hf
      refine P.aload_n 0 (pc' := 15) dX9_untrue_14 rfl rfl rfl ?_
      refine P.iload_n 2 (pc' := 16) dX9_untrue_15 rfl rfl rfl ?_
      obtain ⟨q4, h5, hf⟩ := ob hf
      refine P.callV (pc' := 19) (As := [.int v2]) 1 (ok_X9_heightOf F v2 tw μ τ h5) (Nat.le_of_ble_eq_true rfl) (lw_V q1928 q1930 qs116 q172 q1931) rfl yok_X9_heightOf rfl (Nat.le_of_ble_eq_true rfl) ci9 T_oc (by decide) rfl dX9_untrue_16 rfl ?_
      refine P.aload_n 0 (pc' := 20) dX9_untrue_19 rfl rfl rfl ?_
      refine P.iload_n 2 (pc' := 21) dX9_untrue_20 rfl rfl rfl ?_
      obtain ⟨q6, h7, hf⟩ := ob hf
      refine P.callV (pc' := 24) (As := [.int v2]) 1 (ok_X9_dueOf F v2 tw μ τ h7) (Nat.le_of_ble_eq_true rfl) (lw_V q1936 q1938 qs118 q172 q1939) rfl yok_X9_dueOf rfl (Nat.le_of_ble_eq_true rfl) ci9 T_oc (Nat.le_of_ble_eq_true rfl) rfl dX9_untrue_21 rfl ?_
      refine P.icmp_eq (tgt := 33) (pc' := 27) dX9_untrue_24 (by decide) rfl (fun y8 => ?_) (fun y8 => ?_)
      · have hf := (if_pos y8).symm.trans hf
        obtain ⟨x9, e10, hf⟩ := nm_i hf
        refine P.iinc 2 (pc' := 36) (lv' := [(2, .int x9), (0, .ref tw), (1, .int v1)]) dX9_untrue_33 rfl rfl (by decide) e10 (Nat.le_of_ble_eq_true rfl) rfl ?_
        refine P.goto (tgt := 4) dX9_untrue_36 (by decide) ?_
        exact PW.sub [1, 2, 0] rfl (ih _ _ _ hf)
      · have hf := (if_neg y8).symm.trans hf
        refine P.iload_n 1 (pc' := 28) dX9_untrue_27 rfl rfl rfl ?_
        refine P.iconst (v := 1) (pc' := 29) dX9_untrue_28 rfl (by decide) ?_
        refine P.iload_n 2 (pc' := 30) dX9_untrue_29 rfl rfl rfl ?_
        refine P.ishl (pc' := 31) dX9_untrue_30 rfl ?_
        refine P.ior (pc' := 32) dX9_untrue_31 rfl ?_
        obtain ⟨x11, e12, hf⟩ := nm_i hf
        refine P.nmi e12 ?_
        refine P.istore_n (pc' := 33) (lv' := [(1, .int x11), (0, .ref tw), (2, .int v2)]) dX9_untrue_32 rfl rfl (Nat.le_of_ble_eq_true rfl) rfl ?_
        obtain ⟨x13, e14, hf⟩ := nm_i hf
        refine P.iinc 2 (pc' := 36) (lv' := [(2, .int x13), (1, .int x11), (0, .ref tw)]) dX9_untrue_33 rfl rfl (by decide) e14 (Nat.le_of_ble_eq_true rfl) rfl ?_
        refine P.goto (tgt := 4) dX9_untrue_36 (by decide) ?_
        exact PW.sub [2, 1, 0] rfl (ih _ _ _ hf)
noncomputable def t_X9_untrue (F : Nat) (τ : Tw) : Option (Int32 × Tw) :=
  t_X9_untrue_L4 F F 0 0 τ
set_option maxHeartbeats 4000000 in
theorem ok_X9_untrue {g : Gx} (F : Nat) (tw : Nat) (μ : Sw) (τ : Tw) {rv : Int32} {τF : Tw} (hf : t_X9_untrue F τ = some (rv, τF)) : Cl g 4 yX9_untrue cX9_untrue 3 (some Jvm.ClassFile.FieldType.int) [.ref tw] (mT tw τ μ) (some (.int rv)) (mT tw τF μ) := by
  unfold t_X9_untrue at hf
  refine Cl.of (own := RX9) (ini := false) (by decide +kernel) rfl (by decide) (Nat.le_of_ble_eq_true rfl) ?_
  show PW g mX9_untrue 4 (mT tw τ μ) (mT tw τF μ) (QN g (some (.int rv)) (mT tw τ μ) (mT tw τF μ)) 0 [(0, .ref tw)] [] (mT tw τ μ)
  refine P.iconst (v := 0) (pc' := 1) dX9_untrue_0 rfl (by decide) ?_
  refine P.istore_n (pc' := 2) (lv' := [(1, .int 0), (0, .ref tw)]) dX9_untrue_1 rfl rfl (Nat.le_of_ble_eq_true rfl) rfl ?_
  refine P.iconst (v := 0) (pc' := 3) dX9_untrue_2 rfl (by decide) ?_
  refine P.istore_n (pc' := 4) (lv' := [(2, .int 0), (1, .int 0), (0, .ref tw)]) dX9_untrue_3 rfl rfl (Nat.le_of_ble_eq_true rfl) rfl ?_
  exact PW.sub [2, 1, 0] rfl (ok_t_X9_untrue_L4 F tw μ F _ _ _ hf)
abbrev mX9_turned : Ym := (RX9, cX9_turned, 4, (some Jvm.ClassFile.FieldType.int), false, [])
noncomputable def t_X9_turned_L16_b (F : Nat) (k66 : Int32 → Option Int32) (c2 : Int32) (τ : Tw) (self : Int32 → Int32 → Option Int32) (v1 : Int32) (v3 : Int32) : Option Int32 :=
  Option.bind (taI τ 6 420 0) fun x1 =>
  if x1 ≤ v3 then
    k66 v1
  else
    Option.bind (t_X9_rankOf F c2 τ) fun q4 =>
    Option.bind (t_X9_rankOf F v3 τ) fun q6 =>
    if q4 ≤ q6 then
      nm (v1 + 0) fun x9 =>
      nm (v3 + 1) fun x11 =>
      self x9 x11
    else
      Option.bind (t_X9_heightOf F c2 τ) fun q13 =>
      Option.bind (t_X9_heightOf F v3 τ) fun q15 =>
      if q15 < q13 then
        nm (v1 + 0) fun x18 =>
        nm (v3 + 1) fun x20 =>
        self x18 x20
      else
        nm (v1 + 1) fun x22 =>
        nm (v3 + 1) fun x24 =>
        self x22 x24
noncomputable def t_X9_turned_L16 (F : Nat) (k66 : Int32 → Option Int32) (c2 : Int32) (τ : Tw) (n : Nat) : Int32 → Int32 → Option Int32 := Nat.rec (motive := fun _ => Int32 → Int32 → Option Int32) (fun _ _ => none) (fun _ self => t_X9_turned_L16_b F k66 c2 τ self) n
set_option maxHeartbeats 4000000 in
theorem ok_t_X9_turned_L16 {g : Gx} {μ0 : Sw} {rv : Int32} (F : Nat) (tw : Nat) (μ : Sw) (c2 : Int32) (τ : Tw) (k66 : Int32 → Option Int32) (hk66 : ∀ (w1 : Int32), k66 w1 = some rv → PW g mX9_turned 2 μ0 (mT tw τ μ) (QN g (some (.int rv)) μ0 (mT tw τ μ)) 66 [(0, .ref tw), (1, .int w1), (2, .int c2)] [] (mT tw τ μ)) : ∀ (n : Nat) (v1 : Int32) (v3 : Int32), t_X9_turned_L16 F k66 c2 τ n v1 v3 = some rv → PW g mX9_turned 2 μ0 (mT tw τ μ) (QN g (some (.int rv)) μ0 (mT tw τ μ)) 16 [(0, .ref tw), (1, .int v1), (2, .int c2), (3, .int v3)] [] (mT tw τ μ) := by
  intro n
  induction n with
  | zero =>
    intro v1 v3 hf
    have hf : (none : Option Int32) = some _ := hf
    cases hf
  | succ n ih =>
    intro v1 v3 hf
    have hf : t_X9_turned_L16_b F k66 c2 τ (t_X9_turned_L16 F k66 c2 τ n) v1 v3 = some rv := hf
    unfold t_X9_turned_L16_b at hf
    refine P.iload_n 3 (pc' := 17) dX9_turned_16 rfl rfl rfl ?_
    refine P.aload_n 0 (pc' := 18) dX9_turned_17 rfl rfl rfl ?_
    refine P.get (v := .ref (tw + 6)) (pc' := 21) ci9 12 (by decide) (T_gf rfl) q1567 (Or.inl rfl) dX9_turned_18 rfl ?_
    refine P.iconst (v := 0) (pc' := 22) dX9_turned_21 rfl (by decide) ?_
    obtain ⟨x1, h2, hf⟩ := ob hf
    refine P.iald (t := 0) (pc' := 23) rfl (T_aI rfl h2) dX9_turned_22 rfl ?_
    refine P.icmp_ge (tgt := 66) (pc' := 26) dX9_turned_23 (by decide) rfl (fun y3 => ?_) (fun y3 => ?_)
    · have hf := (if_pos y3).symm.trans hf
      exact PW.sub [0, 1, 2] rfl (hk66 _ hf)
    · have hf := (if_neg y3).symm.trans hf
      refine P.iload_n 1 (pc' := 27) dX9_turned_26 rfl rfl rfl ?_
      refine P.aload_n 0 (pc' := 28) dX9_turned_27 rfl rfl rfl ?_
      refine P.iload_n 2 (pc' := 29) dX9_turned_28 rfl rfl rfl ?_
      obtain ⟨q4, h5, hf⟩ := ob hf
      refine P.callV (pc' := 32) (As := [.int c2]) 1 (ok_X9_rankOf F c2 tw μ τ h5) (Nat.le_of_ble_eq_true rfl) (lw_V q1932 q1934 qs117 q172 q1935) rfl yok_X9_rankOf rfl (Nat.le_of_ble_eq_true rfl) ci9 T_oc (Nat.le_of_ble_eq_true rfl) rfl dX9_turned_29 rfl ?_
      refine P.aload_n 0 (pc' := 33) dX9_turned_32 rfl rfl rfl ?_
      refine P.iload_n 3 (pc' := 34) dX9_turned_33 rfl rfl rfl ?_
      obtain ⟨q6, h7, hf⟩ := ob hf
      refine P.callV (pc' := 37) (As := [.int v3]) 1 (ok_X9_rankOf F v3 tw μ τ h7) (Nat.le_of_ble_eq_true rfl) (lw_V q1932 q1934 qs117 q172 q1935) rfl yok_X9_rankOf rfl (Nat.le_of_ble_eq_true rfl) ci9 T_oc (Nat.le_of_ble_eq_true rfl) rfl dX9_turned_34 rfl ?_
      refine P.icmp_le (tgt := 57) (pc' := 40) dX9_turned_37 (by decide) rfl (fun y8 => ?_) (fun y8 => ?_)
      · have hf := (if_pos y8).symm.trans hf
        refine P.iconst (v := 0) (pc' := 58) dX9_turned_57 rfl (by decide) ?_
        refine P.iadd (pc' := 59) dX9_turned_58 rfl ?_
        obtain ⟨x9, e10, hf⟩ := nm_i hf
        refine P.nmi e10 ?_
        refine P.istore_n (pc' := 60) (lv' := [(1, .int x9), (0, .ref tw), (2, .int c2), (3, .int v3)]) dX9_turned_59 rfl rfl (Nat.le_of_ble_eq_true rfl) rfl ?_
        obtain ⟨x11, e12, hf⟩ := nm_i hf
        refine P.iinc 3 (pc' := 63) (lv' := [(3, .int x11), (1, .int x9), (0, .ref tw), (2, .int c2)]) dX9_turned_60 rfl rfl (by decide) e12 (Nat.le_of_ble_eq_true rfl) rfl ?_
        refine P.goto (tgt := 16) dX9_turned_63 (by decide) ?_
        exact PW.sub [2, 1, 3, 0] rfl (ih _ _ hf)
      · have hf := (if_neg y8).symm.trans hf
        refine P.aload_n 0 (pc' := 41) dX9_turned_40 rfl rfl rfl ?_
        refine P.iload_n 2 (pc' := 42) dX9_turned_41 rfl rfl rfl ?_
        obtain ⟨q13, h14, hf⟩ := ob hf
        refine P.callV (pc' := 45) (As := [.int c2]) 1 (ok_X9_heightOf F c2 tw μ τ h14) (Nat.le_of_ble_eq_true rfl) (lw_V q1928 q1930 qs116 q172 q1931) rfl yok_X9_heightOf rfl (Nat.le_of_ble_eq_true rfl) ci9 T_oc (Nat.le_of_ble_eq_true rfl) rfl dX9_turned_42 rfl ?_
        refine P.aload_n 0 (pc' := 46) dX9_turned_45 rfl rfl rfl ?_
        refine P.iload_n 3 (pc' := 47) dX9_turned_46 rfl rfl rfl ?_
        obtain ⟨q15, h16, hf⟩ := ob hf
        refine P.callV (pc' := 50) (As := [.int v3]) 1 (ok_X9_heightOf F v3 tw μ τ h16) (Nat.le_of_ble_eq_true rfl) (lw_V q1928 q1930 qs116 q172 q1931) rfl yok_X9_heightOf rfl (Nat.le_of_ble_eq_true rfl) ci9 T_oc (Nat.le_of_ble_eq_true rfl) rfl dX9_turned_47 rfl ?_
        refine P.icmp_gt (tgt := 57) (pc' := 53) dX9_turned_50 (by decide) rfl (fun y17 => ?_) (fun y17 => ?_)
        · have hf := (if_pos y17).symm.trans hf
          refine P.iconst (v := 0) (pc' := 58) dX9_turned_57 rfl (by decide) ?_
          refine P.iadd (pc' := 59) dX9_turned_58 rfl ?_
          obtain ⟨x18, e19, hf⟩ := nm_i hf
          refine P.nmi e19 ?_
          refine P.istore_n (pc' := 60) (lv' := [(1, .int x18), (0, .ref tw), (2, .int c2), (3, .int v3)]) dX9_turned_59 rfl rfl (Nat.le_of_ble_eq_true rfl) rfl ?_
          obtain ⟨x20, e21, hf⟩ := nm_i hf
          refine P.iinc 3 (pc' := 63) (lv' := [(3, .int x20), (1, .int x18), (0, .ref tw), (2, .int c2)]) dX9_turned_60 rfl rfl (by decide) e21 (Nat.le_of_ble_eq_true rfl) rfl ?_
          refine P.goto (tgt := 16) dX9_turned_63 (by decide) ?_
          exact PW.sub [2, 1, 3, 0] rfl (ih _ _ hf)
        · have hf := (if_neg y17).symm.trans hf
          refine P.iconst (v := 1) (pc' := 54) dX9_turned_53 rfl (by decide) ?_
          refine P.goto (tgt := 58) dX9_turned_54 (by decide) ?_
          refine P.iadd (pc' := 59) dX9_turned_58 rfl ?_
          obtain ⟨x22, e23, hf⟩ := nm_i hf
          refine P.nmi e23 ?_
          refine P.istore_n (pc' := 60) (lv' := [(1, .int x22), (0, .ref tw), (2, .int c2), (3, .int v3)]) dX9_turned_59 rfl rfl (Nat.le_of_ble_eq_true rfl) rfl ?_
          obtain ⟨x24, e25, hf⟩ := nm_i hf
          refine P.iinc 3 (pc' := 63) (lv' := [(3, .int x24), (1, .int x22), (0, .ref tw), (2, .int c2)]) dX9_turned_60 rfl rfl (by decide) e25 (Nat.le_of_ble_eq_true rfl) rfl ?_
          refine P.goto (tgt := 16) dX9_turned_63 (by decide) ?_
          exact PW.sub [2, 1, 3, 0] rfl (ih _ _ hf)
noncomputable def t_X9_turned_L4_b (F : Nat) (τ : Tw) (self : Int32 → Int32 → Option Int32) (v1 : Int32) (v2 : Int32) : Option Int32 :=
  Option.bind (taI τ 6 420 0) fun x1 =>
  if x1 ≤ v2 then
    some v1
  else
    t_X9_turned_L16 F
      (fun w4 =>
        nm (v2 + 1) fun x5 =>
        self w4 x5)
      v2 τ F v1 0
noncomputable def t_X9_turned_L4 (F : Nat) (τ : Tw) (n : Nat) : Int32 → Int32 → Option Int32 := Nat.rec (motive := fun _ => Int32 → Int32 → Option Int32) (fun _ _ => none) (fun _ self => t_X9_turned_L4_b F τ self) n
set_option maxHeartbeats 4000000 in
theorem ok_t_X9_turned_L4 {g : Gx} {μ0 : Sw} {rv : Int32} (F : Nat) (tw : Nat) (μ : Sw) (τ : Tw) : ∀ (n : Nat) (v1 : Int32) (v2 : Int32), t_X9_turned_L4 F τ n v1 v2 = some rv → PW g mX9_turned 2 μ0 (mT tw τ μ) (QN g (some (.int rv)) μ0 (mT tw τ μ)) 4 [(0, .ref tw), (1, .int v1), (2, .int v2)] [] (mT tw τ μ) := by
  intro n
  induction n with
  | zero =>
    intro v1 v2 hf
    have hf : (none : Option Int32) = some _ := hf
    cases hf
  | succ n ih =>
    intro v1 v2 hf
    have hf : t_X9_turned_L4_b F τ (t_X9_turned_L4 F τ n) v1 v2 = some rv := hf
    unfold t_X9_turned_L4_b at hf
    refine P.iload_n 2 (pc' := 5) dX9_turned_4 rfl rfl rfl ?_
    refine P.aload_n 0 (pc' := 6) dX9_turned_5 rfl rfl rfl ?_
    refine P.get (v := .ref (tw + 6)) (pc' := 9) ci9 12 (by decide) (T_gf rfl) q1567 (Or.inl rfl) dX9_turned_6 rfl ?_
    refine P.iconst (v := 0) (pc' := 10) dX9_turned_9 rfl (by decide) ?_
    obtain ⟨x1, h2, hf⟩ := ob hf
    refine P.iald (t := 0) (pc' := 11) rfl (T_aI rfl h2) dX9_turned_10 rfl ?_
    refine P.icmp_ge (tgt := 72) (pc' := 14) dX9_turned_11 (by decide) rfl (fun y3 => ?_) (fun y3 => ?_)
    · have hf := (if_pos y3).symm.trans hf
      refine P.iload_n 1 (pc' := 73) dX9_turned_72 rfl rfl rfl ?_
      cases hf; exact P.iret rfl dX9_turned_73
    · have hf := (if_neg y3).symm.trans hf
      refine P.iconst (v := 0) (pc' := 15) dX9_turned_14 rfl (by decide) ?_
      refine P.istore_n (pc' := 16) (lv' := [(3, .int 0), (0, .ref tw), (1, .int v1), (2, .int v2)]) dX9_turned_15 rfl rfl (Nat.le_of_ble_eq_true rfl) rfl ?_
      refine PW.sub [1, 2, 3, 0] rfl (ok_t_X9_turned_L16 F tw μ v2 τ _ ?_ F _ _ hf)
      · intro w4 hf
        obtain ⟨x5, e6, hf⟩ := nm_i hf
        refine P.iinc 2 (pc' := 69) (lv' := [(2, .int x5), (0, .ref tw), (1, .int w4)]) dX9_turned_66 rfl rfl (by decide) e6 (Nat.le_of_ble_eq_true rfl) rfl ?_
        refine P.goto (tgt := 4) dX9_turned_69 (by decide) ?_
        exact PW.sub [1, 2, 0] rfl (ih _ _ hf)
noncomputable def t_X9_turned (F : Nat) (τ : Tw) : Option Int32 :=
  t_X9_turned_L4 F τ F 0 0
set_option maxHeartbeats 4000000 in
theorem ok_X9_turned {g : Gx} (F : Nat) (tw : Nat) (μ : Sw) (τ : Tw) {rv : Int32} (hf : t_X9_turned F τ = some rv) : Cl g 2 yX9_turned cX9_turned 4 (some Jvm.ClassFile.FieldType.int) [.ref tw] (mT tw τ μ) (some (.int rv)) (mT tw τ μ) := by
  unfold t_X9_turned at hf
  refine Cl.of (own := RX9) (ini := false) (by decide +kernel) rfl (by decide) (Nat.le_of_ble_eq_true rfl) ?_
  show PW g mX9_turned 2 (mT tw τ μ) (mT tw τ μ) (QN g (some (.int rv)) (mT tw τ μ) (mT tw τ μ)) 0 [(0, .ref tw)] [] (mT tw τ μ)
  refine P.iconst (v := 0) (pc' := 1) dX9_turned_0 rfl (by decide) ?_
  refine P.istore_n (pc' := 2) (lv' := [(1, .int 0), (0, .ref tw)]) dX9_turned_1 rfl rfl (Nat.le_of_ble_eq_true rfl) rfl ?_
  refine P.iconst (v := 0) (pc' := 3) dX9_turned_2 rfl (by decide) ?_
  refine P.istore_n (pc' := 4) (lv' := [(2, .int 0), (1, .int 0), (0, .ref tw)]) dX9_turned_3 rfl rfl (Nat.le_of_ble_eq_true rfl) rfl ?_
  exact PW.sub [2, 1, 0] rfl (ok_t_X9_turned_L4 F tw μ τ F _ _ hf)
theorem yok_X9_isBad : yOK yX9_isBad 1 := ⟨by decide +kernel, by decide +kernel, by decide +kernel⟩
theorem yok_X9_turned : yOK yX9_turned 0 := ⟨by decide +kernel, by decide +kernel, by decide +kernel⟩
theorem yok_X9_untrue : yOK yX9_untrue 0 := ⟨by decide +kernel, by decide +kernel, by decide +kernel⟩
abbrev mX9_law : Ym := (RX9, cX9_law, 4, (some Jvm.ClassFile.FieldType.int), false, [])
noncomputable def t_X9_law_L54_b (F : Nat) (c1 : Int32) (self : Int32 → Int32 → Tw → Option (Int32 × Tw)) (v2 : Int32) (v3 : Int32) (τ : Tw) : Option (Int32 × Tw) :=
  Option.bind (taI τ 6 420 0) fun x1 =>
  if x1 ≤ v3 then
    if c1 = 2 then
      Option.bind (p_X9_bitsOf F v2) fun q5 =>
      some (q5, τ)
    else
      some (v2, τ)
  else
    Option.bind (t_X9_isBad F v3 τ) fun q7 =>
    if q7.1 = 0 then
      nm (v3 + 1) fun x10 =>
      self v2 x10 q7.2
    else
      nm (v2 ||| ((1 : Int32) <<< (v3 &&& 31))) fun x12 =>
      nm (v3 + 1) fun x14 =>
      self x12 x14 q7.2
noncomputable def t_X9_law_L54 (F : Nat) (c1 : Int32) (n : Nat) : Int32 → Int32 → Tw → Option (Int32 × Tw) := Nat.rec (motive := fun _ => Int32 → Int32 → Tw → Option (Int32 × Tw)) (fun _ _ _ => none) (fun _ self => t_X9_law_L54_b F c1 self) n
set_option maxHeartbeats 4000000 in
theorem ok_t_X9_law_L54 {g : Gx} {μ0 : Sw} {rv : Int32} {τF : Tw} (F : Nat) (tw : Nat) (μ : Sw) (c1 : Int32) : ∀ (n : Nat) (v2 : Int32) (v3 : Int32) (τ : Tw), t_X9_law_L54 F c1 n v2 v3 τ = some (rv, τF) → PW g mX9_law 6 μ0 (mT tw τF μ) (QN g (some (.int rv)) μ0 (mT tw τF μ)) 54 [(0, .ref tw), (1, .int c1), (2, .int v2), (3, .int v3)] [] (mT tw τ μ) := by
  intro n
  induction n with
  | zero =>
    intro v2 v3 τ hf
    have hf : (none : Option (Int32 × Tw)) = some _ := hf
    cases hf
  | succ n ih =>
    intro v2 v3 τ hf
    have hf : t_X9_law_L54_b F c1 (t_X9_law_L54 F c1 n) v2 v3 τ = some (rv, τF) := hf
    unfold t_X9_law_L54_b at hf
    refine P.iload_n 3 (pc' := 55) dX9_law_54 rfl rfl rfl ?_
    refine P.aload_n 0 (pc' := 56) dX9_law_55 rfl rfl rfl ?_
    refine P.get (v := .ref (tw + 6)) (pc' := 59) ci9 12 (by decide) (T_gf rfl) q1567 (Or.inl rfl) dX9_law_56 rfl ?_
    refine P.iconst (v := 0) (pc' := 60) dX9_law_59 rfl (by decide) ?_
    obtain ⟨x1, h2, hf⟩ := ob hf
    refine P.iald (t := 0) (pc' := 61) rfl (T_aI rfl h2) dX9_law_60 rfl ?_
    refine P.icmp_ge (tgt := 84) (pc' := 64) dX9_law_61 (by decide) rfl (fun y3 => ?_) (fun y3 => ?_)
    · have hf := (if_pos y3).symm.trans hf
      refine P.iload_n 1 (pc' := 85) dX9_law_84 rfl rfl rfl ?_
      refine P.iconst (v := 2) (pc' := 86) dX9_law_85 rfl (by decide) ?_
      refine P.icmp_ne (tgt := 96) (pc' := 89) dX9_law_86 (by decide) rfl (fun y4 => ?_) (fun y4 => ?_)
      · have hf := (if_neg y4).symm.trans hf
        refine P.iload_n 2 (pc' := 97) dX9_law_96 rfl rfl rfl ?_
        cases hf; exact P.iret rfl dX9_law_97
      · have hf := (if_pos y4).symm.trans hf
        refine P.iload_n 2 (pc' := 90) dX9_law_89 rfl rfl rfl ?_
        obtain ⟨q5, h6, hf⟩ := ob hf
        refine P.callS (pc' := 93) (As := [.int v2]) 1 (ok_X9_bitsOf F v2 (mT tw τ μ) h6) (Nat.le_of_ble_eq_true rfl) (lw_S q2021 q2022 q172 q2023) yok_X9_bitsOf rfl (Nat.le_of_ble_eq_true rfl) (by decide) rfl dX9_law_90 rfl ?_
        refine P.goto (tgt := 97) dX9_law_93 (by decide) ?_
        cases hf; exact P.iret rfl dX9_law_97
    · have hf := (if_neg y3).symm.trans hf
      refine P.aload_n 0 (pc' := 65) dX9_law_64 rfl rfl rfl ?_
      refine P.iload_n 3 (pc' := 66) dX9_law_65 rfl rfl rfl ?_
      obtain ⟨q7, h8, hf⟩ := ob hf
      refine P.callV (pc' := 69) (As := [.int v3]) 1 (ok_X9_isBad F v3 tw μ τ h8) (Nat.le_of_ble_eq_true rfl) (lw_V q2040 q2042 qs130 q172 q2043) rfl yok_X9_isBad rfl (Nat.le_of_ble_eq_true rfl) ci9 T_oc (by decide) rfl dX9_law_66 rfl ?_
      refine P.if_eq (tgt := 78) (pc' := 72) dX9_law_69 (by decide) rfl (fun y9 => ?_) (fun y9 => ?_)
      · have hf := (if_pos y9).symm.trans hf
        obtain ⟨x10, e11, hf⟩ := nm_i hf
        refine P.iinc 3 (pc' := 81) (lv' := [(3, .int x10), (0, .ref tw), (1, .int c1), (2, .int v2)]) dX9_law_78 rfl rfl (by decide) e11 (Nat.le_of_ble_eq_true rfl) rfl ?_
        refine P.goto (tgt := 54) dX9_law_81 (by decide) ?_
        exact PW.sub [1, 2, 3, 0] rfl (ih _ _ _ hf)
      · have hf := (if_neg y9).symm.trans hf
        refine P.iload_n 2 (pc' := 73) dX9_law_72 rfl rfl rfl ?_
        refine P.iconst (v := 1) (pc' := 74) dX9_law_73 rfl (by decide) ?_
        refine P.iload_n 3 (pc' := 75) dX9_law_74 rfl rfl rfl ?_
        refine P.ishl (pc' := 76) dX9_law_75 rfl ?_
        refine P.ior (pc' := 77) dX9_law_76 rfl ?_
        obtain ⟨x12, e13, hf⟩ := nm_i hf
        refine P.nmi e13 ?_
        refine P.istore_n (pc' := 78) (lv' := [(2, .int x12), (0, .ref tw), (1, .int c1), (3, .int v3)]) dX9_law_77 rfl rfl (Nat.le_of_ble_eq_true rfl) rfl ?_
        obtain ⟨x14, e15, hf⟩ := nm_i hf
        refine P.iinc 3 (pc' := 81) (lv' := [(3, .int x14), (2, .int x12), (0, .ref tw), (1, .int c1)]) dX9_law_78 rfl rfl (by decide) e15 (Nat.le_of_ble_eq_true rfl) rfl ?_
        refine P.goto (tgt := 54) dX9_law_81 (by decide) ?_
        exact PW.sub [2, 3, 1, 0] rfl (ih _ _ _ hf)
noncomputable def t_X9_law (F : Nat) (p1 : Int32) (τ : Tw) : Option (Int32 × Tw) :=
  if p1 = 1 then
    Option.bind (t_X9_turned F τ) fun q20 =>
    some (q20, τ)
  else
    if p1 = 0 then
      if p1 = 0 then
        Option.bind (t_X9_untrue F τ) fun q6 =>
        Option.bind (p_X9_bitsOf F q6.1) fun q8 =>
        some (q8, q6.2)
      else
        Option.bind (t_X9_untrue F τ) fun q4 =>
        some (q4.1, q4.2)
    else
      if p1 = 3 then
        if p1 = 0 then
          Option.bind (t_X9_untrue F τ) fun q16 =>
          Option.bind (p_X9_bitsOf F q16.1) fun q18 =>
          some (q18, q16.2)
        else
          Option.bind (t_X9_untrue F τ) fun q14 =>
          some (q14.1, q14.2)
      else
        if p1 = 2 then
          t_X9_law_L54 F p1 F 0 0 τ
        else
          if p1 = 4 then
            t_X9_law_L54 F p1 F 0 0 τ
          else
            some ((-1), τ)
set_option maxHeartbeats 4000000 in
theorem ok_X9_law {g : Gx} (F : Nat) (p1 : Int32) (tw : Nat) (μ : Sw) (τ : Tw) {rv : Int32} {τF : Tw} (hf : t_X9_law F p1 τ = some (rv, τF)) : Cl g 6 yX9_law cX9_law 4 (some Jvm.ClassFile.FieldType.int) [.ref tw, .int p1] (mT tw τ μ) (some (.int rv)) (mT tw τF μ) := by
  unfold t_X9_law at hf
  refine Cl.of (own := RX9) (ini := false) (by decide +kernel) rfl (by decide) (Nat.le_of_ble_eq_true rfl) ?_
  show PW g mX9_law 6 (mT tw τ μ) (mT tw τF μ) (QN g (some (.int rv)) (mT tw τ μ) (mT tw τF μ)) 0 [(0, .ref tw), (1, .int p1)] [] (mT tw τ μ)
  refine P.iload_n 1 (pc' := 1) dX9_law_0 rfl rfl rfl ?_
  refine P.iconst (v := 1) (pc' := 2) dX9_law_1 rfl (by decide) ?_
  refine P.icmp_ne (tgt := 10) (pc' := 5) dX9_law_2 (by decide) rfl (fun y1 => ?_) (fun y1 => ?_)
  · have hf := (if_neg y1).symm.trans hf
    refine P.iload_n 1 (pc' := 11) dX9_law_10 rfl rfl rfl ?_
    refine P.if_eq (tgt := 19) (pc' := 14) dX9_law_11 (by decide) rfl (fun y2 => ?_) (fun y2 => ?_)
    · have hf := (if_pos y2).symm.trans hf
      refine P.iload_n 1 (pc' := 20) dX9_law_19 rfl rfl rfl ?_
      refine P.if_ne (tgt := 33) (pc' := 23) dX9_law_20 (by decide) rfl (fun y3 => ?_) (fun y3 => ?_)
      · have hf := (if_neg y3).symm.trans hf
        refine P.aload_n 0 (pc' := 34) dX9_law_33 rfl rfl rfl ?_
        obtain ⟨q4, h5, hf⟩ := ob hf
        refine P.callV (pc' := 37) (As := []) 0 (ok_X9_untrue F tw μ τ h5) (Nat.le_of_ble_eq_true rfl) (lw_V q2036 q2038 qs129 q172 q2039) rfl yok_X9_untrue rfl (Nat.le_of_ble_eq_true rfl) ci9 T_oc (by decide) rfl dX9_law_34 rfl ?_
        cases hf; exact P.iret rfl dX9_law_37
      · have hf := (if_pos y3).symm.trans hf
        refine P.aload_n 0 (pc' := 24) dX9_law_23 rfl rfl rfl ?_
        obtain ⟨q6, h7, hf⟩ := ob hf
        refine P.callV (pc' := 27) (As := []) 0 (ok_X9_untrue F tw μ τ h7) (Nat.le_of_ble_eq_true rfl) (lw_V q2036 q2038 qs129 q172 q2039) rfl yok_X9_untrue rfl (Nat.le_of_ble_eq_true rfl) ci9 T_oc (by decide) rfl dX9_law_24 rfl ?_
        obtain ⟨q8, h9, hf⟩ := ob hf
        refine P.callS (pc' := 30) (As := [.int q6.1]) 1 (ok_X9_bitsOf F q6.1 (mT tw q6.2 μ) h9) (Nat.le_of_ble_eq_true rfl) (lw_S q2021 q2022 q172 q2023) yok_X9_bitsOf rfl (Nat.le_of_ble_eq_true rfl) (by decide) rfl dX9_law_27 rfl ?_
        refine P.goto (tgt := 37) dX9_law_30 (by decide) ?_
        cases hf; exact P.iret rfl dX9_law_37
    · have hf := (if_neg y2).symm.trans hf
      refine P.iload_n 1 (pc' := 15) dX9_law_14 rfl rfl rfl ?_
      refine P.iconst (v := 3) (pc' := 16) dX9_law_15 rfl (by decide) ?_
      refine P.icmp_ne (tgt := 38) (pc' := 19) dX9_law_16 (by decide) rfl (fun y10 => ?_) (fun y10 => ?_)
      · have hf := (if_neg y10).symm.trans hf
        refine P.iload_n 1 (pc' := 39) dX9_law_38 rfl rfl rfl ?_
        refine P.iconst (v := 2) (pc' := 40) dX9_law_39 rfl (by decide) ?_
        refine P.icmp_eq (tgt := 50) (pc' := 43) dX9_law_40 (by decide) rfl (fun y11 => ?_) (fun y11 => ?_)
        · have hf := (if_pos y11).symm.trans hf
          refine P.iconst (v := 0) (pc' := 51) dX9_law_50 rfl (by decide) ?_
          refine P.istore_n (pc' := 52) (lv' := [(2, .int 0), (0, .ref tw), (1, .int p1)]) dX9_law_51 rfl rfl (Nat.le_of_ble_eq_true rfl) rfl ?_
          refine P.iconst (v := 0) (pc' := 53) dX9_law_52 rfl (by decide) ?_
          refine P.istore_n (pc' := 54) (lv' := [(3, .int 0), (2, .int 0), (0, .ref tw), (1, .int p1)]) dX9_law_53 rfl rfl (Nat.le_of_ble_eq_true rfl) rfl ?_
          exact PW.sub [2, 3, 1, 0] rfl (ok_t_X9_law_L54 F tw μ p1 F _ _ _ hf)
        · have hf := (if_neg y11).symm.trans hf
          refine P.iload_n 1 (pc' := 44) dX9_law_43 rfl rfl rfl ?_
          refine P.iconst (v := 4) (pc' := 45) dX9_law_44 rfl (by decide) ?_
          refine P.icmp_eq (tgt := 50) (pc' := 48) dX9_law_45 (by decide) rfl (fun y12 => ?_) (fun y12 => ?_)
          · have hf := (if_pos y12).symm.trans hf
            refine P.iconst (v := 0) (pc' := 51) dX9_law_50 rfl (by decide) ?_
            refine P.istore_n (pc' := 52) (lv' := [(2, .int 0), (0, .ref tw), (1, .int p1)]) dX9_law_51 rfl rfl (Nat.le_of_ble_eq_true rfl) rfl ?_
            refine P.iconst (v := 0) (pc' := 53) dX9_law_52 rfl (by decide) ?_
            refine P.istore_n (pc' := 54) (lv' := [(3, .int 0), (2, .int 0), (0, .ref tw), (1, .int p1)]) dX9_law_53 rfl rfl (Nat.le_of_ble_eq_true rfl) rfl ?_
            exact PW.sub [2, 3, 1, 0] rfl (ok_t_X9_law_L54 F tw μ p1 F _ _ _ hf)
          · have hf := (if_neg y12).symm.trans hf
            refine P.iconst (v := (-1)) (pc' := 49) dX9_law_48 rfl (by decide) ?_
            cases hf; exact P.iret rfl dX9_law_49
      · have hf := (if_pos y10).symm.trans hf
        refine P.iload_n 1 (pc' := 20) dX9_law_19 rfl rfl rfl ?_
        refine P.if_ne (tgt := 33) (pc' := 23) dX9_law_20 (by decide) rfl (fun y13 => ?_) (fun y13 => ?_)
        · have hf := (if_neg y13).symm.trans hf
          refine P.aload_n 0 (pc' := 34) dX9_law_33 rfl rfl rfl ?_
          obtain ⟨q14, h15, hf⟩ := ob hf
          refine P.callV (pc' := 37) (As := []) 0 (ok_X9_untrue F tw μ τ h15) (Nat.le_of_ble_eq_true rfl) (lw_V q2036 q2038 qs129 q172 q2039) rfl yok_X9_untrue rfl (Nat.le_of_ble_eq_true rfl) ci9 T_oc (by decide) rfl dX9_law_34 rfl ?_
          cases hf; exact P.iret rfl dX9_law_37
        · have hf := (if_pos y13).symm.trans hf
          refine P.aload_n 0 (pc' := 24) dX9_law_23 rfl rfl rfl ?_
          obtain ⟨q16, h17, hf⟩ := ob hf
          refine P.callV (pc' := 27) (As := []) 0 (ok_X9_untrue F tw μ τ h17) (Nat.le_of_ble_eq_true rfl) (lw_V q2036 q2038 qs129 q172 q2039) rfl yok_X9_untrue rfl (Nat.le_of_ble_eq_true rfl) ci9 T_oc (by decide) rfl dX9_law_24 rfl ?_
          obtain ⟨q18, h19, hf⟩ := ob hf
          refine P.callS (pc' := 30) (As := [.int q16.1]) 1 (ok_X9_bitsOf F q16.1 (mT tw q16.2 μ) h19) (Nat.le_of_ble_eq_true rfl) (lw_S q2021 q2022 q172 q2023) yok_X9_bitsOf rfl (Nat.le_of_ble_eq_true rfl) (by decide) rfl dX9_law_27 rfl ?_
          refine P.goto (tgt := 37) dX9_law_30 (by decide) ?_
          cases hf; exact P.iret rfl dX9_law_37
  · have hf := (if_pos y1).symm.trans hf
    refine P.aload_n 0 (pc' := 6) dX9_law_5 rfl rfl rfl ?_
    obtain ⟨q20, h21, hf⟩ := ob hf
    refine P.callV (pc' := 9) (As := []) 0 (ok_X9_turned F tw μ τ h21) (Nat.le_of_ble_eq_true rfl) (lw_V q2032 q2034 qs128 q172 q2035) rfl yok_X9_turned rfl (Nat.le_of_ble_eq_true rfl) ci9 T_oc (by decide) rfl dX9_law_6 rfl ?_
    cases hf; exact P.iret rfl dX9_law_9
abbrev mX9_wood : Ym := (RX9, cX9_wood, 2, (some Jvm.ClassFile.FieldType.int), false, [])
noncomputable def t_X9_wood (F : Nat) (p1 : Int32) (τ : Tw) : Option Int32 :=
  if p1 < 0 then
    some (-1)
  else
    Option.bind (taI τ 6 420 5) fun x2 =>
    if p1 < x2 then
      Option.bind (taI τ 7 1260 (50 + p1)) fun x5 =>
      some x5
    else
      some (-1)
set_option maxHeartbeats 4000000 in
theorem ok_X9_wood {g : Gx} (F : Nat) (p1 : Int32) (tw : Nat) (μ : Sw) (τ : Tw) {rv : Int32} (hf : t_X9_wood F p1 τ = some rv) : Cl g 1 yX9_wood cX9_wood 2 (some Jvm.ClassFile.FieldType.int) [.ref tw, .int p1] (mT tw τ μ) (some (.int rv)) (mT tw τ μ) := by
  unfold t_X9_wood at hf
  refine Cl.of (own := RX9) (ini := false) (by decide +kernel) rfl (by decide) (Nat.le_of_ble_eq_true rfl) ?_
  show PW g mX9_wood 1 (mT tw τ μ) (mT tw τ μ) (QN g (some (.int rv)) (mT tw τ μ) (mT tw τ μ)) 0 [(0, .ref tw), (1, .int p1)] [] (mT tw τ μ)
  refine P.iload_n 1 (pc' := 1) dX9_wood_0 rfl rfl rfl ?_
  refine P.if_lt (tgt := 14) (pc' := 4) dX9_wood_1 (by decide) rfl (fun y1 => ?_) (fun y1 => ?_)
  · have hf := (if_pos y1).symm.trans hf
    refine P.iconst (v := (-1)) (pc' := 15) dX9_wood_14 rfl (by decide) ?_
    refine P.goto (tgt := 27) dX9_wood_15 (by decide) ?_
    cases hf; exact P.iret rfl dX9_wood_27
  · have hf := (if_neg y1).symm.trans hf
    refine P.iload_n 1 (pc' := 5) dX9_wood_4 rfl rfl rfl ?_
    refine P.aload_n 0 (pc' := 6) dX9_wood_5 rfl rfl rfl ?_
    refine P.get (v := .ref (tw + 6)) (pc' := 9) ci9 12 (by decide) (T_gf rfl) q1567 (Or.inl rfl) dX9_wood_6 rfl ?_
    refine P.iconst (v := 5) (pc' := 10) dX9_wood_9 rfl (by decide) ?_
    obtain ⟨x2, h3, hf⟩ := ob hf
    refine P.iald (t := 0) (pc' := 11) rfl (T_aI rfl h3) dX9_wood_10 rfl ?_
    refine P.icmp_lt (tgt := 18) (pc' := 14) dX9_wood_11 (by decide) rfl (fun y4 => ?_) (fun y4 => ?_)
    · have hf := (if_pos y4).symm.trans hf
      refine P.aload_n 0 (pc' := 19) dX9_wood_18 rfl rfl rfl ?_
      refine P.get (v := .ref (tw + 7)) (pc' := 22) ci9 13 (by decide) (T_gf rfl) q1568 (Or.inl rfl) dX9_wood_19 rfl ?_
      refine P.bipush (v := 50) (pc' := 24) dX9_wood_22 rfl (by decide) ?_
      refine P.iload_n 1 (pc' := 25) dX9_wood_24 rfl rfl rfl ?_
      refine P.iadd (pc' := 26) dX9_wood_25 rfl ?_
      obtain ⟨x5, h6, hf⟩ := ob hf
      refine P.iald (t := 0) (pc' := 27) rfl (T_aI rfl h6) dX9_wood_26 rfl ?_
      cases hf; exact P.iret rfl dX9_wood_27
    · have hf := (if_neg y4).symm.trans hf
      refine P.iconst (v := (-1)) (pc' := 15) dX9_wood_14 rfl (by decide) ?_
      refine P.goto (tgt := 27) dX9_wood_15 (by decide) ?_
      cases hf; exact P.iret rfl dX9_wood_27
