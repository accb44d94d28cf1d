set_option maxRecDepth 100000
abbrev mX0_within : Ym := (RX0, cX0_within, 3, (some Jvm.ClassFile.FieldType.boolean), false, [])
noncomputable def p_X0_within (F : Nat) (p1 : Int32) (p2 : Int32) (p3 : Int32) : Option Int32 :=
  if p1 < p2 then
    some 0
  else
    if p3 < p1 then
      some 0
    else
      some 1
set_option maxHeartbeats 4000000 in
theorem ok_X0_within {g : Gx} (F : Nat) (p1 : Int32) (p2 : Int32) (p3 : Int32) (μ : Sw) {rv : Int32} (hf : p_X0_within F p1 p2 p3 = some rv) : Cl g 1 yX0_within cX0_within 3 (some Jvm.ClassFile.FieldType.boolean) [.int p1, .int p2, .int p3] μ (some (.int rv)) μ := by
  unfold p_X0_within at hf
  refine Cl.of (own := RX0) (ini := false) (by decide +kernel) rfl (by decide) (Nat.le_of_ble_eq_true rfl) ?_
  show PW g mX0_within 1 μ μ (QN g (some (.int rv)) μ μ) 0 [(0, .int p1), (1, .int p2), (2, .int p3)] [] μ
  refine P.iload_n 0 (pc' := 1) dX0_within_0 rfl rfl rfl ?_
  refine P.iload_n 1 (pc' := 2) dX0_within_1 rfl rfl rfl ?_
  refine P.icmp_lt (tgt := 14) (pc' := 5) dX0_within_2 (by decide) rfl (fun y1 => ?_) (fun y1 => ?_)
  · have hf := (if_pos y1).symm.trans hf
    refine P.iconst (v := 0) (pc' := 15) dX0_within_14 rfl (by decide) ?_
    cases hf; exact P.zret rfl (Or.inl rfl) dX0_within_15
  · have hf := (if_neg y1).symm.trans hf
    refine P.iload_n 0 (pc' := 6) dX0_within_5 rfl rfl rfl ?_
    refine P.iload_n 2 (pc' := 7) dX0_within_6 rfl rfl rfl ?_
    refine P.icmp_gt (tgt := 14) (pc' := 10) dX0_within_7 (by decide) rfl (fun y2 => ?_) (fun y2 => ?_)
    · have hf := (if_pos y2).symm.trans hf
      refine P.iconst (v := 0) (pc' := 15) dX0_within_14 rfl (by decide) ?_
      cases hf; exact P.zret rfl (Or.inl rfl) dX0_within_15
    · have hf := (if_neg y2).symm.trans hf
      refine P.iconst (v := 1) (pc' := 11) dX0_within_10 rfl (by decide) ?_
      refine P.goto (tgt := 15) dX0_within_11 (by decide) ?_
      cases hf; exact P.zret rfl (Or.inr rfl) dX0_within_15
abbrev mX0_held : Ym := (RX0, cX0_held, 2, (some Jvm.ClassFile.FieldType.int), false, [])
noncomputable def p_X0_held (F : Nat) (p1 : Int32) (p2 : Int32) : Option Int32 :=
  some (mn (mx p1 0) p2)
set_option maxHeartbeats 4000000 in
theorem ok_X0_held {g : Gx} (F : Nat) (p1 : Int32) (p2 : Int32) (μ : Sw) {rv : Int32} (hf : p_X0_held F p1 p2 = some rv) : Cl g 2 yX0_held cX0_held 2 (some Jvm.ClassFile.FieldType.int) [.int p1, .int p2] μ (some (.int rv)) μ := by
  unfold p_X0_held at hf
  refine Cl.of (own := RX0) (ini := false) (by decide +kernel) rfl (by decide) (Nat.le_of_ble_eq_true rfl) ?_
  show PW g mX0_held 2 μ μ (QN g (some (.int rv)) μ μ) 0 [(0, .int p1), (1, .int p2)] [] μ
  refine P.iload_n 0 (pc' := 1) dX0_held_0 rfl rfl rfl ?_
  refine P.iconst (v := 0) (pc' := 2) dX0_held_1 rfl (by decide) ?_
  refine P.mmax (pc' := 5) q1086 q816 q183 q817 (Nat.le_of_ble_eq_true rfl) (by decide) dX0_held_2 rfl ?_
  refine P.iload_n 1 (pc' := 6) dX0_held_5 rfl rfl rfl ?_
  refine P.mmin (pc' := 9) q1087 q857 q183 q858 (Nat.le_of_ble_eq_true rfl) (by decide) dX0_held_6 rfl ?_
  cases hf; exact P.iret rfl dX0_held_9
theorem yok_X0_within : yOK yX0_within 3 := ⟨by decide +kernel, by decide +kernel, by decide +kernel⟩
abbrev mX0_isHour : Ym := (RX0, cX0_isHour, 1, (some Jvm.ClassFile.FieldType.boolean), false, [])
noncomputable def p_X0_isHour (F : Nat) (p1 : Int32) : Option Int32 :=
  Option.bind (p_X0_within F p1 0 23) fun q1 =>
  if q1 = 0 ∨ q1 = 1 then
    some q1
  else
    none
set_option maxHeartbeats 4000000 in
theorem ok_X0_isHour {g : Gx} (F : Nat) (p1 : Int32) (μ : Sw) {rv : Int32} (hf : p_X0_isHour F p1 = some rv) : Cl g 2 yX0_isHour cX0_isHour 1 (some Jvm.ClassFile.FieldType.boolean) [.int p1] μ (some (.int rv)) μ := by
  unfold p_X0_isHour at hf
  refine Cl.of (own := RX0) (ini := false) (by decide +kernel) rfl (by decide) (Nat.le_of_ble_eq_true rfl) ?_
  show PW g mX0_isHour 2 μ μ (QN g (some (.int rv)) μ μ) 0 [(0, .int p1)] [] μ
  refine P.iload_n 0 (pc' := 1) dX0_isHour_0 rfl rfl rfl ?_
  refine P.iconst (v := 0) (pc' := 2) dX0_isHour_1 rfl (by decide) ?_
  refine P.bipush (v := 23) (pc' := 4) dX0_isHour_2 rfl (by decide) ?_
  obtain ⟨q1, h2, hf⟩ := ob hf
  refine P.callS (pc' := 7) (As := [.int p1, .int 0, .int 23]) 3 (ok_X0_within F p1 0 23 μ h2) (Nat.le_of_ble_eq_true rfl) (lw_S q1038 q557 q159 q558) yok_X0_within rfl (Nat.le_of_ble_eq_true rfl) (by decide) rfl dX0_isHour_4 rfl ?_
  by_cases y3 : q1 = 0 ∨ q1 = 1
  · have hf := (if_pos y3).symm.trans hf
    cases hf; exact P.zret rfl y3 dX0_isHour_7
  · have hf := (if_neg y3).symm.trans hf
    cases hf
abbrev mX0_isWind : Ym := (RX0, cX0_isWind, 1, (some Jvm.ClassFile.FieldType.boolean), false, [])
noncomputable def p_X0_isWind (F : Nat) (p1 : Int32) : Option Int32 :=
  Option.bind (p_X0_within F p1 0 99) fun q1 =>
  if q1 = 0 ∨ q1 = 1 then
    some q1
  else
    none
set_option maxHeartbeats 4000000 in
theorem ok_X0_isWind {g : Gx} (F : Nat) (p1 : Int32) (μ : Sw) {rv : Int32} (hf : p_X0_isWind F p1 = some rv) : Cl g 2 yX0_isWind cX0_isWind 1 (some Jvm.ClassFile.FieldType.boolean) [.int p1] μ (some (.int rv)) μ := by
  unfold p_X0_isWind at hf
  refine Cl.of (own := RX0) (ini := false) (by decide +kernel) rfl (by decide) (Nat.le_of_ble_eq_true rfl) ?_
  show PW g mX0_isWind 2 μ μ (QN g (some (.int rv)) μ μ) 0 [(0, .int p1)] [] μ
  refine P.iload_n 0 (pc' := 1) dX0_isWind_0 rfl rfl rfl ?_
  refine P.iconst (v := 0) (pc' := 2) dX0_isWind_1 rfl (by decide) ?_
  refine P.bipush (v := 99) (pc' := 4) dX0_isWind_2 rfl (by decide) ?_
  obtain ⟨q1, h2, hf⟩ := ob hf
  refine P.callS (pc' := 7) (As := [.int p1, .int 0, .int 99]) 3 (ok_X0_within F p1 0 99 μ h2) (Nat.le_of_ble_eq_true rfl) (lw_S q1038 q557 q159 q558) yok_X0_within rfl (Nat.le_of_ble_eq_true rfl) (by decide) rfl dX0_isWind_4 rfl ?_
  by_cases y3 : q1 = 0 ∨ q1 = 1
  · have hf := (if_pos y3).symm.trans hf
    cases hf; exact P.zret rfl y3 dX0_isWind_7
  · have hf := (if_neg y3).symm.trans hf
    cases hf
abbrev mX0_arePosts : Ym := (RX0, cX0_arePosts, 5, (some Jvm.ClassFile.FieldType.boolean), false, [])
noncomputable def p_X0_arePosts (F : Nat) (p1 : Int32) (p2 : Int32) (p3 : Int32) (p4 : Int32) (p5 : Int32) : Option Int32 :=
  Option.bind (p_X0_within F p1 0 99) fun q1 =>
  if q1 = 0 then
    some 0
  else
    Option.bind (p_X0_within F p2 0 99) fun q4 =>
    if q4 = 0 then
      some 0
    else
      Option.bind (p_X0_within F p3 0 99) fun q7 =>
      if q7 = 0 then
        some 0
      else
        Option.bind (p_X0_within F p4 0 99) fun q10 =>
        if q10 = 0 then
          some 0
        else
          Option.bind (p_X0_within F p5 0 99) fun q13 =>
          if q13 = 0 then
            some 0
          else
            some 1
set_option maxHeartbeats 4000000 in
theorem ok_X0_arePosts {g : Gx} (F : Nat) (p1 : Int32) (p2 : Int32) (p3 : Int32) (p4 : Int32) (p5 : Int32) (μ : Sw) {rv : Int32} (hf : p_X0_arePosts F p1 p2 p3 p4 p5 = some rv) : Cl g 2 yX0_arePosts cX0_arePosts 5 (some Jvm.ClassFile.FieldType.boolean) [.int p1, .int p2, .int p3, .int p4, .int p5] μ (some (.int rv)) μ := by
  unfold p_X0_arePosts at hf
  refine Cl.of (own := RX0) (ini := false) (by decide +kernel) rfl (by decide) (Nat.le_of_ble_eq_true rfl) ?_
  show PW g mX0_arePosts 2 μ μ (QN g (some (.int rv)) μ μ) 0 [(0, .int p1), (1, .int p2), (2, .int p3), (3, .int p4), (4, .int p5)] [] μ
  refine P.iload_n 0 (pc' := 1) dX0_arePosts_0 rfl rfl rfl ?_
  refine P.iconst (v := 0) (pc' := 2) dX0_arePosts_1 rfl (by decide) ?_
  refine P.bipush (v := 99) (pc' := 4) dX0_arePosts_2 rfl (by decide) ?_
  obtain ⟨q1, h2, hf⟩ := ob hf
  refine P.callS (pc' := 7) (As := [.int p1, .int 0, .int 99]) 3 (ok_X0_within F p1 0 99 μ h2) (Nat.le_of_ble_eq_true rfl) (lw_S q1038 q557 q159 q558) yok_X0_within rfl (Nat.le_of_ble_eq_true rfl) (by decide) rfl dX0_arePosts_4 rfl ?_
  refine P.if_eq (tgt := 55) (pc' := 10) dX0_arePosts_7 (by decide) rfl (fun y3 => ?_) (fun y3 => ?_)
  · have hf := (if_pos y3).symm.trans hf
    refine P.iconst (v := 0) (pc' := 56) dX0_arePosts_55 rfl (by decide) ?_
    cases hf; exact P.zret rfl (Or.inl rfl) dX0_arePosts_56
  · have hf := (if_neg y3).symm.trans hf
    refine P.iload_n 1 (pc' := 11) dX0_arePosts_10 rfl rfl rfl ?_
    refine P.iconst (v := 0) (pc' := 12) dX0_arePosts_11 rfl (by decide) ?_
    refine P.bipush (v := 99) (pc' := 14) dX0_arePosts_12 rfl (by decide) ?_
    obtain ⟨q4, h5, hf⟩ := ob hf
    refine P.callS (pc' := 17) (As := [.int p2, .int 0, .int 99]) 3 (ok_X0_within F p2 0 99 μ h5) (Nat.le_of_ble_eq_true rfl) (lw_S q1038 q557 q159 q558) yok_X0_within rfl (Nat.le_of_ble_eq_true rfl) (by decide) rfl dX0_arePosts_14 rfl ?_
    refine P.if_eq (tgt := 55) (pc' := 20) dX0_arePosts_17 (by decide) rfl (fun y6 => ?_) (fun y6 => ?_)
    · have hf := (if_pos y6).symm.trans hf
      refine P.iconst (v := 0) (pc' := 56) dX0_arePosts_55 rfl (by decide) ?_
      cases hf; exact P.zret rfl (Or.inl rfl) dX0_arePosts_56
    · have hf := (if_neg y6).symm.trans hf
      refine P.iload_n 2 (pc' := 21) dX0_arePosts_20 rfl rfl rfl ?_
      refine P.iconst (v := 0) (pc' := 22) dX0_arePosts_21 rfl (by decide) ?_
      refine P.bipush (v := 99) (pc' := 24) dX0_arePosts_22 rfl (by decide) ?_
      obtain ⟨q7, h8, hf⟩ := ob hf
      refine P.callS (pc' := 27) (As := [.int p3, .int 0, .int 99]) 3 (ok_X0_within F p3 0 99 μ h8) (Nat.le_of_ble_eq_true rfl) (lw_S q1038 q557 q159 q558) yok_X0_within rfl (Nat.le_of_ble_eq_true rfl) (by decide) rfl dX0_arePosts_24 rfl ?_
      refine P.if_eq (tgt := 55) (pc' := 30) dX0_arePosts_27 (by decide) rfl (fun y9 => ?_) (fun y9 => ?_)
      · have hf := (if_pos y9).symm.trans hf
        refine P.iconst (v := 0) (pc' := 56) dX0_arePosts_55 rfl (by decide) ?_
        cases hf; exact P.zret rfl (Or.inl rfl) dX0_arePosts_56
      · have hf := (if_neg y9).symm.trans hf
        refine P.iload_n 3 (pc' := 31) dX0_arePosts_30 rfl rfl rfl ?_
        refine P.iconst (v := 0) (pc' := 32) dX0_arePosts_31 rfl (by decide) ?_
        refine P.bipush (v := 99) (pc' := 34) dX0_arePosts_32 rfl (by decide) ?_
        obtain ⟨q10, h11, hf⟩ := ob hf
        refine P.callS (pc' := 37) (As := [.int p4, .int 0, .int 99]) 3 (ok_X0_within F p4 0 99 μ h11) (Nat.le_of_ble_eq_true rfl) (lw_S q1038 q557 q159 q558) yok_X0_within rfl (Nat.le_of_ble_eq_true rfl) (by decide) rfl dX0_arePosts_34 rfl ?_
        refine P.if_eq (tgt := 55) (pc' := 40) dX0_arePosts_37 (by decide) rfl (fun y12 => ?_) (fun y12 => ?_)
        · have hf := (if_pos y12).symm.trans hf
          refine P.iconst (v := 0) (pc' := 56) dX0_arePosts_55 rfl (by decide) ?_
          cases hf; exact P.zret rfl (Or.inl rfl) dX0_arePosts_56
        · have hf := (if_neg y12).symm.trans hf
          refine P.iload 4 (pc' := 42) dX0_arePosts_40 rfl rfl ?_
          refine P.iconst (v := 0) (pc' := 43) dX0_arePosts_42 rfl (by decide) ?_
          refine P.bipush (v := 99) (pc' := 45) dX0_arePosts_43 rfl (by decide) ?_
          obtain ⟨q13, h14, hf⟩ := ob hf
          refine P.callS (pc' := 48) (As := [.int p5, .int 0, .int 99]) 3 (ok_X0_within F p5 0 99 μ h14) (Nat.le_of_ble_eq_true rfl) (lw_S q1038 q557 q159 q558) yok_X0_within rfl (Nat.le_of_ble_eq_true rfl) (by decide) rfl dX0_arePosts_45 rfl ?_
          refine P.if_eq (tgt := 55) (pc' := 51) dX0_arePosts_48 (by decide) rfl (fun y15 => ?_) (fun y15 => ?_)
          · have hf := (if_pos y15).symm.trans hf
            refine P.iconst (v := 0) (pc' := 56) dX0_arePosts_55 rfl (by decide) ?_
            cases hf; exact P.zret rfl (Or.inl rfl) dX0_arePosts_56
          · have hf := (if_neg y15).symm.trans hf
            refine P.iconst (v := 1) (pc' := 52) dX0_arePosts_51 rfl (by decide) ?_
            refine P.goto (tgt := 56) dX0_arePosts_52 (by decide) ?_
            cases hf; exact P.zret rfl (Or.inr rfl) dX0_arePosts_56
abbrev mX0_change : Ym := (RX0, cX0_change, 5, (some Jvm.ClassFile.FieldType.int), false, [])
noncomputable def p_X0_change (F : Nat) (p1 : Int32) (p2 : Int32) (p3 : Int32) (p4 : Int32) (p5 : Int32) : Option Int32 :=
  if p1 = p2 then
    some 0
  else
    if p2 ≤ p1 then
      some (p5 + ((p1 - p2) * p4))
    else
      some (p5 + ((p2 - p1) * p3))
set_option maxHeartbeats 4000000 in
theorem ok_X0_change {g : Gx} (F : Nat) (p1 : Int32) (p2 : Int32) (p3 : Int32) (p4 : Int32) (p5 : Int32) (μ : Sw) {rv : Int32} (hf : p_X0_change F p1 p2 p3 p4 p5 = some rv) : Cl g 1 yX0_change cX0_change 5 (some Jvm.ClassFile.FieldType.int) [.int p1, .int p2, .int p3, .int p4, .int p5] μ (some (.int rv)) μ := by
  unfold p_X0_change at hf
  refine Cl.of (own := RX0) (ini := false) (by decide +kernel) rfl (by decide) (Nat.le_of_ble_eq_true rfl) ?_
  show PW g mX0_change 1 μ μ (QN g (some (.int rv)) μ μ) 0 [(0, .int p1), (1, .int p2), (2, .int p3), (3, .int p4), (4, .int p5)] [] μ
  refine P.iload_n 0 (pc' := 1) dX0_change_0 rfl rfl rfl ?_
  refine P.iload_n 1 (pc' := 2) dX0_change_1 rfl rfl rfl ?_
  refine P.icmp_ne (tgt := 9) (pc' := 5) dX0_change_2 (by decide) rfl (fun y1 => ?_) (fun y1 => ?_)
  · have hf := (if_neg y1).symm.trans hf
    refine P.iload 4 (pc' := 11) dX0_change_9 rfl rfl ?_
    refine P.iload_n 1 (pc' := 12) dX0_change_11 rfl rfl rfl ?_
    refine P.iload_n 0 (pc' := 13) dX0_change_12 rfl rfl rfl ?_
    refine P.icmp_le (tgt := 24) (pc' := 16) dX0_change_13 (by decide) rfl (fun y2 => ?_) (fun y2 => ?_)
    · have hf := (if_pos y2).symm.trans hf
      refine P.iload_n 0 (pc' := 25) dX0_change_24 rfl rfl rfl ?_
      refine P.iload_n 1 (pc' := 26) dX0_change_25 rfl rfl rfl ?_
      refine P.isub (pc' := 27) dX0_change_26 rfl ?_
      refine P.iload_n 3 (pc' := 28) dX0_change_27 rfl rfl rfl ?_
      refine P.imul (pc' := 29) dX0_change_28 rfl ?_
      refine P.iadd (pc' := 30) dX0_change_29 rfl ?_
      cases hf; exact P.iret rfl dX0_change_30
    · have hf := (if_neg y2).symm.trans hf
      refine P.iload_n 1 (pc' := 17) dX0_change_16 rfl rfl rfl ?_
      refine P.iload_n 0 (pc' := 18) dX0_change_17 rfl rfl rfl ?_
      refine P.isub (pc' := 19) dX0_change_18 rfl ?_
      refine P.iload_n 2 (pc' := 20) dX0_change_19 rfl rfl rfl ?_
      refine P.imul (pc' := 21) dX0_change_20 rfl ?_
      refine P.goto (tgt := 29) dX0_change_21 (by decide) ?_
      refine P.iadd (pc' := 30) dX0_change_29 rfl ?_
      cases hf; exact P.iret rfl dX0_change_30
  · have hf := (if_pos y1).symm.trans hf
    refine P.iconst (v := 0) (pc' := 6) dX0_change_5 rfl (by decide) ?_
    refine P.goto (tgt := 30) dX0_change_6 (by decide) ?_
    cases hf; exact P.iret rfl dX0_change_30
abbrev mX0_mixed : Ym := (RX0, cX0_mixed, 3, (some Jvm.ClassFile.FieldType.int), false, [])
noncomputable def p_X0_mixed (F : Nat) (p1 : Int32) (p2 : Int32) : Option Int32 :=
  nm (((p1 ^^^ p2) * 1103515245) + 12345) fun x1 =>
  some (x1 ^^^ ((x1.toUInt32 >>> ((15 : Int32).toUInt32 &&& Int32.toUInt32 31)).toInt32))
set_option maxHeartbeats 4000000 in
theorem ok_X0_mixed {g : Gx} (F : Nat) (p1 : Int32) (p2 : Int32) (μ : Sw) {rv : Int32} (hf : p_X0_mixed F p1 p2 = some rv) : Cl g 1 yX0_mixed cX0_mixed 3 (some Jvm.ClassFile.FieldType.int) [.int p1, .int p2] μ (some (.int rv)) μ := by
  unfold p_X0_mixed at hf
  refine Cl.of (own := RX0) (ini := false) (by decide +kernel) rfl (by decide) (Nat.le_of_ble_eq_true rfl) ?_
  show PW g mX0_mixed 1 μ μ (QN g (some (.int rv)) μ μ) 0 [(0, .int p1), (1, .int p2)] [] μ
  refine P.iload_n 0 (pc' := 1) dX0_mixed_0 rfl rfl rfl ?_
  refine P.iload_n 1 (pc' := 2) dX0_mixed_1 rfl rfl rfl ?_
  refine P.ixor (pc' := 3) dX0_mixed_2 rfl ?_
  refine P.ldc_w (v := 1103515245) (pc' := 6) dX0_mixed_3 rfl q1498 ?_
  refine P.imul (pc' := 7) dX0_mixed_6 rfl ?_
  refine P.sipush (v := 12345) (pc' := 10) dX0_mixed_7 rfl (by decide) ?_
  refine P.iadd (pc' := 11) dX0_mixed_10 rfl ?_
  obtain ⟨x1, e2, hf⟩ := nm_i hf
  refine P.nmi e2 ?_
  refine P.istore_n (pc' := 12) (lv' := [(2, .int x1), (0, .int p1), (1, .int p2)]) dX0_mixed_11 rfl rfl (Nat.le_of_ble_eq_true rfl) rfl ?_
  refine P.iload_n 0 (pc' := 13) dX0_mixed_12 rfl rfl rfl ?_
  refine P.iload_n 0 (pc' := 14) dX0_mixed_13 rfl rfl rfl ?_
  refine P.bipush (v := 15) (pc' := 16) dX0_mixed_14 rfl (by decide) ?_
  refine P.iushr (pc' := 17) dX0_mixed_16 rfl ?_
  refine P.ixor (pc' := 18) dX0_mixed_17 rfl ?_
  cases hf; exact P.iret rfl dX0_mixed_18
theorem yok_X0_mixed : yOK yX0_mixed 2 := ⟨by decide +kernel, by decide +kernel, by decide +kernel⟩
abbrev mX0_lot : Ym := (RX0, cX0_lot, 3, (some Jvm.ClassFile.FieldType.int), false, [])
noncomputable def p_X0_lot (F : Nat) (p1 : Int32) (p2 : Int32) (p3 : Int32) : Option Int32 :=
  Option.bind (p_X0_mixed F p1 18) fun q1 =>
  Option.bind (p_X0_mixed F q1 p2) fun q3 =>
  Option.bind (rmO ((q3.toUInt32 >>> ((1 : Int32).toUInt32 &&& Int32.toUInt32 31)).toInt32) p3) fun x5 =>
  some x5
set_option maxHeartbeats 4000000 in
theorem ok_X0_lot {g : Gx} (F : Nat) (p1 : Int32) (p2 : Int32) (p3 : Int32) (μ : Sw) {rv : Int32} (hf : p_X0_lot F p1 p2 p3 = some rv) : Cl g 2 yX0_lot cX0_lot 3 (some Jvm.ClassFile.FieldType.int) [.int p1, .int p2, .int p3] μ (some (.int rv)) μ := by
  unfold p_X0_lot at hf
  refine Cl.of (own := RX0) (ini := false) (by decide +kernel) rfl (by decide) (Nat.le_of_ble_eq_true rfl) ?_
  show PW g mX0_lot 2 μ μ (QN g (some (.int rv)) μ μ) 0 [(0, .int p1), (1, .int p2), (2, .int p3)] [] μ
  refine P.iload_n 0 (pc' := 1) dX0_lot_0 rfl rfl rfl ?_
  refine P.bipush (v := 18) (pc' := 3) dX0_lot_1 rfl (by decide) ?_
  obtain ⟨q1, h2, hf⟩ := ob hf
  refine P.callS (pc' := 6) (As := [.int p1, .int 18]) 2 (ok_X0_mixed F p1 18 μ h2) (Nat.le_of_ble_eq_true rfl) (lw_S q1495 q1496 q159 q1497) yok_X0_mixed rfl (Nat.le_of_ble_eq_true rfl) (by decide) rfl dX0_lot_3 rfl ?_
  refine P.iload_n 1 (pc' := 7) dX0_lot_6 rfl rfl rfl ?_
  obtain ⟨q3, h4, hf⟩ := ob hf
  refine P.callS (pc' := 10) (As := [.int q1, .int p2]) 2 (ok_X0_mixed F q1 p2 μ h4) (Nat.le_of_ble_eq_true rfl) (lw_S q1495 q1496 q159 q1497) yok_X0_mixed rfl (Nat.le_of_ble_eq_true rfl) (by decide) rfl dX0_lot_7 rfl ?_
  refine P.iconst (v := 1) (pc' := 11) dX0_lot_10 rfl (by decide) ?_
  refine P.iushr (pc' := 12) dX0_lot_11 rfl ?_
  refine P.iload_n 2 (pc' := 13) dX0_lot_12 rfl rfl rfl ?_
  obtain ⟨x5, h6, hf⟩ := ob hf
  refine P.iremO (pc' := 14) h6 dX0_lot_13 rfl ?_
  cases hf; exact P.iret rfl dX0_lot_14
abbrev mX1_isLetter : Ym := (RX1, cX1_isLetter, 1, (some Jvm.ClassFile.FieldType.boolean), false, [])
noncomputable def p_X1_isLetter (F : Nat) (p1 : Int32) : Option Int32 :=
  if p1 < 97 then
    some 0
  else
    if 122 < p1 then
      some 0
    else
      some 1
set_option maxHeartbeats 4000000 in
theorem ok_X1_isLetter {g : Gx} (F : Nat) (p1 : Int32) (μ : Sw) {rv : Int32} (hf : p_X1_isLetter F p1 = some rv) : Cl g 1 yX1_isLetter cX1_isLetter 1 (some Jvm.ClassFile.FieldType.boolean) [.int p1] μ (some (.int rv)) μ := by
  unfold p_X1_isLetter at hf
  refine Cl.of (own := RX1) (ini := false) (by decide +kernel) rfl (by decide) (Nat.le_of_ble_eq_true rfl) ?_
  show PW g mX1_isLetter 1 μ μ (QN g (some (.int rv)) μ μ) 0 [(0, .int p1)] [] μ
  refine P.iload_n 0 (pc' := 1) dX1_isLetter_0 rfl rfl rfl ?_
  refine P.bipush (v := 97) (pc' := 3) dX1_isLetter_1 rfl (by decide) ?_
  refine P.icmp_lt (tgt := 16) (pc' := 6) dX1_isLetter_3 (by decide) rfl (fun y1 => ?_) (fun y1 => ?_)
  · have hf := (if_pos y1).symm.trans hf
    refine P.iconst (v := 0) (pc' := 17) dX1_isLetter_16 rfl (by decide) ?_
    cases hf; exact P.zret rfl (Or.inl rfl) dX1_isLetter_17
  · have hf := (if_neg y1).symm.trans hf
    refine P.iload_n 0 (pc' := 7) dX1_isLetter_6 rfl rfl rfl ?_
    refine P.bipush (v := 122) (pc' := 9) dX1_isLetter_7 rfl (by decide) ?_
    refine P.icmp_gt (tgt := 16) (pc' := 12) dX1_isLetter_9 (by decide) rfl (fun y2 => ?_) (fun y2 => ?_)
    · have hf := (if_pos y2).symm.trans hf
      refine P.iconst (v := 0) (pc' := 17) dX1_isLetter_16 rfl (by decide) ?_
      cases hf; exact P.zret rfl (Or.inl rfl) dX1_isLetter_17
    · have hf := (if_neg y2).symm.trans hf
      refine P.iconst (v := 1) (pc' := 13) dX1_isLetter_12 rfl (by decide) ?_
      refine P.goto (tgt := 17) dX1_isLetter_13 (by decide) ?_
      cases hf; exact P.zret rfl (Or.inr rfl) dX1_isLetter_17
abbrev mX1_isDigit : Ym := (RX1, cX1_isDigit, 1, (some Jvm.ClassFile.FieldType.boolean), false, [])
noncomputable def p_X1_isDigit (F : Nat) (p1 : Int32) : Option Int32 :=
  if p1 < 48 then
    some 0
  else
    if 57 < p1 then
      some 0
    else
      some 1
set_option maxHeartbeats 4000000 in
theorem ok_X1_isDigit {g : Gx} (F : Nat) (p1 : Int32) (μ : Sw) {rv : Int32} (hf : p_X1_isDigit F p1 = some rv) : Cl g 1 yX1_isDigit cX1_isDigit 1 (some Jvm.ClassFile.FieldType.boolean) [.int p1] μ (some (.int rv)) μ := by
  unfold p_X1_isDigit at hf
  refine Cl.of (own := RX1) (ini := false) (by decide +kernel) rfl (by decide) (Nat.le_of_ble_eq_true rfl) ?_
  show PW g mX1_isDigit 1 μ μ (QN g (some (.int rv)) μ μ) 0 [(0, .int p1)] [] μ
  refine P.iload_n 0 (pc' := 1) dX1_isDigit_0 rfl rfl rfl ?_
  refine P.bipush (v := 48) (pc' := 3) dX1_isDigit_1 rfl (by decide) ?_
  refine P.icmp_lt (tgt := 16) (pc' := 6) dX1_isDigit_3 (by decide) rfl (fun y1 => ?_) (fun y1 => ?_)
  · have hf := (if_pos y1).symm.trans hf
    refine P.iconst (v := 0) (pc' := 17) dX1_isDigit_16 rfl (by decide) ?_
    cases hf; exact P.zret rfl (Or.inl rfl) dX1_isDigit_17
  · have hf := (if_neg y1).symm.trans hf
    refine P.iload_n 0 (pc' := 7) dX1_isDigit_6 rfl rfl rfl ?_
    refine P.bipush (v := 57) (pc' := 9) dX1_isDigit_7 rfl (by decide) ?_
    refine P.icmp_gt (tgt := 16) (pc' := 12) dX1_isDigit_9 (by decide) rfl (fun y2 => ?_) (fun y2 => ?_)
    · have hf := (if_pos y2).symm.trans hf
      refine P.iconst (v := 0) (pc' := 17) dX1_isDigit_16 rfl (by decide) ?_
      cases hf; exact P.zret rfl (Or.inl rfl) dX1_isDigit_17
    · have hf := (if_neg y2).symm.trans hf
      refine P.iconst (v := 1) (pc' := 13) dX1_isDigit_12 rfl (by decide) ?_
      refine P.goto (tgt := 17) dX1_isDigit_13 (by decide) ?_
      cases hf; exact P.zret rfl (Or.inr rfl) dX1_isDigit_17
abbrev mX9_wordOf : Ym := (RX9, cX9_wordOf, 2, (some Jvm.ClassFile.FieldType.int), false, [])
noncomputable def p_X9_wordOf (F : Nat) (p1 : Int64) : Option Int32 :=
  if (lg_cmp p1 4562600) = 0 then
    some 0
  else
    if (lg_cmp p1 218546996) = 0 then
      some 1
    else
      if (lg_cmp p1 257) = 0 then
        some 2
      else
        if (lg_cmp p1 10492029) = 0 then
          some 3
        else
          if (lg_cmp p1 110319223) = 0 then
            some 4
          else
            if (lg_cmp p1 349972) = 0 then
              some 5
            else
              if (lg_cmp p1 464053) = 0 then
                some 6
              else
                if (lg_cmp p1 1952902) = 0 then
                  some 7
                else
                  if (lg_cmp p1 249) = 0 then
                    some 8
                  else
                    if (lg_cmp p1 197651) = 0 then
                      some 9
                    else
                      if (lg_cmp p1 10631) = 0 then
                        some 10
                      else
                        if (lg_cmp p1 1111) = 0 then
                          some 11
                        else
                          if (lg_cmp p1 423) = 0 then
                            some 12
                          else
                            if (lg_cmp p1 117630947) = 0 then
                              some 13
                            else
                              if (lg_cmp p1 355412) = 0 then
                                some 14
                              else
                                if (lg_cmp p1 247162) = 0 then
                                  some 15
                                else
                                  if (lg_cmp p1 24) = 0 then
                                    some 16
                                  else
                                    if (lg_cmp p1 168984) = 0 then
                                      some 17
                                    else
                                      if (lg_cmp p1 7214732) = 0 then
                                        some 18
                                      else
                                        if (lg_cmp p1 459652) = 0 then
                                          some 19
                                        else
                                          if (lg_cmp p1 149099) = 0 then
                                            some 20
                                          else
                                            if (lg_cmp p1 390796) = 0 then
                                              some 21
                                            else
                                              if (lg_cmp p1 400334) = 0 then
                                                some 30
                                              else
                                                if (lg_cmp p1 3488) = 0 then
                                                  some 31
                                                else
                                                  if (lg_cmp p1 3217420) = 0 then
                                                    some 32
                                                  else
                                                    if (lg_cmp p1 1489) = 0 then
                                                      some 33
                                                    else
                                                      some (-1)
set_option maxHeartbeats 4000000 in
theorem ok_X9_wordOf {g : Gx} (F : Nat) (p1 : Int64) (μ : Sw) {rv : Int32} (hf : p_X9_wordOf F p1 = some rv) : Cl g 1 yX9_wordOf cX9_wordOf 2 (some Jvm.ClassFile.FieldType.int) [.long p1] μ (some (.int rv)) μ := by
  unfold p_X9_wordOf at hf
  refine Cl.of (own := RX9) (ini := false) (by decide +kernel) rfl (by decide) (Nat.le_of_ble_eq_true rfl) ?_
  show PW g mX9_wordOf 1 μ μ (QN g (some (.int rv)) μ μ) 0 [(0, .long p1)] [] μ
  refine P.lload_n 0 (pc' := 1) dX9_wordOf_0 rfl rfl rfl ?_
  refine P.ldc2_w (v := 4562600) (pc' := 4) dX9_wordOf_1 rfl q1752 ?_
  refine P.lcmp (pc' := 5) dX9_wordOf_4 rfl ?_
  refine P.if_ne (tgt := 10) (pc' := 8) dX9_wordOf_5 (by decide) rfl (fun y1 => ?_) (fun y1 => ?_)
  · have hf := (if_neg y1).symm.trans hf
    refine P.lload_n 0 (pc' := 11) dX9_wordOf_10 rfl rfl rfl ?_
    refine P.ldc2_w (v := 218546996) (pc' := 14) dX9_wordOf_11 rfl q1753 ?_
    refine P.lcmp (pc' := 15) dX9_wordOf_14 rfl ?_
    refine P.if_ne (tgt := 20) (pc' := 18) dX9_wordOf_15 (by decide) rfl (fun y2 => ?_) (fun y2 => ?_)
    · have hf := (if_neg y2).symm.trans hf
      refine P.lload_n 0 (pc' := 21) dX9_wordOf_20 rfl rfl rfl ?_
      refine P.ldc2_w (v := 257) (pc' := 24) dX9_wordOf_21 rfl q1754 ?_
      refine P.lcmp (pc' := 25) dX9_wordOf_24 rfl ?_
      refine P.if_ne (tgt := 30) (pc' := 28) dX9_wordOf_25 (by decide) rfl (fun y3 => ?_) (fun y3 => ?_)
      · have hf := (if_neg y3).symm.trans hf
        refine P.lload_n 0 (pc' := 31) dX9_wordOf_30 rfl rfl rfl ?_
        refine P.ldc2_w (v := 10492029) (pc' := 34) dX9_wordOf_31 rfl q1755 ?_
        refine P.lcmp (pc' := 35) dX9_wordOf_34 rfl ?_
        refine P.if_ne (tgt := 40) (pc' := 38) dX9_wordOf_35 (by decide) rfl (fun y4 => ?_) (fun y4 => ?_)
        · have hf := (if_neg y4).symm.trans hf
          refine P.lload_n 0 (pc' := 41) dX9_wordOf_40 rfl rfl rfl ?_
          refine P.ldc2_w (v := 110319223) (pc' := 44) dX9_wordOf_41 rfl q1756 ?_
          refine P.lcmp (pc' := 45) dX9_wordOf_44 rfl ?_
          refine P.if_ne (tgt := 50) (pc' := 48) dX9_wordOf_45 (by decide) rfl (fun y5 => ?_) (fun y5 => ?_)
          · have hf := (if_neg y5).symm.trans hf
            refine P.lload_n 0 (pc' := 51) dX9_wordOf_50 rfl rfl rfl ?_
            refine P.ldc2_w (v := 349972) (pc' := 54) dX9_wordOf_51 rfl q1757 ?_
            refine P.lcmp (pc' := 55) dX9_wordOf_54 rfl ?_
            refine P.if_ne (tgt := 60) (pc' := 58) dX9_wordOf_55 (by decide) rfl (fun y6 => ?_) (fun y6 => ?_)
            · have hf := (if_neg y6).symm.trans hf
              refine P.lload_n 0 (pc' := 61) dX9_wordOf_60 rfl rfl rfl ?_
              refine P.ldc2_w (v := 464053) (pc' := 64) dX9_wordOf_61 rfl q1758 ?_
              refine P.lcmp (pc' := 65) dX9_wordOf_64 rfl ?_
              refine P.if_ne (tgt := 71) (pc' := 68) dX9_wordOf_65 (by decide) rfl (fun y7 => ?_) (fun y7 => ?_)
              · have hf := (if_neg y7).symm.trans hf
                refine P.lload_n 0 (pc' := 72) dX9_wordOf_71 rfl rfl rfl ?_
                refine P.ldc2_w (v := 1952902) (pc' := 75) dX9_wordOf_72 rfl q1759 ?_
                refine P.lcmp (pc' := 76) dX9_wordOf_75 rfl ?_
                refine P.if_ne (tgt := 82) (pc' := 79) dX9_wordOf_76 (by decide) rfl (fun y8 => ?_) (fun y8 => ?_)
                · have hf := (if_neg y8).symm.trans hf
                  refine P.lload_n 0 (pc' := 83) dX9_wordOf_82 rfl rfl rfl ?_
                  refine P.ldc2_w (v := 249) (pc' := 86) dX9_wordOf_83 rfl q1760 ?_
                  refine P.lcmp (pc' := 87) dX9_wordOf_86 rfl ?_
                  refine P.if_ne (tgt := 93) (pc' := 90) dX9_wordOf_87 (by decide) rfl (fun y9 => ?_) (fun y9 => ?_)
                  · have hf := (if_neg y9).symm.trans hf
                    refine P.lload_n 0 (pc' := 94) dX9_wordOf_93 rfl rfl rfl ?_
                    refine P.ldc2_w (v := 197651) (pc' := 97) dX9_wordOf_94 rfl q1761 ?_
                    refine P.lcmp (pc' := 98) dX9_wordOf_97 rfl ?_
                    refine P.if_ne (tgt := 104) (pc' := 101) dX9_wordOf_98 (by decide) rfl (fun y10 => ?_) (fun y10 => ?_)
                    · have hf := (if_neg y10).symm.trans hf
                      refine P.lload_n 0 (pc' := 105) dX9_wordOf_104 rfl rfl rfl ?_
                      refine P.ldc2_w (v := 10631) (pc' := 108) dX9_wordOf_105 rfl q1762 ?_
                      refine P.lcmp (pc' := 109) dX9_wordOf_108 rfl ?_
                      refine P.if_ne (tgt := 115) (pc' := 112) dX9_wordOf_109 (by decide) rfl (fun y11 => ?_) (fun y11 => ?_)
                      · have hf := (if_neg y11).symm.trans hf
                        refine P.lload_n 0 (pc' := 116) dX9_wordOf_115 rfl rfl rfl ?_
                        refine P.ldc2_w (v := 1111) (pc' := 119) dX9_wordOf_116 rfl q1763 ?_
                        refine P.lcmp (pc' := 120) dX9_wordOf_119 rfl ?_
                        refine P.if_ne (tgt := 126) (pc' := 123) dX9_wordOf_120 (by decide) rfl (fun y12 => ?_) (fun y12 => ?_)
                        · have hf := (if_neg y12).symm.trans hf
                          refine P.lload_n 0 (pc' := 127) dX9_wordOf_126 rfl rfl rfl ?_
                          refine P.ldc2_w (v := 423) (pc' := 130) dX9_wordOf_127 rfl q1764 ?_
                          refine P.lcmp (pc' := 131) dX9_wordOf_130 rfl ?_
                          refine P.if_ne (tgt := 137) (pc' := 134) dX9_wordOf_131 (by decide) rfl (fun y13 => ?_) (fun y13 => ?_)
                          · have hf := (if_neg y13).symm.trans hf
                            refine P.lload_n 0 (pc' := 138) dX9_wordOf_137 rfl rfl rfl ?_
                            refine P.ldc2_w (v := 117630947) (pc' := 141) dX9_wordOf_138 rfl q1765 ?_
                            refine P.lcmp (pc' := 142) dX9_wordOf_141 rfl ?_
                            refine P.if_ne (tgt := 148) (pc' := 145) dX9_wordOf_142 (by decide) rfl (fun y14 => ?_) (fun y14 => ?_)
                            · have hf := (if_neg y14).symm.trans hf
                              refine P.lload_n 0 (pc' := 149) dX9_wordOf_148 rfl rfl rfl ?_
                              refine P.ldc2_w (v := 355412) (pc' := 152) dX9_wordOf_149 rfl q1766 ?_
                              refine P.lcmp (pc' := 153) dX9_wordOf_152 rfl ?_
                              refine P.if_ne (tgt := 159) (pc' := 156) dX9_wordOf_153 (by decide) rfl (fun y15 => ?_) (fun y15 => ?_)
                              · have hf := (if_neg y15).symm.trans hf
                                refine P.lload_n 0 (pc' := 160) dX9_wordOf_159 rfl rfl rfl ?_
                                refine P.ldc2_w (v := 247162) (pc' := 163) dX9_wordOf_160 rfl q1767 ?_
                                refine P.lcmp (pc' := 164) dX9_wordOf_163 rfl ?_
                                refine P.if_ne (tgt := 170) (pc' := 167) dX9_wordOf_164 (by decide) rfl (fun y16 => ?_) (fun y16 => ?_)
                                · have hf := (if_neg y16).symm.trans hf
                                  refine P.lload_n 0 (pc' := 171) dX9_wordOf_170 rfl rfl rfl ?_
                                  refine P.ldc2_w (v := 24) (pc' := 174) dX9_wordOf_171 rfl q1768 ?_
                                  refine P.lcmp (pc' := 175) dX9_wordOf_174 rfl ?_
                                  refine P.if_ne (tgt := 181) (pc' := 178) dX9_wordOf_175 (by decide) rfl (fun y17 => ?_) (fun y17 => ?_)
                                  · have hf := (if_neg y17).symm.trans hf
                                    refine P.lload_n 0 (pc' := 182) dX9_wordOf_181 rfl rfl rfl ?_
                                    refine P.ldc2_w (v := 168984) (pc' := 185) dX9_wordOf_182 rfl q1769 ?_
                                    refine P.lcmp (pc' := 186) dX9_wordOf_185 rfl ?_
                                    refine P.if_ne (tgt := 192) (pc' := 189) dX9_wordOf_186 (by decide) rfl (fun y18 => ?_) (fun y18 => ?_)
                                    · have hf := (if_neg y18).symm.trans hf
                                      refine P.lload_n 0 (pc' := 193) dX9_wordOf_192 rfl rfl rfl ?_
                                      refine P.ldc2_w (v := 7214732) (pc' := 196) dX9_wordOf_193 rfl q1770 ?_
                                      refine P.lcmp (pc' := 197) dX9_wordOf_196 rfl ?_
                                      refine P.if_ne (tgt := 203) (pc' := 200) dX9_wordOf_197 (by decide) rfl (fun y19 => ?_) (fun y19 => ?_)
                                      · have hf := (if_neg y19).symm.trans hf
                                        refine P.lload_n 0 (pc' := 204) dX9_wordOf_203 rfl rfl rfl ?_
                                        refine P.ldc2_w (v := 459652) (pc' := 207) dX9_wordOf_204 rfl q1771 ?_
                                        refine P.lcmp (pc' := 208) dX9_wordOf_207 rfl ?_
                                        refine P.if_ne (tgt := 214) (pc' := 211) dX9_wordOf_208 (by decide) rfl (fun y20 => ?_) (fun y20 => ?_)
                                        · have hf := (if_neg y20).symm.trans hf
                                          refine P.lload_n 0 (pc' := 215) dX9_wordOf_214 rfl rfl rfl ?_
                                          refine P.ldc2_w (v := 149099) (pc' := 218) dX9_wordOf_215 rfl q1772 ?_
                                          refine P.lcmp (pc' := 219) dX9_wordOf_218 rfl ?_
                                          refine P.if_ne (tgt := 225) (pc' := 222) dX9_wordOf_219 (by decide) rfl (fun y21 => ?_) (fun y21 => ?_)
                                          · have hf := (if_neg y21).symm.trans hf
                                            refine P.lload_n 0 (pc' := 226) dX9_wordOf_225 rfl rfl rfl ?_
                                            refine P.ldc2_w (v := 390796) (pc' := 229) dX9_wordOf_226 rfl q1773 ?_
                                            refine P.lcmp (pc' := 230) dX9_wordOf_229 rfl ?_
                                            refine P.if_ne (tgt := 236) (pc' := 233) dX9_wordOf_230 (by decide) rfl (fun y22 => ?_) (fun y22 => ?_)
                                            · have hf := (if_neg y22).symm.trans hf
                                              refine P.lload_n 0 (pc' := 237) dX9_wordOf_236 rfl rfl rfl ?_
                                              refine P.ldc2_w (v := 400334) (pc' := 240) dX9_wordOf_237 rfl q1774 ?_
                                              refine P.lcmp (pc' := 241) dX9_wordOf_240 rfl ?_
                                              refine P.if_ne (tgt := 247) (pc' := 244) dX9_wordOf_241 (by decide) rfl (fun y23 => ?_) (fun y23 => ?_)
                                              · have hf := (if_neg y23).symm.trans hf
                                                refine P.lload_n 0 (pc' := 248) dX9_wordOf_247 rfl rfl rfl ?_
                                                refine P.ldc2_w (v := 3488) (pc' := 251) dX9_wordOf_248 rfl q1775 ?_
                                                refine P.lcmp (pc' := 252) dX9_wordOf_251 rfl ?_
                                                refine P.if_ne (tgt := 258) (pc' := 255) dX9_wordOf_252 (by decide) rfl (fun y24 => ?_) (fun y24 => ?_)
                                                · have hf := (if_neg y24).symm.trans hf
                                                  refine P.lload_n 0 (pc' := 259) dX9_wordOf_258 rfl rfl rfl ?_
                                                  refine P.ldc2_w (v := 3217420) (pc' := 262) dX9_wordOf_259 rfl q1776 ?_
                                                  refine P.lcmp (pc' := 263) dX9_wordOf_262 rfl ?_
                                                  refine P.if_ne (tgt := 269) (pc' := 266) dX9_wordOf_263 (by decide) rfl (fun y25 => ?_) (fun y25 => ?_)
                                                  · have hf := (if_neg y25).symm.trans hf
                                                    refine P.lload_n 0 (pc' := 270) dX9_wordOf_269 rfl rfl rfl ?_
                                                    refine P.ldc2_w (v := 1489) (pc' := 273) dX9_wordOf_270 rfl q1777 ?_
                                                    refine P.lcmp (pc' := 274) dX9_wordOf_273 rfl ?_
                                                    refine P.if_ne (tgt := 280) (pc' := 277) dX9_wordOf_274 (by decide) rfl (fun y26 => ?_) (fun y26 => ?_)
                                                    · have hf := (if_neg y26).symm.trans hf
                                                      refine P.iconst (v := (-1)) (pc' := 281) dX9_wordOf_280 rfl (by decide) ?_
                                                      cases hf; exact P.iret rfl dX9_wordOf_281
                                                    · have hf := (if_pos y26).symm.trans hf
                                                      refine P.bipush (v := 33) (pc' := 279) dX9_wordOf_277 rfl (by decide) ?_
                                                      cases hf; exact P.iret rfl dX9_wordOf_279
                                                  · have hf := (if_pos y25).symm.trans hf
                                                    refine P.bipush (v := 32) (pc' := 268) dX9_wordOf_266 rfl (by decide) ?_
                                                    cases hf; exact P.iret rfl dX9_wordOf_268
                                                · have hf := (if_pos y24).symm.trans hf
                                                  refine P.bipush (v := 31) (pc' := 257) dX9_wordOf_255 rfl (by decide) ?_
                                                  cases hf; exact P.iret rfl dX9_wordOf_257
                                              · have hf := (if_pos y23).symm.trans hf
                                                refine P.bipush (v := 30) (pc' := 246) dX9_wordOf_244 rfl (by decide) ?_
                                                cases hf; exact P.iret rfl dX9_wordOf_246
                                            · have hf := (if_pos y22).symm.trans hf
                                              refine P.bipush (v := 21) (pc' := 235) dX9_wordOf_233 rfl (by decide) ?_
                                              cases hf; exact P.iret rfl dX9_wordOf_235
                                          · have hf := (if_pos y21).symm.trans hf
                                            refine P.bipush (v := 20) (pc' := 224) dX9_wordOf_222 rfl (by decide) ?_
                                            cases hf; exact P.iret rfl dX9_wordOf_224
                                        · have hf := (if_pos y20).symm.trans hf
                                          refine P.bipush (v := 19) (pc' := 213) dX9_wordOf_211 rfl (by decide) ?_
                                          cases hf; exact P.iret rfl dX9_wordOf_213
                                      · have hf := (if_pos y19).symm.trans hf
                                        refine P.bipush (v := 18) (pc' := 202) dX9_wordOf_200 rfl (by decide) ?_
                                        cases hf; exact P.iret rfl dX9_wordOf_202
                                    · have hf := (if_pos y18).symm.trans hf
                                      refine P.bipush (v := 17) (pc' := 191) dX9_wordOf_189 rfl (by decide) ?_
                                      cases hf; exact P.iret rfl dX9_wordOf_191
                                  · have hf := (if_pos y17).symm.trans hf
                                    refine P.bipush (v := 16) (pc' := 180) dX9_wordOf_178 rfl (by decide) ?_
                                    cases hf; exact P.iret rfl dX9_wordOf_180
                                · have hf := (if_pos y16).symm.trans hf
                                  refine P.bipush (v := 15) (pc' := 169) dX9_wordOf_167 rfl (by decide) ?_
                                  cases hf; exact P.iret rfl dX9_wordOf_169
                              · have hf := (if_pos y15).symm.trans hf
                                refine P.bipush (v := 14) (pc' := 158) dX9_wordOf_156 rfl (by decide) ?_
                                cases hf; exact P.iret rfl dX9_wordOf_158
                            · have hf := (if_pos y14).symm.trans hf
                              refine P.bipush (v := 13) (pc' := 147) dX9_wordOf_145 rfl (by decide) ?_
                              cases hf; exact P.iret rfl dX9_wordOf_147
                          · have hf := (if_pos y13).symm.trans hf
                            refine P.bipush (v := 12) (pc' := 136) dX9_wordOf_134 rfl (by decide) ?_
                            cases hf; exact P.iret rfl dX9_wordOf_136
                        · have hf := (if_pos y12).symm.trans hf
                          refine P.bipush (v := 11) (pc' := 125) dX9_wordOf_123 rfl (by decide) ?_
                          cases hf; exact P.iret rfl dX9_wordOf_125
                      · have hf := (if_pos y11).symm.trans hf
                        refine P.bipush (v := 10) (pc' := 114) dX9_wordOf_112 rfl (by decide) ?_
                        cases hf; exact P.iret rfl dX9_wordOf_114
                    · have hf := (if_pos y10).symm.trans hf
                      refine P.bipush (v := 9) (pc' := 103) dX9_wordOf_101 rfl (by decide) ?_
                      cases hf; exact P.iret rfl dX9_wordOf_103
                  · have hf := (if_pos y9).symm.trans hf
                    refine P.bipush (v := 8) (pc' := 92) dX9_wordOf_90 rfl (by decide) ?_
                    cases hf; exact P.iret rfl dX9_wordOf_92
                · have hf := (if_pos y8).symm.trans hf
                  refine P.bipush (v := 7) (pc' := 81) dX9_wordOf_79 rfl (by decide) ?_
                  cases hf; exact P.iret rfl dX9_wordOf_81
              · have hf := (if_pos y7).symm.trans hf
                refine P.bipush (v := 6) (pc' := 70) dX9_wordOf_68 rfl (by decide) ?_
                cases hf; exact P.iret rfl dX9_wordOf_70
            · have hf := (if_pos y6).symm.trans hf
              refine P.iconst (v := 5) (pc' := 59) dX9_wordOf_58 rfl (by decide) ?_
              cases hf; exact P.iret rfl dX9_wordOf_59
          · have hf := (if_pos y5).symm.trans hf
            refine P.iconst (v := 4) (pc' := 49) dX9_wordOf_48 rfl (by decide) ?_
            cases hf; exact P.iret rfl dX9_wordOf_49
        · have hf := (if_pos y4).symm.trans hf
          refine P.iconst (v := 3) (pc' := 39) dX9_wordOf_38 rfl (by decide) ?_
          cases hf; exact P.iret rfl dX9_wordOf_39
      · have hf := (if_pos y3).symm.trans hf
        refine P.iconst (v := 2) (pc' := 29) dX9_wordOf_28 rfl (by decide) ?_
        cases hf; exact P.iret rfl dX9_wordOf_29
    · have hf := (if_pos y2).symm.trans hf
      refine P.iconst (v := 1) (pc' := 19) dX9_wordOf_18 rfl (by decide) ?_
      cases hf; exact P.iret rfl dX9_wordOf_19
  · have hf := (if_pos y1).symm.trans hf
    refine P.iconst (v := 0) (pc' := 9) dX9_wordOf_8 rfl (by decide) ?_
    cases hf; exact P.iret rfl dX9_wordOf_9
abbrev mX9_variableOf : Ym := (RX9, cX9_variableOf, 1, (some Jvm.ClassFile.FieldType.int), false, [])
noncomputable def p_X9_variableOf (F : Nat) (p1 : Int32) : Option Int32 :=
  if p1 ≤ 12 then
    some (-1)
  else
    if 22 ≤ p1 then
      some (-1)
    else
      some (p1 - 13)
set_option maxHeartbeats 4000000 in
theorem ok_X9_variableOf {g : Gx} (F : Nat) (p1 : Int32) (μ : Sw) {rv : Int32} (hf : p_X9_variableOf F p1 = some rv) : Cl g 1 yX9_variableOf cX9_variableOf 1 (some Jvm.ClassFile.FieldType.int) [.int p1] μ (some (.int rv)) μ := by
  unfold p_X9_variableOf at hf
  refine Cl.of (own := RX9) (ini := false) (by decide +kernel) rfl (by decide) (Nat.le_of_ble_eq_true rfl) ?_
  show PW g mX9_variableOf 1 μ μ (QN g (some (.int rv)) μ μ) 0 [(0, .int p1)] [] μ
  refine P.iload_n 0 (pc' := 1) dX9_variableOf_0 rfl rfl rfl ?_
  refine P.bipush (v := 12) (pc' := 3) dX9_variableOf_1 rfl (by decide) ?_
  refine P.icmp_le (tgt := 19) (pc' := 6) dX9_variableOf_3 (by decide) rfl (fun y1 => ?_) (fun y1 => ?_)
  · have hf := (if_pos y1).symm.trans hf
    refine P.iconst (v := (-1)) (pc' := 20) dX9_variableOf_19 rfl (by decide) ?_
    cases hf; exact P.iret rfl dX9_variableOf_20
  · have hf := (if_neg y1).symm.trans hf
    refine P.iload_n 0 (pc' := 7) dX9_variableOf_6 rfl rfl rfl ?_
    refine P.bipush (v := 22) (pc' := 9) dX9_variableOf_7 rfl (by decide) ?_
    refine P.icmp_ge (tgt := 19) (pc' := 12) dX9_variableOf_9 (by decide) rfl (fun y2 => ?_) (fun y2 => ?_)
    · have hf := (if_pos y2).symm.trans hf
      refine P.iconst (v := (-1)) (pc' := 20) dX9_variableOf_19 rfl (by decide) ?_
      cases hf; exact P.iret rfl dX9_variableOf_20
    · have hf := (if_neg y2).symm.trans hf
      refine P.iload_n 0 (pc' := 13) dX9_variableOf_12 rfl rfl rfl ?_
      refine P.bipush (v := 13) (pc' := 15) dX9_variableOf_13 rfl (by decide) ?_
      refine P.isub (pc' := 16) dX9_variableOf_15 rfl ?_
      refine P.goto (tgt := 20) dX9_variableOf_16 (by decide) ?_
      cases hf; exact P.iret rfl dX9_variableOf_20
abbrev mX9_rank : Ym := (RX9, cX9_rank, 1, (some Jvm.ClassFile.FieldType.int), false, [])
noncomputable def p_X9_rank (F : Nat) (p1 : Int32) : Option Int32 :=
  if p1 ≤ 3 then
    if p1 ≤ 1 then
      some 0
    else
      some 1
  else
    some 2
set_option maxHeartbeats 4000000 in
theorem ok_X9_rank {g : Gx} (F : Nat) (p1 : Int32) (μ : Sw) {rv : Int32} (hf : p_X9_rank F p1 = some rv) : Cl g 1 yX9_rank cX9_rank 1 (some Jvm.ClassFile.FieldType.int) [.int p1] μ (some (.int rv)) μ := by
  unfold p_X9_rank at hf
  refine Cl.of (own := RX9) (ini := false) (by decide +kernel) rfl (by decide) (Nat.le_of_ble_eq_true rfl) ?_
  show PW g mX9_rank 1 μ μ (QN g (some (.int rv)) μ μ) 0 [(0, .int p1)] [] μ
  refine P.iload_n 0 (pc' := 1) dX9_rank_0 rfl rfl rfl ?_
  refine P.iconst (v := 3) (pc' := 2) dX9_rank_1 rfl (by decide) ?_
  refine P.icmp_le (tgt := 9) (pc' := 5) dX9_rank_2 (by decide) rfl (fun y1 => ?_) (fun y1 => ?_)
  · have hf := (if_pos y1).symm.trans hf
    refine P.iload_n 0 (pc' := 10) dX9_rank_9 rfl rfl rfl ?_
    refine P.iconst (v := 1) (pc' := 11) dX9_rank_10 rfl (by decide) ?_
    refine P.icmp_le (tgt := 18) (pc' := 14) dX9_rank_11 (by decide) rfl (fun y2 => ?_) (fun y2 => ?_)
    · have hf := (if_pos y2).symm.trans hf
      refine P.iconst (v := 0) (pc' := 19) dX9_rank_18 rfl (by decide) ?_
      cases hf; exact P.iret rfl dX9_rank_19
    · have hf := (if_neg y2).symm.trans hf
      refine P.iconst (v := 1) (pc' := 15) dX9_rank_14 rfl (by decide) ?_
      refine P.goto (tgt := 19) dX9_rank_15 (by decide) ?_
      cases hf; exact P.iret rfl dX9_rank_19
  · have hf := (if_neg y1).symm.trans hf
    refine P.iconst (v := 2) (pc' := 6) dX9_rank_5 rfl (by decide) ?_
    refine P.goto (tgt := 19) dX9_rank_6 (by decide) ?_
    cases hf; exact P.iret rfl dX9_rank_19
abbrev mX9_within : Ym := (RX9, cX9_within, 3, (some Jvm.ClassFile.FieldType.int), false, [])
noncomputable def p_X9_within (F : Nat) (p1 : Int32) (p2 : Int32) (p3 : Int32) : Option Int32 :=
  if p2 ≤ p1 then
    if p1 ≤ p3 then
      some p1
    else
      some p3
  else
    some p2
set_option maxHeartbeats 4000000 in
theorem ok_X9_within {g : Gx} (F : Nat) (p1 : Int32) (p2 : Int32) (p3 : Int32) (μ : Sw) {rv : Int32} (hf : p_X9_within F p1 p2 p3 = some rv) : Cl g 1 yX9_within cX9_within 3 (some Jvm.ClassFile.FieldType.int) [.int p1, .int p2, .int p3] μ (some (.int rv)) μ := by
  unfold p_X9_within at hf
  refine Cl.of (own := RX9) (ini := false) (by decide +kernel) rfl (by decide) (Nat.le_of_ble_eq_true rfl) ?_
  show PW g mX9_within 1 μ μ (QN g (some (.int rv)) μ μ) 0 [(0, .int p1), (1, .int p2), (2, .int p3)] [] μ
  refine P.iload_n 0 (pc' := 1) dX9_within_0 rfl rfl rfl ?_
  refine P.iload_n 1 (pc' := 2) dX9_within_1 rfl rfl rfl ?_
  refine P.icmp_ge (tgt := 9) (pc' := 5) dX9_within_2 (by decide) rfl (fun y1 => ?_) (fun y1 => ?_)
  · have hf := (if_pos y1).symm.trans hf
    refine P.iload_n 0 (pc' := 10) dX9_within_9 rfl rfl rfl ?_
    refine P.iload_n 2 (pc' := 11) dX9_within_10 rfl rfl rfl ?_
    refine P.icmp_le (tgt := 18) (pc' := 14) dX9_within_11 (by decide) rfl (fun y2 => ?_) (fun y2 => ?_)
    · have hf := (if_pos y2).symm.trans hf
      refine P.iload_n 0 (pc' := 19) dX9_within_18 rfl rfl rfl ?_
      cases hf; exact P.iret rfl dX9_within_19
    · have hf := (if_neg y2).symm.trans hf
      refine P.iload_n 2 (pc' := 15) dX9_within_14 rfl rfl rfl ?_
      refine P.goto (tgt := 19) dX9_within_15 (by decide) ?_
      cases hf; exact P.iret rfl dX9_within_19
  · have hf := (if_neg y1).symm.trans hf
    refine P.iload_n 1 (pc' := 6) dX9_within_5 rfl rfl rfl ?_
    refine P.goto (tgt := 19) dX9_within_6 (by decide) ?_
    cases hf; exact P.iret rfl dX9_within_19
abbrev mX9_isIn : Ym := (RX9, cX9_isIn, 3, (some Jvm.ClassFile.FieldType.boolean), false, [])
noncomputable def p_X9_isIn (F : Nat) (p1 : Int32) (p2 : Int32) (p3 : Int32) : Option Int32 :=
  if p1 < p2 then
    some 0
  else
    if p3 < p1 then
      some 0
    else
      some 1
set_option maxHeartbeats 4000000 in
theorem ok_X9_isIn {g : Gx} (F : Nat) (p1 : Int32) (p2 : Int32) (p3 : Int32) (μ : Sw) {rv : Int32} (hf : p_X9_isIn F p1 p2 p3 = some rv) : Cl g 1 yX9_isIn cX9_isIn 3 (some Jvm.ClassFile.FieldType.boolean) [.int p1, .int p2, .int p3] μ (some (.int rv)) μ := by
  unfold p_X9_isIn at hf
  refine Cl.of (own := RX9) (ini := false) (by decide +kernel) rfl (by decide) (Nat.le_of_ble_eq_true rfl) ?_
  show PW g mX9_isIn 1 μ μ (QN g (some (.int rv)) μ μ) 0 [(0, .int p1), (1, .int p2), (2, .int p3)] [] μ
  refine P.iload_n 0 (pc' := 1) dX9_isIn_0 rfl rfl rfl ?_
  refine P.iload_n 1 (pc' := 2) dX9_isIn_1 rfl rfl rfl ?_
  refine P.icmp_lt (tgt := 14) (pc' := 5) dX9_isIn_2 (by decide) rfl (fun y1 => ?_) (fun y1 => ?_)
  · have hf := (if_pos y1).symm.trans hf
    refine P.iconst (v := 0) (pc' := 15) dX9_isIn_14 rfl (by decide) ?_
    cases hf; exact P.zret rfl (Or.inl rfl) dX9_isIn_15
  · have hf := (if_neg y1).symm.trans hf
    refine P.iload_n 0 (pc' := 6) dX9_isIn_5 rfl rfl rfl ?_
    refine P.iload_n 2 (pc' := 7) dX9_isIn_6 rfl rfl rfl ?_
    refine P.icmp_gt (tgt := 14) (pc' := 10) dX9_isIn_7 (by decide) rfl (fun y2 => ?_) (fun y2 => ?_)
    · have hf := (if_pos y2).symm.trans hf
      refine P.iconst (v := 0) (pc' := 15) dX9_isIn_14 rfl (by decide) ?_
      cases hf; exact P.zret rfl (Or.inl rfl) dX9_isIn_15
    · have hf := (if_neg y2).symm.trans hf
      refine P.iconst (v := 1) (pc' := 11) dX9_isIn_10 rfl (by decide) ?_
      refine P.goto (tgt := 15) dX9_isIn_11 (by decide) ?_
      cases hf; exact P.zret rfl (Or.inr rfl) dX9_isIn_15
abbrev mX9_isHour : Ym := (RX9, cX9_isHour, 1, (some Jvm.ClassFile.FieldType.boolean), false, [])
noncomputable def p_X9_isHour (F : Nat) (p1 : Int32) : Option Int32 :=
  if p1 < 0 then
    some 0
  else
    if 24 ≤ p1 then
      some 0
    else
      some 1
set_option maxHeartbeats 4000000 in
theorem ok_X9_isHour {g : Gx} (F : Nat) (p1 : Int32) (μ : Sw) {rv : Int32} (hf : p_X9_isHour F p1 = some rv) : Cl g 1 yX9_isHour cX9_isHour 1 (some Jvm.ClassFile.FieldType.boolean) [.int p1] μ (some (.int rv)) μ := by
  unfold p_X9_isHour at hf
  refine Cl.of (own := RX9) (ini := false) (by decide +kernel) rfl (by decide) (Nat.le_of_ble_eq_true rfl) ?_
  show PW g mX9_isHour 1 μ μ (QN g (some (.int rv)) μ μ) 0 [(0, .int p1)] [] μ
  refine P.iload_n 0 (pc' := 1) dX9_isHour_0 rfl rfl rfl ?_
  refine P.if_lt (tgt := 14) (pc' := 4) dX9_isHour_1 (by decide) rfl (fun y1 => ?_) (fun y1 => ?_)
  · have hf := (if_pos y1).symm.trans hf
    refine P.iconst (v := 0) (pc' := 15) dX9_isHour_14 rfl (by decide) ?_
    cases hf; exact P.zret rfl (Or.inl rfl) dX9_isHour_15
  · have hf := (if_neg y1).symm.trans hf
    refine P.iload_n 0 (pc' := 5) dX9_isHour_4 rfl rfl rfl ?_
    refine P.bipush (v := 24) (pc' := 7) dX9_isHour_5 rfl (by decide) ?_
    refine P.icmp_ge (tgt := 14) (pc' := 10) dX9_isHour_7 (by decide) rfl (fun y2 => ?_) (fun y2 => ?_)
    · have hf := (if_pos y2).symm.trans hf
      refine P.iconst (v := 0) (pc' := 15) dX9_isHour_14 rfl (by decide) ?_
      cases hf; exact P.zret rfl (Or.inl rfl) dX9_isHour_15
    · have hf := (if_neg y2).symm.trans hf
      refine P.iconst (v := 1) (pc' := 11) dX9_isHour_10 rfl (by decide) ?_
      refine P.goto (tgt := 15) dX9_isHour_11 (by decide) ?_
      cases hf; exact P.zret rfl (Or.inr rfl) dX9_isHour_15
abbrev mX9_bitsOf : Ym := (RX9, cX9_bitsOf, 3, (some Jvm.ClassFile.FieldType.int), false, [])
noncomputable def p_X9_bitsOf_L4_b (F : Nat) (c0 : Int32) (self : Int32 → Int32 → Option Int32) (v1 : Int32) (v2 : Int32) : Option Int32 :=
  if 16 ≤ v2 then
    some v1
  else
    nm (v1 + ((c0 >>> (v2 &&& 31)) &&& 1)) fun x2 =>
    nm (v2 + 1) fun x4 =>
    self x2 x4
noncomputable def p_X9_bitsOf_L4 (F : Nat) (c0 : Int32) (n : Nat) : Int32 → Int32 → Option Int32 := Nat.rec (motive := fun _ => Int32 → Int32 → Option Int32) (fun _ _ => none) (fun _ self => p_X9_bitsOf_L4_b F c0 self) n
set_option maxHeartbeats 4000000 in
theorem ok_p_X9_bitsOf_L4 {g : Gx} {μ0 : Sw} {rv : Int32} (F : Nat) (μ : Sw) (c0 : Int32) : ∀ (n : Nat) (v1 : Int32) (v2 : Int32), p_X9_bitsOf_L4 F c0 n v1 v2 = some rv → PW g mX9_bitsOf 1 μ0 μ (QN g (some (.int rv)) μ0 μ) 4 [(0, .int c0), (1, .int v1), (2, .int v2)] [] μ := by
  intro n
  induction n with
  | zero =>
    intro v1 v2 hf
    have hf : (none : Option Int32) = some _ := hf
    cases hf
  | succ n ih =>
    intro v1 v2 hf
    have hf : p_X9_bitsOf_L4_b F c0 (p_X9_bitsOf_L4 F c0 n) v1 v2 = some rv := hf
    unfold p_X9_bitsOf_L4_b at hf
    refine P.iload_n 2 (pc' := 5) dX9_bitsOf_4 rfl rfl rfl ?_
    refine P.bipush (v := 16) (pc' := 7) dX9_bitsOf_5 rfl (by decide) ?_
    refine P.icmp_ge (tgt := 24) (pc' := 10) dX9_bitsOf_7 (by decide) rfl (fun y1 => ?_) (fun y1 => ?_)
    · have hf := (if_pos y1).symm.trans hf
      refine P.iload_n 1 (pc' := 25) dX9_bitsOf_24 rfl rfl rfl ?_
      cases hf; exact P.iret rfl dX9_bitsOf_25
    · have hf := (if_neg y1).symm.trans hf
      refine P.iload_n 1 (pc' := 11) dX9_bitsOf_10 rfl rfl rfl ?_
      refine P.iload_n 0 (pc' := 12) dX9_bitsOf_11 rfl rfl rfl ?_
      refine P.iload_n 2 (pc' := 13) dX9_bitsOf_12 rfl rfl rfl ?_
      refine P.ishr (pc' := 14) dX9_bitsOf_13 rfl ?_
      refine P.iconst (v := 1) (pc' := 15) dX9_bitsOf_14 rfl (by decide) ?_
      refine P.iand (pc' := 16) dX9_bitsOf_15 rfl ?_
      refine P.iadd (pc' := 17) dX9_bitsOf_16 rfl ?_
      obtain ⟨x2, e3, hf⟩ := nm_i hf
      refine P.nmi e3 ?_
      refine P.istore_n (pc' := 18) (lv' := [(1, .int x2), (0, .int c0), (2, .int v2)]) dX9_bitsOf_17 rfl rfl (Nat.le_of_ble_eq_true rfl) rfl ?_
      obtain ⟨x4, e5, hf⟩ := nm_i hf
      refine P.iinc 2 (pc' := 21) (lv' := [(2, .int x4), (1, .int x2), (0, .int c0)]) dX9_bitsOf_18 rfl rfl (by decide) e5 (Nat.le_of_ble_eq_true rfl) rfl ?_
      refine P.goto (tgt := 4) dX9_bitsOf_21 (by decide) ?_
      exact PW.sub [2, 1, 0] rfl (ih _ _ hf)
noncomputable def p_X9_bitsOf (F : Nat) (p1 : Int32) : Option Int32 :=
  p_X9_bitsOf_L4 F p1 F 0 0
set_option maxHeartbeats 4000000 in
theorem ok_X9_bitsOf {g : Gx} (F : Nat) (p1 : Int32) (μ : Sw) {rv : Int32} (hf : p_X9_bitsOf F p1 = some rv) : Cl g 1 yX9_bitsOf cX9_bitsOf 3 (some Jvm.ClassFile.FieldType.int) [.int p1] μ (some (.int rv)) μ := by
  unfold p_X9_bitsOf at hf
  refine Cl.of (own := RX9) (ini := false) (by decide +kernel) rfl (by decide) (Nat.le_of_ble_eq_true rfl) ?_
  show PW g mX9_bitsOf 1 μ μ (QN g (some (.int rv)) μ μ) 0 [(0, .int p1)] [] μ
  refine P.iconst (v := 0) (pc' := 1) dX9_bitsOf_0 rfl (by decide) ?_
  refine P.istore_n (pc' := 2) (lv' := [(1, .int 0), (0, .int p1)]) dX9_bitsOf_1 rfl rfl (Nat.le_of_ble_eq_true rfl) rfl ?_
  refine P.iconst (v := 0) (pc' := 3) dX9_bitsOf_2 rfl (by decide) ?_
  refine P.istore_n (pc' := 4) (lv' := [(2, .int 0), (1, .int 0), (0, .int p1)]) dX9_bitsOf_3 rfl rfl (Nat.le_of_ble_eq_true rfl) rfl ?_
  exact PW.sub [2, 1, 0] rfl (ok_p_X9_bitsOf_L4 F μ p1 F _ _ hf)
abbrev mX9_least : Ym := (RX9, cX9_least, 2, (some Jvm.ClassFile.FieldType.int), false, [])
noncomputable def p_X9_least (F : Nat) (p1 : Int32) (p2 : Int32) : Option Int32 :=
  if p2 ≤ p1 then
    some p2
  else
    some p1
set_option maxHeartbeats 4000000 in
theorem ok_X9_least {g : Gx} (F : Nat) (p1 : Int32) (p2 : Int32) (μ : Sw) {rv : Int32} (hf : p_X9_least F p1 p2 = some rv) : Cl g 1 yX9_least cX9_least 2 (some Jvm.ClassFile.FieldType.int) [.int p1, .int p2] μ (some (.int rv)) μ := by
  unfold p_X9_least at hf
  refine Cl.of (own := RX9) (ini := false) (by decide +kernel) rfl (by decide) (Nat.le_of_ble_eq_true rfl) ?_
  show PW g mX9_least 1 μ μ (QN g (some (.int rv)) μ μ) 0 [(0, .int p1), (1, .int p2)] [] μ
  refine P.iload_n 0 (pc' := 1) dX9_least_0 rfl rfl rfl ?_
  refine P.iload_n 1 (pc' := 2) dX9_least_1 rfl rfl rfl ?_
  refine P.icmp_ge (tgt := 9) (pc' := 5) dX9_least_2 (by decide) rfl (fun y1 => ?_) (fun y1 => ?_)
  · have hf := (if_pos y1).symm.trans hf
    refine P.iload_n 1 (pc' := 10) dX9_least_9 rfl rfl rfl ?_
    cases hf; exact P.iret rfl dX9_least_10
  · have hf := (if_neg y1).symm.trans hf
    refine P.iload_n 0 (pc' := 6) dX9_least_5 rfl rfl rfl ?_
    refine P.goto (tgt := 10) dX9_least_6 (by decide) ?_
    cases hf; exact P.iret rfl dX9_least_10
abbrev mX9_isWind : Ym := (RX9, cX9_isWind, 1, (some Jvm.ClassFile.FieldType.boolean), false, [])
noncomputable def p_X9_isWind (F : Nat) (p1 : Int32) : Option Int32 :=
  if p1 < 0 then
    some 0
  else
    if 100 ≤ p1 then
      some 0
    else
      some 1
set_option maxHeartbeats 4000000 in
theorem ok_X9_isWind {g : Gx} (F : Nat) (p1 : Int32) (μ : Sw) {rv : Int32} (hf : p_X9_isWind F p1 = some rv) : Cl g 1 yX9_isWind cX9_isWind 1 (some Jvm.ClassFile.FieldType.boolean) [.int p1] μ (some (.int rv)) μ := by
  unfold p_X9_isWind at hf
  refine Cl.of (own := RX9) (ini := false) (by decide +kernel) rfl (by decide) (Nat.le_of_ble_eq_true rfl) ?_
  show PW g mX9_isWind 1 μ μ (QN g (some (.int rv)) μ μ) 0 [(0, .int p1)] [] μ
  refine P.iload_n 0 (pc' := 1) dX9_isWind_0 rfl rfl rfl ?_
  refine P.if_lt (tgt := 14) (pc' := 4) dX9_isWind_1 (by decide) rfl (fun y1 => ?_) (fun y1 => ?_)
  · have hf := (if_pos y1).symm.trans hf
    refine P.iconst (v := 0) (pc' := 15) dX9_isWind_14 rfl (by decide) ?_
    cases hf; exact P.zret rfl (Or.inl rfl) dX9_isWind_15
  · have hf := (if_neg y1).symm.trans hf
    refine P.iload_n 0 (pc' := 5) dX9_isWind_4 rfl rfl rfl ?_
    refine P.bipush (v := 100) (pc' := 7) dX9_isWind_5 rfl (by decide) ?_
    refine P.icmp_ge (tgt := 14) (pc' := 10) dX9_isWind_7 (by decide) rfl (fun y2 => ?_) (fun y2 => ?_)
    · have hf := (if_pos y2).symm.trans hf
      refine P.iconst (v := 0) (pc' := 15) dX9_isWind_14 rfl (by decide) ?_
      cases hf; exact P.zret rfl (Or.inl rfl) dX9_isWind_15
    · have hf := (if_neg y2).symm.trans hf
      refine P.iconst (v := 1) (pc' := 11) dX9_isWind_10 rfl (by decide) ?_
      refine P.goto (tgt := 15) dX9_isWind_11 (by decide) ?_
      cases hf; exact P.zret rfl (Or.inr rfl) dX9_isWind_15
theorem yok_X9_isIn : yOK yX9_isIn 3 := ⟨by decide +kernel, by decide +kernel, by decide +kernel⟩
abbrev mX9_isPosts : Ym := (RX9, cX9_isPosts, 5, (some Jvm.ClassFile.FieldType.boolean), false, [])
noncomputable def p_X9_isPosts (F : Nat) (p1 : Int32) (p2 : Int32) (p3 : Int32) (p4 : Int32) (p5 : Int32) : Option Int32 :=
  Option.bind (p_X9_isIn F p1 0 99) fun q1 =>
  if q1 = 0 then
    some 0
  else
    Option.bind (p_X9_isIn F p2 0 99) fun q4 =>
    if q4 = 0 then
      some 0
    else
      Option.bind (p_X9_isIn F p3 0 99) fun q7 =>
      if q7 = 0 then
        some 0
      else
        Option.bind (p_X9_isIn F p4 0 99) fun q10 =>
        if q10 = 0 then
          some 0
        else
          Option.bind (p_X9_isIn F p5 0 99) fun q13 =>
          if q13 = 0 then
            some 0
          else
            some 1
set_option maxHeartbeats 4000000 in
theorem ok_X9_isPosts {g : Gx} (F : Nat) (p1 : Int32) (p2 : Int32) (p3 : Int32) (p4 : Int32) (p5 : Int32) (μ : Sw) {rv : Int32} (hf : p_X9_isPosts F p1 p2 p3 p4 p5 = some rv) : Cl g 2 yX9_isPosts cX9_isPosts 5 (some Jvm.ClassFile.FieldType.boolean) [.int p1, .int p2, .int p3, .int p4, .int p5] μ (some (.int rv)) μ := by
  unfold p_X9_isPosts at hf
  refine Cl.of (own := RX9) (ini := false) (by decide +kernel) rfl (by decide) (Nat.le_of_ble_eq_true rfl) ?_
  show PW g mX9_isPosts 2 μ μ (QN g (some (.int rv)) μ μ) 0 [(0, .int p1), (1, .int p2), (2, .int p3), (3, .int p4), (4, .int p5)] [] μ
  refine P.iload_n 0 (pc' := 1) dX9_isPosts_0 rfl rfl rfl ?_
  refine P.iconst (v := 0) (pc' := 2) dX9_isPosts_1 rfl (by decide) ?_
  refine P.bipush (v := 99) (pc' := 4) dX9_isPosts_2 rfl (by decide) ?_
  obtain ⟨q1, h2, hf⟩ := ob hf
  refine P.callS (pc' := 7) (As := [.int p1, .int 0, .int 99]) 3 (ok_X9_isIn F p1 0 99 μ h2) (Nat.le_of_ble_eq_true rfl) (lw_S q1971 q1972 q172 q1973) yok_X9_isIn rfl (Nat.le_of_ble_eq_true rfl) (by decide) rfl dX9_isPosts_4 rfl ?_
  refine P.if_eq (tgt := 55) (pc' := 10) dX9_isPosts_7 (by decide) rfl (fun y3 => ?_) (fun y3 => ?_)
  · have hf := (if_pos y3).symm.trans hf
    refine P.iconst (v := 0) (pc' := 56) dX9_isPosts_55 rfl (by decide) ?_
    cases hf; exact P.zret rfl (Or.inl rfl) dX9_isPosts_56
  · have hf := (if_neg y3).symm.trans hf
    refine P.iload_n 1 (pc' := 11) dX9_isPosts_10 rfl rfl rfl ?_
    refine P.iconst (v := 0) (pc' := 12) dX9_isPosts_11 rfl (by decide) ?_
    refine P.bipush (v := 99) (pc' := 14) dX9_isPosts_12 rfl (by decide) ?_
    obtain ⟨q4, h5, hf⟩ := ob hf
    refine P.callS (pc' := 17) (As := [.int p2, .int 0, .int 99]) 3 (ok_X9_isIn F p2 0 99 μ h5) (Nat.le_of_ble_eq_true rfl) (lw_S q1971 q1972 q172 q1973) yok_X9_isIn rfl (Nat.le_of_ble_eq_true rfl) (by decide) rfl dX9_isPosts_14 rfl ?_
    refine P.if_eq (tgt := 55) (pc' := 20) dX9_isPosts_17 (by decide) rfl (fun y6 => ?_) (fun y6 => ?_)
    · have hf := (if_pos y6).symm.trans hf
      refine P.iconst (v := 0) (pc' := 56) dX9_isPosts_55 rfl (by decide) ?_
      cases hf; exact P.zret rfl (Or.inl rfl) dX9_isPosts_56
    · have hf := (if_neg y6).symm.trans hf
      refine P.iload_n 2 (pc' := 21) dX9_isPosts_20 rfl rfl rfl ?_
      refine P.iconst (v := 0) (pc' := 22) dX9_isPosts_21 rfl (by decide) ?_
      refine P.bipush (v := 99) (pc' := 24) dX9_isPosts_22 rfl (by decide) ?_
      obtain ⟨q7, h8, hf⟩ := ob hf
      refine P.callS (pc' := 27) (As := [.int p3, .int 0, .int 99]) 3 (ok_X9_isIn F p3 0 99 μ h8) (Nat.le_of_ble_eq_true rfl) (lw_S q1971 q1972 q172 q1973) yok_X9_isIn rfl (Nat.le_of_ble_eq_true rfl) (by decide) rfl dX9_isPosts_24 rfl ?_
      refine P.if_eq (tgt := 55) (pc' := 30) dX9_isPosts_27 (by decide) rfl (fun y9 => ?_) (fun y9 => ?_)
      · have hf := (if_pos y9).symm.trans hf
        refine P.iconst (v := 0) (pc' := 56) dX9_isPosts_55 rfl (by decide) ?_
        cases hf; exact P.zret rfl (Or.inl rfl) dX9_isPosts_56
      · have hf := (if_neg y9).symm.trans hf
        refine P.iload_n 3 (pc' := 31) dX9_isPosts_30 rfl rfl rfl ?_
        refine P.iconst (v := 0) (pc' := 32) dX9_isPosts_31 rfl (by decide) ?_
        refine P.bipush (v := 99) (pc' := 34) dX9_isPosts_32 rfl (by decide) ?_
        obtain ⟨q10, h11, hf⟩ := ob hf
        refine P.callS (pc' := 37) (As := [.int p4, .int 0, .int 99]) 3 (ok_X9_isIn F p4 0 99 μ h11) (Nat.le_of_ble_eq_true rfl) (lw_S q1971 q1972 q172 q1973) yok_X9_isIn rfl (Nat.le_of_ble_eq_true rfl) (by decide) rfl dX9_isPosts_34 rfl ?_
        refine P.if_eq (tgt := 55) (pc' := 40) dX9_isPosts_37 (by decide) rfl (fun y12 => ?_) (fun y12 => ?_)
        · have hf := (if_pos y12).symm.trans hf
          refine P.iconst (v := 0) (pc' := 56) dX9_isPosts_55 rfl (by decide) ?_
          cases hf; exact P.zret rfl (Or.inl rfl) dX9_isPosts_56
        · have hf := (if_neg y12).symm.trans hf
          refine P.iload 4 (pc' := 42) dX9_isPosts_40 rfl rfl ?_
          refine P.iconst (v := 0) (pc' := 43) dX9_isPosts_42 rfl (by decide) ?_
          refine P.bipush (v := 99) (pc' := 45) dX9_isPosts_43 rfl (by decide) ?_
          obtain ⟨q13, h14, hf⟩ := ob hf
          refine P.callS (pc' := 48) (As := [.int p5, .int 0, .int 99]) 3 (ok_X9_isIn F p5 0 99 μ h14) (Nat.le_of_ble_eq_true rfl) (lw_S q1971 q1972 q172 q1973) yok_X9_isIn rfl (Nat.le_of_ble_eq_true rfl) (by decide) rfl dX9_isPosts_45 rfl ?_
          refine P.if_eq (tgt := 55) (pc' := 51) dX9_isPosts_48 (by decide) rfl (fun y15 => ?_) (fun y15 => ?_)
          · have hf := (if_pos y15).symm.trans hf
            refine P.iconst (v := 0) (pc' := 56) dX9_isPosts_55 rfl (by decide) ?_
            cases hf; exact P.zret rfl (Or.inl rfl) dX9_isPosts_56
          · have hf := (if_neg y15).symm.trans hf
            refine P.iconst (v := 1) (pc' := 52) dX9_isPosts_51 rfl (by decide) ?_
            refine P.goto (tgt := 56) dX9_isPosts_52 (by decide) ?_
            cases hf; exact P.zret rfl (Or.inr rfl) dX9_isPosts_56
abbrev mX9_stepCost : Ym := (RX9, cX9_stepCost, 5, (some Jvm.ClassFile.FieldType.int), false, [])
noncomputable def p_X9_stepCost (F : Nat) (p1 : Int32) (p2 : Int32) (p3 : Int32) (p4 : Int32) (p5 : Int32) : Option Int32 :=
  if p1 = p2 then
    some 0
  else
    if p2 ≤ p1 then
      some (p5 + (p4 * (p1 - p2)))
    else
      some (p5 + (p3 * (p2 - p1)))
set_option maxHeartbeats 4000000 in
theorem ok_X9_stepCost {g : Gx} (F : Nat) (p1 : Int32) (p2 : Int32) (p3 : Int32) (p4 : Int32) (p5 : Int32) (μ : Sw) {rv : Int32} (hf : p_X9_stepCost F p1 p2 p3 p4 p5 = some rv) : Cl g 1 yX9_stepCost cX9_stepCost 5 (some Jvm.ClassFile.FieldType.int) [.int p1, .int p2, .int p3, .int p4, .int p5] μ (some (.int rv)) μ := by
  unfold p_X9_stepCost at hf
  refine Cl.of (own := RX9) (ini := false) (by decide +kernel) rfl (by decide) (Nat.le_of_ble_eq_true rfl) ?_
  show PW g mX9_stepCost 1 μ μ (QN g (some (.int rv)) μ μ) 0 [(0, .int p1), (1, .int p2), (2, .int p3), (3, .int p4), (4, .int p5)] [] μ
  refine P.iload_n 0 (pc' := 1) dX9_stepCost_0 rfl rfl rfl ?_
  refine P.iload_n 1 (pc' := 2) dX9_stepCost_1 rfl rfl rfl ?_
  refine P.icmp_ne (tgt := 7) (pc' := 5) dX9_stepCost_2 (by decide) rfl (fun y1 => ?_) (fun y1 => ?_)
  · have hf := (if_neg y1).symm.trans hf
    refine P.iload 4 (pc' := 9) dX9_stepCost_7 rfl rfl ?_
    refine P.iload_n 1 (pc' := 10) dX9_stepCost_9 rfl rfl rfl ?_
    refine P.iload_n 0 (pc' := 11) dX9_stepCost_10 rfl rfl rfl ?_
    refine P.icmp_le (tgt := 22) (pc' := 14) dX9_stepCost_11 (by decide) rfl (fun y2 => ?_) (fun y2 => ?_)
    · have hf := (if_pos y2).symm.trans hf
      refine P.iload_n 3 (pc' := 23) dX9_stepCost_22 rfl rfl rfl ?_
      refine P.iload_n 0 (pc' := 24) dX9_stepCost_23 rfl rfl rfl ?_
      refine P.iload_n 1 (pc' := 25) dX9_stepCost_24 rfl rfl rfl ?_
      refine P.isub (pc' := 26) dX9_stepCost_25 rfl ?_
      refine P.imul (pc' := 27) dX9_stepCost_26 rfl ?_
      refine P.iadd (pc' := 28) dX9_stepCost_27 rfl ?_
      cases hf; exact P.iret rfl dX9_stepCost_28
    · have hf := (if_neg y2).symm.trans hf
      refine P.iload_n 2 (pc' := 15) dX9_stepCost_14 rfl rfl rfl ?_
      refine P.iload_n 1 (pc' := 16) dX9_stepCost_15 rfl rfl rfl ?_
      refine P.iload_n 0 (pc' := 17) dX9_stepCost_16 rfl rfl rfl ?_
      refine P.isub (pc' := 18) dX9_stepCost_17 rfl ?_
      refine P.imul (pc' := 19) dX9_stepCost_18 rfl ?_
      refine P.goto (tgt := 27) dX9_stepCost_19 (by decide) ?_
      refine P.iadd (pc' := 28) dX9_stepCost_27 rfl ?_
      cases hf; exact P.iret rfl dX9_stepCost_28
  · have hf := (if_pos y1).symm.trans hf
    refine P.iconst (v := 0) (pc' := 6) dX9_stepCost_5 rfl (by decide) ?_
    cases hf; exact P.iret rfl dX9_stepCost_6
abbrev mX9_apart : Ym := (RX9, cX9_apart, 2, (some Jvm.ClassFile.FieldType.int), false, [])
noncomputable def p_X9_apart (F : Nat) (p1 : Int32) (p2 : Int32) : Option Int32 :=
  if p1 ≤ p2 then
    some (p2 - p1)
  else
    some (p1 - p2)
set_option maxHeartbeats 4000000 in
theorem ok_X9_apart {g : Gx} (F : Nat) (p1 : Int32) (p2 : Int32) (μ : Sw) {rv : Int32} (hf : p_X9_apart F p1 p2 = some rv) : Cl g 1 yX9_apart cX9_apart 2 (some Jvm.ClassFile.FieldType.int) [.int p1, .int p2] μ (some (.int rv)) μ := by
  unfold p_X9_apart at hf
  refine Cl.of (own := RX9) (ini := false) (by decide +kernel) rfl (by decide) (Nat.le_of_ble_eq_true rfl) ?_
  show PW g mX9_apart 1 μ μ (QN g (some (.int rv)) μ μ) 0 [(0, .int p1), (1, .int p2)] [] μ
  refine P.iload_n 0 (pc' := 1) dX9_apart_0 rfl rfl rfl ?_
  refine P.iload_n 1 (pc' := 2) dX9_apart_1 rfl rfl rfl ?_
  refine P.icmp_le (tgt := 11) (pc' := 5) dX9_apart_2 (by decide) rfl (fun y1 => ?_) (fun y1 => ?_)
  · have hf := (if_pos y1).symm.trans hf
    refine P.iload_n 1 (pc' := 12) dX9_apart_11 rfl rfl rfl ?_
    refine P.iload_n 0 (pc' := 13) dX9_apart_12 rfl rfl rfl ?_
    refine P.isub (pc' := 14) dX9_apart_13 rfl ?_
    cases hf; exact P.iret rfl dX9_apart_14
  · have hf := (if_neg y1).symm.trans hf
    refine P.iload_n 0 (pc' := 6) dX9_apart_5 rfl rfl rfl ?_
    refine P.iload_n 1 (pc' := 7) dX9_apart_6 rfl rfl rfl ?_
    refine P.isub (pc' := 8) dX9_apart_7 rfl ?_
    refine P.goto (tgt := 14) dX9_apart_8 (by decide) ?_
    cases hf; exact P.iret rfl dX9_apart_14
abbrev mX9_mixed : Ym := (RX9, cX9_mixed, 3, (some Jvm.ClassFile.FieldType.int), false, [])
noncomputable def p_X9_mixed (F : Nat) (p1 : Int32) (p2 : Int32) : Option Int32 :=
  nm (((p1 ^^^ p2) * 1103515245) + 12345) fun x1 =>
  some (x1 ^^^ ((x1.toUInt32 >>> ((15 : Int32).toUInt32 &&& Int32.toUInt32 31)).toInt32))
set_option maxHeartbeats 4000000 in
theorem ok_X9_mixed {g : Gx} (F : Nat) (p1 : Int32) (p2 : Int32) (μ : Sw) {rv : Int32} (hf : p_X9_mixed F p1 p2 = some rv) : Cl g 1 yX9_mixed cX9_mixed 3 (some Jvm.ClassFile.FieldType.int) [.int p1, .int p2] μ (some (.int rv)) μ := by
  unfold p_X9_mixed at hf
  refine Cl.of (own := RX9) (ini := false) (by decide +kernel) rfl (by decide) (Nat.le_of_ble_eq_true rfl) ?_
  show PW g mX9_mixed 1 μ μ (QN g (some (.int rv)) μ μ) 0 [(0, .int p1), (1, .int p2)] [] μ
  refine P.iload_n 0 (pc' := 1) dX9_mixed_0 rfl rfl rfl ?_
  refine P.iload_n 1 (pc' := 2) dX9_mixed_1 rfl rfl rfl ?_
  refine P.ixor (pc' := 3) dX9_mixed_2 rfl ?_
  refine P.ldc_w (v := 1103515245) (pc' := 6) dX9_mixed_3 rfl q2266 ?_
  refine P.imul (pc' := 7) dX9_mixed_6 rfl ?_
  refine P.sipush (v := 12345) (pc' := 10) dX9_mixed_7 rfl (by decide) ?_
  refine P.iadd (pc' := 11) dX9_mixed_10 rfl ?_
  obtain ⟨x1, e2, hf⟩ := nm_i hf
  refine P.nmi e2 ?_
  refine P.istore_n (pc' := 12) (lv' := [(2, .int x1), (0, .int p1), (1, .int p2)]) dX9_mixed_11 rfl rfl (Nat.le_of_ble_eq_true rfl) rfl ?_
  refine P.iload_n 0 (pc' := 13) dX9_mixed_12 rfl rfl rfl ?_
  refine P.iload_n 0 (pc' := 14) dX9_mixed_13 rfl rfl rfl ?_
  refine P.bipush (v := 15) (pc' := 16) dX9_mixed_14 rfl (by decide) ?_
  refine P.iushr (pc' := 17) dX9_mixed_16 rfl ?_
  refine P.ixor (pc' := 18) dX9_mixed_17 rfl ?_
  cases hf; exact P.iret rfl dX9_mixed_18
theorem yok_X9_mixed : yOK yX9_mixed 2 := ⟨by decide +kernel, by decide +kernel, by decide +kernel⟩
abbrev mX9_lot : Ym := (RX9, cX9_lot, 3, (some Jvm.ClassFile.FieldType.int), false, [])
noncomputable def p_X9_lot (F : Nat) (p1 : Int32) (p2 : Int32) (p3 : Int32) : Option Int32 :=
  Option.bind (p_X9_mixed F p1 18) fun q1 =>
  Option.bind (p_X9_mixed F q1 p2) fun q3 =>
  Option.bind (rmO ((q3.toUInt32 >>> ((1 : Int32).toUInt32 &&& Int32.toUInt32 31)).toInt32) p3) fun x5 =>
  some x5
set_option maxHeartbeats 4000000 in
theorem ok_X9_lot {g : Gx} (F : Nat) (p1 : Int32) (p2 : Int32) (p3 : Int32) (μ : Sw) {rv : Int32} (hf : p_X9_lot F p1 p2 p3 = some rv) : Cl g 2 yX9_lot cX9_lot 3 (some Jvm.ClassFile.FieldType.int) [.int p1, .int p2, .int p3] μ (some (.int rv)) μ := by
  unfold p_X9_lot at hf
  refine Cl.of (own := RX9) (ini := false) (by decide +kernel) rfl (by decide) (Nat.le_of_ble_eq_true rfl) ?_
  show PW g mX9_lot 2 μ μ (QN g (some (.int rv)) μ μ) 0 [(0, .int p1), (1, .int p2), (2, .int p3)] [] μ
  refine P.iload_n 0 (pc' := 1) dX9_lot_0 rfl rfl rfl ?_
  refine P.bipush (v := 18) (pc' := 3) dX9_lot_1 rfl (by decide) ?_
  obtain ⟨q1, h2, hf⟩ := ob hf
  refine P.callS (pc' := 6) (As := [.int p1, .int 18]) 2 (ok_X9_mixed F p1 18 μ h2) (Nat.le_of_ble_eq_true rfl) (lw_S q2263 q2264 q172 q2265) yok_X9_mixed rfl (Nat.le_of_ble_eq_true rfl) (by decide) rfl dX9_lot_3 rfl ?_
  refine P.iload_n 1 (pc' := 7) dX9_lot_6 rfl rfl rfl ?_
  obtain ⟨q3, h4, hf⟩ := ob hf
  refine P.callS (pc' := 10) (As := [.int q1, .int p2]) 2 (ok_X9_mixed F q1 p2 μ h4) (Nat.le_of_ble_eq_true rfl) (lw_S q2263 q2264 q172 q2265) yok_X9_mixed rfl (Nat.le_of_ble_eq_true rfl) (by decide) rfl dX9_lot_7 rfl ?_
  refine P.iconst (v := 1) (pc' := 11) dX9_lot_10 rfl (by decide) ?_
  refine P.iushr (pc' := 12) dX9_lot_11 rfl ?_
  refine P.iload_n 2 (pc' := 13) dX9_lot_12 rfl rfl rfl ?_
  obtain ⟨x5, h6, hf⟩ := ob hf
  refine P.iremO (pc' := 14) h6 dX9_lot_13 rfl ?_
  cases hf; exact P.iret rfl dX9_lot_14
abbrev mJ6_checkIndex : Ym := (RJ6, cJ6_checkIndex, 3, (some Jvm.ClassFile.FieldType.int), false, [])
noncomputable def p_J6_checkIndex (F : Nat) (p1 : Int32) (p2 : Int32) : Option Int32 :=
  if p1 < 0 then
    none
  else
    if p1 < p2 then
      some p1
    else
      none
set_option maxHeartbeats 4000000 in
theorem ok_J6_checkIndex {g : Gx} (F : Nat) (p1 : Int32) (p2 : Int32) (μ : Sw) {rv : Int32} (hf : p_J6_checkIndex F p1 p2 = some rv) : Cl g 1 yJ6_checkIndex cJ6_checkIndex 3 (some Jvm.ClassFile.FieldType.int) [.int p1, .int p2, .null] μ (some (.int rv)) μ := by
  unfold p_J6_checkIndex at hf
  refine Cl.of (own := RJ6) (ini := false) (by decide +kernel) rfl (by decide) (Nat.le_of_ble_eq_true rfl) ?_
  show PW g mJ6_checkIndex 1 μ μ (QN g (some (.int rv)) μ μ) 0 [(0, .int p1), (1, .int p2), (2, .null)] [] μ
  refine P.iload_n 0 (pc' := 1) dJ6_checkIndex_0 rfl rfl rfl ?_
  refine P.if_lt (tgt := 9) (pc' := 4) dJ6_checkIndex_1 (by decide) rfl (fun y1 => ?_) (fun y1 => ?_)
  · have hf := (if_pos y1).symm.trans hf
    refine P.aloadN_n 2 (pc' := 10) dJ6_checkIndex_9 rfl rfl rfl ?_
    refine P.iload_n 0 (pc' := 11) dJ6_checkIndex_10 rfl rfl rfl ?_
    refine P.iload_n 1 (pc' := 12) dJ6_checkIndex_11 rfl rfl rfl ?_
    cases hf
  · have hf := (if_neg y1).symm.trans hf
    refine P.iload_n 0 (pc' := 5) dJ6_checkIndex_4 rfl rfl rfl ?_
    refine P.iload_n 1 (pc' := 6) dJ6_checkIndex_5 rfl rfl rfl ?_
    refine P.icmp_lt (tgt := 16) (pc' := 9) dJ6_checkIndex_6 (by decide) rfl (fun y2 => ?_) (fun y2 => ?_)
    · have hf := (if_pos y2).symm.trans hf
      refine P.iload_n 0 (pc' := 17) dJ6_checkIndex_16 rfl rfl rfl ?_
      cases hf; exact P.iret rfl dJ6_checkIndex_17
    · have hf := (if_neg y2).symm.trans hf
      refine P.aloadN_n 2 (pc' := 10) dJ6_checkIndex_9 rfl rfl rfl ?_
      refine P.iload_n 0 (pc' := 11) dJ6_checkIndex_10 rfl rfl rfl ?_
      refine P.iload_n 1 (pc' := 12) dJ6_checkIndex_11 rfl rfl rfl ?_
      cases hf
theorem yok_J6_checkIndex : yOK yJ6_checkIndex 3 := ⟨by decide +kernel, by decide +kernel, by decide +kernel⟩
abbrev mJ14_checkIndex : Ym := (RJ14, cJ14_checkIndex, 2, (some Jvm.ClassFile.FieldType.int), false, [])
noncomputable def p_J14_checkIndex (F : Nat) (p1 : Int32) (p2 : Int32) : Option Int32 :=
  Option.bind (p_J6_checkIndex F p1 p2) fun q1 =>
  some q1
set_option maxHeartbeats 4000000 in
theorem ok_J14_checkIndex {g : Gx} (F : Nat) (p1 : Int32) (p2 : Int32) (μ : Sw) {rv : Int32} (hf : p_J14_checkIndex F p1 p2 = some rv) : Cl g 2 yJ14_checkIndex cJ14_checkIndex 2 (some Jvm.ClassFile.FieldType.int) [.int p1, .int p2] μ (some (.int rv)) μ := by
  unfold p_J14_checkIndex at hf
  refine Cl.of (own := RJ14) (ini := false) (by decide +kernel) rfl (by decide) (Nat.le_of_ble_eq_true rfl) ?_
  show PW g mJ14_checkIndex 2 μ μ (QN g (some (.int rv)) μ μ) 0 [(0, .int p1), (1, .int p2)] [] μ
  refine P.iload_n 0 (pc' := 1) dJ14_checkIndex_0 rfl rfl rfl ?_
  refine P.iload_n 1 (pc' := 2) dJ14_checkIndex_1 rfl rfl rfl ?_
  refine P.null (pc' := 3) dJ14_checkIndex_2 rfl ?_
  obtain ⟨q1, h2, hf⟩ := ob hf
  refine P.callS (pc' := 6) (As := [.int p1, .int p2, .null]) 3 (ok_J6_checkIndex F p1 p2 μ h2) (Nat.le_of_ble_eq_true rfl) (lw_S q1014 q618 q175 q619) yok_J6_checkIndex rfl (Nat.le_of_ble_eq_true rfl) (by decide) rfl dJ14_checkIndex_3 rfl ?_
  cases hf; exact P.iret rfl dJ14_checkIndex_6
abbrev mJ15_bitCount : Ym := (RJ15, cJ15_bitCount, 1, (some Jvm.ClassFile.FieldType.int), false, [])
noncomputable def p_J15_bitCount (F : Nat) (p1 : Int32) : Option Int32 :=
  nm (p1 - (((p1.toUInt32 >>> ((1 : Int32).toUInt32 &&& Int32.toUInt32 31)).toInt32) &&& 1431655765)) fun x1 =>
  nm ((x1 &&& 858993459) + (((x1.toUInt32 >>> ((2 : Int32).toUInt32 &&& Int32.toUInt32 31)).toInt32) &&& 858993459)) fun x3 =>
  nm ((x3 + ((x3.toUInt32 >>> ((4 : Int32).toUInt32 &&& Int32.toUInt32 31)).toInt32)) &&& 252645135) fun x5 =>
  nm (x5 + ((x5.toUInt32 >>> ((8 : Int32).toUInt32 &&& Int32.toUInt32 31)).toInt32)) fun x7 =>
  nm (x7 + ((x7.toUInt32 >>> ((16 : Int32).toUInt32 &&& Int32.toUInt32 31)).toInt32)) fun x9 =>
  some (x9 &&& 63)
set_option maxHeartbeats 4000000 in
theorem ok_J15_bitCount {g : Gx} (F : Nat) (p1 : Int32) (μ : Sw) {rv : Int32} (hf : p_J15_bitCount F p1 = some rv) : Cl g 1 yJ15_bitCount cJ15_bitCount 1 (some Jvm.ClassFile.FieldType.int) [.int p1] μ (some (.int rv)) μ := by
  unfold p_J15_bitCount at hf
  refine Cl.of (own := RJ15) (ini := false) (by decide +kernel) rfl (by decide) (Nat.le_of_ble_eq_true rfl) ?_
  show PW g mJ15_bitCount 1 μ μ (QN g (some (.int rv)) μ μ) 0 [(0, .int p1)] [] μ
  refine P.iload_n 0 (pc' := 1) dJ15_bitCount_0 rfl rfl rfl ?_
  refine P.iload_n 0 (pc' := 2) dJ15_bitCount_1 rfl rfl rfl ?_
  refine P.iconst (v := 1) (pc' := 3) dJ15_bitCount_2 rfl (by decide) ?_
  refine P.iushr (pc' := 4) dJ15_bitCount_3 rfl ?_
  refine P.ldc_w (v := 1431655765) (pc' := 7) dJ15_bitCount_4 rfl q1171 ?_
  refine P.iand (pc' := 8) dJ15_bitCount_7 rfl ?_
  refine P.isub (pc' := 9) dJ15_bitCount_8 rfl ?_
  obtain ⟨x1, e2, hf⟩ := nm_i hf
  refine P.nmi e2 ?_
  refine P.istore_n (pc' := 10) (lv' := [(0, .int x1)]) dJ15_bitCount_9 rfl rfl (Nat.le_of_ble_eq_true rfl) rfl ?_
  refine P.iload_n 0 (pc' := 11) dJ15_bitCount_10 rfl rfl rfl ?_
  refine P.ldc_w (v := 858993459) (pc' := 14) dJ15_bitCount_11 rfl q1172 ?_
  refine P.iand (pc' := 15) dJ15_bitCount_14 rfl ?_
  refine P.iload_n 0 (pc' := 16) dJ15_bitCount_15 rfl rfl rfl ?_
  refine P.iconst (v := 2) (pc' := 17) dJ15_bitCount_16 rfl (by decide) ?_
  refine P.iushr (pc' := 18) dJ15_bitCount_17 rfl ?_
  refine P.ldc_w (v := 858993459) (pc' := 21) dJ15_bitCount_18 rfl q1172 ?_
  refine P.iand (pc' := 22) dJ15_bitCount_21 rfl ?_
  refine P.iadd (pc' := 23) dJ15_bitCount_22 rfl ?_
  obtain ⟨x3, e4, hf⟩ := nm_i hf
  refine P.nmi e4 ?_
  refine P.istore_n (pc' := 24) (lv' := [(0, .int x3)]) dJ15_bitCount_23 rfl rfl (Nat.le_of_ble_eq_true rfl) rfl ?_
  refine P.iload_n 0 (pc' := 25) dJ15_bitCount_24 rfl rfl rfl ?_
  refine P.iload_n 0 (pc' := 26) dJ15_bitCount_25 rfl rfl rfl ?_
  refine P.iconst (v := 4) (pc' := 27) dJ15_bitCount_26 rfl (by decide) ?_
  refine P.iushr (pc' := 28) dJ15_bitCount_27 rfl ?_
  refine P.iadd (pc' := 29) dJ15_bitCount_28 rfl ?_
  refine P.ldc_w (v := 252645135) (pc' := 32) dJ15_bitCount_29 rfl q1173 ?_
  refine P.iand (pc' := 33) dJ15_bitCount_32 rfl ?_
  obtain ⟨x5, e6, hf⟩ := nm_i hf
  refine P.nmi e6 ?_
  refine P.istore_n (pc' := 34) (lv' := [(0, .int x5)]) dJ15_bitCount_33 rfl rfl (Nat.le_of_ble_eq_true rfl) rfl ?_
  refine P.iload_n 0 (pc' := 35) dJ15_bitCount_34 rfl rfl rfl ?_
  refine P.iload_n 0 (pc' := 36) dJ15_bitCount_35 rfl rfl rfl ?_
  refine P.bipush (v := 8) (pc' := 38) dJ15_bitCount_36 rfl (by decide) ?_
  refine P.iushr (pc' := 39) dJ15_bitCount_38 rfl ?_
  refine P.iadd (pc' := 40) dJ15_bitCount_39 rfl ?_
  obtain ⟨x7, e8, hf⟩ := nm_i hf
  refine P.nmi e8 ?_
  refine P.istore_n (pc' := 41) (lv' := [(0, .int x7)]) dJ15_bitCount_40 rfl rfl (Nat.le_of_ble_eq_true rfl) rfl ?_
  refine P.iload_n 0 (pc' := 42) dJ15_bitCount_41 rfl rfl rfl ?_
  refine P.iload_n 0 (pc' := 43) dJ15_bitCount_42 rfl rfl rfl ?_
  refine P.bipush (v := 16) (pc' := 45) dJ15_bitCount_43 rfl (by decide) ?_
  refine P.iushr (pc' := 46) dJ15_bitCount_45 rfl ?_
  refine P.iadd (pc' := 47) dJ15_bitCount_46 rfl ?_
  obtain ⟨x9, e10, hf⟩ := nm_i hf
  refine P.nmi e10 ?_
  refine P.istore_n (pc' := 48) (lv' := [(0, .int x9)]) dJ15_bitCount_47 rfl rfl (Nat.le_of_ble_eq_true rfl) rfl ?_
  refine P.iload_n 0 (pc' := 49) dJ15_bitCount_48 rfl rfl rfl ?_
  refine P.bipush (v := 63) (pc' := 51) dJ15_bitCount_49 rfl (by decide) ?_
  refine P.iand (pc' := 52) dJ15_bitCount_51 rfl ?_
  cases hf; exact P.iret rfl dJ15_bitCount_52
