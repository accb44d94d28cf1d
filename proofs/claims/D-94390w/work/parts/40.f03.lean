set_option maxRecDepth 100000
theorem yok_X0_rankOf : yOK yX0_rankOf 1 := ⟨by decide +kernel, by decide +kernel, by decide +kernel⟩
theorem yok_X7_clear : yOK yX7_clear 0 := ⟨by decide +kernel, by decide +kernel, by decide +kernel⟩
abbrev mX0_look : Ym := (RX0, cX0_look, 2, none, false, [])
noncomputable def f_X0_look (F : Nat) (this : Nat) (p1 : Int32) (μ : Sw) : Option Sw :=
  Option.bind (gfR μ this 0 6) fun x1 =>
  Option.bind (oc μ x1 7) fun u5 =>
  Option.bind (f_X7_clear F x1 μ) fun q3 =>
  Option.bind (gfR q3 this 0 6) fun x7 =>
  Option.bind (gfR q3 x7 7 0) fun x9 =>
  Option.bind (gfR q3 this 0 4) fun x11 =>
  Option.bind (gfR q3 x11 6 0) fun x13 =>
  Option.bind (aI q3 0 x13 p1) fun x15 =>
  Option.bind (sI q3 0 x9 0 x15) fun μ18 =>
  Option.bind (gfR μ18 this 0 6) fun x19 =>
  Option.bind (gfR μ18 x19 7 0) fun x21 =>
  Option.bind (oc μ18 this 0) fun u25 =>
  Option.bind (f_X0_rankOf F this p1 μ18) fun q23 =>
  Option.bind (sI μ18 0 x21 1 q23) fun μ28 =>
  Option.bind (gfR μ28 this 0 6) fun x29 =>
  Option.bind (gfR μ28 x29 7 0) fun x31 =>
  Option.bind (gfR μ28 this 0 3) fun x33 =>
  Option.bind (gfR μ28 x33 3 0) fun x35 =>
  Option.bind (oc μ28 x35 20) fun u39 =>
  Option.bind (f_J2_get F x35 p1 μ28) fun q37 =>
  Option.bind (oc μ28 q37 11) fun u41 =>
  Option.bind (gfI μ28 q37 11 2) fun x43 =>
  Option.bind (sI μ28 0 x31 2 x43) fun μ46 =>
  Option.bind (gfR μ46 this 0 6) fun x47 =>
  Option.bind (gfR μ46 x47 7 0) fun x49 =>
  Option.bind (gfR μ46 this 0 3) fun x51 =>
  Option.bind (gfR μ46 x51 3 0) fun x53 =>
  Option.bind (oc μ46 x53 20) fun u57 =>
  Option.bind (f_J2_get F x53 p1 μ46) fun q55 =>
  Option.bind (oc μ46 q55 11) fun u59 =>
  Option.bind (gfI μ46 q55 11 0) fun x61 =>
  Option.bind (sI μ46 0 x49 3 x61) fun μ64 =>
  some μ64
set_option maxHeartbeats 4000000 in
theorem ok_X0_look {g : Gx} (F : Nat) (this : Nat) (p1 : Int32) (μ : Sw) {μF : Sw} (hf : f_X0_look F this p1 μ = some μF) : Cl g 4 yX0_look cX0_look 2 none [.ref this, .int p1] μ none μF := by
  unfold f_X0_look at hf
  refine Cl.of (own := RX0) (ini := false) (by decide +kernel) rfl (by decide) (Nat.le_of_ble_eq_true rfl) ?_
  show PW g mX0_look 4 μ μF (QN g none μ μF) 0 [(0, .ref this), (1, .int p1)] [] μ
  refine P.aload_n 0 (pc' := 1) dX0_look_0 rfl rfl rfl ?_
  obtain ⟨x1, h2, hf⟩ := ob hf
  refine P.get (pc' := 4) ci0 6 (by decide) (gfR_spec h2) q481 (Or.inl rfl) dX0_look_1 rfl ?_
  obtain ⟨u5, h6, hf⟩ := ob hf
  obtain ⟨q3, h4, hf⟩ := ob hf
  refine P.callV (pc' := 7) (As := []) 0 (ok_X7_clear F x1 μ h4) (Nat.le_of_ble_eq_true rfl) (lw_V q1051 q1052 q1053 q170 q1054) rfl yok_X7_clear rfl (Nat.le_of_ble_eq_true rfl) ci7 h6 (by decide) rfl dX0_look_4 rfl ?_
  refine P.aload_n 0 (pc' := 8) dX0_look_7 rfl rfl rfl ?_
  obtain ⟨x7, h8, hf⟩ := ob hf
  refine P.get (pc' := 11) ci0 6 (by decide) (gfR_spec h8) q481 (Or.inl rfl) dX0_look_8 rfl ?_
  obtain ⟨x9, h10, hf⟩ := ob hf
  refine P.getN (pc' := 14) ci7 0 (by decide) (gfR_spec h10) q448 (Or.inl rfl) dX0_look_11 rfl ?_
  refine P.iconst (v := 0) (pc' := 15) dX0_look_14 rfl (by decide) ?_
  refine P.aload_n 0 (pc' := 16) dX0_look_15 rfl rfl rfl ?_
  obtain ⟨x11, h12, hf⟩ := ob hf
  refine P.get (pc' := 19) ci0 4 (by decide) (gfR_spec h12) q479 (Or.inl rfl) dX0_look_16 rfl ?_
  obtain ⟨x13, h14, hf⟩ := ob hf
  refine P.getN (pc' := 22) ci6 0 (by decide) (gfR_spec h14) q414 (Or.inl rfl) dX0_look_19 rfl ?_
  refine P.iload_n 1 (pc' := 23) dX0_look_22 rfl rfl rfl ?_
  obtain ⟨x15, h16, hf⟩ := ob hf
  refine P.iald (t := 0) (pc' := 24) rfl h16 dX0_look_23 rfl ?_
  obtain ⟨μ18, h17, hf⟩ := ob hf
  refine P.iast (pc' := 25) h17 dX0_look_24 rfl ?_
  refine P.aload_n 0 (pc' := 26) dX0_look_25 rfl rfl rfl ?_
  obtain ⟨x19, h20, hf⟩ := ob hf
  refine P.get (pc' := 29) ci0 6 (by decide) (gfR_spec h20) q481 (Or.inl rfl) dX0_look_26 rfl ?_
  obtain ⟨x21, h22, hf⟩ := ob hf
  refine P.getN (pc' := 32) ci7 0 (by decide) (gfR_spec h22) q448 (Or.inl rfl) dX0_look_29 rfl ?_
  refine P.iconst (v := 1) (pc' := 33) dX0_look_32 rfl (by decide) ?_
  refine P.aload_n 0 (pc' := 34) dX0_look_33 rfl rfl rfl ?_
  refine P.iload_n 1 (pc' := 35) dX0_look_34 rfl rfl rfl ?_
  obtain ⟨u25, h26, hf⟩ := ob hf
  obtain ⟨q23, h24, hf⟩ := ob hf
  refine P.callV (pc' := 38) (As := [.int p1]) 1 (ok_X0_rankOf F this p1 μ18 h24) (Nat.le_of_ble_eq_true rfl) (lw_V q1039 q1041 qs35 q159 q1042) rfl yok_X0_rankOf rfl (Nat.le_of_ble_eq_true rfl) ci0 h26 (Nat.le_of_ble_eq_true rfl) rfl dX0_look_35 rfl ?_
  obtain ⟨μ28, h27, hf⟩ := ob hf
  refine P.iast (pc' := 39) h27 dX0_look_38 rfl ?_
  refine P.aload_n 0 (pc' := 40) dX0_look_39 rfl rfl rfl ?_
  obtain ⟨x29, h30, hf⟩ := ob hf
  refine P.get (pc' := 43) ci0 6 (by decide) (gfR_spec h30) q481 (Or.inl rfl) dX0_look_40 rfl ?_
  obtain ⟨x31, h32, hf⟩ := ob hf
  refine P.getN (pc' := 46) ci7 0 (by decide) (gfR_spec h32) q448 (Or.inl rfl) dX0_look_43 rfl ?_
  refine P.iconst (v := 2) (pc' := 47) dX0_look_46 rfl (by decide) ?_
  refine P.aload_n 0 (pc' := 48) dX0_look_47 rfl rfl rfl ?_
  obtain ⟨x33, h34, hf⟩ := ob hf
  refine P.get (pc' := 51) ci0 3 (by decide) (gfR_spec h34) q478 (Or.inl rfl) dX0_look_48 rfl ?_
  obtain ⟨x35, h36, hf⟩ := ob hf
  refine P.getN (pc' := 54) ci3 0 (by decide) (gfR_spec h36) q328 (Or.inl rfl) dX0_look_51 rfl ?_
  refine P.iload_n 1 (pc' := 55) dX0_look_54 rfl rfl rfl ?_
  obtain ⟨u39, h40, hf⟩ := ob hf
  obtain ⟨q37, h38, hf⟩ := ob hf
  refine P.callV (pc' := 58) (As := [.int p1]) 1 (ok_J2_get F x35 p1 μ28 h38) (Nat.le_of_ble_eq_true rfl) (lw_V q1007 q1008 q1009 q165 q1010) rfl yok_J2_get rfl (Nat.le_of_ble_eq_true rfl) ci20 h40 (Nat.le_of_ble_eq_true rfl) rfl dX0_look_55 rfl ?_
  obtain ⟨u41, h42, hf⟩ := ob hf
  refine P.castS (u := u41) (pc' := 61) ci11 q1019 h42 dX0_look_58 rfl ?_
  obtain ⟨x43, h44, hf⟩ := ob hf
  refine P.getN (pc' := 64) ci11 2 (by decide) (gfI_spec h44) q788 (Or.inl rfl) dX0_look_61 rfl ?_
  obtain ⟨μ46, h45, hf⟩ := ob hf
  refine P.iast (pc' := 65) h45 dX0_look_64 rfl ?_
  refine P.aload_n 0 (pc' := 66) dX0_look_65 rfl rfl rfl ?_
  obtain ⟨x47, h48, hf⟩ := ob hf
  refine P.get (pc' := 69) ci0 6 (by decide) (gfR_spec h48) q481 (Or.inl rfl) dX0_look_66 rfl ?_
  obtain ⟨x49, h50, hf⟩ := ob hf
  refine P.getN (pc' := 72) ci7 0 (by decide) (gfR_spec h50) q448 (Or.inl rfl) dX0_look_69 rfl ?_
  refine P.iconst (v := 3) (pc' := 73) dX0_look_72 rfl (by decide) ?_
  refine P.aload_n 0 (pc' := 74) dX0_look_73 rfl rfl rfl ?_
  obtain ⟨x51, h52, hf⟩ := ob hf
  refine P.get (pc' := 77) ci0 3 (by decide) (gfR_spec h52) q478 (Or.inl rfl) dX0_look_74 rfl ?_
  obtain ⟨x53, h54, hf⟩ := ob hf
  refine P.getN (pc' := 80) ci3 0 (by decide) (gfR_spec h54) q328 (Or.inl rfl) dX0_look_77 rfl ?_
  refine P.iload_n 1 (pc' := 81) dX0_look_80 rfl rfl rfl ?_
  obtain ⟨u57, h58, hf⟩ := ob hf
  obtain ⟨q55, h56, hf⟩ := ob hf
  refine P.callV (pc' := 84) (As := [.int p1]) 1 (ok_J2_get F x53 p1 μ46 h56) (Nat.le_of_ble_eq_true rfl) (lw_V q1007 q1008 q1009 q165 q1010) rfl yok_J2_get rfl (Nat.le_of_ble_eq_true rfl) ci20 h58 (Nat.le_of_ble_eq_true rfl) rfl dX0_look_81 rfl ?_
  obtain ⟨u59, h60, hf⟩ := ob hf
  refine P.castS (u := u59) (pc' := 87) ci11 q1019 h60 dX0_look_84 rfl ?_
  obtain ⟨x61, h62, hf⟩ := ob hf
  refine P.getN (pc' := 90) ci11 0 (by decide) (gfI_spec h62) q784 (Or.inl rfl) dX0_look_87 rfl ?_
  obtain ⟨μ64, h63, hf⟩ := ob hf
  refine P.iast (pc' := 91) h63 dX0_look_90 rfl ?_
  cases hf; exact P.vret rfl dX0_look_91
abbrev mX4_value : Ym := (RX4, cX4_value, 2, (some Jvm.ClassFile.FieldType.int), false, [])
noncomputable def f_X4_value (F : Nat) (this : Nat) (p1 : Nat) (μ : Sw) : Option Int32 :=
  Option.bind (gfI μ this 4 0) fun x1 =>
  some x1
set_option maxHeartbeats 4000000 in
theorem ok_X4_value {g : Gx} (F : Nat) (d : Nat) (this : Nat) (p1 : Nat) (μ : Sw) {rv : Int32} (hf : f_X4_value F this p1 μ = some rv) : Cl g d yX4_value cX4_value 2 (some Jvm.ClassFile.FieldType.int) [.ref this, .ref p1] μ (some (.int rv)) μ := by
  unfold f_X4_value at hf
  refine Cl.of (own := RX4) (ini := false) (by decide +kernel) rfl (by decide) (Nat.le_of_ble_eq_true rfl) ?_
  show PW g mX4_value d μ μ (QN g (some (.int rv)) μ μ) 0 [(0, .ref this), (1, .ref p1)] [] μ
  refine P.aload_n 0 (pc' := 1) dX4_value_0 rfl rfl rfl ?_
  obtain ⟨x1, h2, hf⟩ := ob hf
  refine P.get (pc' := 4) ci4 0 (by decide) (gfI_spec h2) q312 (Or.inl rfl) dX4_value_1 rfl ?_
  cases hf; exact P.iret rfl dX4_value_4
abbrev mX5_value : Ym := (RX5, cX5_value, 2, (some Jvm.ClassFile.FieldType.int), false, [])
noncomputable def f_X5_value (F : Nat) (this : Nat) (p1 : Nat) (μ : Sw) : Option Int32 :=
  Option.bind (gfR μ p1 7 0) fun x1 =>
  Option.bind (gfI μ this 5 0) fun x3 =>
  Option.bind (aI μ 0 x1 x3) fun x5 =>
  some x5
set_option maxHeartbeats 4000000 in
theorem ok_X5_value {g : Gx} (F : Nat) (d : Nat) (this : Nat) (p1 : Nat) (μ : Sw) {rv : Int32} (hf : f_X5_value F this p1 μ = some rv) : Cl g d yX5_value cX5_value 2 (some Jvm.ClassFile.FieldType.int) [.ref this, .ref p1] μ (some (.int rv)) μ := by
  unfold f_X5_value at hf
  refine Cl.of (own := RX5) (ini := false) (by decide +kernel) rfl (by decide) (Nat.le_of_ble_eq_true rfl) ?_
  show PW g mX5_value d μ μ (QN g (some (.int rv)) μ μ) 0 [(0, .ref this), (1, .ref p1)] [] μ
  refine P.aload_n 1 (pc' := 1) dX5_value_0 rfl rfl rfl ?_
  obtain ⟨x1, h2, hf⟩ := ob hf
  refine P.getN (pc' := 4) ci7 0 (by decide) (gfR_spec h2) q447 (Or.inl rfl) dX5_value_1 rfl ?_
  refine P.aload_n 0 (pc' := 5) dX5_value_4 rfl rfl rfl ?_
  obtain ⟨x3, h4, hf⟩ := ob hf
  refine P.get (pc' := 8) ci5 0 (by decide) (gfI_spec h4) q323 (Or.inl rfl) dX5_value_5 rfl ?_
  obtain ⟨x5, h6, hf⟩ := ob hf
  refine P.iald (t := 0) (pc' := 9) rfl h6 dX5_value_8 rfl ?_
  cases hf; exact P.iret rfl dX5_value_9
abbrev mX14_value : Ym := (RX14, cX14_value, 4, (some Jvm.ClassFile.FieldType.int), false, [])
noncomputable def f_X14_value (F : Nat) (rec : Nat → Nat → Sw → Option (Int32 × Sw)) (this : Nat) (p1 : Nat) (μ : Sw) : Option (Int32 × Sw) :=
  Option.bind (gfR μ this 14 1) fun x1 =>
  Option.bind (rec x1 p1 μ) fun q3 =>
  Option.bind (gfR q3.2 this 14 2) fun x5 =>
  Option.bind (rec x5 p1 q3.2) fun q7 =>
  Option.bind (gfI q7.2 this 14 0) fun x9 =>
  if x9 = 42 then
    some (q3.1 * q7.1, q7.2)
  else
    if x9 = 43 then
      some (q3.1 + q7.1, q7.2)
    else
      if x9 = 45 then
        some (q3.1 - q7.1, q7.2)
      else
        if x9 = 44 then
          if q7.1 = 0 then
            Option.bind (pf q7.2 p1 7 1 (.int 1)) fun μ19 =>
            some (0, μ19)
          else
            if q7.1 = (-1) then
              some (-q3.1, q7.2)
            else
              Option.bind (dvO q3.1 q7.1) fun x17 =>
              some (x17, q7.2)
        else
          if q7.1 = 0 then
            Option.bind (pf q7.2 p1 7 1 (.int 1)) fun μ25 =>
            some (0, μ25)
          else
            if q7.1 = (-1) then
              some (-q3.1, q7.2)
            else
              Option.bind (dvO q3.1 q7.1) fun x23 =>
              some (x23, q7.2)
set_option maxHeartbeats 4000000 in
theorem ok_X14_value {g : Gx} (F : Nat) (D0 : Nat) (rec : Nat → Nat → Sw → Option (Int32 × Sw)) (hrec : ∀ t v μ r μ1, rec t v μ = some (r, μ1) → TmOK g D0 t v μ r μ1) (this : Nat) (p1 : Nat) (μ : Sw) {rv : Int32} {μF : Sw} (hf : f_X14_value F rec this p1 μ = some (rv, μF)) : Cl g (D0 + 1) yX14_value cX14_value 4 (some Jvm.ClassFile.FieldType.int) [.ref this, .ref p1] μ (some (.int rv)) μF := by
  unfold f_X14_value at hf
  refine Cl.of (own := RX14) (ini := false) (by decide +kernel) rfl (by decide) (Nat.le_of_ble_eq_true rfl) ?_
  show PW g mX14_value (D0 + 1) μ μF (QN g (some (.int rv)) μ μF) 0 [(0, .ref this), (1, .ref p1)] [] μ
  refine P.aload_n 0 (pc' := 1) dX14_value_0 rfl rfl rfl ?_
  obtain ⟨x1, h2, hf⟩ := ob hf
  refine P.get (pc' := 4) ci14 1 (by decide) (gfR_spec h2) q940 (Or.inl rfl) dX14_value_1 rfl ?_
  refine P.aload_n 1 (pc' := 5) dX14_value_4 rfl rfl rfl ?_
  obtain ⟨q3, h4, hf⟩ := ob hf
  refine P.callTerm (pc' := 10) (hrec _ _ _ _ _ h4) (Nat.le_refl _) q1070 (by decide) dX14_value_5 rfl ?_
  refine P.istore_n (pc' := 11) (lv' := [(2, .int q3.1), (0, .ref this), (1, .ref p1)]) dX14_value_10 rfl rfl (Nat.le_of_ble_eq_true rfl) rfl ?_
  refine P.aload_n 1 (pc' := 12) dX14_value_11 rfl rfl rfl ?_
  obtain ⟨x5, h6, hf⟩ := ob hf
  refine P.get (pc' := 15) ci14 2 (by decide) (gfR_spec h6) q941 (Or.inl rfl) dX14_value_12 rfl ?_
  refine P.aload_n 2 (pc' := 16) dX14_value_15 rfl rfl rfl ?_
  obtain ⟨q7, h8, hf⟩ := ob hf
  refine P.callTerm (pc' := 21) (hrec _ _ _ _ _ h8) (Nat.le_refl _) q1070 (by decide) dX14_value_16 rfl ?_
  refine P.istore_n (pc' := 22) (lv' := [(3, .int q7.1), (2, .int q3.1), (0, .ref this), (1, .ref p1)]) dX14_value_21 rfl rfl (Nat.le_of_ble_eq_true rfl) rfl ?_
  refine P.aload_n 2 (pc' := 23) dX14_value_22 rfl rfl rfl ?_
  obtain ⟨x9, h10, hf⟩ := ob hf
  refine P.get (pc' := 26) ci14 0 (by decide) (gfI_spec h10) q939 (Or.inl rfl) dX14_value_23 rfl ?_
  by_cases y11 : x9 = 42
  · have hf := (if_pos y11).symm.trans hf
    refine P.tsIn (tgt := 64) dX14_value_26 (by rw [y11]; decide) (by rw [y11]; decide) (by rw [y11]; rfl) (by decide) ?_
    refine P.iload_n 1 (pc' := 65) dX14_value_64 rfl rfl rfl ?_
    refine P.iload_n 0 (pc' := 66) dX14_value_65 rfl rfl rfl ?_
    refine P.imul (pc' := 67) dX14_value_66 rfl ?_
    cases hf; exact P.iret rfl dX14_value_67
  · have hf := (if_neg y11).symm.trans hf
    by_cases y12 : x9 = 43
    · have hf := (if_pos y12).symm.trans hf
      refine P.tsIn (tgt := 56) dX14_value_26 (by rw [y12]; decide) (by rw [y12]; decide) (by rw [y12]; rfl) (by decide) ?_
      refine P.iload_n 1 (pc' := 57) dX14_value_56 rfl rfl rfl ?_
      refine P.iload_n 0 (pc' := 58) dX14_value_57 rfl rfl rfl ?_
      refine P.iadd (pc' := 59) dX14_value_58 rfl ?_
      cases hf; exact P.iret rfl dX14_value_59
    · have hf := (if_neg y12).symm.trans hf
      by_cases y13 : x9 = 45
      · have hf := (if_pos y13).symm.trans hf
        refine P.tsIn (tgt := 60) dX14_value_26 (by rw [y13]; decide) (by rw [y13]; decide) (by rw [y13]; rfl) (by decide) ?_
        refine P.iload_n 1 (pc' := 61) dX14_value_60 rfl rfl rfl ?_
        refine P.iload_n 0 (pc' := 62) dX14_value_61 rfl rfl rfl ?_
        refine P.isub (pc' := 63) dX14_value_62 rfl ?_
        cases hf; exact P.iret rfl dX14_value_63
      · have hf := (if_neg y13).symm.trans hf
        by_cases y14 : x9 = 44
        · have hf := (if_pos y14).symm.trans hf
          refine P.tsIn (tgt := 68) dX14_value_26 (by rw [y14]; decide) (by rw [y14]; decide) (by rw [y14]; rfl) (by decide) ?_
          refine P.iload_n 0 (pc' := 69) dX14_value_68 rfl rfl rfl ?_
          refine P.if_ne (tgt := 79) (pc' := 72) dX14_value_69 (by decide) rfl (fun y15 => ?_) (fun y15 => ?_)
          · have hf := (if_neg y15).symm.trans hf
            refine P.iload_n 0 (pc' := 80) dX14_value_79 rfl rfl rfl ?_
            refine P.iconst (v := (-1)) (pc' := 81) dX14_value_80 rfl (by decide) ?_
            refine P.icmp_ne (tgt := 89) (pc' := 84) dX14_value_81 (by decide) rfl (fun y16 => ?_) (fun y16 => ?_)
            · have hf := (if_neg y16).symm.trans hf
              refine P.iload_n 1 (pc' := 90) dX14_value_89 rfl rfl rfl ?_
              refine P.iload_n 0 (pc' := 91) dX14_value_90 rfl rfl rfl ?_
              obtain ⟨x17, h18, hf⟩ := ob hf
              refine P.idivO (pc' := 92) h18 dX14_value_91 rfl ?_
              cases hf; exact P.iret rfl dX14_value_92
            · have hf := (if_pos y16).symm.trans hf
              refine P.iload_n 1 (pc' := 85) dX14_value_84 rfl rfl rfl ?_
              refine P.ineg (pc' := 86) dX14_value_85 rfl ?_
              refine P.goto (tgt := 92) dX14_value_86 (by decide) ?_
              cases hf; exact P.iret rfl dX14_value_92
          · have hf := (if_pos y15).symm.trans hf
            refine P.aload_n 3 (pc' := 73) dX14_value_72 rfl rfl rfl ?_
            refine P.iconst (v := 1) (pc' := 74) dX14_value_73 rfl (by decide) ?_
            obtain ⟨μ19, h20, hf⟩ := ob hf
            refine P.putN (v := .int 1) (pc' := 77) ci7 1 (by decide) h20 q450 (Or.inl rfl) rfl rfl rfl dX14_value_74 rfl ?_
            refine P.iconst (v := 0) (pc' := 78) dX14_value_77 rfl (by decide) ?_
            cases hf; exact P.iret rfl dX14_value_78
        · have hf := (if_neg y14).symm.trans hf
          refine P.tsOut (tgt := 68) dX14_value_26 (by have z0 := lv_neT y11 (a := 42) (by decide); have z1 := lv_neT y12 (a := 43) (by decide); have z2 := lv_neT y13 (a := 45) (by decide); have z3 := lv_neT y14 (a := 44) (by decide); omega) (by decide) ?_
          refine P.iload_n 0 (pc' := 69) dX14_value_68 rfl rfl rfl ?_
          refine P.if_ne (tgt := 79) (pc' := 72) dX14_value_69 (by decide) rfl (fun y21 => ?_) (fun y21 => ?_)
          · have hf := (if_neg y21).symm.trans hf
            refine P.iload_n 0 (pc' := 80) dX14_value_79 rfl rfl rfl ?_
            refine P.iconst (v := (-1)) (pc' := 81) dX14_value_80 rfl (by decide) ?_
            refine P.icmp_ne (tgt := 89) (pc' := 84) dX14_value_81 (by decide) rfl (fun y22 => ?_) (fun y22 => ?_)
            · have hf := (if_neg y22).symm.trans hf
              refine P.iload_n 1 (pc' := 90) dX14_value_89 rfl rfl rfl ?_
              refine P.iload_n 0 (pc' := 91) dX14_value_90 rfl rfl rfl ?_
              obtain ⟨x23, h24, hf⟩ := ob hf
              refine P.idivO (pc' := 92) h24 dX14_value_91 rfl ?_
              cases hf; exact P.iret rfl dX14_value_92
            · have hf := (if_pos y22).symm.trans hf
              refine P.iload_n 1 (pc' := 85) dX14_value_84 rfl rfl rfl ?_
              refine P.ineg (pc' := 86) dX14_value_85 rfl ?_
              refine P.goto (tgt := 92) dX14_value_86 (by decide) ?_
              cases hf; exact P.iret rfl dX14_value_92
          · have hf := (if_pos y21).symm.trans hf
            refine P.aload_n 3 (pc' := 73) dX14_value_72 rfl rfl rfl ?_
            refine P.iconst (v := 1) (pc' := 74) dX14_value_73 rfl (by decide) ?_
            obtain ⟨μ25, h26, hf⟩ := ob hf
            refine P.putN (v := .int 1) (pc' := 77) ci7 1 (by decide) h26 q450 (Or.inl rfl) rfl rfl rfl dX14_value_74 rfl ?_
            refine P.iconst (v := 0) (pc' := 78) dX14_value_77 rfl (by decide) ?_
            cases hf; exact P.iret rfl dX14_value_78
/-! a term's value, by its record's kind -/
noncomputable def f_value (F : Nat) (D : Nat) : Nat → Nat → Sw → Option (Int32 × Sw) := Nat.rec (motive := fun _ => Nat → Nat → Sw → Option (Int32 × Sw)) (fun _ _ _ => none) (fun _ rec t v μ => if oc μ t 4 = some () then Option.bind (f_X4_value F t v μ) fun r => some (r, μ) else if oc μ t 5 = some () then Option.bind (f_X5_value F t v μ) fun r => some (r, μ) else if oc μ t 14 = some () then f_X14_value F rec t v μ else none) D
theorem f_value_s (F D : Nat) (t v : Nat) (μ : Sw) : f_value F (D + 1) t v μ = if oc μ t 4 = some () then Option.bind (f_X4_value F t v μ) fun r => some (r, μ) else if oc μ t 5 = some () then Option.bind (f_X5_value F t v μ) fun r => some (r, μ) else if oc μ t 14 = some () then f_X14_value F (f_value F D) t v μ else none := rfl
theorem ok_value {g : Gx} (F D : Nat) : ∀ (t v : Nat) (μ : Sw) (r : Int32) (μ1 : Sw), f_value F D t v μ = some (r, μ1) → TmOK g D t v μ r μ1 := by
  induction D with
  | zero => intro t v μ r μ1 h; have h : (none : Option (Int32 × Sw)) = some _ := h; cases h
  | succ D ih =>
    intro t v μ r μ1 h
    rw [f_value_s] at h
    by_cases h4 : oc μ t 4 = some ()
    · rw [if_pos h4] at h
      obtain ⟨x, hx, h⟩ := ob h
      cases h
      exact Or.inl ⟨h4, ok_X4_value F (D + 1) t v μ hx⟩
    · rw [if_neg h4] at h
      by_cases h5 : oc μ t 5 = some ()
      · rw [if_pos h5] at h
        obtain ⟨x, hx, h⟩ := ob h
        cases h
        exact Or.inr (Or.inl ⟨h5, ok_X5_value F (D + 1) t v μ hx⟩)
      · rw [if_neg h5] at h
        by_cases h14 : oc μ t 14 = some ()
        · rw [if_pos h14] at h
          exact Or.inr (Or.inr ⟨h14, ok_X14_value F D (f_value F D) ih t v μ h⟩)
        · rw [if_neg h14] at h
          cases h

theorem yok_X0_held : yOK yX0_held 2 := ⟨by decide +kernel, by decide +kernel, by decide +kernel⟩
abbrev mX7_says : Ym := (RX7, cX7_says, 4, (some Jvm.ClassFile.FieldType.int), false, [])
noncomputable def f_X7_says (F : Nat) (this : Nat) (p1 : Nat) (p2 : Int32) (μ : Sw) : Option (Int32 × Sw) :=
  Option.bind (pf μ this 7 1 (.int 0)) fun μ1 =>
  Option.bind (f_value F 410 p1 this μ1) fun q3 =>
  Option.bind (gfI q3.2 this 7 1) fun x5 =>
  if x5 = 0 then
    Option.bind (p_X0_held F q3.1 p2) fun q8 =>
    some (q8, q3.2)
  else
    some (0, q3.2)
set_option maxHeartbeats 4000000 in
theorem ok_X7_says {g : Gx} (F : Nat) (this : Nat) (p1 : Nat) (p2 : Int32) (μ : Sw) {rv : Int32} {μF : Sw} (hf : f_X7_says F this p1 p2 μ = some (rv, μF)) : Cl g 411 yX7_says cX7_says 4 (some Jvm.ClassFile.FieldType.int) [.ref this, .ref p1, .int p2] μ (some (.int rv)) μF := by
  unfold f_X7_says at hf
  refine Cl.of (own := RX7) (ini := false) (by decide +kernel) rfl (by decide) (Nat.le_of_ble_eq_true rfl) ?_
  show PW g mX7_says 411 μ μF (QN g (some (.int rv)) μ μF) 0 [(0, .ref this), (1, .ref p1), (2, .int p2)] [] μ
  refine P.aload_n 0 (pc' := 1) dX7_says_0 rfl rfl rfl ?_
  refine P.iconst (v := 0) (pc' := 2) dX7_says_1 rfl (by decide) ?_
  obtain ⟨μ1, h2, hf⟩ := ob hf
  refine P.put (v := .int 0) (pc' := 5) ci7 1 (by decide) h2 q451 (Or.inl rfl) rfl rfl rfl dX7_says_2 rfl ?_
  refine P.aload_n 1 (pc' := 6) dX7_says_5 rfl rfl rfl ?_
  refine P.aload_n 0 (pc' := 7) dX7_says_6 rfl rfl rfl ?_
  obtain ⟨q3, h4, hf⟩ := ob hf
  refine P.callTerm (pc' := 12) (ok_value F 410 _ _ _ _ _ h4) (Nat.le_of_ble_eq_true rfl) q1060 (by decide) dX7_says_7 rfl ?_
  refine P.istore_n (pc' := 13) (lv' := [(3, .int q3.1), (0, .ref this), (1, .ref p1), (2, .int p2)]) dX7_says_12 rfl rfl (Nat.le_of_ble_eq_true rfl) rfl ?_
  refine P.aload_n 1 (pc' := 14) dX7_says_13 rfl rfl rfl ?_
  obtain ⟨x5, h6, hf⟩ := ob hf
  refine P.get (pc' := 17) ci7 1 (by decide) (gfI_spec h6) q451 (Or.inl rfl) dX7_says_14 rfl ?_
  refine P.if_eq (tgt := 24) (pc' := 20) dX7_says_17 (by decide) rfl (fun y7 => ?_) (fun y7 => ?_)
  · have hf := (if_pos y7).symm.trans hf
    refine P.iload_n 0 (pc' := 25) dX7_says_24 rfl rfl rfl ?_
    refine P.iload_n 3 (pc' := 26) dX7_says_25 rfl rfl rfl ?_
    obtain ⟨q8, h9, hf⟩ := ob hf
    refine P.callSN (pc' := 29) (As := [.int q3.1, .int p2]) 2 (ok_X0_held F q3.1 p2 q3.2 h9) (Nat.le_of_ble_eq_true rfl) q1085 q159 q1083 q1084 yok_X0_held rfl (Nat.le_of_ble_eq_true rfl) (by decide) rfl dX7_says_26 rfl ?_
    cases hf; exact P.iret rfl dX7_says_29
  · have hf := (if_neg y7).symm.trans hf
    refine P.iconst (v := 0) (pc' := 21) dX7_says_20 rfl (by decide) ?_
    refine P.goto (tgt := 29) dX7_says_21 (by decide) ?_
    cases hf; exact P.iret rfl dX7_says_29
theorem yok_X0_look : yOK yX0_look 1 := ⟨by decide +kernel, by decide +kernel, by decide +kernel⟩
theorem yok_X7_says : yOK yX7_says 2 := ⟨by decide +kernel, by decide +kernel, by decide +kernel⟩
abbrev mX0_dueOf : Ym := (RX0, cX0_dueOf, 2, (some Jvm.ClassFile.FieldType.int), false, [])
noncomputable def f_X0_dueOf (F : Nat) (this : Nat) (p1 : Int32) (μ : Sw) : Option (Int32 × Sw) :=
  Option.bind (oc μ this 0) fun u3 =>
  Option.bind (f_X0_look F this p1 μ) fun q1 =>
  Option.bind (gfR q1 this 0 6) fun x5 =>
  Option.bind (gfR q1 x5 7 0) fun x7 =>
  Option.bind (sI q1 0 x7 0 0) fun μ10 =>
  Option.bind (gfR μ10 this 0 6) fun x11 =>
  Option.bind (gfR μ10 this 0 3) fun x13 =>
  Option.bind (gfR μ10 x13 3 14) fun x15 =>
  Option.bind (oc μ10 x11 7) fun u19 =>
  Option.bind (f_X7_says F x11 x15 99 μ10) fun q17 =>
  some (q17.1, q17.2)
set_option maxHeartbeats 4000000 in
theorem ok_X0_dueOf {g : Gx} (F : Nat) (this : Nat) (p1 : Int32) (μ : Sw) {rv : Int32} {μF : Sw} (hf : f_X0_dueOf F this p1 μ = some (rv, μF)) : Cl g 412 yX0_dueOf cX0_dueOf 2 (some Jvm.ClassFile.FieldType.int) [.ref this, .int p1] μ (some (.int rv)) μF := by
  unfold f_X0_dueOf at hf
  refine Cl.of (own := RX0) (ini := false) (by decide +kernel) rfl (by decide) (Nat.le_of_ble_eq_true rfl) ?_
  show PW g mX0_dueOf 412 μ μF (QN g (some (.int rv)) μ μF) 0 [(0, .ref this), (1, .int p1)] [] μ
  refine P.aload_n 0 (pc' := 1) dX0_dueOf_0 rfl rfl rfl ?_
  refine P.iload_n 1 (pc' := 2) dX0_dueOf_1 rfl rfl rfl ?_
  obtain ⟨u3, h4, hf⟩ := ob hf
  obtain ⟨q1, h2, hf⟩ := ob hf
  refine P.callV (pc' := 5) (As := [.int p1]) 1 (ok_X0_look F this p1 μ h2) (Nat.le_of_ble_eq_true rfl) (lw_V q1047 q1049 qs37 q159 q1050) rfl yok_X0_look rfl (Nat.le_of_ble_eq_true rfl) ci0 h4 (by decide) rfl dX0_dueOf_2 rfl ?_
  refine P.aload_n 0 (pc' := 6) dX0_dueOf_5 rfl rfl rfl ?_
  obtain ⟨x5, h6, hf⟩ := ob hf
  refine P.get (pc' := 9) ci0 6 (by decide) (gfR_spec h6) q481 (Or.inl rfl) dX0_dueOf_6 rfl ?_
  obtain ⟨x7, h8, hf⟩ := ob hf
  refine P.getN (pc' := 12) ci7 0 (by decide) (gfR_spec h8) q448 (Or.inl rfl) dX0_dueOf_9 rfl ?_
  refine P.iconst (v := 0) (pc' := 13) dX0_dueOf_12 rfl (by decide) ?_
  refine P.iconst (v := 0) (pc' := 14) dX0_dueOf_13 rfl (by decide) ?_
  obtain ⟨μ10, h9, hf⟩ := ob hf
  refine P.iast (pc' := 15) h9 dX0_dueOf_14 rfl ?_
  refine P.aload_n 0 (pc' := 16) dX0_dueOf_15 rfl rfl rfl ?_
  obtain ⟨x11, h12, hf⟩ := ob hf
  refine P.get (pc' := 19) ci0 6 (by decide) (gfR_spec h12) q481 (Or.inl rfl) dX0_dueOf_16 rfl ?_
  refine P.aload_n 0 (pc' := 20) dX0_dueOf_19 rfl rfl rfl ?_
  obtain ⟨x13, h14, hf⟩ := ob hf
  refine P.get (pc' := 23) ci0 3 (by decide) (gfR_spec h14) q478 (Or.inl rfl) dX0_dueOf_20 rfl ?_
  obtain ⟨x15, h16, hf⟩ := ob hf
  refine P.getN (pc' := 26) ci3 14 (by decide) (gfR_spec h16) q366 (Or.inl rfl) dX0_dueOf_23 rfl ?_
  refine P.bipush (v := 99) (pc' := 28) dX0_dueOf_26 rfl (by decide) ?_
  obtain ⟨u19, h20, hf⟩ := ob hf
  obtain ⟨q17, h18, hf⟩ := ob hf
  refine P.callV (pc' := 31) (As := [.ref x15, .int 99]) 2 (ok_X7_says F x11 x15 99 μ10 h18) (Nat.le_of_ble_eq_true rfl) (lw_V q1055 q1056 q1057 q170 q1058) rfl yok_X7_says rfl (Nat.le_of_ble_eq_true rfl) ci7 h20 (by decide) rfl dX0_dueOf_28 rfl ?_
  cases hf; exact P.iret rfl dX0_dueOf_31
theorem yok_X0_dueOf : yOK yX0_dueOf 1 := ⟨by decide +kernel, by decide +kernel, by decide +kernel⟩
theorem yok_X0_isHouse : yOK yX0_isHouse 1 := ⟨by decide +kernel, by decide +kernel, by decide +kernel⟩
abbrev mX0_house : Ym := (RX0, cX0_house, 3, (some Jvm.ClassFile.FieldType.int), false, [])
noncomputable def f_X0_house (F : Nat) (this : Nat) (p1 : Int32) (p2 : Int32) (μ : Sw) : Option (Int32 × Sw) :=
  Option.bind (oc μ this 0) fun u3 =>
  Option.bind (f_X0_isHouse F this p1 μ) fun q1 =>
  if q1 = 0 then
    some ((-1), μ)
  else
    if p2 = 0 then
      Option.bind (gfR μ this 0 3) fun x7 =>
      Option.bind (gfR μ x7 3 0) fun x9 =>
      Option.bind (oc μ x9 20) fun u13 =>
      Option.bind (f_J2_get F x9 p1 μ) fun q11 =>
      Option.bind (oc μ q11 11) fun u15 =>
      Option.bind (gfI μ q11 11 0) fun x17 =>
      some (x17, μ)
    else
      if p2 = 1 then
        Option.bind (gfR μ this 0 4) fun x20 =>
        Option.bind (gfR μ x20 6 0) fun x22 =>
        Option.bind (aI μ 0 x22 p1) fun x24 =>
        some (x24, μ)
      else
        if p2 = 2 then
          Option.bind (gfR μ this 0 3) fun x27 =>
          Option.bind (gfR μ x27 3 0) fun x29 =>
          Option.bind (oc μ x29 20) fun u33 =>
          Option.bind (f_J2_get F x29 p1 μ) fun q31 =>
          Option.bind (oc μ q31 11) fun u35 =>
          Option.bind (gfI μ q31 11 2) fun x37 =>
          some (x37, μ)
        else
          if p2 = 3 then
            Option.bind (gfR μ this 0 4) fun x40 =>
            Option.bind (gfR μ x40 6 1) fun x42 =>
            Option.bind (aI μ 0 x42 p1) fun x44 =>
            if x44 = (-1) then
              some ((-2), μ)
            else
              Option.bind (gfR μ this 0 4) fun x47 =>
              Option.bind (gfR μ x47 6 1) fun x49 =>
              Option.bind (aI μ 0 x49 p1) fun x51 =>
              some (x51, μ)
          else
            if p2 = 4 then
              Option.bind (oc μ this 0) fun u56 =>
              Option.bind (f_X0_rankOf F this p1 μ) fun q54 =>
              some (q54, μ)
            else
              if p2 = 5 then
                Option.bind (oc μ this 0) fun u61 =>
                Option.bind (f_X0_dueOf F this p1 μ) fun q59 =>
                some (q59.1, q59.2)
              else
                some ((-1), μ)
set_option maxHeartbeats 4000000 in
theorem ok_X0_house {g : Gx} (F : Nat) (this : Nat) (p1 : Int32) (p2 : Int32) (μ : Sw) {rv : Int32} {μF : Sw} (hf : f_X0_house F this p1 p2 μ = some (rv, μF)) : Cl g 413 yX0_house cX0_house 3 (some Jvm.ClassFile.FieldType.int) [.ref this, .int p1, .int p2] μ (some (.int rv)) μF := by
  unfold f_X0_house at hf
  refine Cl.of (own := RX0) (ini := false) (by decide +kernel) rfl (by decide) (Nat.le_of_ble_eq_true rfl) ?_
  show PW g mX0_house 413 μ μF (QN g (some (.int rv)) μ μF) 0 [(0, .ref this), (1, .int p1), (2, .int p2)] [] μ
  refine P.aload_n 0 (pc' := 1) dX0_house_0 rfl rfl rfl ?_
  refine P.iload_n 1 (pc' := 2) dX0_house_1 rfl rfl rfl ?_
  obtain ⟨u3, h4, hf⟩ := ob hf
  obtain ⟨q1, h2, hf⟩ := ob hf
  refine P.callV (pc' := 5) (As := [.int p1]) 1 (ok_X0_isHouse F this p1 μ h2) (Nat.le_of_ble_eq_true rfl) (lw_V q1030 q1032 qs33 q159 q1033) rfl yok_X0_isHouse rfl (Nat.le_of_ble_eq_true rfl) ci0 h4 (by decide) rfl dX0_house_2 rfl ?_
  refine P.if_ne (tgt := 10) (pc' := 8) dX0_house_5 (by decide) rfl (fun y5 => ?_) (fun y5 => ?_)
  · have hf := (if_neg y5).symm.trans hf
    refine P.iload_n 2 (pc' := 11) dX0_house_10 rfl rfl rfl ?_
    by_cases y6 : p2 = 0
    · have hf := (if_pos y6).symm.trans hf
      refine P.tsIn (tgt := 48) dX0_house_11 (by rw [y6]; decide) (by rw [y6]; decide) (by rw [y6]; rfl) (by decide) ?_
      refine P.aload_n 0 (pc' := 49) dX0_house_48 rfl rfl rfl ?_
      obtain ⟨x7, h8, hf⟩ := ob hf
      refine P.get (pc' := 52) ci0 3 (by decide) (gfR_spec h8) q478 (Or.inl rfl) dX0_house_49 rfl ?_
      obtain ⟨x9, h10, hf⟩ := ob hf
      refine P.getN (pc' := 55) ci3 0 (by decide) (gfR_spec h10) q328 (Or.inl rfl) dX0_house_52 rfl ?_
      refine P.iload_n 1 (pc' := 56) dX0_house_55 rfl rfl rfl ?_
      obtain ⟨u13, h14, hf⟩ := ob hf
      obtain ⟨q11, h12, hf⟩ := ob hf
      refine P.callV (pc' := 59) (As := [.int p1]) 1 (ok_J2_get F x9 p1 μ h12) (Nat.le_of_ble_eq_true rfl) (lw_V q1007 q1008 q1009 q165 q1010) rfl yok_J2_get rfl (Nat.le_of_ble_eq_true rfl) ci20 h14 (by decide) rfl dX0_house_56 rfl ?_
      obtain ⟨u15, h16, hf⟩ := ob hf
      refine P.castS (u := u15) (pc' := 62) ci11 q1019 h16 dX0_house_59 rfl ?_
      obtain ⟨x17, h18, hf⟩ := ob hf
      refine P.getN (pc' := 65) ci11 0 (by decide) (gfI_spec h18) q784 (Or.inl rfl) dX0_house_62 rfl ?_
      cases hf; exact P.iret rfl dX0_house_65
    · have hf := (if_neg y6).symm.trans hf
      by_cases y19 : p2 = 1
      · have hf := (if_pos y19).symm.trans hf
        refine P.tsIn (tgt := 66) dX0_house_11 (by rw [y19]; decide) (by rw [y19]; decide) (by rw [y19]; rfl) (by decide) ?_
        refine P.aload_n 0 (pc' := 67) dX0_house_66 rfl rfl rfl ?_
        obtain ⟨x20, h21, hf⟩ := ob hf
        refine P.get (pc' := 70) ci0 4 (by decide) (gfR_spec h21) q479 (Or.inl rfl) dX0_house_67 rfl ?_
        obtain ⟨x22, h23, hf⟩ := ob hf
        refine P.getN (pc' := 73) ci6 0 (by decide) (gfR_spec h23) q414 (Or.inl rfl) dX0_house_70 rfl ?_
        refine P.iload_n 1 (pc' := 74) dX0_house_73 rfl rfl rfl ?_
        obtain ⟨x24, h25, hf⟩ := ob hf
        refine P.iald (t := 0) (pc' := 75) rfl h25 dX0_house_74 rfl ?_
        cases hf; exact P.iret rfl dX0_house_75
      · have hf := (if_neg y19).symm.trans hf
        by_cases y26 : p2 = 2
        · have hf := (if_pos y26).symm.trans hf
          refine P.tsIn (tgt := 76) dX0_house_11 (by rw [y26]; decide) (by rw [y26]; decide) (by rw [y26]; rfl) (by decide) ?_
          refine P.aload_n 0 (pc' := 77) dX0_house_76 rfl rfl rfl ?_
          obtain ⟨x27, h28, hf⟩ := ob hf
          refine P.get (pc' := 80) ci0 3 (by decide) (gfR_spec h28) q478 (Or.inl rfl) dX0_house_77 rfl ?_
          obtain ⟨x29, h30, hf⟩ := ob hf
          refine P.getN (pc' := 83) ci3 0 (by decide) (gfR_spec h30) q328 (Or.inl rfl) dX0_house_80 rfl ?_
          refine P.iload_n 1 (pc' := 84) dX0_house_83 rfl rfl rfl ?_
          obtain ⟨u33, h34, hf⟩ := ob hf
          obtain ⟨q31, h32, hf⟩ := ob hf
          refine P.callV (pc' := 87) (As := [.int p1]) 1 (ok_J2_get F x29 p1 μ h32) (Nat.le_of_ble_eq_true rfl) (lw_V q1007 q1008 q1009 q165 q1010) rfl yok_J2_get rfl (Nat.le_of_ble_eq_true rfl) ci20 h34 (by decide) rfl dX0_house_84 rfl ?_
          obtain ⟨u35, h36, hf⟩ := ob hf
          refine P.castS (u := u35) (pc' := 90) ci11 q1019 h36 dX0_house_87 rfl ?_
          obtain ⟨x37, h38, hf⟩ := ob hf
          refine P.getN (pc' := 93) ci11 2 (by decide) (gfI_spec h38) q788 (Or.inl rfl) dX0_house_90 rfl ?_
          cases hf; exact P.iret rfl dX0_house_93
        · have hf := (if_neg y26).symm.trans hf
          by_cases y39 : p2 = 3
          · have hf := (if_pos y39).symm.trans hf
            refine P.tsIn (tgt := 94) dX0_house_11 (by rw [y39]; decide) (by rw [y39]; decide) (by rw [y39]; rfl) (by decide) ?_
            refine P.aload_n 0 (pc' := 95) dX0_house_94 rfl rfl rfl ?_
            obtain ⟨x40, h41, hf⟩ := ob hf
            refine P.get (pc' := 98) ci0 4 (by decide) (gfR_spec h41) q479 (Or.inl rfl) dX0_house_95 rfl ?_
            obtain ⟨x42, h43, hf⟩ := ob hf
            refine P.getN (pc' := 101) ci6 1 (by decide) (gfR_spec h43) q416 (Or.inl rfl) dX0_house_98 rfl ?_
            refine P.iload_n 1 (pc' := 102) dX0_house_101 rfl rfl rfl ?_
            obtain ⟨x44, h45, hf⟩ := ob hf
            refine P.iald (t := 0) (pc' := 103) rfl h45 dX0_house_102 rfl ?_
            refine P.iconst (v := (-1)) (pc' := 104) dX0_house_103 rfl (by decide) ?_
            refine P.icmp_ne (tgt := 112) (pc' := 107) dX0_house_104 (by decide) rfl (fun y46 => ?_) (fun y46 => ?_)
            · have hf := (if_neg y46).symm.trans hf
              refine P.aload_n 0 (pc' := 113) dX0_house_112 rfl rfl rfl ?_
              obtain ⟨x47, h48, hf⟩ := ob hf
              refine P.get (pc' := 116) ci0 4 (by decide) (gfR_spec h48) q479 (Or.inl rfl) dX0_house_113 rfl ?_
              obtain ⟨x49, h50, hf⟩ := ob hf
              refine P.getN (pc' := 119) ci6 1 (by decide) (gfR_spec h50) q416 (Or.inl rfl) dX0_house_116 rfl ?_
              refine P.iload_n 1 (pc' := 120) dX0_house_119 rfl rfl rfl ?_
              obtain ⟨x51, h52, hf⟩ := ob hf
              refine P.iald (t := 0) (pc' := 121) rfl h52 dX0_house_120 rfl ?_
              cases hf; exact P.iret rfl dX0_house_121
            · have hf := (if_pos y46).symm.trans hf
              refine P.bipush (v := (-2)) (pc' := 109) dX0_house_107 rfl (by decide) ?_
              refine P.goto (tgt := 121) dX0_house_109 (by decide) ?_
              cases hf; exact P.iret rfl dX0_house_121
          · have hf := (if_neg y39).symm.trans hf
            by_cases y53 : p2 = 4
            · have hf := (if_pos y53).symm.trans hf
              refine P.tsIn (tgt := 122) dX0_house_11 (by rw [y53]; decide) (by rw [y53]; decide) (by rw [y53]; rfl) (by decide) ?_
              refine P.aload_n 0 (pc' := 123) dX0_house_122 rfl rfl rfl ?_
              refine P.iload_n 1 (pc' := 124) dX0_house_123 rfl rfl rfl ?_
              obtain ⟨u56, h57, hf⟩ := ob hf
              obtain ⟨q54, h55, hf⟩ := ob hf
              refine P.callV (pc' := 127) (As := [.int p1]) 1 (ok_X0_rankOf F this p1 μ h55) (Nat.le_of_ble_eq_true rfl) (lw_V q1039 q1041 qs35 q159 q1042) rfl yok_X0_rankOf rfl (Nat.le_of_ble_eq_true rfl) ci0 h57 (by decide) rfl dX0_house_124 rfl ?_
              cases hf; exact P.iret rfl dX0_house_127
            · have hf := (if_neg y53).symm.trans hf
              by_cases y58 : p2 = 5
              · have hf := (if_pos y58).symm.trans hf
                refine P.tsIn (tgt := 128) dX0_house_11 (by rw [y58]; decide) (by rw [y58]; decide) (by rw [y58]; rfl) (by decide) ?_
                refine P.aload_n 0 (pc' := 129) dX0_house_128 rfl rfl rfl ?_
                refine P.iload_n 1 (pc' := 130) dX0_house_129 rfl rfl rfl ?_
                obtain ⟨u61, h62, hf⟩ := ob hf
                obtain ⟨q59, h60, hf⟩ := ob hf
                refine P.callV (pc' := 133) (As := [.int p1]) 1 (ok_X0_dueOf F this p1 μ h60) (Nat.le_of_ble_eq_true rfl) (lw_V q1043 q1045 qs36 q159 q1046) rfl yok_X0_dueOf rfl (Nat.le_of_ble_eq_true rfl) ci0 h62 (by decide) rfl dX0_house_130 rfl ?_
                cases hf; exact P.iret rfl dX0_house_133
              · have hf := (if_neg y58).symm.trans hf
                refine P.tsOut (tgt := 134) dX0_house_11 (by have z0 := lv_neT y6 (a := 0) (by decide); have z1 := lv_neT y19 (a := 1) (by decide); have z2 := lv_neT y26 (a := 2) (by decide); have z3 := lv_neT y39 (a := 3) (by decide); have z4 := lv_neT y53 (a := 4) (by decide); have z5 := lv_neT y58 (a := 5) (by decide); omega) (by decide) ?_
                refine P.iconst (v := (-1)) (pc' := 135) dX0_house_134 rfl (by decide) ?_
                cases hf; exact P.iret rfl dX0_house_135
  · have hf := (if_pos y5).symm.trans hf
    refine P.iconst (v := (-1)) (pc' := 9) dX0_house_8 rfl (by decide) ?_
    cases hf; exact P.iret rfl dX0_house_9
abbrev mX0_isOffice : Ym := (RX0, cX0_isOffice, 2, (some Jvm.ClassFile.FieldType.boolean), false, [])
noncomputable def f_X0_isOffice (F : Nat) (this : Nat) (p1 : Int32) (μ : Sw) : Option Int32 :=
  Option.bind (gfR μ this 0 3) fun x1 =>
  Option.bind (gfI μ x1 3 6) fun x3 =>
  Option.bind (p_X0_within F p1 0 (x3 - 1)) fun q5 =>
  if q5 = 0 ∨ q5 = 1 then
    some q5
  else
    none
set_option maxHeartbeats 4000000 in
theorem ok_X0_isOffice {g : Gx} (F : Nat) (this : Nat) (p1 : Int32) (μ : Sw) {rv : Int32} (hf : f_X0_isOffice F this p1 μ = some rv) : Cl g 2 yX0_isOffice cX0_isOffice 2 (some Jvm.ClassFile.FieldType.boolean) [.ref this, .int p1] μ (some (.int rv)) μ := by
  unfold f_X0_isOffice at hf
  refine Cl.of (own := RX0) (ini := false) (by decide +kernel) rfl (by decide) (Nat.le_of_ble_eq_true rfl) ?_
  show PW g mX0_isOffice 2 μ μ (QN g (some (.int rv)) μ μ) 0 [(0, .ref this), (1, .int p1)] [] μ
  refine P.iload_n 1 (pc' := 1) dX0_isOffice_0 rfl rfl rfl ?_
  refine P.iconst (v := 0) (pc' := 2) dX0_isOffice_1 rfl (by decide) ?_
  refine P.aload_n 0 (pc' := 3) dX0_isOffice_2 rfl rfl rfl ?_
  obtain ⟨x1, h2, hf⟩ := ob hf
  refine P.get (pc' := 6) ci0 3 (by decide) (gfR_spec h2) q478 (Or.inl rfl) dX0_isOffice_3 rfl ?_
  obtain ⟨x3, h4, hf⟩ := ob hf
  refine P.getN (pc' := 9) ci3 6 (by decide) (gfI_spec h4) q345 (Or.inl rfl) dX0_isOffice_6 rfl ?_
  refine P.iconst (v := 1) (pc' := 10) dX0_isOffice_9 rfl (by decide) ?_
  refine P.isub (pc' := 11) dX0_isOffice_10 rfl ?_
  obtain ⟨q5, h6, hf⟩ := ob hf
  refine P.callS (pc' := 14) (As := [.int p1, .int 0, .int (x3 - 1)]) 3 (ok_X0_within F p1 0 (x3 - 1) μ h6) (Nat.le_of_ble_eq_true rfl) (lw_S q1038 q557 q159 q558) yok_X0_within rfl (Nat.le_of_ble_eq_true rfl) (by decide) rfl dX0_isOffice_11 rfl ?_
  by_cases y7 : q5 = 0 ∨ q5 = 1
  · have hf := (if_pos y7).symm.trans hf
    cases hf; exact P.zret rfl y7 dX0_isOffice_14
  · have hf := (if_neg y7).symm.trans hf
    cases hf
theorem yok_X0_isOffice : yOK yX0_isOffice 1 := ⟨by decide +kernel, by decide +kernel, by decide +kernel⟩
abbrev mX0_give : Ym := (RX0, cX0_give, 3, (some Jvm.ClassFile.FieldType.boolean), false, [])
noncomputable def f_X0_give (F : Nat) (this : Nat) (p1 : Int32) (p2 : Int32) (μ : Sw) : Option (Int32 × Sw) :=
  Option.bind (oc μ this 0) fun u3 =>
  Option.bind (f_X0_isHouse F this p1 μ) fun q1 =>
  if q1 = 0 then
    some (0, μ)
  else
    if p2 = (-1) then
      Option.bind (gfR μ this 0 4) fun x7 =>
      Option.bind (gfR μ x7 6 1) fun x9 =>
      Option.bind (f_X0_gives F x9 p1 p2 μ) fun q11 =>
      some (1, q11)
    else
      Option.bind (oc μ this 0) fun u15 =>
      Option.bind (f_X0_isOffice F this p2 μ) fun q13 =>
      if q13 = 0 then
        some (0, μ)
      else
        Option.bind (gfR μ this 0 4) fun x18 =>
        Option.bind (gfR μ x18 6 1) fun x20 =>
        Option.bind (f_X0_gives F x20 p1 p2 μ) fun q22 =>
        some (1, q22)
set_option maxHeartbeats 4000000 in
theorem ok_X0_give {g : Gx} (F : Nat) (this : Nat) (p1 : Int32) (p2 : Int32) (μ : Sw) {rv : Int32} {μF : Sw} (hf : f_X0_give F this p1 p2 μ = some (rv, μF)) : Cl g 4 yX0_give cX0_give 3 (some Jvm.ClassFile.FieldType.boolean) [.ref this, .int p1, .int p2] μ (some (.int rv)) μF := by
  unfold f_X0_give at hf
  refine Cl.of (own := RX0) (ini := false) (by decide +kernel) rfl (by decide) (Nat.le_of_ble_eq_true rfl) ?_
  show PW g mX0_give 4 μ μF (QN g (some (.int rv)) μ μF) 0 [(0, .ref this), (1, .int p1), (2, .int p2)] [] μ
  refine P.aload_n 0 (pc' := 1) dX0_give_0 rfl rfl rfl ?_
  refine P.iload_n 1 (pc' := 2) dX0_give_1 rfl rfl rfl ?_
  obtain ⟨u3, h4, hf⟩ := ob hf
  obtain ⟨q1, h2, hf⟩ := ob hf
  refine P.callV (pc' := 5) (As := [.int p1]) 1 (ok_X0_isHouse F this p1 μ h2) (Nat.le_of_ble_eq_true rfl) (lw_V q1030 q1032 qs33 q159 q1033) rfl yok_X0_isHouse rfl (Nat.le_of_ble_eq_true rfl) ci0 h4 (by decide) rfl dX0_give_2 rfl ?_
  refine P.if_eq (tgt := 21) (pc' := 8) dX0_give_5 (by decide) rfl (fun y5 => ?_) (fun y5 => ?_)
  · have hf := (if_pos y5).symm.trans hf
    refine P.iconst (v := 0) (pc' := 22) dX0_give_21 rfl (by decide) ?_
    cases hf; exact P.zret rfl (Or.inl rfl) dX0_give_22
  · have hf := (if_neg y5).symm.trans hf
    refine P.iload_n 2 (pc' := 9) dX0_give_8 rfl rfl rfl ?_
    refine P.iconst (v := (-1)) (pc' := 10) dX0_give_9 rfl (by decide) ?_
    refine P.icmp_eq (tgt := 23) (pc' := 13) dX0_give_10 (by decide) rfl (fun y6 => ?_) (fun y6 => ?_)
    · have hf := (if_pos y6).symm.trans hf
      refine P.aload_n 0 (pc' := 24) dX0_give_23 rfl rfl rfl ?_
      obtain ⟨x7, h8, hf⟩ := ob hf
      refine P.get (pc' := 27) ci0 4 (by decide) (gfR_spec h8) q479 (Or.inl rfl) dX0_give_24 rfl ?_
      obtain ⟨x9, h10, hf⟩ := ob hf
      refine P.getN (pc' := 30) ci6 1 (by decide) (gfR_spec h10) q416 (Or.inl rfl) dX0_give_27 rfl ?_
      refine P.iload_n 1 (pc' := 31) dX0_give_30 rfl rfl rfl ?_
      refine P.iload_n 2 (pc' := 32) dX0_give_31 rfl rfl rfl ?_
      obtain ⟨q11, h12, hf⟩ := ob hf
      refine P.callS (pc' := 35) (As := [.ref x9, .int p1, .int p2]) 3 (ok_X0_gives F x9 p1 p2 μ h12) (Nat.le_of_ble_eq_true rfl) (lw_S q1096 q869 q159 q870) yok_X0_gives rfl (Nat.le_of_ble_eq_true rfl) (by decide) rfl dX0_give_32 rfl ?_
      refine P.iconst (v := 1) (pc' := 36) dX0_give_35 rfl (by decide) ?_
      cases hf; exact P.zret rfl (Or.inr rfl) dX0_give_36
    · have hf := (if_neg y6).symm.trans hf
      refine P.aload_n 0 (pc' := 14) dX0_give_13 rfl rfl rfl ?_
      refine P.iload_n 2 (pc' := 15) dX0_give_14 rfl rfl rfl ?_
      obtain ⟨u15, h16, hf⟩ := ob hf
      obtain ⟨q13, h14, hf⟩ := ob hf
      refine P.callV (pc' := 18) (As := [.int p2]) 1 (ok_X0_isOffice F this p2 μ h14) (Nat.le_of_ble_eq_true rfl) (lw_V q1092 q1094 qs38 q159 q1095) rfl yok_X0_isOffice rfl (Nat.le_of_ble_eq_true rfl) ci0 h16 (by decide) rfl dX0_give_15 rfl ?_
      refine P.if_ne (tgt := 23) (pc' := 21) dX0_give_18 (by decide) rfl (fun y17 => ?_) (fun y17 => ?_)
      · have hf := (if_neg y17).symm.trans hf
        refine P.aload_n 0 (pc' := 24) dX0_give_23 rfl rfl rfl ?_
        obtain ⟨x18, h19, hf⟩ := ob hf
        refine P.get (pc' := 27) ci0 4 (by decide) (gfR_spec h19) q479 (Or.inl rfl) dX0_give_24 rfl ?_
        obtain ⟨x20, h21, hf⟩ := ob hf
        refine P.getN (pc' := 30) ci6 1 (by decide) (gfR_spec h21) q416 (Or.inl rfl) dX0_give_27 rfl ?_
        refine P.iload_n 1 (pc' := 31) dX0_give_30 rfl rfl rfl ?_
        refine P.iload_n 2 (pc' := 32) dX0_give_31 rfl rfl rfl ?_
        obtain ⟨q22, h23, hf⟩ := ob hf
        refine P.callS (pc' := 35) (As := [.ref x20, .int p1, .int p2]) 3 (ok_X0_gives F x20 p1 p2 μ h23) (Nat.le_of_ble_eq_true rfl) (lw_S q1096 q869 q159 q870) yok_X0_gives rfl (Nat.le_of_ble_eq_true rfl) (by decide) rfl dX0_give_32 rfl ?_
        refine P.iconst (v := 1) (pc' := 36) dX0_give_35 rfl (by decide) ?_
        cases hf; exact P.zret rfl (Or.inr rfl) dX0_give_36
      · have hf := (if_pos y17).symm.trans hf
        refine P.iconst (v := 0) (pc' := 22) dX0_give_21 rfl (by decide) ?_
        cases hf; exact P.zret rfl (Or.inl rfl) dX0_give_22
abbrev mX0_holderOf : Ym := (RX0, cX0_holderOf, 3, (some Jvm.ClassFile.FieldType.int), false, [])
noncomputable def f_X0_holderOf_L2_b (F : Nat) (c0 : Nat) (c1 : Int32) (μ : Sw) (self : Int32 → Option Int32) (v2 : Int32) : Option Int32 :=
  Option.bind (oc μ c0 0) fun u3 =>
  Option.bind (f_X0_houses F c0 μ) fun q1 =>
  if q1 ≤ v2 then
    some (-2)
  else
    Option.bind (gfR μ c0 0 4) fun x6 =>
    Option.bind (gfR μ x6 6 1) fun x8 =>
    Option.bind (aI μ 0 x8 v2) fun x10 =>
    if x10 = c1 then
      some v2
    else
      nm (v2 + 1) fun x13 =>
      self x13
noncomputable def f_X0_holderOf_L2 (F : Nat) (c0 : Nat) (c1 : Int32) (μ : Sw) (n : Nat) : Int32 → Option Int32 := Nat.rec (motive := fun _ => Int32 → Option Int32) (fun _ => none) (fun _ self => f_X0_holderOf_L2_b F c0 c1 μ self) n
set_option maxHeartbeats 4000000 in
theorem ok_f_X0_holderOf_L2 {g : Gx} {μ0 : Sw} {rv : Int32} (F : Nat) (c0 : Nat) (c1 : Int32) (μ : Sw) : ∀ (n : Nat) (v2 : Int32), f_X0_holderOf_L2 F c0 c1 μ n v2 = some rv → PW g mX0_holderOf 3 μ0 μ (QN g (some (.int rv)) μ0 μ) 2 [(0, .ref c0), (1, .int c1), (2, .int v2)] [] μ := by
  intro n
  induction n with
  | zero =>
    intro v2 hf
    have hf : (none : Option Int32) = some _ := hf
    cases hf
  | succ n ih =>
    intro v2 hf
    have hf : f_X0_holderOf_L2_b F c0 c1 μ (f_X0_holderOf_L2 F c0 c1 μ n) v2 = some rv := hf
    unfold f_X0_holderOf_L2_b at hf
    refine P.iload_n 2 (pc' := 3) dX0_holderOf_2 rfl rfl rfl ?_
    refine P.aload_n 0 (pc' := 4) dX0_holderOf_3 rfl rfl rfl ?_
    obtain ⟨u3, h4, hf⟩ := ob hf
    obtain ⟨q1, h2, hf⟩ := ob hf
    refine P.callV (pc' := 7) (As := []) 0 (ok_X0_houses F c0 μ h2) (Nat.le_of_ble_eq_true rfl) (lw_V q1034 q1036 qs34 q159 q1037) rfl yok_X0_houses rfl (Nat.le_of_ble_eq_true rfl) ci0 h4 (Nat.le_of_ble_eq_true rfl) rfl dX0_holderOf_4 rfl ?_
    refine P.icmp_ge (tgt := 31) (pc' := 10) dX0_holderOf_7 (by decide) rfl (fun y5 => ?_) (fun y5 => ?_)
    · have hf := (if_pos y5).symm.trans hf
      refine P.bipush (v := (-2)) (pc' := 33) dX0_holderOf_31 rfl (by decide) ?_
      cases hf; exact P.iret rfl dX0_holderOf_33
    · have hf := (if_neg y5).symm.trans hf
      refine P.aload_n 0 (pc' := 11) dX0_holderOf_10 rfl rfl rfl ?_
      obtain ⟨x6, h7, hf⟩ := ob hf
      refine P.get (pc' := 14) ci0 4 (by decide) (gfR_spec h7) q479 (Or.inl rfl) dX0_holderOf_11 rfl ?_
      obtain ⟨x8, h9, hf⟩ := ob hf
      refine P.getN (pc' := 17) ci6 1 (by decide) (gfR_spec h9) q416 (Or.inl rfl) dX0_holderOf_14 rfl ?_
      refine P.iload_n 2 (pc' := 18) dX0_holderOf_17 rfl rfl rfl ?_
      obtain ⟨x10, h11, hf⟩ := ob hf
      refine P.iald (t := 0) (pc' := 19) rfl h11 dX0_holderOf_18 rfl ?_
      refine P.iload_n 1 (pc' := 20) dX0_holderOf_19 rfl rfl rfl ?_
      refine P.icmp_ne (tgt := 25) (pc' := 23) dX0_holderOf_20 (by decide) rfl (fun y12 => ?_) (fun y12 => ?_)
      · have hf := (if_neg y12).symm.trans hf
        obtain ⟨x13, e14, hf⟩ := nm_i hf
        refine P.iinc 2 (pc' := 28) (lv' := [(2, .int x13), (0, .ref c0), (1, .int c1)]) dX0_holderOf_25 rfl rfl (by decide) e14 (Nat.le_of_ble_eq_true rfl) rfl ?_
        refine P.goto (tgt := 2) dX0_holderOf_28 (by decide) ?_
        exact PW.sub [1, 2, 0] rfl (ih _ hf)
      · have hf := (if_pos y12).symm.trans hf
        refine P.iload_n 2 (pc' := 24) dX0_holderOf_23 rfl rfl rfl ?_
        cases hf; exact P.iret rfl dX0_holderOf_24
noncomputable def f_X0_holderOf (F : Nat) (this : Nat) (p1 : Int32) (μ : Sw) : Option Int32 :=
  f_X0_holderOf_L2 F this p1 μ F 0
set_option maxHeartbeats 4000000 in
theorem ok_X0_holderOf {g : Gx} (F : Nat) (this : Nat) (p1 : Int32) (μ : Sw) {rv : Int32} (hf : f_X0_holderOf F this p1 μ = some rv) : Cl g 3 yX0_holderOf cX0_holderOf 3 (some Jvm.ClassFile.FieldType.int) [.ref this, .int p1] μ (some (.int rv)) μ := by
  unfold f_X0_holderOf at hf
  refine Cl.of (own := RX0) (ini := false) (by decide +kernel) rfl (by decide) (Nat.le_of_ble_eq_true rfl) ?_
  show PW g mX0_holderOf 3 μ μ (QN g (some (.int rv)) μ μ) 0 [(0, .ref this), (1, .int p1)] [] μ
  refine P.iconst (v := 0) (pc' := 1) dX0_holderOf_0 rfl (by decide) ?_
  refine P.istore_n (pc' := 2) (lv' := [(2, .int 0), (0, .ref this), (1, .int p1)]) dX0_holderOf_1 rfl rfl (Nat.le_of_ble_eq_true rfl) rfl ?_
  exact PW.sub [1, 2, 0] rfl (ok_f_X0_holderOf_L2 F this p1 μ F _ hf)
theorem yok_X0_holderOf : yOK yX0_holderOf 1 := ⟨by decide +kernel, by decide +kernel, by decide +kernel⟩
abbrev mX0_holder : Ym := (RX0, cX0_holder, 2, (some Jvm.ClassFile.FieldType.int), false, [])
noncomputable def f_X0_holder (F : Nat) (this : Nat) (p1 : Int32) (μ : Sw) : Option Int32 :=
  Option.bind (oc μ this 0) fun u3 =>
  Option.bind (f_X0_isOffice F this p1 μ) fun q1 =>
  if q1 = 0 then
    some (-1)
  else
    Option.bind (oc μ this 0) fun u8 =>
    Option.bind (f_X0_holderOf F this p1 μ) fun q6 =>
    some q6
set_option maxHeartbeats 4000000 in
theorem ok_X0_holder {g : Gx} (F : Nat) (this : Nat) (p1 : Int32) (μ : Sw) {rv : Int32} (hf : f_X0_holder F this p1 μ = some rv) : Cl g 4 yX0_holder cX0_holder 2 (some Jvm.ClassFile.FieldType.int) [.ref this, .int p1] μ (some (.int rv)) μ := by
  unfold f_X0_holder at hf
  refine Cl.of (own := RX0) (ini := false) (by decide +kernel) rfl (by decide) (Nat.le_of_ble_eq_true rfl) ?_
  show PW g mX0_holder 4 μ μ (QN g (some (.int rv)) μ μ) 0 [(0, .ref this), (1, .int p1)] [] μ
  refine P.aload_n 0 (pc' := 1) dX0_holder_0 rfl rfl rfl ?_
  refine P.iload_n 1 (pc' := 2) dX0_holder_1 rfl rfl rfl ?_
  obtain ⟨u3, h4, hf⟩ := ob hf
  obtain ⟨q1, h2, hf⟩ := ob hf
  refine P.callV (pc' := 5) (As := [.int p1]) 1 (ok_X0_isOffice F this p1 μ h2) (Nat.le_of_ble_eq_true rfl) (lw_V q1092 q1094 qs38 q159 q1095) rfl yok_X0_isOffice rfl (Nat.le_of_ble_eq_true rfl) ci0 h4 (by decide) rfl dX0_holder_2 rfl ?_
  refine P.if_eq (tgt := 16) (pc' := 8) dX0_holder_5 (by decide) rfl (fun y5 => ?_) (fun y5 => ?_)
  · have hf := (if_pos y5).symm.trans hf
    refine P.iconst (v := (-1)) (pc' := 17) dX0_holder_16 rfl (by decide) ?_
    cases hf; exact P.iret rfl dX0_holder_17
  · have hf := (if_neg y5).symm.trans hf
    refine P.aload_n 0 (pc' := 9) dX0_holder_8 rfl rfl rfl ?_
    refine P.iload_n 1 (pc' := 10) dX0_holder_9 rfl rfl rfl ?_
    obtain ⟨u8, h9, hf⟩ := ob hf
    obtain ⟨q6, h7, hf⟩ := ob hf
    refine P.callV (pc' := 13) (As := [.int p1]) 1 (ok_X0_holderOf F this p1 μ h7) (Nat.le_of_ble_eq_true rfl) (lw_V q1101 q1103 qs39 q159 q1104) rfl yok_X0_holderOf rfl (Nat.le_of_ble_eq_true rfl) ci0 h9 (by decide) rfl dX0_holder_10 rfl ?_
    refine P.goto (tgt := 17) dX0_holder_13 (by decide) ?_
    cases hf; exact P.iret rfl dX0_holder_17
abbrev mX0_months : Ym := (RX0, cX0_months, 2, (some Jvm.ClassFile.FieldType.int), false, [])
noncomputable def f_X0_months (F : Nat) (this : Nat) (p1 : Int32) (μ : Sw) : Option (Int32 × Sw) :=
  Option.bind (p_X0_within F p1 0 240) fun q1 =>
  if q1 = 0 then
    some ((-1), μ)
  else
    Option.bind (gfR μ this 0 4) fun x4 =>
    Option.bind (gfR μ this 0 4) fun x6 =>
    Option.bind (gfI μ x6 6 3) fun x8 =>
    Option.bind (rmO (x8 + p1) 12) fun x10 =>
    Option.bind (pf μ x4 6 3 (.int x10)) fun μ12 =>
    Option.bind (gfR μ12 this 0 4) fun x14 =>
    Option.bind (gfI μ12 x14 6 3) fun x16 =>
    some (x16, μ12)
set_option maxHeartbeats 4000000 in
theorem ok_X0_months {g : Gx} (F : Nat) (this : Nat) (p1 : Int32) (μ : Sw) {rv : Int32} {μF : Sw} (hf : f_X0_months F this p1 μ = some (rv, μF)) : Cl g 2 yX0_months cX0_months 2 (some Jvm.ClassFile.FieldType.int) [.ref this, .int p1] μ (some (.int rv)) μF := by
  unfold f_X0_months at hf
  refine Cl.of (own := RX0) (ini := false) (by decide +kernel) rfl (by decide) (Nat.le_of_ble_eq_true rfl) ?_
  show PW g mX0_months 2 μ μF (QN g (some (.int rv)) μ μF) 0 [(0, .ref this), (1, .int p1)] [] μ
  refine P.iload_n 1 (pc' := 1) dX0_months_0 rfl rfl rfl ?_
  refine P.iconst (v := 0) (pc' := 2) dX0_months_1 rfl (by decide) ?_
  refine P.sipush (v := 240) (pc' := 5) dX0_months_2 rfl (by decide) ?_
  obtain ⟨q1, h2, hf⟩ := ob hf
  refine P.callS (pc' := 8) (As := [.int p1, .int 0, .int 240]) 3 (ok_X0_within F p1 0 240 μ h2) (Nat.le_of_ble_eq_true rfl) (lw_S q1038 q557 q159 q558) yok_X0_within rfl (Nat.le_of_ble_eq_true rfl) (by decide) rfl dX0_months_5 rfl ?_
  refine P.if_ne (tgt := 13) (pc' := 11) dX0_months_8 (by decide) rfl (fun y3 => ?_) (fun y3 => ?_)
  · have hf := (if_neg y3).symm.trans hf
    refine P.aload_n 0 (pc' := 14) dX0_months_13 rfl rfl rfl ?_
    obtain ⟨x4, h5, hf⟩ := ob hf
    refine P.get (pc' := 17) ci0 4 (by decide) (gfR_spec h5) q479 (Or.inl rfl) dX0_months_14 rfl ?_
    refine P.aload_n 0 (pc' := 18) dX0_months_17 rfl rfl rfl ?_
    obtain ⟨x6, h7, hf⟩ := ob hf
    refine P.get (pc' := 21) ci0 4 (by decide) (gfR_spec h7) q479 (Or.inl rfl) dX0_months_18 rfl ?_
    obtain ⟨x8, h9, hf⟩ := ob hf
    refine P.getN (pc' := 24) ci6 3 (by decide) (gfI_spec h9) q421 (Or.inl rfl) dX0_months_21 rfl ?_
    refine P.iload_n 1 (pc' := 25) dX0_months_24 rfl rfl rfl ?_
    refine P.iadd (pc' := 26) dX0_months_25 rfl ?_
    refine P.bipush (v := 12) (pc' := 28) dX0_months_26 rfl (by decide) ?_
    obtain ⟨x10, h11, hf⟩ := ob hf
    refine P.iremO (pc' := 29) h11 dX0_months_28 rfl ?_
    obtain ⟨μ12, h13, hf⟩ := ob hf
    refine P.putN (v := .int x10) (pc' := 32) ci6 3 (by decide) h13 q421 (Or.inl rfl) rfl rfl rfl dX0_months_29 rfl ?_
    refine P.aload_n 0 (pc' := 33) dX0_months_32 rfl rfl rfl ?_
    obtain ⟨x14, h15, hf⟩ := ob hf
    refine P.get (pc' := 36) ci0 4 (by decide) (gfR_spec h15) q479 (Or.inl rfl) dX0_months_33 rfl ?_
    obtain ⟨x16, h17, hf⟩ := ob hf
    refine P.getN (pc' := 39) ci6 3 (by decide) (gfI_spec h17) q421 (Or.inl rfl) dX0_months_36 rfl ?_
    cases hf; exact P.iret rfl dX0_months_39
  · have hf := (if_pos y3).symm.trans hf
    refine P.iconst (v := (-1)) (pc' := 12) dX0_months_11 rfl (by decide) ?_
    cases hf; exact P.iret rfl dX0_months_12
abbrev mX0_tideAt : Ym := (RX0, cX0_tideAt, 2, (some Jvm.ClassFile.FieldType.int), false, [])
noncomputable def f_X0_tideAt (F : Nat) (this : Nat) (p1 : Int32) (μ : Sw) : Option (Int32 × Sw) :=
  Option.bind (gfR μ this 0 6) fun x1 =>
  Option.bind (oc μ x1 7) fun u5 =>
  Option.bind (f_X7_clear F x1 μ) fun q3 =>
  Option.bind (gfR q3 this 0 6) fun x7 =>
  Option.bind (gfR q3 x7 7 0) fun x9 =>
  Option.bind (sI q3 0 x9 4 p1) fun μ12 =>
  Option.bind (gfR μ12 this 0 6) fun x13 =>
  Option.bind (gfR μ12 x13 7 0) fun x15 =>
  Option.bind (gfR μ12 this 0 4) fun x17 =>
  Option.bind (gfI μ12 x17 6 3) fun x19 =>
  Option.bind (sI μ12 0 x15 5 x19) fun μ22 =>
  Option.bind (gfR μ22 this 0 6) fun x23 =>
  Option.bind (gfR μ22 this 0 3) fun x25 =>
  Option.bind (gfR μ22 x25 3 13) fun x27 =>
  Option.bind (oc μ22 x23 7) fun u31 =>
  Option.bind (f_X7_says F x23 x27 99 μ22) fun q29 =>
  some (q29.1, q29.2)
set_option maxHeartbeats 4000000 in
theorem ok_X0_tideAt {g : Gx} (F : Nat) (this : Nat) (p1 : Int32) (μ : Sw) {rv : Int32} {μF : Sw} (hf : f_X0_tideAt F this p1 μ = some (rv, μF)) : Cl g 412 yX0_tideAt cX0_tideAt 2 (some Jvm.ClassFile.FieldType.int) [.ref this, .int p1] μ (some (.int rv)) μF := by
  unfold f_X0_tideAt at hf
  refine Cl.of (own := RX0) (ini := false) (by decide +kernel) rfl (by decide) (Nat.le_of_ble_eq_true rfl) ?_
  show PW g mX0_tideAt 412 μ μF (QN g (some (.int rv)) μ μF) 0 [(0, .ref this), (1, .int p1)] [] μ
  refine P.aload_n 0 (pc' := 1) dX0_tideAt_0 rfl rfl rfl ?_
  obtain ⟨x1, h2, hf⟩ := ob hf
  refine P.get (pc' := 4) ci0 6 (by decide) (gfR_spec h2) q481 (Or.inl rfl) dX0_tideAt_1 rfl ?_
  obtain ⟨u5, h6, hf⟩ := ob hf
  obtain ⟨q3, h4, hf⟩ := ob hf
  refine P.callV (pc' := 7) (As := []) 0 (ok_X7_clear F x1 μ h4) (Nat.le_of_ble_eq_true rfl) (lw_V q1051 q1052 q1053 q170 q1054) rfl yok_X7_clear rfl (Nat.le_of_ble_eq_true rfl) ci7 h6 (by decide) rfl dX0_tideAt_4 rfl ?_
  refine P.aload_n 0 (pc' := 8) dX0_tideAt_7 rfl rfl rfl ?_
  obtain ⟨x7, h8, hf⟩ := ob hf
  refine P.get (pc' := 11) ci0 6 (by decide) (gfR_spec h8) q481 (Or.inl rfl) dX0_tideAt_8 rfl ?_
  obtain ⟨x9, h10, hf⟩ := ob hf
  refine P.getN (pc' := 14) ci7 0 (by decide) (gfR_spec h10) q448 (Or.inl rfl) dX0_tideAt_11 rfl ?_
  refine P.iconst (v := 4) (pc' := 15) dX0_tideAt_14 rfl (by decide) ?_
  refine P.iload_n 1 (pc' := 16) dX0_tideAt_15 rfl rfl rfl ?_
  obtain ⟨μ12, h11, hf⟩ := ob hf
  refine P.iast (pc' := 17) h11 dX0_tideAt_16 rfl ?_
  refine P.aload_n 0 (pc' := 18) dX0_tideAt_17 rfl rfl rfl ?_
  obtain ⟨x13, h14, hf⟩ := ob hf
  refine P.get (pc' := 21) ci0 6 (by decide) (gfR_spec h14) q481 (Or.inl rfl) dX0_tideAt_18 rfl ?_
  obtain ⟨x15, h16, hf⟩ := ob hf
  refine P.getN (pc' := 24) ci7 0 (by decide) (gfR_spec h16) q448 (Or.inl rfl) dX0_tideAt_21 rfl ?_
  refine P.iconst (v := 5) (pc' := 25) dX0_tideAt_24 rfl (by decide) ?_
  refine P.aload_n 0 (pc' := 26) dX0_tideAt_25 rfl rfl rfl ?_
  obtain ⟨x17, h18, hf⟩ := ob hf
  refine P.get (pc' := 29) ci0 4 (by decide) (gfR_spec h18) q479 (Or.inl rfl) dX0_tideAt_26 rfl ?_
  obtain ⟨x19, h20, hf⟩ := ob hf
  refine P.getN (pc' := 32) ci6 3 (by decide) (gfI_spec h20) q421 (Or.inl rfl) dX0_tideAt_29 rfl ?_
  obtain ⟨μ22, h21, hf⟩ := ob hf
  refine P.iast (pc' := 33) h21 dX0_tideAt_32 rfl ?_
  refine P.aload_n 0 (pc' := 34) dX0_tideAt_33 rfl rfl rfl ?_
  obtain ⟨x23, h24, hf⟩ := ob hf
  refine P.get (pc' := 37) ci0 6 (by decide) (gfR_spec h24) q481 (Or.inl rfl) dX0_tideAt_34 rfl ?_
  refine P.aload_n 0 (pc' := 38) dX0_tideAt_37 rfl rfl rfl ?_
  obtain ⟨x25, h26, hf⟩ := ob hf
  refine P.get (pc' := 41) ci0 3 (by decide) (gfR_spec h26) q478 (Or.inl rfl) dX0_tideAt_38 rfl ?_
  obtain ⟨x27, h28, hf⟩ := ob hf
  refine P.getN (pc' := 44) ci3 13 (by decide) (gfR_spec h28) q364 (Or.inl rfl) dX0_tideAt_41 rfl ?_
  refine P.bipush (v := 99) (pc' := 46) dX0_tideAt_44 rfl (by decide) ?_
  obtain ⟨u31, h32, hf⟩ := ob hf
  obtain ⟨q29, h30, hf⟩ := ob hf
  refine P.callV (pc' := 49) (As := [.ref x27, .int 99]) 2 (ok_X7_says F x23 x27 99 μ22 h30) (Nat.le_of_ble_eq_true rfl) (lw_V q1055 q1056 q1057 q170 q1058) rfl yok_X7_says rfl (Nat.le_of_ble_eq_true rfl) ci7 h32 (by decide) rfl dX0_tideAt_46 rfl ?_
  cases hf; exact P.iret rfl dX0_tideAt_49
theorem yok_X0_isHour : yOK yX0_isHour 1 := ⟨by decide +kernel, by decide +kernel, by decide +kernel⟩
theorem yok_X0_tideAt : yOK yX0_tideAt 1 := ⟨by decide +kernel, by decide +kernel, by decide +kernel⟩
abbrev mX0_tide : Ym := (RX0, cX0_tide, 2, (some Jvm.ClassFile.FieldType.int), false, [])
noncomputable def f_X0_tide (F : Nat) (this : Nat) (p1 : Int32) (μ : Sw) : Option (Int32 × Sw) :=
  Option.bind (p_X0_isHour F p1) fun q1 =>
  if q1 = 0 then
    some ((-1), μ)
  else
    Option.bind (oc μ this 0) fun u6 =>
    Option.bind (f_X0_tideAt F this p1 μ) fun q4 =>
    some (q4.1, q4.2)
set_option maxHeartbeats 4000000 in
theorem ok_X0_tide {g : Gx} (F : Nat) (this : Nat) (p1 : Int32) (μ : Sw) {rv : Int32} {μF : Sw} (hf : f_X0_tide F this p1 μ = some (rv, μF)) : Cl g 413 yX0_tide cX0_tide 2 (some Jvm.ClassFile.FieldType.int) [.ref this, .int p1] μ (some (.int rv)) μF := by
  unfold f_X0_tide at hf
  refine Cl.of (own := RX0) (ini := false) (by decide +kernel) rfl (by decide) (Nat.le_of_ble_eq_true rfl) ?_
  show PW g mX0_tide 413 μ μF (QN g (some (.int rv)) μ μF) 0 [(0, .ref this), (1, .int p1)] [] μ
  refine P.iload_n 1 (pc' := 1) dX0_tide_0 rfl rfl rfl ?_
  obtain ⟨q1, h2, hf⟩ := ob hf
  refine P.callS (pc' := 4) (As := [.int p1]) 1 (ok_X0_isHour F p1 μ h2) (Nat.le_of_ble_eq_true rfl) (lw_S q1113 q1114 q159 q1115) yok_X0_isHour rfl (Nat.le_of_ble_eq_true rfl) (by decide) rfl dX0_tide_1 rfl ?_
  refine P.if_eq (tgt := 15) (pc' := 7) dX0_tide_4 (by decide) rfl (fun y3 => ?_) (fun y3 => ?_)
  · have hf := (if_pos y3).symm.trans hf
    refine P.iconst (v := (-1)) (pc' := 16) dX0_tide_15 rfl (by decide) ?_
    cases hf; exact P.iret rfl dX0_tide_16
  · have hf := (if_neg y3).symm.trans hf
    refine P.aload_n 0 (pc' := 8) dX0_tide_7 rfl rfl rfl ?_
    refine P.iload_n 1 (pc' := 9) dX0_tide_8 rfl rfl rfl ?_
    obtain ⟨u6, h7, hf⟩ := ob hf
    obtain ⟨q4, h5, hf⟩ := ob hf
    refine P.callV (pc' := 12) (As := [.int p1]) 1 (ok_X0_tideAt F this p1 μ h5) (Nat.le_of_ble_eq_true rfl) (lw_V q1116 q1118 qs40 q159 q1119) rfl yok_X0_tideAt rfl (Nat.le_of_ble_eq_true rfl) ci0 h7 (by decide) rfl dX0_tide_9 rfl ?_
    refine P.goto (tgt := 16) dX0_tide_12 (by decide) ?_
    cases hf; exact P.iret rfl dX0_tide_16
abbrev mX0_wetBy : Ym := (RX0, cX0_wetBy, 4, (some Jvm.ClassFile.FieldType.int), false, [])
noncomputable def f_X0_wetBy_L4_b (F : Nat) (c0 : Nat) (c1 : Int32) (μ : Sw) (self : Int32 → Int32 → Option Int32) (v2 : Int32) (v3 : Int32) : Option Int32 :=
  Option.bind (oc μ c0 0) fun u3 =>
  Option.bind (f_X0_houses F c0 μ) fun q1 =>
  if q1 ≤ v3 then
    some v2
  else
    Option.bind (gfR μ c0 0 4) fun x6 =>
    Option.bind (gfR μ x6 6 0) fun x8 =>
    Option.bind (aI μ 0 x8 v3) fun x10 =>
    if c1 ≤ x10 then
      nm (v3 + 1) fun x13 =>
      self v2 x13
    else
      nm (v2 ||| ((1 : Int32) <<< (v3 &&& 31))) fun x15 =>
      nm (v3 + 1) fun x17 =>
      self x15 x17
noncomputable def f_X0_wetBy_L4 (F : Nat) (c0 : Nat) (c1 : Int32) (μ : Sw) (n : Nat) : Int32 → Int32 → Option Int32 := Nat.rec (motive := fun _ => Int32 → Int32 → Option Int32) (fun _ _ => none) (fun _ self => f_X0_wetBy_L4_b F c0 c1 μ self) n
set_option maxHeartbeats 4000000 in
theorem ok_f_X0_wetBy_L4 {g : Gx} {μ0 : Sw} {rv : Int32} (F : Nat) (c0 : Nat) (c1 : Int32) (μ : Sw) : ∀ (n : Nat) (v2 : Int32) (v3 : Int32), f_X0_wetBy_L4 F c0 c1 μ n v2 v3 = some rv → PW g mX0_wetBy 3 μ0 μ (QN g (some (.int rv)) μ0 μ) 4 [(0, .ref c0), (1, .int c1), (2, .int v2), (3, .int v3)] [] μ := by
  intro n
  induction n with
  | zero =>
    intro v2 v3 hf
    have hf : (none : Option Int32) = some _ := hf
    cases hf
  | succ n ih =>
    intro v2 v3 hf
    have hf : f_X0_wetBy_L4_b F c0 c1 μ (f_X0_wetBy_L4 F c0 c1 μ n) v2 v3 = some rv := hf
    unfold f_X0_wetBy_L4_b at hf
    refine P.iload_n 3 (pc' := 5) dX0_wetBy_4 rfl rfl rfl ?_
    refine P.aload_n 0 (pc' := 6) dX0_wetBy_5 rfl rfl rfl ?_
    obtain ⟨u3, h4, hf⟩ := ob hf
    obtain ⟨q1, h2, hf⟩ := ob hf
    refine P.callV (pc' := 9) (As := []) 0 (ok_X0_houses F c0 μ h2) (Nat.le_of_ble_eq_true rfl) (lw_V q1034 q1036 qs34 q159 q1037) rfl yok_X0_houses rfl (Nat.le_of_ble_eq_true rfl) ci0 h4 (Nat.le_of_ble_eq_true rfl) rfl dX0_wetBy_6 rfl ?_
    refine P.icmp_ge (tgt := 37) (pc' := 12) dX0_wetBy_9 (by decide) rfl (fun y5 => ?_) (fun y5 => ?_)
    · have hf := (if_pos y5).symm.trans hf
      refine P.iload_n 2 (pc' := 38) dX0_wetBy_37 rfl rfl rfl ?_
      cases hf; exact P.iret rfl dX0_wetBy_38
    · have hf := (if_neg y5).symm.trans hf
      refine P.aload_n 0 (pc' := 13) dX0_wetBy_12 rfl rfl rfl ?_
      obtain ⟨x6, h7, hf⟩ := ob hf
      refine P.get (pc' := 16) ci0 4 (by decide) (gfR_spec h7) q479 (Or.inl rfl) dX0_wetBy_13 rfl ?_
      obtain ⟨x8, h9, hf⟩ := ob hf
      refine P.getN (pc' := 19) ci6 0 (by decide) (gfR_spec h9) q414 (Or.inl rfl) dX0_wetBy_16 rfl ?_
      refine P.iload_n 3 (pc' := 20) dX0_wetBy_19 rfl rfl rfl ?_
      obtain ⟨x10, h11, hf⟩ := ob hf
      refine P.iald (t := 0) (pc' := 21) rfl h11 dX0_wetBy_20 rfl ?_
      refine P.iload_n 1 (pc' := 22) dX0_wetBy_21 rfl rfl rfl ?_
      refine P.icmp_ge (tgt := 31) (pc' := 25) dX0_wetBy_22 (by decide) rfl (fun y12 => ?_) (fun y12 => ?_)
      · have hf := (if_pos y12).symm.trans hf
        obtain ⟨x13, e14, hf⟩ := nm_i hf
        refine P.iinc 3 (pc' := 34) (lv' := [(3, .int x13), (0, .ref c0), (1, .int c1), (2, .int v2)]) dX0_wetBy_31 rfl rfl (by decide) e14 (Nat.le_of_ble_eq_true rfl) rfl ?_
        refine P.goto (tgt := 4) dX0_wetBy_34 (by decide) ?_
        exact PW.sub [1, 2, 3, 0] rfl (ih _ _ hf)
      · have hf := (if_neg y12).symm.trans hf
        refine P.iload_n 2 (pc' := 26) dX0_wetBy_25 rfl rfl rfl ?_
        refine P.iconst (v := 1) (pc' := 27) dX0_wetBy_26 rfl (by decide) ?_
        refine P.iload_n 3 (pc' := 28) dX0_wetBy_27 rfl rfl rfl ?_
        refine P.ishl (pc' := 29) dX0_wetBy_28 rfl ?_
        refine P.ior (pc' := 30) dX0_wetBy_29 rfl ?_
        obtain ⟨x15, e16, hf⟩ := nm_i hf
        refine P.nmi e16 ?_
        refine P.istore_n (pc' := 31) (lv' := [(2, .int x15), (0, .ref c0), (1, .int c1), (3, .int v3)]) dX0_wetBy_30 rfl rfl (Nat.le_of_ble_eq_true rfl) rfl ?_
        obtain ⟨x17, e18, hf⟩ := nm_i hf
        refine P.iinc 3 (pc' := 34) (lv' := [(3, .int x17), (2, .int x15), (0, .ref c0), (1, .int c1)]) dX0_wetBy_31 rfl rfl (by decide) e18 (Nat.le_of_ble_eq_true rfl) rfl ?_
        refine P.goto (tgt := 4) dX0_wetBy_34 (by decide) ?_
        exact PW.sub [2, 3, 1, 0] rfl (ih _ _ hf)
noncomputable def f_X0_wetBy (F : Nat) (this : Nat) (p1 : Int32) (μ : Sw) : Option Int32 :=
  f_X0_wetBy_L4 F this p1 μ F 0 0
set_option maxHeartbeats 4000000 in
theorem ok_X0_wetBy {g : Gx} (F : Nat) (this : Nat) (p1 : Int32) (μ : Sw) {rv : Int32} (hf : f_X0_wetBy F this p1 μ = some rv) : Cl g 3 yX0_wetBy cX0_wetBy 4 (some Jvm.ClassFile.FieldType.int) [.ref this, .int p1] μ (some (.int rv)) μ := by
  unfold f_X0_wetBy at hf
  refine Cl.of (own := RX0) (ini := false) (by decide +kernel) rfl (by decide) (Nat.le_of_ble_eq_true rfl) ?_
  show PW g mX0_wetBy 3 μ μ (QN g (some (.int rv)) μ μ) 0 [(0, .ref this), (1, .int p1)] [] μ
  refine P.iconst (v := 0) (pc' := 1) dX0_wetBy_0 rfl (by decide) ?_
  refine P.istore_n (pc' := 2) (lv' := [(2, .int 0), (0, .ref this), (1, .int p1)]) dX0_wetBy_1 rfl rfl (Nat.le_of_ble_eq_true rfl) rfl ?_
  refine P.iconst (v := 0) (pc' := 3) dX0_wetBy_2 rfl (by decide) ?_
  refine P.istore_n (pc' := 4) (lv' := [(3, .int 0), (2, .int 0), (0, .ref this), (1, .int p1)]) dX0_wetBy_3 rfl rfl (Nat.le_of_ble_eq_true rfl) rfl ?_
  exact PW.sub [2, 3, 1, 0] rfl (ok_f_X0_wetBy_L4 F this p1 μ F _ _ hf)
theorem yok_X0_wetBy : yOK yX0_wetBy 1 := ⟨by decide +kernel, by decide +kernel, by decide +kernel⟩
abbrev mX0_wet : Ym := (RX0, cX0_wet, 2, (some Jvm.ClassFile.FieldType.int), false, [])
noncomputable def f_X0_wet (F : Nat) (this : Nat) (p1 : Int32) (μ : Sw) : Option (Int32 × Sw) :=
  Option.bind (p_X0_isHour F p1) fun q1 =>
  if q1 = 0 then
    some ((-1), μ)
  else
    Option.bind (oc μ this 0) fun u6 =>
    Option.bind (f_X0_tideAt F this p1 μ) fun q4 =>
    Option.bind (oc q4.2 this 0) fun u10 =>
    Option.bind (f_X0_wetBy F this q4.1 q4.2) fun q8 =>
    some (q8, q4.2)
set_option maxHeartbeats 4000000 in
theorem ok_X0_wet {g : Gx} (F : Nat) (this : Nat) (p1 : Int32) (μ : Sw) {rv : Int32} {μF : Sw} (hf : f_X0_wet F this p1 μ = some (rv, μF)) : Cl g 413 yX0_wet cX0_wet 2 (some Jvm.ClassFile.FieldType.int) [.ref this, .int p1] μ (some (.int rv)) μF := by
  unfold f_X0_wet at hf
  refine Cl.of (own := RX0) (ini := false) (by decide +kernel) rfl (by decide) (Nat.le_of_ble_eq_true rfl) ?_
  show PW g mX0_wet 413 μ μF (QN g (some (.int rv)) μ μF) 0 [(0, .ref this), (1, .int p1)] [] μ
  refine P.iload_n 1 (pc' := 1) dX0_wet_0 rfl rfl rfl ?_
  obtain ⟨q1, h2, hf⟩ := ob hf
  refine P.callS (pc' := 4) (As := [.int p1]) 1 (ok_X0_isHour F p1 μ h2) (Nat.le_of_ble_eq_true rfl) (lw_S q1113 q1114 q159 q1115) yok_X0_isHour rfl (Nat.le_of_ble_eq_true rfl) (by decide) rfl dX0_wet_1 rfl ?_
  refine P.if_eq (tgt := 19) (pc' := 7) dX0_wet_4 (by decide) rfl (fun y3 => ?_) (fun y3 => ?_)
  · have hf := (if_pos y3).symm.trans hf
    refine P.iconst (v := (-1)) (pc' := 20) dX0_wet_19 rfl (by decide) ?_
    cases hf; exact P.iret rfl dX0_wet_20
  · have hf := (if_neg y3).symm.trans hf
    refine P.aload_n 0 (pc' := 8) dX0_wet_7 rfl rfl rfl ?_
    refine P.aload_n 0 (pc' := 9) dX0_wet_8 rfl rfl rfl ?_
    refine P.iload_n 1 (pc' := 10) dX0_wet_9 rfl rfl rfl ?_
    obtain ⟨u6, h7, hf⟩ := ob hf
    obtain ⟨q4, h5, hf⟩ := ob hf
    refine P.callV (pc' := 13) (As := [.int p1]) 1 (ok_X0_tideAt F this p1 μ h5) (Nat.le_of_ble_eq_true rfl) (lw_V q1116 q1118 qs40 q159 q1119) rfl yok_X0_tideAt rfl (Nat.le_of_ble_eq_true rfl) ci0 h7 (Nat.le_of_ble_eq_true rfl) rfl dX0_wet_10 rfl ?_
    obtain ⟨u10, h11, hf⟩ := ob hf
    obtain ⟨q8, h9, hf⟩ := ob hf
    refine P.callV (pc' := 16) (As := [.int q4.1]) 1 (ok_X0_wetBy F this q4.1 q4.2 h9) (Nat.le_of_ble_eq_true rfl) (lw_V q1124 q1126 qs41 q159 q1127) rfl yok_X0_wetBy rfl (Nat.le_of_ble_eq_true rfl) ci0 h11 (by decide) rfl dX0_wet_13 rfl ?_
    refine P.goto (tgt := 20) dX0_wet_16 (by decide) ?_
    cases hf; exact P.iret rfl dX0_wet_20
abbrev mX0_meets_2 : Ym := (RX0, cX0_meets_2, 3, (some Jvm.ClassFile.FieldType.boolean), false, [])
noncomputable def f_X0_meets_2_j24 (F : Nat) (v0 : Nat) (v1 : Nat) (s0 : Int32) (μ : Sw) : Option Int32 :=
  Option.bind (gfR μ v0 0 4) fun x1 =>
  Option.bind (gfR μ x1 6 0) fun x3 =>
  Option.bind (gfI μ v1 12 0) fun x5 =>
  Option.bind (aI μ 0 x3 x5) fun x7 =>
  Option.bind (gfI μ v1 12 2) fun x9 =>
  if x9 < (ab (x7 - s0)) then
    some 0
  else
    some 1
set_option maxHeartbeats 4000000 in
theorem ok_f_X0_meets_2_j24 {g : Gx} {μ0 : Sw} {rv : Int32} (F : Nat) (v0 : Nat) (v1 : Nat) (s0 : Int32) (μ : Sw) (hf : f_X0_meets_2_j24 F v0 v1 s0 μ = some rv) : PW g mX0_meets_2 2 μ0 μ (QN g (some (.int rv)) μ0 μ) 24 [(0, .ref v0), (1, .ref v1)] [.int s0] μ := by
  unfold f_X0_meets_2_j24 at hf
  refine P.istore_n (pc' := 25) (lv' := [(2, .int s0), (0, .ref v0), (1, .ref v1)]) dX0_meets_2_24 rfl rfl (Nat.le_of_ble_eq_true rfl) rfl ?_
  refine P.aload_n 1 (pc' := 26) dX0_meets_2_25 rfl rfl rfl ?_
  obtain ⟨x1, h2, hf⟩ := ob hf
  refine P.get (pc' := 29) ci0 4 (by decide) (gfR_spec h2) q479 (Or.inl rfl) dX0_meets_2_26 rfl ?_
  obtain ⟨x3, h4, hf⟩ := ob hf
  refine P.getN (pc' := 32) ci6 0 (by decide) (gfR_spec h4) q414 (Or.inl rfl) dX0_meets_2_29 rfl ?_
  refine P.aload_n 2 (pc' := 33) dX0_meets_2_32 rfl rfl rfl ?_
  obtain ⟨x5, h6, hf⟩ := ob hf
  refine P.getN (pc' := 36) ci12 0 (by decide) (gfI_spec h6) q882 (Or.inl rfl) dX0_meets_2_33 rfl ?_
  obtain ⟨x7, h8, hf⟩ := ob hf
  refine P.iald (t := 0) (pc' := 37) rfl h8 dX0_meets_2_36 rfl ?_
  refine P.iload_n 0 (pc' := 38) dX0_meets_2_37 rfl rfl rfl ?_
  refine P.isub (pc' := 39) dX0_meets_2_38 rfl ?_
  refine P.mabs (pc' := 42) q1137 q1138 q183 q1139 (Nat.le_of_ble_eq_true rfl) (by decide) dX0_meets_2_39 rfl ?_
  refine P.aload_n 2 (pc' := 43) dX0_meets_2_42 rfl rfl rfl ?_
  obtain ⟨x9, h10, hf⟩ := ob hf
  refine P.getN (pc' := 46) ci12 2 (by decide) (gfI_spec h10) q886 (Or.inl rfl) dX0_meets_2_43 rfl ?_
  refine P.icmp_gt (tgt := 53) (pc' := 49) dX0_meets_2_46 (by decide) rfl (fun y11 => ?_) (fun y11 => ?_)
  · have hf := (if_pos y11).symm.trans hf
    refine P.iconst (v := 0) (pc' := 54) dX0_meets_2_53 rfl (by decide) ?_
    cases hf; exact P.zret rfl (Or.inl rfl) dX0_meets_2_54
  · have hf := (if_neg y11).symm.trans hf
    refine P.iconst (v := 1) (pc' := 50) dX0_meets_2_49 rfl (by decide) ?_
    refine P.goto (tgt := 54) dX0_meets_2_50 (by decide) ?_
    cases hf; exact P.zret rfl (Or.inr rfl) dX0_meets_2_54
noncomputable def f_X0_meets_2 (F : Nat) (this : Nat) (p1 : Nat) (μ : Sw) : Option Int32 :=
  Option.bind (gfI μ p1 12 1) fun x1 =>
  if x1 = (-1) then
    f_X0_meets_2_j24 F this p1 0 μ
  else
    Option.bind (gfR μ this 0 4) fun x4 =>
    Option.bind (gfR μ x4 6 0) fun x6 =>
    Option.bind (gfI μ p1 12 1) fun x8 =>
    Option.bind (aI μ 0 x6 x8) fun x10 =>
    f_X0_meets_2_j24 F this p1 x10 μ
set_option maxHeartbeats 4000000 in
theorem ok_X0_meets_2 {g : Gx} (F : Nat) (this : Nat) (p1 : Nat) (μ : Sw) {rv : Int32} (hf : f_X0_meets_2 F this p1 μ = some rv) : Cl g 2 yX0_meets_2 cX0_meets_2 3 (some Jvm.ClassFile.FieldType.boolean) [.ref this, .ref p1] μ (some (.int rv)) μ := by
  unfold f_X0_meets_2 at hf
  refine Cl.of (own := RX0) (ini := false) (by decide +kernel) rfl (by decide) (Nat.le_of_ble_eq_true rfl) ?_
  show PW g mX0_meets_2 2 μ μ (QN g (some (.int rv)) μ μ) 0 [(0, .ref this), (1, .ref p1)] [] μ
  refine P.aload_n 1 (pc' := 1) dX0_meets_2_0 rfl rfl rfl ?_
  obtain ⟨x1, h2, hf⟩ := ob hf
  refine P.getN (pc' := 4) ci12 1 (by decide) (gfI_spec h2) q884 (Or.inl rfl) dX0_meets_2_1 rfl ?_
  refine P.iconst (v := (-1)) (pc' := 5) dX0_meets_2_4 rfl (by decide) ?_
  refine P.icmp_ne (tgt := 12) (pc' := 8) dX0_meets_2_5 (by decide) rfl (fun y3 => ?_) (fun y3 => ?_)
  · have hf := (if_neg y3).symm.trans hf
    refine P.aload_n 0 (pc' := 13) dX0_meets_2_12 rfl rfl rfl ?_
    obtain ⟨x4, h5, hf⟩ := ob hf
    refine P.get (pc' := 16) ci0 4 (by decide) (gfR_spec h5) q479 (Or.inl rfl) dX0_meets_2_13 rfl ?_
    obtain ⟨x6, h7, hf⟩ := ob hf
    refine P.getN (pc' := 19) ci6 0 (by decide) (gfR_spec h7) q414 (Or.inl rfl) dX0_meets_2_16 rfl ?_
    refine P.aload_n 1 (pc' := 20) dX0_meets_2_19 rfl rfl rfl ?_
    obtain ⟨x8, h9, hf⟩ := ob hf
    refine P.getN (pc' := 23) ci12 1 (by decide) (gfI_spec h9) q884 (Or.inl rfl) dX0_meets_2_20 rfl ?_
    obtain ⟨x10, h11, hf⟩ := ob hf
    refine P.iald (t := 0) (pc' := 24) rfl h11 dX0_meets_2_23 rfl ?_
    exact PW.sub [0, 1] rfl (ok_f_X0_meets_2_j24 F this p1 x10 μ hf)
  · have hf := (if_pos y3).symm.trans hf
    refine P.iconst (v := 0) (pc' := 9) dX0_meets_2_8 rfl (by decide) ?_
    refine P.goto (tgt := 24) dX0_meets_2_9 (by decide) ?_
    exact PW.sub [0, 1] rfl (ok_f_X0_meets_2_j24 F this p1 0 μ hf)
theorem yok_X0_meets_2 : yOK yX0_meets_2 1 := ⟨by decide +kernel, by decide +kernel, by decide +kernel⟩
abbrev mX0_meets : Ym := (RX0, cX0_meets, 2, (some Jvm.ClassFile.FieldType.int), false, [])
noncomputable def f_X0_meets (F : Nat) (this : Nat) (p1 : Int32) (μ : Sw) : Option Int32 :=
  Option.bind (gfR μ this 0 3) fun x1 =>
  Option.bind (gfR μ x1 3 1) fun x3 =>
  Option.bind (oc μ x3 20) fun u7 =>
  Option.bind (f_J2_size F x3 μ) fun q5 =>
  Option.bind (p_X0_within F p1 0 (q5 - 1)) fun q9 =>
  if q9 = 0 then
    some (-1)
  else
    Option.bind (gfR μ this 0 3) fun x12 =>
    Option.bind (gfR μ x12 3 1) fun x14 =>
    Option.bind (oc μ x14 20) fun u18 =>
    Option.bind (f_J2_get F x14 p1 μ) fun q16 =>
    Option.bind (oc μ q16 12) fun u20 =>
    Option.bind (oc μ this 0) fun u24 =>
    Option.bind (f_X0_meets_2 F this q16 μ) fun q22 =>
    if q22 = 0 then
      some 0
    else
      some 1
set_option maxHeartbeats 4000000 in
theorem ok_X0_meets {g : Gx} (F : Nat) (this : Nat) (p1 : Int32) (μ : Sw) {rv : Int32} (hf : f_X0_meets F this p1 μ = some rv) : Cl g 4 yX0_meets cX0_meets 2 (some Jvm.ClassFile.FieldType.int) [.ref this, .int p1] μ (some (.int rv)) μ := by
  unfold f_X0_meets at hf
  refine Cl.of (own := RX0) (ini := false) (by decide +kernel) rfl (by decide) (Nat.le_of_ble_eq_true rfl) ?_
  show PW g mX0_meets 4 μ μ (QN g (some (.int rv)) μ μ) 0 [(0, .ref this), (1, .int p1)] [] μ
  refine P.iload_n 1 (pc' := 1) dX0_meets_0 rfl rfl rfl ?_
  refine P.iconst (v := 0) (pc' := 2) dX0_meets_1 rfl (by decide) ?_
  refine P.aload_n 0 (pc' := 3) dX0_meets_2 rfl rfl rfl ?_
  obtain ⟨x1, h2, hf⟩ := ob hf
  refine P.get (pc' := 6) ci0 3 (by decide) (gfR_spec h2) q478 (Or.inl rfl) dX0_meets_3 rfl ?_
  obtain ⟨x3, h4, hf⟩ := ob hf
  refine P.getN (pc' := 9) ci3 1 (by decide) (gfR_spec h4) q332 (Or.inl rfl) dX0_meets_6 rfl ?_
  obtain ⟨u7, h8, hf⟩ := ob hf
  obtain ⟨q5, h6, hf⟩ := ob hf
  refine P.callV (pc' := 12) (As := []) 0 (ok_J2_size F x3 μ h6) (Nat.le_of_ble_eq_true rfl) (lw_V q1006 q669 q670 q165 q671) rfl yok_J2_size rfl (Nat.le_of_ble_eq_true rfl) ci20 h8 (Nat.le_of_ble_eq_true rfl) rfl dX0_meets_9 rfl ?_
  refine P.iconst (v := 1) (pc' := 13) dX0_meets_12 rfl (by decide) ?_
  refine P.isub (pc' := 14) dX0_meets_13 rfl ?_
  obtain ⟨q9, h10, hf⟩ := ob hf
  refine P.callS (pc' := 17) (As := [.int p1, .int 0, .int (q5 - 1)]) 3 (ok_X0_within F p1 0 (q5 - 1) μ h10) (Nat.le_of_ble_eq_true rfl) (lw_S q1038 q557 q159 q558) yok_X0_within rfl (Nat.le_of_ble_eq_true rfl) (by decide) rfl dX0_meets_14 rfl ?_
  refine P.if_ne (tgt := 24) (pc' := 20) dX0_meets_17 (by decide) rfl (fun y11 => ?_) (fun y11 => ?_)
  · have hf := (if_neg y11).symm.trans hf
    refine P.aload_n 0 (pc' := 25) dX0_meets_24 rfl rfl rfl ?_
    refine P.aload_n 0 (pc' := 26) dX0_meets_25 rfl rfl rfl ?_
    obtain ⟨x12, h13, hf⟩ := ob hf
    refine P.get (pc' := 29) ci0 3 (by decide) (gfR_spec h13) q478 (Or.inl rfl) dX0_meets_26 rfl ?_
    obtain ⟨x14, h15, hf⟩ := ob hf
    refine P.getN (pc' := 32) ci3 1 (by decide) (gfR_spec h15) q332 (Or.inl rfl) dX0_meets_29 rfl ?_
    refine P.iload_n 1 (pc' := 33) dX0_meets_32 rfl rfl rfl ?_
    obtain ⟨u18, h19, hf⟩ := ob hf
    obtain ⟨q16, h17, hf⟩ := ob hf
    refine P.callV (pc' := 36) (As := [.int p1]) 1 (ok_J2_get F x14 p1 μ h17) (Nat.le_of_ble_eq_true rfl) (lw_V q1007 q1008 q1009 q165 q1010) rfl yok_J2_get rfl (Nat.le_of_ble_eq_true rfl) ci20 h19 (Nat.le_of_ble_eq_true rfl) rfl dX0_meets_33 rfl ?_
    obtain ⟨u20, h21, hf⟩ := ob hf
    refine P.castS (u := u20) (pc' := 39) ci12 q1132 h21 dX0_meets_36 rfl ?_
    obtain ⟨u24, h25, hf⟩ := ob hf
    obtain ⟨q22, h23, hf⟩ := ob hf
    refine P.callV (pc' := 42) (As := [.ref q16]) 1 (ok_X0_meets_2 F this q16 μ h23) (Nat.le_of_ble_eq_true rfl) (lw_V q1133 q1135 qs42 q159 q1136) rfl yok_X0_meets_2 rfl (Nat.le_of_ble_eq_true rfl) ci0 h25 (by decide) rfl dX0_meets_39 rfl ?_
    refine P.if_eq (tgt := 49) (pc' := 45) dX0_meets_42 (by decide) rfl (fun y26 => ?_) (fun y26 => ?_)
    · have hf := (if_pos y26).symm.trans hf
      refine P.iconst (v := 0) (pc' := 50) dX0_meets_49 rfl (by decide) ?_
      cases hf; exact P.iret rfl dX0_meets_50
    · have hf := (if_neg y26).symm.trans hf
      refine P.iconst (v := 1) (pc' := 46) dX0_meets_45 rfl (by decide) ?_
      refine P.goto (tgt := 50) dX0_meets_46 (by decide) ?_
      cases hf; exact P.iret rfl dX0_meets_50
  · have hf := (if_pos y11).symm.trans hf
    refine P.iconst (v := (-1)) (pc' := 21) dX0_meets_20 rfl (by decide) ?_
    refine P.goto (tgt := 50) dX0_meets_21 (by decide) ?_
    cases hf; exact P.iret rfl dX0_meets_50
abbrev mX0_beyond : Ym := (RX0, cX0_beyond, 4, (some Jvm.ClassFile.FieldType.int), false, [])
noncomputable def f_X0_beyond (F : Nat) (this : Nat) (p1 : Nat) (p2 : Int32) (p3 : Int32) (μ : Sw) : Option Int32 :=
  Option.bind (oc μ this 0) fun u3 =>
  Option.bind (f_X0_meets_2 F this p1 μ) fun q1 =>
  if q1 = 0 then
    some 0
  else
    Option.bind (gfI μ p1 12 1) fun x6 =>
    if x6 = (-1) then
      if p3 = 0 then
        Option.bind (gfI μ p1 12 0) fun x18 =>
        some ((1 : Int32) <<< (x18 &&& 31))
      else
        some 0
    else
      Option.bind (gfI μ p1 12 0) fun x9 =>
      Option.bind (gfI μ p1 12 1) fun x11 =>
      Option.bind (gfI μ p1 12 1) fun x13 =>
      Option.bind (gfI μ p1 12 0) fun x15 =>
      some ((((p2 >>> (x9 &&& 31)) &&& 1) <<< (x11 &&& 31)) ||| (((p2 >>> (x13 &&& 31)) &&& 1) <<< (x15 &&& 31)))
set_option maxHeartbeats 4000000 in
theorem ok_X0_beyond {g : Gx} (F : Nat) (this : Nat) (p1 : Nat) (p2 : Int32) (p3 : Int32) (μ : Sw) {rv : Int32} (hf : f_X0_beyond F this p1 p2 p3 μ = some rv) : Cl g 3 yX0_beyond cX0_beyond 4 (some Jvm.ClassFile.FieldType.int) [.ref this, .ref p1, .int p2, .int p3] μ (some (.int rv)) μ := by
  unfold f_X0_beyond at hf
  refine Cl.of (own := RX0) (ini := false) (by decide +kernel) rfl (by decide) (Nat.le_of_ble_eq_true rfl) ?_
  show PW g mX0_beyond 3 μ μ (QN g (some (.int rv)) μ μ) 0 [(0, .ref this), (1, .ref p1), (2, .int p2), (3, .int p3)] [] μ
  refine P.aload_n 0 (pc' := 1) dX0_beyond_0 rfl rfl rfl ?_
  refine P.aload_n 1 (pc' := 2) dX0_beyond_1 rfl rfl rfl ?_
  obtain ⟨u3, h4, hf⟩ := ob hf
  obtain ⟨q1, h2, hf⟩ := ob hf
  refine P.callV (pc' := 5) (As := [.ref p1]) 1 (ok_X0_meets_2 F this p1 μ h2) (Nat.le_of_ble_eq_true rfl) (lw_V q1133 q1135 qs42 q159 q1136) rfl yok_X0_meets_2 rfl (Nat.le_of_ble_eq_true rfl) ci0 h4 (by decide) rfl dX0_beyond_2 rfl ?_
  refine P.if_ne (tgt := 10) (pc' := 8) dX0_beyond_5 (by decide) rfl (fun y5 => ?_) (fun y5 => ?_)
  · have hf := (if_neg y5).symm.trans hf
    refine P.aload_n 1 (pc' := 11) dX0_beyond_10 rfl rfl rfl ?_
    obtain ⟨x6, h7, hf⟩ := ob hf
    refine P.getN (pc' := 14) ci12 1 (by decide) (gfI_spec h7) q884 (Or.inl rfl) dX0_beyond_11 rfl ?_
    refine P.iconst (v := (-1)) (pc' := 15) dX0_beyond_14 rfl (by decide) ?_
    refine P.icmp_ne (tgt := 33) (pc' := 18) dX0_beyond_15 (by decide) rfl (fun y8 => ?_) (fun y8 => ?_)
    · have hf := (if_neg y8).symm.trans hf
      refine P.iload_n 2 (pc' := 34) dX0_beyond_33 rfl rfl rfl ?_
      refine P.aload_n 1 (pc' := 35) dX0_beyond_34 rfl rfl rfl ?_
      obtain ⟨x9, h10, hf⟩ := ob hf
      refine P.getN (pc' := 38) ci12 0 (by decide) (gfI_spec h10) q882 (Or.inl rfl) dX0_beyond_35 rfl ?_
      refine P.ishr (pc' := 39) dX0_beyond_38 rfl ?_
      refine P.iconst (v := 1) (pc' := 40) dX0_beyond_39 rfl (by decide) ?_
      refine P.iand (pc' := 41) dX0_beyond_40 rfl ?_
      refine P.aload_n 1 (pc' := 42) dX0_beyond_41 rfl rfl rfl ?_
      obtain ⟨x11, h12, hf⟩ := ob hf
      refine P.getN (pc' := 45) ci12 1 (by decide) (gfI_spec h12) q884 (Or.inl rfl) dX0_beyond_42 rfl ?_
      refine P.ishl (pc' := 46) dX0_beyond_45 rfl ?_
      refine P.iload_n 2 (pc' := 47) dX0_beyond_46 rfl rfl rfl ?_
      refine P.aload_n 1 (pc' := 48) dX0_beyond_47 rfl rfl rfl ?_
      obtain ⟨x13, h14, hf⟩ := ob hf
      refine P.getN (pc' := 51) ci12 1 (by decide) (gfI_spec h14) q884 (Or.inl rfl) dX0_beyond_48 rfl ?_
      refine P.ishr (pc' := 52) dX0_beyond_51 rfl ?_
      refine P.iconst (v := 1) (pc' := 53) dX0_beyond_52 rfl (by decide) ?_
      refine P.iand (pc' := 54) dX0_beyond_53 rfl ?_
      refine P.aload_n 1 (pc' := 55) dX0_beyond_54 rfl rfl rfl ?_
      obtain ⟨x15, h16, hf⟩ := ob hf
      refine P.getN (pc' := 58) ci12 0 (by decide) (gfI_spec h16) q882 (Or.inl rfl) dX0_beyond_55 rfl ?_
      refine P.ishl (pc' := 59) dX0_beyond_58 rfl ?_
      refine P.ior (pc' := 60) dX0_beyond_59 rfl ?_
      cases hf; exact P.iret rfl dX0_beyond_60
    · have hf := (if_pos y8).symm.trans hf
      refine P.iload_n 3 (pc' := 19) dX0_beyond_18 rfl rfl rfl ?_
      refine P.if_ne (tgt := 31) (pc' := 22) dX0_beyond_19 (by decide) rfl (fun y17 => ?_) (fun y17 => ?_)
      · have hf := (if_neg y17).symm.trans hf
        refine P.iconst (v := 0) (pc' := 32) dX0_beyond_31 rfl (by decide) ?_
        cases hf; exact P.iret rfl dX0_beyond_32
      · have hf := (if_pos y17).symm.trans hf
        refine P.iconst (v := 1) (pc' := 23) dX0_beyond_22 rfl (by decide) ?_
        refine P.aload_n 1 (pc' := 24) dX0_beyond_23 rfl rfl rfl ?_
        obtain ⟨x18, h19, hf⟩ := ob hf
        refine P.getN (pc' := 27) ci12 0 (by decide) (gfI_spec h19) q882 (Or.inl rfl) dX0_beyond_24 rfl ?_
        refine P.ishl (pc' := 28) dX0_beyond_27 rfl ?_
        refine P.goto (tgt := 32) dX0_beyond_28 (by decide) ?_
        cases hf; exact P.iret rfl dX0_beyond_32
  · have hf := (if_pos y5).symm.trans hf
    refine P.iconst (v := 0) (pc' := 9) dX0_beyond_8 rfl (by decide) ?_
    cases hf; exact P.iret rfl dX0_beyond_9
theorem yok_X0_beyond : yOK yX0_beyond 3 := ⟨by decide +kernel, by decide +kernel, by decide +kernel⟩
abbrev mX0_reachedBy : Ym := (RX0, cX0_reachedBy, 8, (some Jvm.ClassFile.FieldType.int), false, [])
noncomputable def f_X0_reachedBy_L26_b (F : Nat) (k63 : Int32 → Option Int32) (c0 : Nat) (c1 : Int32) (c2 : Int32) (c4 : Int32) (μ : Sw) (self : Int32 → Int32 → Option Int32) (v5 : Int32) (v6 : Int32) : Option Int32 :=
  Option.bind (oc μ c0 0) fun u3 =>
  Option.bind (f_X0_houses F c0 μ) fun q1 =>
  if q1 ≤ v6 then
    k63 v5
  else
    Option.bind (gfR μ c0 0 3) fun x6 =>
    Option.bind (gfR μ x6 3 9) fun x8 =>
    Option.bind (aI μ 4 x8 v6) fun x10 =>
    if x10 = 0 then
      nm (v6 + 1) fun x13 =>
      self v5 x13
    else
      nm (v5 ||| ((1 : Int32) <<< (v6 &&& 31))) fun x15 =>
      nm (v6 + 1) fun x17 =>
      self x15 x17
noncomputable def f_X0_reachedBy_L26 (F : Nat) (k63 : Int32 → Option Int32) (c0 : Nat) (c1 : Int32) (c2 : Int32) (c4 : Int32) (μ : Sw) (n : Nat) : Int32 → Int32 → Option Int32 := Nat.rec (motive := fun _ => Int32 → Int32 → Option Int32) (fun _ _ => none) (fun _ self => f_X0_reachedBy_L26_b F k63 c0 c1 c2 c4 μ self) n
set_option maxHeartbeats 4000000 in
theorem ok_f_X0_reachedBy_L26 {g : Gx} {μ0 : Sw} {rv : Int32} (F : Nat) (c0 : Nat) (c1 : Int32) (c2 : Int32) (c4 : Int32) (μ : Sw) (k63 : Int32 → Option Int32) (hk63 : ∀ (w5 : Int32), k63 w5 = some rv → PW g mX0_reachedBy 4 μ0 μ (QN g (some (.int rv)) μ0 μ) 63 [(0, .ref c0), (1, .int c1), (2, .int c2), (4, .int c4), (5, .int w5)] [] μ) : ∀ (n : Nat) (v5 : Int32) (v6 : Int32), f_X0_reachedBy_L26 F k63 c0 c1 c2 c4 μ n v5 v6 = some rv → PW g mX0_reachedBy 4 μ0 μ (QN g (some (.int rv)) μ0 μ) 26 [(0, .ref c0), (1, .int c1), (2, .int c2), (4, .int c4), (5, .int v5), (6, .int v6)] [] μ := by
  intro n
  induction n with
  | zero =>
    intro v5 v6 hf
    have hf : (none : Option Int32) = some _ := hf
    cases hf
  | succ n ih =>
    intro v5 v6 hf
    have hf : f_X0_reachedBy_L26_b F k63 c0 c1 c2 c4 μ (f_X0_reachedBy_L26 F k63 c0 c1 c2 c4 μ n) v5 v6 = some rv := hf
    unfold f_X0_reachedBy_L26_b at hf
    refine P.iload 5 (pc' := 28) dX0_reachedBy_26 rfl rfl ?_
    refine P.aload_n 0 (pc' := 29) dX0_reachedBy_28 rfl rfl rfl ?_
    obtain ⟨u3, h4, hf⟩ := ob hf
    obtain ⟨q1, h2, hf⟩ := ob hf
    refine P.callV (pc' := 32) (As := []) 0 (ok_X0_houses F c0 μ h2) (Nat.le_of_ble_eq_true rfl) (lw_V q1034 q1036 qs34 q159 q1037) rfl yok_X0_houses rfl (Nat.le_of_ble_eq_true rfl) ci0 h4 (Nat.le_of_ble_eq_true rfl) rfl dX0_reachedBy_29 rfl ?_
    refine P.icmp_ge (tgt := 63) (pc' := 35) dX0_reachedBy_32 (by decide) rfl (fun y5 => ?_) (fun y5 => ?_)
    · have hf := (if_pos y5).symm.trans hf
      exact PW.sub [0, 1, 2, 3, 4] rfl (hk63 _ hf)
    · have hf := (if_neg y5).symm.trans hf
      refine P.aload_n 0 (pc' := 36) dX0_reachedBy_35 rfl rfl rfl ?_
      obtain ⟨x6, h7, hf⟩ := ob hf
      refine P.get (pc' := 39) ci0 3 (by decide) (gfR_spec h7) q478 (Or.inl rfl) dX0_reachedBy_36 rfl ?_
      obtain ⟨x8, h9, hf⟩ := ob hf
      refine P.getN (pc' := 42) ci3 9 (by decide) (gfR_spec h9) q353 (Or.inl rfl) dX0_reachedBy_39 rfl ?_
      refine P.iload 5 (pc' := 44) dX0_reachedBy_42 rfl rfl ?_
      obtain ⟨x10, h11, hf⟩ := ob hf
      refine P.zald (t := 4) (pc' := 45) rfl h11 dX0_reachedBy_44 rfl ?_
      refine P.if_eq (tgt := 57) (pc' := 48) dX0_reachedBy_45 (by decide) rfl (fun y12 => ?_) (fun y12 => ?_)
      · have hf := (if_pos y12).symm.trans hf
        obtain ⟨x13, e14, hf⟩ := nm_i hf
        refine P.iinc 5 (pc' := 60) (lv' := [(6, .int x13), (0, .ref c0), (1, .int c1), (2, .int c2), (4, .int c4), (5, .int v5)]) dX0_reachedBy_57 rfl rfl (by decide) e14 (Nat.le_of_ble_eq_true rfl) rfl ?_
        refine P.goto (tgt := 26) dX0_reachedBy_60 (by decide) ?_
        exact PW.sub [1, 2, 3, 4, 5, 0] rfl (ih _ _ hf)
      · have hf := (if_neg y12).symm.trans hf
        refine P.iload 4 (pc' := 50) dX0_reachedBy_48 rfl rfl ?_
        refine P.iconst (v := 1) (pc' := 51) dX0_reachedBy_50 rfl (by decide) ?_
        refine P.iload 5 (pc' := 53) dX0_reachedBy_51 rfl rfl ?_
        refine P.ishl (pc' := 54) dX0_reachedBy_53 rfl ?_
        refine P.ior (pc' := 55) dX0_reachedBy_54 rfl ?_
        obtain ⟨x15, e16, hf⟩ := nm_i hf
        refine P.nmi e16 ?_
        refine P.istore (pc' := 57) (lv' := [(5, .int x15), (0, .ref c0), (1, .int c1), (2, .int c2), (4, .int c4), (6, .int v6)]) dX0_reachedBy_55 rfl (Nat.le_of_ble_eq_true rfl) rfl ?_
        obtain ⟨x17, e18, hf⟩ := nm_i hf
        refine P.iinc 5 (pc' := 60) (lv' := [(6, .int x17), (5, .int x15), (0, .ref c0), (1, .int c1), (2, .int c2), (4, .int c4)]) dX0_reachedBy_57 rfl rfl (by decide) e18 (Nat.le_of_ble_eq_true rfl) rfl ?_
        refine P.goto (tgt := 26) dX0_reachedBy_60 (by decide) ?_
        exact PW.sub [2, 3, 4, 5, 1, 0] rfl (ih _ _ hf)
noncomputable def f_X0_reachedBy_L89_b (F : Nat) (k148 : Int32 → Option Int32) (c0 : Nat) (c1 : Int32) (c2 : Int32) (c4 : Int32) (c6 : Int32) (μ : Sw) (self : Int32 → Int32 → Option Int32) (v5 : Int32) (v7 : Int32) : Option Int32 :=
  Option.bind (gfR μ c0 0 3) fun x1 =>
  Option.bind (gfR μ x1 3 1) fun x3 =>
  Option.bind (oc μ x3 20) fun u7 =>
  Option.bind (f_J2_size F x3 μ) fun q5 =>
  if q5 ≤ v7 then
    k148 v5
  else
    if v7 = c2 then
      nm (v7 + 1) fun x11 =>
      self v5 x11
    else
      Option.bind (gfR μ c0 0 3) fun x13 =>
      Option.bind (gfR μ x13 3 1) fun x15 =>
      Option.bind (oc μ x15 20) fun u19 =>
      Option.bind (f_J2_get F x15 v7 μ) fun q17 =>
      Option.bind (oc μ q17 12) fun u21 =>
      Option.bind (oc μ c0 0) fun u25 =>
      Option.bind (f_X0_beyond F c0 q17 v5 c1 μ) fun q23 =>
      nm (v5 ||| (q23 &&& (c4 ^^^ (-1)))) fun x27 =>
      nm (v7 + 1) fun x29 =>
      self x27 x29
noncomputable def f_X0_reachedBy_L89 (F : Nat) (k148 : Int32 → Option Int32) (c0 : Nat) (c1 : Int32) (c2 : Int32) (c4 : Int32) (c6 : Int32) (μ : Sw) (n : Nat) : Int32 → Int32 → Option Int32 := Nat.rec (motive := fun _ => Int32 → Int32 → Option Int32) (fun _ _ => none) (fun _ self => f_X0_reachedBy_L89_b F k148 c0 c1 c2 c4 c6 μ self) n
set_option maxHeartbeats 4000000 in
theorem ok_f_X0_reachedBy_L89 {g : Gx} {μ0 : Sw} {rv : Int32} (F : Nat) (c0 : Nat) (c1 : Int32) (c2 : Int32) (c4 : Int32) (c6 : Int32) (μ : Sw) (k148 : Int32 → Option Int32) (hk148 : ∀ (w5 : Int32), k148 w5 = some rv → PW g mX0_reachedBy 4 μ0 μ (QN g (some (.int rv)) μ0 μ) 148 [(0, .ref c0), (1, .int c1), (2, .int c2), (4, .int c4), (5, .int w5), (6, .int c6)] [] μ) : ∀ (n : Nat) (v5 : Int32) (v7 : Int32), f_X0_reachedBy_L89 F k148 c0 c1 c2 c4 c6 μ n v5 v7 = some rv → PW g mX0_reachedBy 4 μ0 μ (QN g (some (.int rv)) μ0 μ) 89 [(0, .ref c0), (1, .int c1), (2, .int c2), (4, .int c4), (5, .int v5), (6, .int c6), (7, .int v7)] [] μ := by
  intro n
  induction n with
  | zero =>
    intro v5 v7 hf
    have hf : (none : Option Int32) = some _ := hf
    cases hf
  | succ n ih =>
    intro v5 v7 hf
    have hf : f_X0_reachedBy_L89_b F k148 c0 c1 c2 c4 c6 μ (f_X0_reachedBy_L89 F k148 c0 c1 c2 c4 c6 μ n) v5 v7 = some rv := hf
    unfold f_X0_reachedBy_L89_b at hf
    refine P.iload 6 (pc' := 91) dX0_reachedBy_89 rfl rfl ?_
    refine P.aload_n 0 (pc' := 92) dX0_reachedBy_91 rfl rfl rfl ?_
    obtain ⟨x1, h2, hf⟩ := ob hf
    refine P.get (pc' := 95) ci0 3 (by decide) (gfR_spec h2) q478 (Or.inl rfl) dX0_reachedBy_92 rfl ?_
    obtain ⟨x3, h4, hf⟩ := ob hf
    refine P.getN (pc' := 98) ci3 1 (by decide) (gfR_spec h4) q332 (Or.inl rfl) dX0_reachedBy_95 rfl ?_
    obtain ⟨u7, h8, hf⟩ := ob hf
    obtain ⟨q5, h6, hf⟩ := ob hf
    refine P.callV (pc' := 101) (As := []) 0 (ok_J2_size F x3 μ h6) (Nat.le_of_ble_eq_true rfl) (lw_V q1006 q669 q670 q165 q671) rfl yok_J2_size rfl (Nat.le_of_ble_eq_true rfl) ci20 h8 (Nat.le_of_ble_eq_true rfl) rfl dX0_reachedBy_98 rfl ?_
    refine P.icmp_ge (tgt := 148) (pc' := 104) dX0_reachedBy_101 (by decide) rfl (fun y9 => ?_) (fun y9 => ?_)
    · have hf := (if_pos y9).symm.trans hf
      exact PW.sub [0, 1, 2, 3, 4, 5] rfl (hk148 _ hf)
    · have hf := (if_neg y9).symm.trans hf
      refine P.iload 6 (pc' := 106) dX0_reachedBy_104 rfl rfl ?_
      refine P.iload_n 2 (pc' := 107) dX0_reachedBy_106 rfl rfl rfl ?_
      refine P.icmp_eq (tgt := 142) (pc' := 110) dX0_reachedBy_107 (by decide) rfl (fun y10 => ?_) (fun y10 => ?_)
      · have hf := (if_pos y10).symm.trans hf
        obtain ⟨x11, e12, hf⟩ := nm_i hf
        refine P.iinc 6 (pc' := 145) (lv' := [(7, .int x11), (0, .ref c0), (1, .int c1), (2, .int c2), (4, .int c4), (5, .int v5), (6, .int c6)]) dX0_reachedBy_142 rfl rfl (by decide) e12 (Nat.le_of_ble_eq_true rfl) rfl ?_
        refine P.goto (tgt := 89) dX0_reachedBy_145 (by decide) ?_
        exact PW.sub [1, 2, 3, 4, 5, 6, 0] rfl (ih _ _ hf)
      · have hf := (if_neg y10).symm.trans hf
        refine P.iload 4 (pc' := 112) dX0_reachedBy_110 rfl rfl ?_
        refine P.aload_n 0 (pc' := 113) dX0_reachedBy_112 rfl rfl rfl ?_
        refine P.aload_n 0 (pc' := 114) dX0_reachedBy_113 rfl rfl rfl ?_
        obtain ⟨x13, h14, hf⟩ := ob hf
        refine P.get (pc' := 117) ci0 3 (by decide) (gfR_spec h14) q478 (Or.inl rfl) dX0_reachedBy_114 rfl ?_
        obtain ⟨x15, h16, hf⟩ := ob hf
        refine P.getN (pc' := 120) ci3 1 (by decide) (gfR_spec h16) q332 (Or.inl rfl) dX0_reachedBy_117 rfl ?_
        refine P.iload 6 (pc' := 122) dX0_reachedBy_120 rfl rfl ?_
        obtain ⟨u19, h20, hf⟩ := ob hf
        obtain ⟨q17, h18, hf⟩ := ob hf
        refine P.callV (pc' := 125) (As := [.int v7]) 1 (ok_J2_get F x15 v7 μ h18) (Nat.le_of_ble_eq_true rfl) (lw_V q1007 q1008 q1009 q165 q1010) rfl yok_J2_get rfl (Nat.le_of_ble_eq_true rfl) ci20 h20 (Nat.le_of_ble_eq_true rfl) rfl dX0_reachedBy_122 rfl ?_
        obtain ⟨u21, h22, hf⟩ := ob hf
        refine P.castS (u := u21) (pc' := 128) ci12 q1132 h22 dX0_reachedBy_125 rfl ?_
        refine P.iload 4 (pc' := 130) dX0_reachedBy_128 rfl rfl ?_
        refine P.iload_n 1 (pc' := 131) dX0_reachedBy_130 rfl rfl rfl ?_
        obtain ⟨u25, h26, hf⟩ := ob hf
        obtain ⟨q23, h24, hf⟩ := ob hf
        refine P.callV (pc' := 134) (As := [.ref q17, .int v5, .int c1]) 3 (ok_X0_beyond F c0 q17 v5 c1 μ h24) (Nat.le_of_ble_eq_true rfl) (lw_V q1152 q1154 qs45 q159 q1155) rfl yok_X0_beyond rfl (Nat.le_of_ble_eq_true rfl) ci0 h26 (Nat.le_of_ble_eq_true rfl) rfl dX0_reachedBy_131 rfl ?_
        refine P.iload 3 (pc' := 136) dX0_reachedBy_134 rfl rfl ?_
        refine P.iconst (v := (-1)) (pc' := 137) dX0_reachedBy_136 rfl (by decide) ?_
        refine P.ixor (pc' := 138) dX0_reachedBy_137 rfl ?_
        refine P.iand (pc' := 139) dX0_reachedBy_138 rfl ?_
        refine P.ior (pc' := 140) dX0_reachedBy_139 rfl ?_
        obtain ⟨x27, e28, hf⟩ := nm_i hf
        refine P.nmi e28 ?_
        refine P.istore (pc' := 142) (lv' := [(5, .int x27), (0, .ref c0), (1, .int c1), (2, .int c2), (4, .int c4), (6, .int c6), (7, .int v7)]) dX0_reachedBy_140 rfl (Nat.le_of_ble_eq_true rfl) rfl ?_
        obtain ⟨x29, e30, hf⟩ := nm_i hf
        refine P.iinc 6 (pc' := 145) (lv' := [(7, .int x29), (5, .int x27), (0, .ref c0), (1, .int c1), (2, .int c2), (4, .int c4), (6, .int c6)]) dX0_reachedBy_142 rfl rfl (by decide) e30 (Nat.le_of_ble_eq_true rfl) rfl ?_
        refine P.goto (tgt := 89) dX0_reachedBy_145 (by decide) ?_
        exact PW.sub [2, 3, 4, 5, 1, 6, 0] rfl (ih _ _ hf)
noncomputable def f_X0_reachedBy_L75_b (F : Nat) (c0 : Nat) (c1 : Int32) (c2 : Int32) (c4 : Int32) (μ : Sw) (self : Int32 → Int32 → Option Int32) (v5 : Int32) (v6 : Int32) : Option Int32 :=
  if v6 = v5 then
    some v5
  else
    f_X0_reachedBy_L89 F
      (fun w2 =>
        self w2 v5)
      c0 c1 c2 c4 v5 μ F v5 0
noncomputable def f_X0_reachedBy_L75 (F : Nat) (c0 : Nat) (c1 : Int32) (c2 : Int32) (c4 : Int32) (μ : Sw) (n : Nat) : Int32 → Int32 → Option Int32 := Nat.rec (motive := fun _ => Int32 → Int32 → Option Int32) (fun _ _ => none) (fun _ self => f_X0_reachedBy_L75_b F c0 c1 c2 c4 μ self) n
set_option maxHeartbeats 4000000 in
theorem ok_f_X0_reachedBy_L75 {g : Gx} {μ0 : Sw} {rv : Int32} (F : Nat) (c0 : Nat) (c1 : Int32) (c2 : Int32) (c4 : Int32) (μ : Sw) : ∀ (n : Nat) (v5 : Int32) (v6 : Int32), f_X0_reachedBy_L75 F c0 c1 c2 c4 μ n v5 v6 = some rv → PW g mX0_reachedBy 4 μ0 μ (QN g (some (.int rv)) μ0 μ) 75 [(0, .ref c0), (1, .int c1), (2, .int c2), (4, .int c4), (5, .int v5), (6, .int v6)] [] μ := by
  intro n
  induction n with
  | zero =>
    intro v5 v6 hf
    have hf : (none : Option Int32) = some _ := hf
    cases hf
  | succ n ih =>
    intro v5 v6 hf
    have hf : f_X0_reachedBy_L75_b F c0 c1 c2 c4 μ (f_X0_reachedBy_L75 F c0 c1 c2 c4 μ n) v5 v6 = some rv := hf
    unfold f_X0_reachedBy_L75_b at hf
    refine P.iload 5 (pc' := 77) dX0_reachedBy_75 rfl rfl ?_
    refine P.iload 4 (pc' := 79) dX0_reachedBy_77 rfl rfl ?_
    refine P.icmp_eq (tgt := 151) (pc' := 82) dX0_reachedBy_79 (by decide) rfl (fun y1 => ?_) (fun y1 => ?_)
    · have hf := (if_pos y1).symm.trans hf
      refine P.iload 4 (pc' := 153) dX0_reachedBy_151 rfl rfl ?_
      cases hf; exact P.iret rfl dX0_reachedBy_153
    · have hf := (if_neg y1).symm.trans hf
      refine P.iload 4 (pc' := 84) dX0_reachedBy_82 rfl rfl ?_
      refine P.istore (pc' := 86) (lv' := [(6, .int v5), (0, .ref c0), (1, .int c1), (2, .int c2), (4, .int c4), (5, .int v5)]) dX0_reachedBy_84 rfl (Nat.le_of_ble_eq_true rfl) rfl ?_
      refine P.iconst (v := 0) (pc' := 87) dX0_reachedBy_86 rfl (by decide) ?_
      refine P.istore (pc' := 89) (lv' := [(7, .int 0), (6, .int v5), (0, .ref c0), (1, .int c1), (2, .int c2), (4, .int c4), (5, .int v5)]) dX0_reachedBy_87 rfl (Nat.le_of_ble_eq_true rfl) rfl ?_
      refine PW.sub [2, 3, 4, 5, 6, 1, 0] rfl (ok_f_X0_reachedBy_L89 F c0 c1 c2 c4 v5 μ _ ?_ F _ _ hf)
      · intro w2 hf
        refine P.goto (tgt := 75) dX0_reachedBy_148 (by decide) ?_
        exact PW.sub [0, 1, 2, 3, 4, 5] rfl (ih _ _ hf)
noncomputable def f_X0_reachedBy (F : Nat) (this : Nat) (p1 : Int32) (p2 : Int32) (p3 : Int32) (μ : Sw) : Option Int32 :=
  Option.bind (oc μ this 0) fun u3 =>
  Option.bind (f_X0_wetBy F this p1 μ) fun q1 =>
  if p3 = (-1) then
    nm (q1 ||| 0) fun x11 =>
    f_X0_reachedBy_L26 F
      (fun w13 =>
        nm (w13 &&& (x11 ^^^ (-1))) fun x14 =>
        f_X0_reachedBy_L75 F this p1 p2 x11 μ F x14 (-1))
      this p1 p2 x11 μ F 0 0
  else
    nm (q1 ||| ((1 : Int32) <<< (p3 &&& 31))) fun x6 =>
    f_X0_reachedBy_L26 F
      (fun w8 =>
        nm (w8 &&& (x6 ^^^ (-1))) fun x9 =>
        f_X0_reachedBy_L75 F this p1 p2 x6 μ F x9 (-1))
      this p1 p2 x6 μ F 0 0
set_option maxHeartbeats 4000000 in
theorem ok_X0_reachedBy {g : Gx} (F : Nat) (this : Nat) (p1 : Int32) (p2 : Int32) (p3 : Int32) (μ : Sw) {rv : Int32} (hf : f_X0_reachedBy F this p1 p2 p3 μ = some rv) : Cl g 4 yX0_reachedBy cX0_reachedBy 8 (some Jvm.ClassFile.FieldType.int) [.ref this, .int p1, .int p2, .int p3] μ (some (.int rv)) μ := by
  unfold f_X0_reachedBy at hf
  refine Cl.of (own := RX0) (ini := false) (by decide +kernel) rfl (by decide) (Nat.le_of_ble_eq_true rfl) ?_
  show PW g mX0_reachedBy 4 μ μ (QN g (some (.int rv)) μ μ) 0 [(0, .ref this), (1, .int p1), (2, .int p2), (3, .int p3)] [] μ
  refine P.aload_n 0 (pc' := 1) dX0_reachedBy_0 rfl rfl rfl ?_
  refine P.iload_n 1 (pc' := 2) dX0_reachedBy_1 rfl rfl rfl ?_
  obtain ⟨u3, h4, hf⟩ := ob hf
  obtain ⟨q1, h2, hf⟩ := ob hf
  refine P.callV (pc' := 5) (As := [.int p1]) 1 (ok_X0_wetBy F this p1 μ h2) (Nat.le_of_ble_eq_true rfl) (lw_V q1124 q1126 qs41 q159 q1127) rfl yok_X0_wetBy rfl (Nat.le_of_ble_eq_true rfl) ci0 h4 (by decide) rfl dX0_reachedBy_2 rfl ?_
  refine P.iload_n 3 (pc' := 6) dX0_reachedBy_5 rfl rfl rfl ?_
  refine P.iconst (v := (-1)) (pc' := 7) dX0_reachedBy_6 rfl (by decide) ?_
  refine P.icmp_ne (tgt := 14) (pc' := 10) dX0_reachedBy_7 (by decide) rfl (fun y5 => ?_) (fun y5 => ?_)
  · have hf := (if_neg y5).symm.trans hf
    refine P.iconst (v := 1) (pc' := 15) dX0_reachedBy_14 rfl (by decide) ?_
    refine P.iload_n 3 (pc' := 16) dX0_reachedBy_15 rfl rfl rfl ?_
    refine P.ishl (pc' := 17) dX0_reachedBy_16 rfl ?_
    refine P.ior (pc' := 18) dX0_reachedBy_17 rfl ?_
    obtain ⟨x6, e7, hf⟩ := nm_i hf
    refine P.nmi e7 ?_
    refine P.istore (pc' := 20) (lv' := [(4, .int x6), (0, .ref this), (1, .int p1), (2, .int p2), (3, .int p3)]) dX0_reachedBy_18 rfl (Nat.le_of_ble_eq_true rfl) rfl ?_
    refine P.iconst (v := 0) (pc' := 21) dX0_reachedBy_20 rfl (by decide) ?_
    refine P.istore (pc' := 23) (lv' := [(5, .int 0), (4, .int x6), (0, .ref this), (1, .int p1), (2, .int p2), (3, .int p3)]) dX0_reachedBy_21 rfl (Nat.le_of_ble_eq_true rfl) rfl ?_
    refine P.iconst (v := 0) (pc' := 24) dX0_reachedBy_23 rfl (by decide) ?_
    refine P.istore (pc' := 26) (lv' := [(6, .int 0), (5, .int 0), (4, .int x6), (0, .ref this), (1, .int p1), (2, .int p2), (3, .int p3)]) dX0_reachedBy_24 rfl (Nat.le_of_ble_eq_true rfl) rfl ?_
    refine PW.sub [3, 4, 5, 2, 1, 0] rfl (ok_f_X0_reachedBy_L26 F this p1 p2 x6 μ _ ?_ F _ _ hf)
    · intro w8 hf
      refine P.iload 4 (pc' := 65) dX0_reachedBy_63 rfl rfl ?_
      refine P.iload 3 (pc' := 67) dX0_reachedBy_65 rfl rfl ?_
      refine P.iconst (v := (-1)) (pc' := 68) dX0_reachedBy_67 rfl (by decide) ?_
      refine P.ixor (pc' := 69) dX0_reachedBy_68 rfl ?_
      refine P.iand (pc' := 70) dX0_reachedBy_69 rfl ?_
      obtain ⟨x9, e10, hf⟩ := nm_i hf
      refine P.nmi e10 ?_
      refine P.istore (pc' := 72) (lv' := [(5, .int x9), (0, .ref this), (1, .int p1), (2, .int p2), (4, .int x6)]) dX0_reachedBy_70 rfl (Nat.le_of_ble_eq_true rfl) rfl ?_
      refine P.iconst (v := (-1)) (pc' := 73) dX0_reachedBy_72 rfl (by decide) ?_
      refine P.istore (pc' := 75) (lv' := [(6, .int (-1)), (5, .int x9), (0, .ref this), (1, .int p1), (2, .int p2), (4, .int x6)]) dX0_reachedBy_73 rfl (Nat.le_of_ble_eq_true rfl) rfl ?_
      exact PW.sub [2, 3, 4, 5, 1, 0] rfl (ok_f_X0_reachedBy_L75 F this p1 p2 x6 μ F _ _ hf)
  · have hf := (if_pos y5).symm.trans hf
    refine P.iconst (v := 0) (pc' := 11) dX0_reachedBy_10 rfl (by decide) ?_
    refine P.goto (tgt := 17) dX0_reachedBy_11 (by decide) ?_
    refine P.ior (pc' := 18) dX0_reachedBy_17 rfl ?_
    obtain ⟨x11, e12, hf⟩ := nm_i hf
    refine P.nmi e12 ?_
    refine P.istore (pc' := 20) (lv' := [(4, .int x11), (0, .ref this), (1, .int p1), (2, .int p2), (3, .int p3)]) dX0_reachedBy_18 rfl (Nat.le_of_ble_eq_true rfl) rfl ?_
    refine P.iconst (v := 0) (pc' := 21) dX0_reachedBy_20 rfl (by decide) ?_
    refine P.istore (pc' := 23) (lv' := [(5, .int 0), (4, .int x11), (0, .ref this), (1, .int p1), (2, .int p2), (3, .int p3)]) dX0_reachedBy_21 rfl (Nat.le_of_ble_eq_true rfl) rfl ?_
    refine P.iconst (v := 0) (pc' := 24) dX0_reachedBy_23 rfl (by decide) ?_
    refine P.istore (pc' := 26) (lv' := [(6, .int 0), (5, .int 0), (4, .int x11), (0, .ref this), (1, .int p1), (2, .int p2), (3, .int p3)]) dX0_reachedBy_24 rfl (Nat.le_of_ble_eq_true rfl) rfl ?_
    refine PW.sub [3, 4, 5, 2, 1, 0] rfl (ok_f_X0_reachedBy_L26 F this p1 p2 x11 μ _ ?_ F _ _ hf)
    · intro w13 hf
      refine P.iload 4 (pc' := 65) dX0_reachedBy_63 rfl rfl ?_
      refine P.iload 3 (pc' := 67) dX0_reachedBy_65 rfl rfl ?_
      refine P.iconst (v := (-1)) (pc' := 68) dX0_reachedBy_67 rfl (by decide) ?_
      refine P.ixor (pc' := 69) dX0_reachedBy_68 rfl ?_
      refine P.iand (pc' := 70) dX0_reachedBy_69 rfl ?_
      obtain ⟨x14, e15, hf⟩ := nm_i hf
      refine P.nmi e15 ?_
      refine P.istore (pc' := 72) (lv' := [(5, .int x14), (0, .ref this), (1, .int p1), (2, .int p2), (4, .int x11)]) dX0_reachedBy_70 rfl (Nat.le_of_ble_eq_true rfl) rfl ?_
      refine P.iconst (v := (-1)) (pc' := 73) dX0_reachedBy_72 rfl (by decide) ?_
      refine P.istore (pc' := 75) (lv' := [(6, .int (-1)), (5, .int x14), (0, .ref this), (1, .int p1), (2, .int p2), (4, .int x11)]) dX0_reachedBy_73 rfl (Nat.le_of_ble_eq_true rfl) rfl ?_
      exact PW.sub [2, 3, 4, 5, 1, 0] rfl (ok_f_X0_reachedBy_L75 F this p1 p2 x11 μ F _ _ hf)
theorem yok_X0_reachedBy : yOK yX0_reachedBy 3 := ⟨by decide +kernel, by decide +kernel, by decide +kernel⟩
abbrev mX0_reachedAt : Ym := (RX0, cX0_reachedAt, 2, (some Jvm.ClassFile.FieldType.int), false, [])
noncomputable def f_X0_reachedAt (F : Nat) (this : Nat) (p1 : Int32) (μ : Sw) : Option (Int32 × Sw) :=
  Option.bind (oc μ this 0) fun u3 =>
  Option.bind (f_X0_tideAt F this p1 μ) fun q1 =>
  Option.bind (oc q1.2 this 0) fun u7 =>
  Option.bind (f_X0_reachedBy F this q1.1 (-1) (-1) q1.2) fun q5 =>
  some (q5, q1.2)
set_option maxHeartbeats 4000000 in
theorem ok_X0_reachedAt {g : Gx} (F : Nat) (this : Nat) (p1 : Int32) (μ : Sw) {rv : Int32} {μF : Sw} (hf : f_X0_reachedAt F this p1 μ = some (rv, μF)) : Cl g 413 yX0_reachedAt cX0_reachedAt 2 (some Jvm.ClassFile.FieldType.int) [.ref this, .int p1] μ (some (.int rv)) μF := by
  unfold f_X0_reachedAt at hf
  refine Cl.of (own := RX0) (ini := false) (by decide +kernel) rfl (by decide) (Nat.le_of_ble_eq_true rfl) ?_
  show PW g mX0_reachedAt 413 μ μF (QN g (some (.int rv)) μ μF) 0 [(0, .ref this), (1, .int p1)] [] μ
  refine P.aload_n 0 (pc' := 1) dX0_reachedAt_0 rfl rfl rfl ?_
  refine P.aload_n 0 (pc' := 2) dX0_reachedAt_1 rfl rfl rfl ?_
  refine P.iload_n 1 (pc' := 3) dX0_reachedAt_2 rfl rfl rfl ?_
  obtain ⟨u3, h4, hf⟩ := ob hf
  obtain ⟨q1, h2, hf⟩ := ob hf
  refine P.callV (pc' := 6) (As := [.int p1]) 1 (ok_X0_tideAt F this p1 μ h2) (Nat.le_of_ble_eq_true rfl) (lw_V q1116 q1118 qs40 q159 q1119) rfl yok_X0_tideAt rfl (Nat.le_of_ble_eq_true rfl) ci0 h4 (Nat.le_of_ble_eq_true rfl) rfl dX0_reachedAt_3 rfl ?_
  refine P.iconst (v := (-1)) (pc' := 7) dX0_reachedAt_6 rfl (by decide) ?_
  refine P.iconst (v := (-1)) (pc' := 8) dX0_reachedAt_7 rfl (by decide) ?_
  obtain ⟨u7, h8, hf⟩ := ob hf
  obtain ⟨q5, h6, hf⟩ := ob hf
  refine P.callV (pc' := 11) (As := [.int q1.1, .int (-1), .int (-1)]) 3 (ok_X0_reachedBy F this q1.1 (-1) (-1) q1.2 h6) (Nat.le_of_ble_eq_true rfl) (lw_V q1148 q1150 qs44 q159 q1151) rfl yok_X0_reachedBy rfl (Nat.le_of_ble_eq_true rfl) ci0 h8 (by decide) rfl dX0_reachedAt_8 rfl ?_
  cases hf; exact P.iret rfl dX0_reachedAt_11
theorem yok_X0_reachedAt : yOK yX0_reachedAt 1 := ⟨by decide +kernel, by decide +kernel, by decide +kernel⟩
abbrev mX0_reached : Ym := (RX0, cX0_reached, 2, (some Jvm.ClassFile.FieldType.int), false, [])
noncomputable def f_X0_reached (F : Nat) (this : Nat) (p1 : Int32) (μ : Sw) : Option (Int32 × Sw) :=
  Option.bind (p_X0_isHour F p1) fun q1 =>
  if q1 = 0 then
    some ((-1), μ)
  else
    Option.bind (oc μ this 0) fun u6 =>
    Option.bind (f_X0_reachedAt F this p1 μ) fun q4 =>
    some (q4.1, q4.2)
set_option maxHeartbeats 4000000 in
theorem ok_X0_reached {g : Gx} (F : Nat) (this : Nat) (p1 : Int32) (μ : Sw) {rv : Int32} {μF : Sw} (hf : f_X0_reached F this p1 μ = some (rv, μF)) : Cl g 414 yX0_reached cX0_reached 2 (some Jvm.ClassFile.FieldType.int) [.ref this, .int p1] μ (some (.int rv)) μF := by
  unfold f_X0_reached at hf
  refine Cl.of (own := RX0) (ini := false) (by decide +kernel) rfl (by decide) (Nat.le_of_ble_eq_true rfl) ?_
  show PW g mX0_reached 414 μ μF (QN g (some (.int rv)) μ μF) 0 [(0, .ref this), (1, .int p1)] [] μ
  refine P.iload_n 1 (pc' := 1) dX0_reached_0 rfl rfl rfl ?_
  obtain ⟨q1, h2, hf⟩ := ob hf
  refine P.callS (pc' := 4) (As := [.int p1]) 1 (ok_X0_isHour F p1 μ h2) (Nat.le_of_ble_eq_true rfl) (lw_S q1113 q1114 q159 q1115) yok_X0_isHour rfl (Nat.le_of_ble_eq_true rfl) (by decide) rfl dX0_reached_1 rfl ?_
  refine P.if_eq (tgt := 15) (pc' := 7) dX0_reached_4 (by decide) rfl (fun y3 => ?_) (fun y3 => ?_)
  · have hf := (if_pos y3).symm.trans hf
    refine P.iconst (v := (-1)) (pc' := 16) dX0_reached_15 rfl (by decide) ?_
    cases hf; exact P.iret rfl dX0_reached_16
  · have hf := (if_neg y3).symm.trans hf
    refine P.aload_n 0 (pc' := 8) dX0_reached_7 rfl rfl rfl ?_
    refine P.iload_n 1 (pc' := 9) dX0_reached_8 rfl rfl rfl ?_
    obtain ⟨u6, h7, hf⟩ := ob hf
    obtain ⟨q4, h5, hf⟩ := ob hf
    refine P.callV (pc' := 12) (As := [.int p1]) 1 (ok_X0_reachedAt F this p1 μ h5) (Nat.le_of_ble_eq_true rfl) (lw_V q1144 q1146 qs43 q159 q1147) rfl yok_X0_reachedAt rfl (Nat.le_of_ble_eq_true rfl) ci0 h7 (by decide) rfl dX0_reached_9 rfl ?_
    refine P.goto (tgt := 16) dX0_reached_12 (by decide) ?_
    cases hf; exact P.iret rfl dX0_reached_16
abbrev mX0_hours : Ym := (RX0, cX0_hours, 4, (some Jvm.ClassFile.FieldType.int), false, [])
noncomputable def f_X0_hours_L14_b (F : Nat) (c0 : Nat) (c1 : Int32) (self : Int32 → Int32 → Sw → Option (Int32 × Sw)) (v2 : Int32) (v3 : Int32) (μ : Sw) : Option (Int32 × Sw) :=
  if 24 ≤ v3 then
    some (v2, μ)
  else
    Option.bind (oc μ c0 0) fun u4 =>
    Option.bind (f_X0_reachedAt F c0 v3 μ) fun q2 =>
    nm (v2 + ((q2.1 >>> (c1 &&& 31)) &&& 1)) fun x6 =>
    nm (v3 + 1) fun x8 =>
    self x6 x8 q2.2
noncomputable def f_X0_hours_L14 (F : Nat) (c0 : Nat) (c1 : Int32) (n : Nat) : Int32 → Int32 → Sw → Option (Int32 × Sw) := Nat.rec (motive := fun _ => Int32 → Int32 → Sw → Option (Int32 × Sw)) (fun _ _ _ => none) (fun _ self => f_X0_hours_L14_b F c0 c1 self) n
set_option maxHeartbeats 4000000 in
theorem ok_f_X0_hours_L14 {g : Gx} {μ0 : Sw} {rv : Int32} {μF : Sw} (F : Nat) (c0 : Nat) (c1 : Int32) : ∀ (n : Nat) (v2 : Int32) (v3 : Int32) (μ : Sw), f_X0_hours_L14 F c0 c1 n v2 v3 μ = some (rv, μF) → PW g mX0_hours 414 μ0 μF (QN g (some (.int rv)) μ0 μF) 14 [(0, .ref c0), (1, .int c1), (2, .int v2), (3, .int v3)] [] μ := by
  intro n
  induction n with
  | zero =>
    intro v2 v3 μ hf
    have hf : (none : Option (Int32 × Sw)) = some _ := hf
    cases hf
  | succ n ih =>
    intro v2 v3 μ hf
    have hf : f_X0_hours_L14_b F c0 c1 (f_X0_hours_L14 F c0 c1 n) v2 v3 μ = some (rv, μF) := hf
    unfold f_X0_hours_L14_b at hf
    refine P.iload_n 3 (pc' := 15) dX0_hours_14 rfl rfl rfl ?_
    refine P.bipush (v := 24) (pc' := 17) dX0_hours_15 rfl (by decide) ?_
    refine P.icmp_ge (tgt := 38) (pc' := 20) dX0_hours_17 (by decide) rfl (fun y1 => ?_) (fun y1 => ?_)
    · have hf := (if_pos y1).symm.trans hf
      refine P.iload_n 2 (pc' := 39) dX0_hours_38 rfl rfl rfl ?_
      cases hf; exact P.iret rfl dX0_hours_39
    · have hf := (if_neg y1).symm.trans hf
      refine P.iload_n 2 (pc' := 21) dX0_hours_20 rfl rfl rfl ?_
      refine P.aload_n 0 (pc' := 22) dX0_hours_21 rfl rfl rfl ?_
      refine P.iload_n 3 (pc' := 23) dX0_hours_22 rfl rfl rfl ?_
      obtain ⟨u4, h5, hf⟩ := ob hf
      obtain ⟨q2, h3, hf⟩ := ob hf
      refine P.callV (pc' := 26) (As := [.int v3]) 1 (ok_X0_reachedAt F c0 v3 μ h3) (Nat.le_of_ble_eq_true rfl) (lw_V q1144 q1146 qs43 q159 q1147) rfl yok_X0_reachedAt rfl (Nat.le_of_ble_eq_true rfl) ci0 h5 (Nat.le_of_ble_eq_true rfl) rfl dX0_hours_23 rfl ?_
      refine P.iload_n 1 (pc' := 27) dX0_hours_26 rfl rfl rfl ?_
      refine P.ishr (pc' := 28) dX0_hours_27 rfl ?_
      refine P.iconst (v := 1) (pc' := 29) dX0_hours_28 rfl (by decide) ?_
      refine P.iand (pc' := 30) dX0_hours_29 rfl ?_
      refine P.iadd (pc' := 31) dX0_hours_30 rfl ?_
      obtain ⟨x6, e7, hf⟩ := nm_i hf
      refine P.nmi e7 ?_
      refine P.istore_n (pc' := 32) (lv' := [(2, .int x6), (0, .ref c0), (1, .int c1), (3, .int v3)]) dX0_hours_31 rfl rfl (Nat.le_of_ble_eq_true rfl) rfl ?_
      obtain ⟨x8, e9, hf⟩ := nm_i hf
      refine P.iinc 3 (pc' := 35) (lv' := [(3, .int x8), (2, .int x6), (0, .ref c0), (1, .int c1)]) dX0_hours_32 rfl rfl (by decide) e9 (Nat.le_of_ble_eq_true rfl) rfl ?_
      refine P.goto (tgt := 14) dX0_hours_35 (by decide) ?_
      exact PW.sub [2, 3, 1, 0] rfl (ih _ _ _ hf)
noncomputable def f_X0_hours (F : Nat) (this : Nat) (p1 : Int32) (μ : Sw) : Option (Int32 × Sw) :=
  Option.bind (oc μ this 0) fun u3 =>
  Option.bind (f_X0_isHouse F this p1 μ) fun q1 =>
  if q1 = 0 then
    some ((-1), μ)
  else
    f_X0_hours_L14 F this p1 F 0 0 μ
set_option maxHeartbeats 4000000 in
theorem ok_X0_hours {g : Gx} (F : Nat) (this : Nat) (p1 : Int32) (μ : Sw) {rv : Int32} {μF : Sw} (hf : f_X0_hours F this p1 μ = some (rv, μF)) : Cl g 414 yX0_hours cX0_hours 4 (some Jvm.ClassFile.FieldType.int) [.ref this, .int p1] μ (some (.int rv)) μF := by
  unfold f_X0_hours at hf
  refine Cl.of (own := RX0) (ini := false) (by decide +kernel) rfl (by decide) (Nat.le_of_ble_eq_true rfl) ?_
  show PW g mX0_hours 414 μ μF (QN g (some (.int rv)) μ μF) 0 [(0, .ref this), (1, .int p1)] [] μ
  refine P.aload_n 0 (pc' := 1) dX0_hours_0 rfl rfl rfl ?_
  refine P.iload_n 1 (pc' := 2) dX0_hours_1 rfl rfl rfl ?_
  obtain ⟨u3, h4, hf⟩ := ob hf
  obtain ⟨q1, h2, hf⟩ := ob hf
  refine P.callV (pc' := 5) (As := [.int p1]) 1 (ok_X0_isHouse F this p1 μ h2) (Nat.le_of_ble_eq_true rfl) (lw_V q1030 q1032 qs33 q159 q1033) rfl yok_X0_isHouse rfl (Nat.le_of_ble_eq_true rfl) ci0 h4 (by decide) rfl dX0_hours_2 rfl ?_
  refine P.if_ne (tgt := 10) (pc' := 8) dX0_hours_5 (by decide) rfl (fun y5 => ?_) (fun y5 => ?_)
  · have hf := (if_neg y5).symm.trans hf
    refine P.iconst (v := 0) (pc' := 11) dX0_hours_10 rfl (by decide) ?_
    refine P.istore_n (pc' := 12) (lv' := [(2, .int 0), (0, .ref this), (1, .int p1)]) dX0_hours_11 rfl rfl (Nat.le_of_ble_eq_true rfl) rfl ?_
    refine P.iconst (v := 0) (pc' := 13) dX0_hours_12 rfl (by decide) ?_
    refine P.istore_n (pc' := 14) (lv' := [(3, .int 0), (2, .int 0), (0, .ref this), (1, .int p1)]) dX0_hours_13 rfl rfl (Nat.le_of_ble_eq_true rfl) rfl ?_
    exact PW.sub [2, 3, 1, 0] rfl (ok_f_X0_hours_L14 F this p1 F _ _ _ hf)
  · have hf := (if_pos y5).symm.trans hf
    refine P.iconst (v := (-1)) (pc' := 9) dX0_hours_8 rfl (by decide) ?_
    cases hf; exact P.iret rfl dX0_hours_9
theorem yok_J15_bitCount : yOK yJ15_bitCount 1 := ⟨by decide +kernel, by decide +kernel, by decide +kernel⟩
abbrev mX0_cutBy : Ym := (RX0, cX0_cutBy, 7, (some Jvm.ClassFile.FieldType.int), false, [])
noncomputable def f_X0_cutBy_j45 (F : Nat) (v4 : Int32) (v5 : Int32) (s0 : Int32) (μ : Sw) : Option Int32 :=
  Option.bind (p_J15_bitCount F ((v4 &&& (v5 ^^^ (-1))) &&& (s0 ^^^ (-1)))) fun q1 =>
  some q1
set_option maxHeartbeats 4000000 in
theorem ok_f_X0_cutBy_j45 {g : Gx} {μ0 : Sw} {rv : Int32} (F : Nat) (v4 : Int32) (v5 : Int32) (s0 : Int32) (μ : Sw) (hf : f_X0_cutBy_j45 F v4 v5 s0 μ = some rv) : PW g mX0_cutBy 5 μ0 μ (QN g (some (.int rv)) μ0 μ) 45 [(4, .int v4), (5, .int v5)] [.int s0] μ := by
  unfold f_X0_cutBy_j45 at hf
  refine P.istore (pc' := 47) (lv' := [(6, .int s0), (4, .int v4), (5, .int v5)]) dX0_cutBy_45 rfl (Nat.le_of_ble_eq_true rfl) rfl ?_
  refine P.iload 1 (pc' := 49) dX0_cutBy_47 rfl rfl ?_
  refine P.iload 2 (pc' := 51) dX0_cutBy_49 rfl rfl ?_
  refine P.iconst (v := (-1)) (pc' := 52) dX0_cutBy_51 rfl (by decide) ?_
  refine P.ixor (pc' := 53) dX0_cutBy_52 rfl ?_
  refine P.iand (pc' := 54) dX0_cutBy_53 rfl ?_
  refine P.iload 0 (pc' := 56) dX0_cutBy_54 rfl rfl ?_
  refine P.iconst (v := (-1)) (pc' := 57) dX0_cutBy_56 rfl (by decide) ?_
  refine P.ixor (pc' := 58) dX0_cutBy_57 rfl ?_
  refine P.iand (pc' := 59) dX0_cutBy_58 rfl ?_
  obtain ⟨q1, h2, hf⟩ := ob hf
  refine P.callS (pc' := 62) (As := [.int ((v4 &&& (v5 ^^^ (-1))) &&& (s0 ^^^ (-1)))]) 1 (ok_J15_bitCount F ((v4 &&& (v5 ^^^ (-1))) &&& (s0 ^^^ (-1))) μ h2) (Nat.le_of_ble_eq_true rfl) (lw_S q1168 q1169 q193 q1170) yok_J15_bitCount rfl (Nat.le_of_ble_eq_true rfl) (by decide) rfl dX0_cutBy_59 rfl ?_
  cases hf; exact P.iret rfl dX0_cutBy_62
noncomputable def f_X0_cutBy_j29 (F : Nat) (v1 : Int32) (v2 : Int32) (v4 : Int32) (s0 : Nat) (s1 : Int32) (s2 : Int32) (s3 : Int32) (μ : Sw) : Option Int32 :=
  Option.bind (oc μ s0 0) fun u3 =>
  Option.bind (f_X0_reachedBy F s0 s1 s2 s3 μ) fun q1 =>
  if v2 = 0 then
    f_X0_cutBy_j45 F v4 q1 ((1 : Int32) <<< (v1 &&& 31)) μ
  else
    f_X0_cutBy_j45 F v4 q1 0 μ
set_option maxHeartbeats 4000000 in
theorem ok_f_X0_cutBy_j29 {g : Gx} {μ0 : Sw} {rv : Int32} (F : Nat) (v1 : Int32) (v2 : Int32) (v4 : Int32) (s0 : Nat) (s1 : Int32) (s2 : Int32) (s3 : Int32) (μ : Sw) (hf : f_X0_cutBy_j29 F v1 v2 v4 s0 s1 s2 s3 μ = some rv) : PW g mX0_cutBy 5 μ0 μ (QN g (some (.int rv)) μ0 μ) 29 [(1, .int v1), (2, .int v2), (4, .int v4)] [.int s3, .int s2, .int s1, .ref s0] μ := by
  unfold f_X0_cutBy_j29 at hf
  obtain ⟨u3, h4, hf⟩ := ob hf
  obtain ⟨q1, h2, hf⟩ := ob hf
  refine P.callV (pc' := 32) (As := [.int s1, .int s2, .int s3]) 3 (ok_X0_reachedBy F s0 s1 s2 s3 μ h2) (Nat.le_of_ble_eq_true rfl) (lw_V q1148 q1150 qs44 q159 q1151) rfl yok_X0_reachedBy rfl (Nat.le_of_ble_eq_true rfl) ci0 h4 (by decide) rfl dX0_cutBy_29 rfl ?_
  refine P.istore (pc' := 34) (lv' := [(5, .int q1), (1, .int v1), (2, .int v2), (4, .int v4)]) dX0_cutBy_32 rfl (Nat.le_of_ble_eq_true rfl) rfl ?_
  refine P.iload_n 2 (pc' := 35) dX0_cutBy_34 rfl rfl rfl ?_
  refine P.if_eq (tgt := 42) (pc' := 38) dX0_cutBy_35 (by decide) rfl (fun y5 => ?_) (fun y5 => ?_)
  · have hf := (if_pos y5).symm.trans hf
    refine P.iconst (v := 1) (pc' := 43) dX0_cutBy_42 rfl (by decide) ?_
    refine P.iload_n 1 (pc' := 44) dX0_cutBy_43 rfl rfl rfl ?_
    refine P.ishl (pc' := 45) dX0_cutBy_44 rfl ?_
    exact PW.sub [3, 0] rfl (ok_f_X0_cutBy_j45 F v4 q1 ((1 : Int32) <<< (v1 &&& 31)) μ hf)
  · have hf := (if_neg y5).symm.trans hf
    refine P.iconst (v := 0) (pc' := 39) dX0_cutBy_38 rfl (by decide) ?_
    refine P.goto (tgt := 45) dX0_cutBy_39 (by decide) ?_
    exact PW.sub [3, 0] rfl (ok_f_X0_cutBy_j45 F v4 q1 0 μ hf)
noncomputable def f_X0_cutBy_j20 (F : Nat) (v1 : Int32) (v2 : Int32) (v4 : Int32) (s0 : Nat) (s1 : Int32) (s2 : Int32) (μ : Sw) : Option Int32 :=
  if v2 = 0 then
    f_X0_cutBy_j29 F v1 v2 v4 s0 s1 s2 v1 μ
  else
    f_X0_cutBy_j29 F v1 v2 v4 s0 s1 s2 (-1) μ
set_option maxHeartbeats 4000000 in
theorem ok_f_X0_cutBy_j20 {g : Gx} {μ0 : Sw} {rv : Int32} (F : Nat) (v1 : Int32) (v2 : Int32) (v4 : Int32) (s0 : Nat) (s1 : Int32) (s2 : Int32) (μ : Sw) (hf : f_X0_cutBy_j20 F v1 v2 v4 s0 s1 s2 μ = some rv) : PW g mX0_cutBy 5 μ0 μ (QN g (some (.int rv)) μ0 μ) 20 [(1, .int v1), (2, .int v2), (4, .int v4)] [.int s2, .int s1, .ref s0] μ := by
  unfold f_X0_cutBy_j20 at hf
  refine P.iload_n 1 (pc' := 21) dX0_cutBy_20 rfl rfl rfl ?_
  refine P.if_eq (tgt := 28) (pc' := 24) dX0_cutBy_21 (by decide) rfl (fun y1 => ?_) (fun y1 => ?_)
  · have hf := (if_pos y1).symm.trans hf
    refine P.iload_n 0 (pc' := 29) dX0_cutBy_28 rfl rfl rfl ?_
    exact PW.sub [0, 1, 2] rfl (ok_f_X0_cutBy_j29 F v1 v2 v4 s0 s1 s2 v1 μ hf)
  · have hf := (if_neg y1).symm.trans hf
    refine P.iconst (v := (-1)) (pc' := 25) dX0_cutBy_24 rfl (by decide) ?_
    refine P.goto (tgt := 29) dX0_cutBy_25 (by decide) ?_
    exact PW.sub [0, 1, 2] rfl (ok_f_X0_cutBy_j29 F v1 v2 v4 s0 s1 s2 (-1) μ hf)
noncomputable def f_X0_cutBy (F : Nat) (this : Nat) (p1 : Int32) (p2 : Int32) (p3 : Int32) (μ : Sw) : Option Int32 :=
  Option.bind (oc μ this 0) fun u3 =>
  Option.bind (f_X0_reachedBy F this p3 (-1) (-1) μ) fun q1 =>
  if p2 = 0 then
    f_X0_cutBy_j20 F p1 p2 q1 this p3 (-1) μ
  else
    f_X0_cutBy_j20 F p1 p2 q1 this p3 p1 μ
set_option maxHeartbeats 4000000 in
theorem ok_X0_cutBy {g : Gx} (F : Nat) (this : Nat) (p1 : Int32) (p2 : Int32) (p3 : Int32) (μ : Sw) {rv : Int32} (hf : f_X0_cutBy F this p1 p2 p3 μ = some rv) : Cl g 5 yX0_cutBy cX0_cutBy 7 (some Jvm.ClassFile.FieldType.int) [.ref this, .int p1, .int p2, .int p3] μ (some (.int rv)) μ := by
  unfold f_X0_cutBy at hf
  refine Cl.of (own := RX0) (ini := false) (by decide +kernel) rfl (by decide) (Nat.le_of_ble_eq_true rfl) ?_
  show PW g mX0_cutBy 5 μ μ (QN g (some (.int rv)) μ μ) 0 [(0, .ref this), (1, .int p1), (2, .int p2), (3, .int p3)] [] μ
  refine P.aload_n 0 (pc' := 1) dX0_cutBy_0 rfl rfl rfl ?_
  refine P.iload_n 3 (pc' := 2) dX0_cutBy_1 rfl rfl rfl ?_
  refine P.iconst (v := (-1)) (pc' := 3) dX0_cutBy_2 rfl (by decide) ?_
  refine P.iconst (v := (-1)) (pc' := 4) dX0_cutBy_3 rfl (by decide) ?_
  obtain ⟨u3, h4, hf⟩ := ob hf
  obtain ⟨q1, h2, hf⟩ := ob hf
  refine P.callV (pc' := 7) (As := [.int p3, .int (-1), .int (-1)]) 3 (ok_X0_reachedBy F this p3 (-1) (-1) μ h2) (Nat.le_of_ble_eq_true rfl) (lw_V q1148 q1150 qs44 q159 q1151) rfl yok_X0_reachedBy rfl (Nat.le_of_ble_eq_true rfl) ci0 h4 (by decide) rfl dX0_cutBy_4 rfl ?_
  refine P.istore (pc' := 9) (lv' := [(4, .int q1), (0, .ref this), (1, .int p1), (2, .int p2), (3, .int p3)]) dX0_cutBy_7 rfl (Nat.le_of_ble_eq_true rfl) rfl ?_
  refine P.aload_n 1 (pc' := 10) dX0_cutBy_9 rfl rfl rfl ?_
  refine P.iload_n 4 (pc' := 11) dX0_cutBy_10 rfl rfl rfl ?_
  refine P.iload_n 3 (pc' := 12) dX0_cutBy_11 rfl rfl rfl ?_
  refine P.if_eq (tgt := 19) (pc' := 15) dX0_cutBy_12 (by decide) rfl (fun y5 => ?_) (fun y5 => ?_)
  · have hf := (if_pos y5).symm.trans hf
    refine P.iconst (v := (-1)) (pc' := 20) dX0_cutBy_19 rfl (by decide) ?_
    exact PW.sub [2, 3, 0] rfl (ok_f_X0_cutBy_j20 F p1 p2 q1 this p3 (-1) μ hf)
  · have hf := (if_neg y5).symm.trans hf
    refine P.iload_n 2 (pc' := 16) dX0_cutBy_15 rfl rfl rfl ?_
    refine P.goto (tgt := 20) dX0_cutBy_16 (by decide) ?_
    exact PW.sub [2, 3, 0] rfl (ok_f_X0_cutBy_j20 F p1 p2 q1 this p3 p1 μ hf)
theorem yok_X0_cutBy : yOK yX0_cutBy 3 := ⟨by decide +kernel, by decide +kernel, by decide +kernel⟩
abbrev mX0_cut : Ym := (RX0, cX0_cut, 4, (some Jvm.ClassFile.FieldType.int), false, [])
noncomputable def f_X0_cut (F : Nat) (this : Nat) (p1 : Int32) (p2 : Int32) (p3 : Int32) (μ : Sw) : Option (Int32 × Sw) :=
  Option.bind (p_X0_isHour F p3) fun q1 =>
  if q1 = 0 then
    some ((-1), μ)
  else
    if p2 = 0 then
      Option.bind (oc μ this 0) fun u7 =>
      Option.bind (f_X0_isHouse F this p1 μ) fun q5 =>
      if q5 = 0 then
        some ((-1), μ)
      else
        Option.bind (oc μ this 0) fun u12 =>
        Option.bind (f_X0_tideAt F this p3 μ) fun q10 =>
        Option.bind (oc q10.2 this 0) fun u16 =>
        Option.bind (f_X0_cutBy F this p1 p2 q10.1 q10.2) fun q14 =>
        some (q14, q10.2)
    else
      Option.bind (gfR μ this 0 3) fun x18 =>
      Option.bind (gfR μ x18 3 1) fun x20 =>
      Option.bind (oc μ x20 20) fun u24 =>
      Option.bind (f_J2_size F x20 μ) fun q22 =>
      Option.bind (p_X0_within F p1 0 (q22 - 1)) fun q26 =>
      if q26 = 0 then
        some ((-1), μ)
      else
        Option.bind (oc μ this 0) fun u31 =>
        Option.bind (f_X0_tideAt F this p3 μ) fun q29 =>
        Option.bind (oc q29.2 this 0) fun u35 =>
        Option.bind (f_X0_cutBy F this p1 p2 q29.1 q29.2) fun q33 =>
        some (q33, q29.2)
set_option maxHeartbeats 4000000 in
theorem ok_X0_cut {g : Gx} (F : Nat) (this : Nat) (p1 : Int32) (p2 : Int32) (p3 : Int32) (μ : Sw) {rv : Int32} {μF : Sw} (hf : f_X0_cut F this p1 p2 p3 μ = some (rv, μF)) : Cl g 413 yX0_cut cX0_cut 4 (some Jvm.ClassFile.FieldType.int) [.ref this, .int p1, .int p2, .int p3] μ (some (.int rv)) μF := by
  unfold f_X0_cut at hf
  refine Cl.of (own := RX0) (ini := false) (by decide +kernel) rfl (by decide) (Nat.le_of_ble_eq_true rfl) ?_
  show PW g mX0_cut 413 μ μF (QN g (some (.int rv)) μ μF) 0 [(0, .ref this), (1, .int p1), (2, .int p2), (3, .int p3)] [] μ
  refine P.iload_n 3 (pc' := 1) dX0_cut_0 rfl rfl rfl ?_
  obtain ⟨q1, h2, hf⟩ := ob hf
  refine P.callS (pc' := 4) (As := [.int p3]) 1 (ok_X0_isHour F p3 μ h2) (Nat.le_of_ble_eq_true rfl) (lw_S q1113 q1114 q159 q1115) yok_X0_isHour rfl (Nat.le_of_ble_eq_true rfl) (by decide) rfl dX0_cut_1 rfl ?_
  refine P.if_eq (tgt := 56) (pc' := 7) dX0_cut_4 (by decide) rfl (fun y3 => ?_) (fun y3 => ?_)
  · have hf := (if_pos y3).symm.trans hf
    refine P.iconst (v := (-1)) (pc' := 57) dX0_cut_56 rfl (by decide) ?_
    cases hf; exact P.iret rfl dX0_cut_57
  · have hf := (if_neg y3).symm.trans hf
    refine P.iload_n 2 (pc' := 8) dX0_cut_7 rfl rfl rfl ?_
    refine P.if_eq (tgt := 34) (pc' := 11) dX0_cut_8 (by decide) rfl (fun y4 => ?_) (fun y4 => ?_)
    · have hf := (if_pos y4).symm.trans hf
      refine P.aload_n 0 (pc' := 35) dX0_cut_34 rfl rfl rfl ?_
      refine P.iload_n 1 (pc' := 36) dX0_cut_35 rfl rfl rfl ?_
      obtain ⟨u7, h8, hf⟩ := ob hf
      obtain ⟨q5, h6, hf⟩ := ob hf
      refine P.callV (pc' := 39) (As := [.int p1]) 1 (ok_X0_isHouse F this p1 μ h6) (Nat.le_of_ble_eq_true rfl) (lw_V q1030 q1032 qs33 q159 q1033) rfl yok_X0_isHouse rfl (Nat.le_of_ble_eq_true rfl) ci0 h8 (by decide) rfl dX0_cut_36 rfl ?_
      refine P.if_eq (tgt := 56) (pc' := 42) dX0_cut_39 (by decide) rfl (fun y9 => ?_) (fun y9 => ?_)
      · have hf := (if_pos y9).symm.trans hf
        refine P.iconst (v := (-1)) (pc' := 57) dX0_cut_56 rfl (by decide) ?_
        cases hf; exact P.iret rfl dX0_cut_57
      · have hf := (if_neg y9).symm.trans hf
        refine P.aload_n 0 (pc' := 43) dX0_cut_42 rfl rfl rfl ?_
        refine P.iload_n 1 (pc' := 44) dX0_cut_43 rfl rfl rfl ?_
        refine P.iload_n 2 (pc' := 45) dX0_cut_44 rfl rfl rfl ?_
        refine P.aload_n 0 (pc' := 46) dX0_cut_45 rfl rfl rfl ?_
        refine P.iload_n 3 (pc' := 47) dX0_cut_46 rfl rfl rfl ?_
        obtain ⟨u12, h13, hf⟩ := ob hf
        obtain ⟨q10, h11, hf⟩ := ob hf
        refine P.callV (pc' := 50) (As := [.int p3]) 1 (ok_X0_tideAt F this p3 μ h11) (Nat.le_of_ble_eq_true rfl) (lw_V q1116 q1118 qs40 q159 q1119) rfl yok_X0_tideAt rfl (Nat.le_of_ble_eq_true rfl) ci0 h13 (Nat.le_of_ble_eq_true rfl) rfl dX0_cut_47 rfl ?_
        obtain ⟨u16, h17, hf⟩ := ob hf
        obtain ⟨q14, h15, hf⟩ := ob hf
        refine P.callV (pc' := 53) (As := [.int p1, .int p2, .int q10.1]) 3 (ok_X0_cutBy F this p1 p2 q10.1 q10.2 h15) (Nat.le_of_ble_eq_true rfl) (lw_V q1164 q1166 qs46 q159 q1167) rfl yok_X0_cutBy rfl (Nat.le_of_ble_eq_true rfl) ci0 h17 (by decide) rfl dX0_cut_50 rfl ?_
        refine P.goto (tgt := 57) dX0_cut_53 (by decide) ?_
        cases hf; exact P.iret rfl dX0_cut_57
    · have hf := (if_neg y4).symm.trans hf
      refine P.iload_n 1 (pc' := 12) dX0_cut_11 rfl rfl rfl ?_
      refine P.iconst (v := 0) (pc' := 13) dX0_cut_12 rfl (by decide) ?_
      refine P.aload_n 0 (pc' := 14) dX0_cut_13 rfl rfl rfl ?_
      obtain ⟨x18, h19, hf⟩ := ob hf
      refine P.get (pc' := 17) ci0 3 (by decide) (gfR_spec h19) q478 (Or.inl rfl) dX0_cut_14 rfl ?_
      obtain ⟨x20, h21, hf⟩ := ob hf
      refine P.getN (pc' := 20) ci3 1 (by decide) (gfR_spec h21) q332 (Or.inl rfl) dX0_cut_17 rfl ?_
      obtain ⟨u24, h25, hf⟩ := ob hf
      obtain ⟨q22, h23, hf⟩ := ob hf
      refine P.callV (pc' := 23) (As := []) 0 (ok_J2_size F x20 μ h23) (Nat.le_of_ble_eq_true rfl) (lw_V q1006 q669 q670 q165 q671) rfl yok_J2_size rfl (Nat.le_of_ble_eq_true rfl) ci20 h25 (Nat.le_of_ble_eq_true rfl) rfl dX0_cut_20 rfl ?_
      refine P.iconst (v := 1) (pc' := 24) dX0_cut_23 rfl (by decide) ?_
      refine P.isub (pc' := 25) dX0_cut_24 rfl ?_
      obtain ⟨q26, h27, hf⟩ := ob hf
      refine P.callS (pc' := 28) (As := [.int p1, .int 0, .int (q22 - 1)]) 3 (ok_X0_within F p1 0 (q22 - 1) μ h27) (Nat.le_of_ble_eq_true rfl) (lw_S q1038 q557 q159 q558) yok_X0_within rfl (Nat.le_of_ble_eq_true rfl) (by decide) rfl dX0_cut_25 rfl ?_
      refine P.if_eq (tgt := 56) (pc' := 31) dX0_cut_28 (by decide) rfl (fun y28 => ?_) (fun y28 => ?_)
      · have hf := (if_pos y28).symm.trans hf
        refine P.iconst (v := (-1)) (pc' := 57) dX0_cut_56 rfl (by decide) ?_
        cases hf; exact P.iret rfl dX0_cut_57
      · have hf := (if_neg y28).symm.trans hf
        refine P.goto (tgt := 42) dX0_cut_31 (by decide) ?_
        refine P.aload_n 0 (pc' := 43) dX0_cut_42 rfl rfl rfl ?_
        refine P.iload_n 1 (pc' := 44) dX0_cut_43 rfl rfl rfl ?_
        refine P.iload_n 2 (pc' := 45) dX0_cut_44 rfl rfl rfl ?_
        refine P.aload_n 0 (pc' := 46) dX0_cut_45 rfl rfl rfl ?_
        refine P.iload_n 3 (pc' := 47) dX0_cut_46 rfl rfl rfl ?_
        obtain ⟨u31, h32, hf⟩ := ob hf
        obtain ⟨q29, h30, hf⟩ := ob hf
        refine P.callV (pc' := 50) (As := [.int p3]) 1 (ok_X0_tideAt F this p3 μ h30) (Nat.le_of_ble_eq_true rfl) (lw_V q1116 q1118 qs40 q159 q1119) rfl yok_X0_tideAt rfl (Nat.le_of_ble_eq_true rfl) ci0 h32 (Nat.le_of_ble_eq_true rfl) rfl dX0_cut_47 rfl ?_
        obtain ⟨u35, h36, hf⟩ := ob hf
        obtain ⟨q33, h34, hf⟩ := ob hf
        refine P.callV (pc' := 53) (As := [.int p1, .int p2, .int q29.1]) 3 (ok_X0_cutBy F this p1 p2 q29.1 q29.2 h34) (Nat.le_of_ble_eq_true rfl) (lw_V q1164 q1166 qs46 q159 q1167) rfl yok_X0_cutBy rfl (Nat.le_of_ble_eq_true rfl) ci0 h36 (by decide) rfl dX0_cut_50 rfl ?_
        refine P.goto (tgt := 57) dX0_cut_53 (by decide) ?_
        cases hf; exact P.iret rfl dX0_cut_57
abbrev mX0_worst : Ym := (RX0, cX0_worst, 8, (some Jvm.ClassFile.FieldType.int), false, [])
noncomputable def f_X0_worst_j48 (F : Nat) (self : Int32 → Int32 → Int32 → Option (Int32 × Sw)) (v0 : Nat) (v1 : Int32) (v3 : Int32) (v4 : Int32) (v5 : Int32) (v6 : Int32) (s0 : Int32) (s1 : Int32) (μ : Sw) : Option (Int32 × Sw) :=
  if s1 ≤ s0 then
    some (v3, μ)
  else
    Option.bind (oc μ v0 0) fun u4 =>
    Option.bind (f_X0_cutBy F v0 v6 v1 v5 μ) fun q2 =>
    if v4 < q2 then
      nm (v6 + 1) fun x7 =>
      self v6 q2 x7
    else
      nm (v6 + 1) fun x9 =>
      self v3 v4 x9
set_option maxHeartbeats 4000000 in
theorem ok_f_X0_worst_j48 {g : Gx} {μ0 : Sw} {rv : Int32} {μF : Sw} (F : Nat) (v0 : Nat) (v1 : Int32) (v3 : Int32) (v4 : Int32) (v5 : Int32) (v6 : Int32) (s0 : Int32) (s1 : Int32) (μ : Sw) (self : Int32 → Int32 → Int32 → Option (Int32 × Sw)) (ih : ∀ (w3 : Int32) (w4 : Int32) (w6 : Int32), self w3 w4 w6 = some (rv, μF) → PW g mX0_worst 413 μ0 μF (QN g (some (.int rv)) μ0 μF) 25 [(0, .ref v0), (1, .int v1), (3, .int w3), (4, .int w4), (5, .int v5), (6, .int w6)] [] μ) (hf : f_X0_worst_j48 F self v0 v1 v3 v4 v5 v6 s0 s1 μ = some (rv, μF)) : PW g mX0_worst 413 μ0 μF (QN g (some (.int rv)) μ0 μF) 48 [(0, .ref v0), (1, .int v1), (3, .int v3), (4, .int v4), (5, .int v5), (6, .int v6)] [.int s1, .int s0] μ := by
  unfold f_X0_worst_j48 at hf
  refine P.icmp_ge (tgt := 85) (pc' := 51) dX0_worst_48 (by decide) rfl (fun y1 => ?_) (fun y1 => ?_)
  · have hf := (if_pos y1).symm.trans hf
    refine P.iload_n 2 (pc' := 86) dX0_worst_85 rfl rfl rfl ?_
    cases hf; exact P.iret rfl dX0_worst_86
  · have hf := (if_neg y1).symm.trans hf
    refine P.aload_n 0 (pc' := 52) dX0_worst_51 rfl rfl rfl ?_
    refine P.iload 5 (pc' := 54) dX0_worst_52 rfl rfl ?_
    refine P.iload_n 1 (pc' := 55) dX0_worst_54 rfl rfl rfl ?_
    refine P.iload 4 (pc' := 57) dX0_worst_55 rfl rfl ?_
    obtain ⟨u4, h5, hf⟩ := ob hf
    obtain ⟨q2, h3, hf⟩ := ob hf
    refine P.callV (pc' := 60) (As := [.int v6, .int v1, .int v5]) 3 (ok_X0_cutBy F v0 v6 v1 v5 μ h3) (Nat.le_of_ble_eq_true rfl) (lw_V q1164 q1166 qs46 q159 q1167) rfl yok_X0_cutBy rfl (Nat.le_of_ble_eq_true rfl) ci0 h5 (by decide) rfl dX0_worst_57 rfl ?_
    refine P.istore (pc' := 62) (lv' := [(7, .int q2), (0, .ref v0), (1, .int v1), (3, .int v3), (4, .int v4), (5, .int v5), (6, .int v6)]) dX0_worst_60 rfl (Nat.le_of_ble_eq_true rfl) rfl ?_
    refine P.iload 0 (pc' := 64) dX0_worst_62 rfl rfl ?_
    refine P.iload 4 (pc' := 66) dX0_worst_64 rfl rfl ?_
    refine P.icmp_gt (tgt := 72) (pc' := 69) dX0_worst_66 (by decide) rfl (fun y6 => ?_) (fun y6 => ?_)
    · have hf := (if_pos y6).symm.trans hf
      refine P.iload 6 (pc' := 74) dX0_worst_72 rfl rfl ?_
      refine P.istore_n (pc' := 75) (lv' := [(3, .int v6), (7, .int q2), (0, .ref v0), (1, .int v1), (4, .int v4), (5, .int v5), (6, .int v6)]) dX0_worst_74 rfl rfl (Nat.le_of_ble_eq_true rfl) rfl ?_
      refine P.iload 1 (pc' := 77) dX0_worst_75 rfl rfl ?_
      refine P.istore (pc' := 79) (lv' := [(4, .int q2), (3, .int v6), (7, .int q2), (0, .ref v0), (1, .int v1), (5, .int v5), (6, .int v6)]) dX0_worst_77 rfl (Nat.le_of_ble_eq_true rfl) rfl ?_
      obtain ⟨x7, e8, hf⟩ := nm_i hf
      refine P.iinc 6 (pc' := 82) (lv' := [(6, .int x7), (4, .int q2), (3, .int v6), (7, .int q2), (0, .ref v0), (1, .int v1), (5, .int v5)]) dX0_worst_79 rfl rfl (by decide) e8 (Nat.le_of_ble_eq_true rfl) rfl ?_
      refine P.goto (tgt := 25) dX0_worst_82 (by decide) ?_
      exact PW.sub [4, 5, 2, 1, 6, 0] rfl (ih _ _ _ hf)
    · have hf := (if_neg y6).symm.trans hf
      refine P.goto (tgt := 79) dX0_worst_69 (by decide) ?_
      obtain ⟨x9, e10, hf⟩ := nm_i hf
      refine P.iinc 6 (pc' := 82) (lv' := [(6, .int x9), (7, .int q2), (0, .ref v0), (1, .int v1), (3, .int v3), (4, .int v4), (5, .int v5)]) dX0_worst_79 rfl rfl (by decide) e10 (Nat.le_of_ble_eq_true rfl) rfl ?_
      refine P.goto (tgt := 25) dX0_worst_82 (by decide) ?_
      exact PW.sub [2, 3, 4, 5, 6, 0] rfl (ih _ _ _ hf)
noncomputable def f_X0_worst_L25_b (F : Nat) (c0 : Nat) (c1 : Int32) (c5 : Int32) (μ : Sw) (self : Int32 → Int32 → Int32 → Option (Int32 × Sw)) (v3 : Int32) (v4 : Int32) (v6 : Int32) : Option (Int32 × Sw) :=
  if c1 = 0 then
    Option.bind (oc μ c0 0) fun u4 =>
    Option.bind (f_X0_houses F c0 μ) fun q2 =>
    f_X0_worst_j48 F self c0 c1 v3 v4 c5 v6 v6 q2 μ
  else
    Option.bind (gfR μ c0 0 3) fun x6 =>
    Option.bind (gfR μ x6 3 1) fun x8 =>
    Option.bind (oc μ x8 20) fun u12 =>
    Option.bind (f_J2_size F x8 μ) fun q10 =>
    f_X0_worst_j48 F self c0 c1 v3 v4 c5 v6 v6 q10 μ
noncomputable def f_X0_worst_L25 (F : Nat) (c0 : Nat) (c1 : Int32) (c5 : Int32) (μ : Sw) (n : Nat) : Int32 → Int32 → Int32 → Option (Int32 × Sw) := Nat.rec (motive := fun _ => Int32 → Int32 → Int32 → Option (Int32 × Sw)) (fun _ _ _ => none) (fun _ self => f_X0_worst_L25_b F c0 c1 c5 μ self) n
set_option maxHeartbeats 4000000 in
theorem ok_f_X0_worst_L25 {g : Gx} {μ0 : Sw} {rv : Int32} {μF : Sw} (F : Nat) (c0 : Nat) (c1 : Int32) (c5 : Int32) (μ : Sw) : ∀ (n : Nat) (v3 : Int32) (v4 : Int32) (v6 : Int32), f_X0_worst_L25 F c0 c1 c5 μ n v3 v4 v6 = some (rv, μF) → PW g mX0_worst 413 μ0 μF (QN g (some (.int rv)) μ0 μF) 25 [(0, .ref c0), (1, .int c1), (3, .int v3), (4, .int v4), (5, .int c5), (6, .int v6)] [] μ := by
  intro n
  induction n with
  | zero =>
    intro v3 v4 v6 hf
    have hf : (none : Option (Int32 × Sw)) = some _ := hf
    cases hf
  | succ n ih =>
    intro v3 v4 v6 hf
    have hf : f_X0_worst_L25_b F c0 c1 c5 μ (f_X0_worst_L25 F c0 c1 c5 μ n) v3 v4 v6 = some (rv, μF) := hf
    unfold f_X0_worst_L25_b at hf
    refine P.iload 5 (pc' := 27) dX0_worst_25 rfl rfl ?_
    refine P.iload_n 1 (pc' := 28) dX0_worst_27 rfl rfl rfl ?_
    refine P.if_eq (tgt := 44) (pc' := 31) dX0_worst_28 (by decide) rfl (fun y1 => ?_) (fun y1 => ?_)
    · have hf := (if_pos y1).symm.trans hf
      refine P.aload_n 0 (pc' := 45) dX0_worst_44 rfl rfl rfl ?_
      obtain ⟨u4, h5, hf⟩ := ob hf
      obtain ⟨q2, h3, hf⟩ := ob hf
      refine P.callV (pc' := 48) (As := []) 0 (ok_X0_houses F c0 μ h3) (Nat.le_of_ble_eq_true rfl) (lw_V q1034 q1036 qs34 q159 q1037) rfl yok_X0_houses rfl (Nat.le_of_ble_eq_true rfl) ci0 h5 (Nat.le_of_ble_eq_true rfl) rfl dX0_worst_45 rfl ?_
      exact PW.sub [0, 1, 2, 3, 4, 5] rfl (ok_f_X0_worst_j48 F c0 c1 v3 v4 c5 v6 v6 q2 μ _ ih hf)
    · have hf := (if_neg y1).symm.trans hf
      refine P.aload_n 0 (pc' := 32) dX0_worst_31 rfl rfl rfl ?_
      obtain ⟨x6, h7, hf⟩ := ob hf
      refine P.get (pc' := 35) ci0 3 (by decide) (gfR_spec h7) q478 (Or.inl rfl) dX0_worst_32 rfl ?_
      obtain ⟨x8, h9, hf⟩ := ob hf
      refine P.getN (pc' := 38) ci3 1 (by decide) (gfR_spec h9) q332 (Or.inl rfl) dX0_worst_35 rfl ?_
      obtain ⟨u12, h13, hf⟩ := ob hf
      obtain ⟨q10, h11, hf⟩ := ob hf
      refine P.callV (pc' := 41) (As := []) 0 (ok_J2_size F x8 μ h11) (Nat.le_of_ble_eq_true rfl) (lw_V q1006 q669 q670 q165 q671) rfl yok_J2_size rfl (Nat.le_of_ble_eq_true rfl) ci20 h13 (Nat.le_of_ble_eq_true rfl) rfl dX0_worst_38 rfl ?_
      refine P.goto (tgt := 48) dX0_worst_41 (by decide) ?_
      exact PW.sub [0, 1, 2, 3, 4, 5] rfl (ok_f_X0_worst_j48 F c0 c1 v3 v4 c5 v6 v6 q10 μ _ ih hf)
noncomputable def f_X0_worst (F : Nat) (this : Nat) (p1 : Int32) (p2 : Int32) (μ : Sw) : Option (Int32 × Sw) :=
  Option.bind (p_X0_isHour F p2) fun q1 =>
  if q1 = 0 then
    some ((-1), μ)
  else
    Option.bind (oc μ this 0) fun u6 =>
    Option.bind (f_X0_tideAt F this p2 μ) fun q4 =>
    f_X0_worst_L25 F this p1 q4.1 q4.2 F (-2) (-1) 0
set_option maxHeartbeats 4000000 in
theorem ok_X0_worst {g : Gx} (F : Nat) (this : Nat) (p1 : Int32) (p2 : Int32) (μ : Sw) {rv : Int32} {μF : Sw} (hf : f_X0_worst F this p1 p2 μ = some (rv, μF)) : Cl g 413 yX0_worst cX0_worst 8 (some Jvm.ClassFile.FieldType.int) [.ref this, .int p1, .int p2] μ (some (.int rv)) μF := by
  unfold f_X0_worst at hf
  refine Cl.of (own := RX0) (ini := false) (by decide +kernel) rfl (by decide) (Nat.le_of_ble_eq_true rfl) ?_
  show PW g mX0_worst 413 μ μF (QN g (some (.int rv)) μ μF) 0 [(0, .ref this), (1, .int p1), (2, .int p2)] [] μ
  refine P.iload_n 2 (pc' := 1) dX0_worst_0 rfl rfl rfl ?_
  obtain ⟨q1, h2, hf⟩ := ob hf
  refine P.callS (pc' := 4) (As := [.int p2]) 1 (ok_X0_isHour F p2 μ h2) (Nat.le_of_ble_eq_true rfl) (lw_S q1113 q1114 q159 q1115) yok_X0_isHour rfl (Nat.le_of_ble_eq_true rfl) (by decide) rfl dX0_worst_1 rfl ?_
  refine P.if_ne (tgt := 9) (pc' := 7) dX0_worst_4 (by decide) rfl (fun y3 => ?_) (fun y3 => ?_)
  · have hf := (if_neg y3).symm.trans hf
    refine P.bipush (v := (-2)) (pc' := 11) dX0_worst_9 rfl (by decide) ?_
    refine P.istore_n (pc' := 12) (lv' := [(3, .int (-2)), (0, .ref this), (1, .int p1), (2, .int p2)]) dX0_worst_11 rfl rfl (Nat.le_of_ble_eq_true rfl) rfl ?_
    refine P.iconst (v := (-1)) (pc' := 13) dX0_worst_12 rfl (by decide) ?_
    refine P.istore (pc' := 15) (lv' := [(4, .int (-1)), (3, .int (-2)), (0, .ref this), (1, .int p1), (2, .int p2)]) dX0_worst_13 rfl (Nat.le_of_ble_eq_true rfl) rfl ?_
    refine P.aload_n 2 (pc' := 16) dX0_worst_15 rfl rfl rfl ?_
    refine P.iload_n 4 (pc' := 17) dX0_worst_16 rfl rfl rfl ?_
    obtain ⟨u6, h7, hf⟩ := ob hf
    obtain ⟨q4, h5, hf⟩ := ob hf
    refine P.callV (pc' := 20) (As := [.int p2]) 1 (ok_X0_tideAt F this p2 μ h5) (Nat.le_of_ble_eq_true rfl) (lw_V q1116 q1118 qs40 q159 q1119) rfl yok_X0_tideAt rfl (Nat.le_of_ble_eq_true rfl) ci0 h7 (by decide) rfl dX0_worst_17 rfl ?_
    refine P.istore (pc' := 22) (lv' := [(5, .int q4.1), (4, .int (-1)), (3, .int (-2)), (0, .ref this), (1, .int p1), (2, .int p2)]) dX0_worst_20 rfl (Nat.le_of_ble_eq_true rfl) rfl ?_
    refine P.iconst (v := 0) (pc' := 23) dX0_worst_22 rfl (by decide) ?_
    refine P.istore (pc' := 25) (lv' := [(6, .int 0), (5, .int q4.1), (4, .int (-1)), (3, .int (-2)), (0, .ref this), (1, .int p1), (2, .int p2)]) dX0_worst_23 rfl (Nat.le_of_ble_eq_true rfl) rfl ?_
    exact PW.sub [4, 5, 3, 2, 1, 0] rfl (ok_f_X0_worst_L25 F this p1 q4.1 q4.2 F _ _ _ hf)
  · have hf := (if_pos y3).symm.trans hf
    refine P.iconst (v := (-1)) (pc' := 8) dX0_worst_7 rfl (by decide) ?_
    cases hf; exact P.iret rfl dX0_worst_8
abbrev mX0_swayOf : Ym := (RX0, cX0_swayOf, 3, (some Jvm.ClassFile.FieldType.int), false, [])
noncomputable def f_X0_swayOf (F : Nat) (this : Nat) (p1 : Int32) (p2 : Int32) (μ : Sw) : Option (Int32 × Sw) :=
  Option.bind (oc μ this 0) fun u3 =>
  Option.bind (f_X0_look F this p1 μ) fun q1 =>
  Option.bind (gfR q1 this 0 6) fun x5 =>
  Option.bind (gfR q1 x5 7 0) fun x7 =>
  Option.bind (gfR q1 this 0 4) fun x9 =>
  Option.bind (gfI q1 x9 6 3) fun x11 =>
  Option.bind (sI q1 0 x7 5 x11) fun μ14 =>
  Option.bind (gfR μ14 this 0 6) fun x15 =>
  Option.bind (gfR μ14 x15 7 0) fun x17 =>
  Option.bind (sI μ14 0 x17 6 p2) fun μ20 =>
  Option.bind (gfR μ20 this 0 6) fun x21 =>
  Option.bind (gfR μ20 this 0 3) fun x23 =>
  Option.bind (gfR μ20 x23 3 15) fun x25 =>
  Option.bind (oc μ20 x21 7) fun u29 =>
  Option.bind (f_X7_says F x21 x25 99 μ20) fun q27 =>
  some (q27.1, q27.2)
set_option maxHeartbeats 4000000 in
theorem ok_X0_swayOf {g : Gx} (F : Nat) (this : Nat) (p1 : Int32) (p2 : Int32) (μ : Sw) {rv : Int32} {μF : Sw} (hf : f_X0_swayOf F this p1 p2 μ = some (rv, μF)) : Cl g 412 yX0_swayOf cX0_swayOf 3 (some Jvm.ClassFile.FieldType.int) [.ref this, .int p1, .int p2] μ (some (.int rv)) μF := by
  unfold f_X0_swayOf at hf
  refine Cl.of (own := RX0) (ini := false) (by decide +kernel) rfl (by decide) (Nat.le_of_ble_eq_true rfl) ?_
  show PW g mX0_swayOf 412 μ μF (QN g (some (.int rv)) μ μF) 0 [(0, .ref this), (1, .int p1), (2, .int p2)] [] μ
  refine P.aload_n 0 (pc' := 1) dX0_swayOf_0 rfl rfl rfl ?_
  refine P.iload_n 1 (pc' := 2) dX0_swayOf_1 rfl rfl rfl ?_
  obtain ⟨u3, h4, hf⟩ := ob hf
  obtain ⟨q1, h2, hf⟩ := ob hf
  refine P.callV (pc' := 5) (As := [.int p1]) 1 (ok_X0_look F this p1 μ h2) (Nat.le_of_ble_eq_true rfl) (lw_V q1047 q1049 qs37 q159 q1050) rfl yok_X0_look rfl (Nat.le_of_ble_eq_true rfl) ci0 h4 (by decide) rfl dX0_swayOf_2 rfl ?_
  refine P.aload_n 0 (pc' := 6) dX0_swayOf_5 rfl rfl rfl ?_
  obtain ⟨x5, h6, hf⟩ := ob hf
  refine P.get (pc' := 9) ci0 6 (by decide) (gfR_spec h6) q481 (Or.inl rfl) dX0_swayOf_6 rfl ?_
  obtain ⟨x7, h8, hf⟩ := ob hf
  refine P.getN (pc' := 12) ci7 0 (by decide) (gfR_spec h8) q448 (Or.inl rfl) dX0_swayOf_9 rfl ?_
  refine P.iconst (v := 5) (pc' := 13) dX0_swayOf_12 rfl (by decide) ?_
  refine P.aload_n 0 (pc' := 14) dX0_swayOf_13 rfl rfl rfl ?_
  obtain ⟨x9, h10, hf⟩ := ob hf
  refine P.get (pc' := 17) ci0 4 (by decide) (gfR_spec h10) q479 (Or.inl rfl) dX0_swayOf_14 rfl ?_
  obtain ⟨x11, h12, hf⟩ := ob hf
  refine P.getN (pc' := 20) ci6 3 (by decide) (gfI_spec h12) q421 (Or.inl rfl) dX0_swayOf_17 rfl ?_
  obtain ⟨μ14, h13, hf⟩ := ob hf
  refine P.iast (pc' := 21) h13 dX0_swayOf_20 rfl ?_
  refine P.aload_n 0 (pc' := 22) dX0_swayOf_21 rfl rfl rfl ?_
  obtain ⟨x15, h16, hf⟩ := ob hf
  refine P.get (pc' := 25) ci0 6 (by decide) (gfR_spec h16) q481 (Or.inl rfl) dX0_swayOf_22 rfl ?_
  obtain ⟨x17, h18, hf⟩ := ob hf
  refine P.getN (pc' := 28) ci7 0 (by decide) (gfR_spec h18) q448 (Or.inl rfl) dX0_swayOf_25 rfl ?_
  refine P.bipush (v := 6) (pc' := 30) dX0_swayOf_28 rfl (by decide) ?_
  refine P.iload_n 2 (pc' := 31) dX0_swayOf_30 rfl rfl rfl ?_
  obtain ⟨μ20, h19, hf⟩ := ob hf
  refine P.iast (pc' := 32) h19 dX0_swayOf_31 rfl ?_
  refine P.aload_n 0 (pc' := 33) dX0_swayOf_32 rfl rfl rfl ?_
  obtain ⟨x21, h22, hf⟩ := ob hf
  refine P.get (pc' := 36) ci0 6 (by decide) (gfR_spec h22) q481 (Or.inl rfl) dX0_swayOf_33 rfl ?_
  refine P.aload_n 0 (pc' := 37) dX0_swayOf_36 rfl rfl rfl ?_
  obtain ⟨x23, h24, hf⟩ := ob hf
  refine P.get (pc' := 40) ci0 3 (by decide) (gfR_spec h24) q478 (Or.inl rfl) dX0_swayOf_37 rfl ?_
  obtain ⟨x25, h26, hf⟩ := ob hf
  refine P.getN (pc' := 43) ci3 15 (by decide) (gfR_spec h26) q370 (Or.inl rfl) dX0_swayOf_40 rfl ?_
  refine P.bipush (v := 99) (pc' := 45) dX0_swayOf_43 rfl (by decide) ?_
  obtain ⟨u29, h30, hf⟩ := ob hf
  obtain ⟨q27, h28, hf⟩ := ob hf
  refine P.callV (pc' := 48) (As := [.ref x25, .int 99]) 2 (ok_X7_says F x21 x25 99 μ20 h28) (Nat.le_of_ble_eq_true rfl) (lw_V q1055 q1056 q1057 q170 q1058) rfl yok_X7_says rfl (Nat.le_of_ble_eq_true rfl) ci7 h30 (by decide) rfl dX0_swayOf_45 rfl ?_
  cases hf; exact P.iret rfl dX0_swayOf_48
abbrev mX15_holds : Ym := (RX15, cX15_holds, 4, (some Jvm.ClassFile.FieldType.boolean), false, [])
noncomputable def f_X15_holds (F : Nat) (this : Nat) (p1 : Nat) (μ : Sw) : Option (Int32 × Sw) :=
  Option.bind (pf μ p1 7 1 (.int 0)) fun μ1 =>
  Option.bind (gfR μ1 this 15 1) fun x3 =>
  Option.bind (f_value F 410 x3 p1 μ1) fun q5 =>
  Option.bind (gfR q5.2 this 15 2) fun x7 =>
  Option.bind (f_value F 410 x7 p1 q5.2) fun q9 =>
  Option.bind (gfI q9.2 p1 7 1) fun x11 =>
  if x11 = 0 then
    Option.bind (gfI q9.2 this 15 0) fun x14 =>
    if x14 = 33 then
      if q5.1 = q9.1 then
        some (0, q9.2)
      else
        some (1, q9.2)
    else
      if x14 = 60 then
        if q9.1 ≤ q5.1 then
          some (0, q9.2)
        else
          some (1, q9.2)
      else
        if x14 = 61 then
          if q5.1 = q9.1 then
            some (1, q9.2)
          else
            some (0, q9.2)
        else
          if q9.1 < q5.1 then
            some (0, q9.2)
          else
            some (1, q9.2)
  else
    some (0, q9.2)
set_option maxHeartbeats 4000000 in
theorem ok_X15_holds {g : Gx} (F : Nat) (d : Nat) (hd : 411 ≤ d) (this : Nat) (p1 : Nat) (μ : Sw) {rv : Int32} {μF : Sw} (hf : f_X15_holds F this p1 μ = some (rv, μF)) : Cl g d yX15_holds cX15_holds 4 (some Jvm.ClassFile.FieldType.boolean) [.ref this, .ref p1] μ (some (.int rv)) μF := by
  unfold f_X15_holds at hf
  refine Cl.of (own := RX15) (ini := false) (by decide +kernel) rfl (by decide) (Nat.le_of_ble_eq_true rfl) ?_
  show PW g mX15_holds d μ μF (QN g (some (.int rv)) μ μF) 0 [(0, .ref this), (1, .ref p1)] [] μ
  refine P.aload_n 1 (pc' := 1) dX15_holds_0 rfl rfl rfl ?_
  refine P.iconst (v := 0) (pc' := 2) dX15_holds_1 rfl (by decide) ?_
  obtain ⟨μ1, h2, hf⟩ := ob hf
  refine P.putN (v := .int 0) (pc' := 5) ci7 1 (by decide) h2 q449 (Or.inl rfl) rfl rfl rfl dX15_holds_2 rfl ?_
  refine P.aload_n 0 (pc' := 6) dX15_holds_5 rfl rfl rfl ?_
  obtain ⟨x3, h4, hf⟩ := ob hf
  refine P.get (pc' := 9) ci15 1 (by decide) (gfR_spec h4) q974 (Or.inl rfl) dX15_holds_6 rfl ?_
  refine P.aload_n 1 (pc' := 10) dX15_holds_9 rfl rfl rfl ?_
  obtain ⟨q5, h6, hf⟩ := ob hf
  refine P.callTerm (pc' := 15) (ok_value F 410 _ _ _ _ _ h6) (by omega) q1214 (by decide) dX15_holds_10 rfl ?_
  refine P.istore_n (pc' := 16) (lv' := [(2, .int q5.1), (0, .ref this), (1, .ref p1)]) dX15_holds_15 rfl rfl (Nat.le_of_ble_eq_true rfl) rfl ?_
  refine P.aload_n 1 (pc' := 17) dX15_holds_16 rfl rfl rfl ?_
  obtain ⟨x7, h8, hf⟩ := ob hf
  refine P.get (pc' := 20) ci15 2 (by decide) (gfR_spec h8) q975 (Or.inl rfl) dX15_holds_17 rfl ?_
  refine P.aload_n 2 (pc' := 21) dX15_holds_20 rfl rfl rfl ?_
  obtain ⟨q9, h10, hf⟩ := ob hf
  refine P.callTerm (pc' := 26) (ok_value F 410 _ _ _ _ _ h10) (by omega) q1214 (by decide) dX15_holds_21 rfl ?_
  refine P.istore_n (pc' := 27) (lv' := [(3, .int q9.1), (2, .int q5.1), (0, .ref this), (1, .ref p1)]) dX15_holds_26 rfl rfl (Nat.le_of_ble_eq_true rfl) rfl ?_
  refine P.aload_n 3 (pc' := 28) dX15_holds_27 rfl rfl rfl ?_
  obtain ⟨x11, h12, hf⟩ := ob hf
  refine P.getN (pc' := 31) ci7 1 (by decide) (gfI_spec h12) q449 (Or.inl rfl) dX15_holds_28 rfl ?_
  refine P.if_eq (tgt := 36) (pc' := 34) dX15_holds_31 (by decide) rfl (fun y13 => ?_) (fun y13 => ?_)
  · have hf := (if_pos y13).symm.trans hf
    refine P.aload_n 2 (pc' := 37) dX15_holds_36 rfl rfl rfl ?_
    obtain ⟨x14, h15, hf⟩ := ob hf
    refine P.get (pc' := 40) ci15 0 (by decide) (gfI_spec h15) q973 (Or.inl rfl) dX15_holds_37 rfl ?_
    by_cases y16 : x14 = 33
    · have hf := (if_pos y16).symm.trans hf
      refine P.ls (off := 47) (tgt := 87) dX15_holds_40 (by decide) (by rw [y16]; rfl) (by decide) ?_
      refine P.iload_n 1 (pc' := 88) dX15_holds_87 rfl rfl rfl ?_
      refine P.iload_n 0 (pc' := 89) dX15_holds_88 rfl rfl rfl ?_
      refine P.icmp_eq (tgt := 96) (pc' := 92) dX15_holds_89 (by decide) rfl (fun y17 => ?_) (fun y17 => ?_)
      · have hf := (if_pos y17).symm.trans hf
        refine P.iconst (v := 0) (pc' := 97) dX15_holds_96 rfl (by decide) ?_
        cases hf; exact P.zret rfl (Or.inl rfl) dX15_holds_97
      · have hf := (if_neg y17).symm.trans hf
        refine P.iconst (v := 1) (pc' := 93) dX15_holds_92 rfl (by decide) ?_
        refine P.goto (tgt := 97) dX15_holds_93 (by decide) ?_
        cases hf; exact P.zret rfl (Or.inr rfl) dX15_holds_97
    · have hf := (if_neg y16).symm.trans hf
      by_cases y18 : x14 = 60
      · have hf := (if_pos y18).symm.trans hf
        refine P.ls (off := 58) (tgt := 98) dX15_holds_40 (by decide) (by rw [y18]; rfl) (by decide) ?_
        refine P.iload_n 1 (pc' := 99) dX15_holds_98 rfl rfl rfl ?_
        refine P.iload_n 0 (pc' := 100) dX15_holds_99 rfl rfl rfl ?_
        refine P.icmp_ge (tgt := 107) (pc' := 103) dX15_holds_100 (by decide) rfl (fun y19 => ?_) (fun y19 => ?_)
        · have hf := (if_pos y19).symm.trans hf
          refine P.iconst (v := 0) (pc' := 108) dX15_holds_107 rfl (by decide) ?_
          cases hf; exact P.zret rfl (Or.inl rfl) dX15_holds_108
        · have hf := (if_neg y19).symm.trans hf
          refine P.iconst (v := 1) (pc' := 104) dX15_holds_103 rfl (by decide) ?_
          refine P.goto (tgt := 108) dX15_holds_104 (by decide) ?_
          cases hf; exact P.zret rfl (Or.inr rfl) dX15_holds_108
      · have hf := (if_neg y18).symm.trans hf
        by_cases y20 : x14 = 61
        · have hf := (if_pos y20).symm.trans hf
          refine P.ls (off := 36) (tgt := 76) dX15_holds_40 (by decide) (by rw [y20]; rfl) (by decide) ?_
          refine P.iload_n 1 (pc' := 77) dX15_holds_76 rfl rfl rfl ?_
          refine P.iload_n 0 (pc' := 78) dX15_holds_77 rfl rfl rfl ?_
          refine P.icmp_ne (tgt := 85) (pc' := 81) dX15_holds_78 (by decide) rfl (fun y21 => ?_) (fun y21 => ?_)
          · have hf := (if_neg y21).symm.trans hf
            refine P.iconst (v := 0) (pc' := 86) dX15_holds_85 rfl (by decide) ?_
            cases hf; exact P.zret rfl (Or.inl rfl) dX15_holds_86
          · have hf := (if_pos y21).symm.trans hf
            refine P.iconst (v := 1) (pc' := 82) dX15_holds_81 rfl (by decide) ?_
            refine P.goto (tgt := 86) dX15_holds_82 (by decide) ?_
            cases hf; exact P.zret rfl (Or.inr rfl) dX15_holds_86
        · have hf := (if_neg y20).symm.trans hf
          refine P.ls (off := 69) (tgt := 109) dX15_holds_40 (by decide) ((lv_osw y16 (by decide)).trans ((lv_osw y18 (by decide)).trans ((lv_osw y20 (by decide)).trans (rfl)))) (by decide) ?_
          refine P.iload_n 1 (pc' := 110) dX15_holds_109 rfl rfl rfl ?_
          refine P.iload_n 0 (pc' := 111) dX15_holds_110 rfl rfl rfl ?_
          refine P.icmp_gt (tgt := 118) (pc' := 114) dX15_holds_111 (by decide) rfl (fun y22 => ?_) (fun y22 => ?_)
          · have hf := (if_pos y22).symm.trans hf
            refine P.iconst (v := 0) (pc' := 119) dX15_holds_118 rfl (by decide) ?_
            cases hf; exact P.zret rfl (Or.inl rfl) dX15_holds_119
          · have hf := (if_neg y22).symm.trans hf
            refine P.iconst (v := 1) (pc' := 115) dX15_holds_114 rfl (by decide) ?_
            refine P.goto (tgt := 119) dX15_holds_115 (by decide) ?_
            cases hf; exact P.zret rfl (Or.inr rfl) dX15_holds_119
  · have hf := (if_neg y13).symm.trans hf
    refine P.iconst (v := 0) (pc' := 35) dX15_holds_34 rfl (by decide) ?_
    cases hf; exact P.zret rfl (Or.inl rfl) dX15_holds_35
