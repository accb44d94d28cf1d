set_option maxRecDepth 100000
theorem yok_X10_init : yOK yX10_init 2 := ⟨by decide +kernel, by decide +kernel, by decide +kernel⟩
abbrev mX2_fault : Ym := (RX2, cX2_fault, 2, (some (Jvm.ClassFile.FieldType.object "StiltTown$Fault")), false, [])
noncomputable def f_X2_fault (F : Nat) (this : Nat) (p1 : Int32) (μ : Sw) : Option (Nat × Sw) :=
  nm (nw μ (.inr (10, dfX10)) 8) fun μ1 =>
  Option.bind (gfR μ1 this 2 0) fun x3 =>
  Option.bind (gfR μ1 x3 1 3) fun x5 =>
  Option.bind (gfI μ1 this 2 1) fun x7 =>
  Option.bind (aI μ1 3 x5 x7) fun x9 =>
  Option.bind (f_X10_init F μ.2.1 p1 x9 μ1) fun q11 =>
  some (μ.2.1, q11)
set_option maxHeartbeats 4000000 in
theorem ok_X2_fault {g : Gx} (F : Nat) (this : Nat) (p1 : Int32) (μ : Sw) {rv : Nat} {μF : Sw} (hf : f_X2_fault F this p1 μ = some (rv, μF)) : Cl g 5 yX2_fault cX2_fault 2 (some (Jvm.ClassFile.FieldType.object "StiltTown$Fault")) [.ref this, .int p1] μ (some (.ref rv)) μF := by
  unfold f_X2_fault at hf
  refine Cl.of (own := RX2) (ini := false) (by decide +kernel) rfl (by decide) (Nat.le_of_ble_eq_true rfl) ?_
  show PW g mX2_fault 5 μ μF (QN g (some (.ref rv)) μ μF) 0 [(0, .ref this), (1, .int p1)] [] μ
  obtain ⟨μ1, e2, hf⟩ := nm_i hf
  refine P.newE (pc' := 3) ci10 q680 q681 q180 dfX10_ok e2 dX2_fault_0 rfl ?_
  refine P.dup (pc' := 4) dX2_fault_3 rfl rfl ?_
  refine P.iload_n 1 (pc' := 5) dX2_fault_4 rfl rfl rfl ?_
  refine P.aload_n 0 (pc' := 6) dX2_fault_5 rfl rfl rfl ?_
  obtain ⟨x3, h4, hf⟩ := ob hf
  refine P.get (pc' := 9) ci2 0 (by decide) (gfR_spec h4) q242 (Or.inl rfl) dX2_fault_6 rfl ?_
  obtain ⟨x5, h6, hf⟩ := ob hf
  refine P.getN (pc' := 12) ci1 3 (by decide) (gfR_spec h6) q216 (Or.inl rfl) dX2_fault_9 rfl ?_
  refine P.aload_n 0 (pc' := 13) dX2_fault_12 rfl rfl rfl ?_
  obtain ⟨x7, h8, hf⟩ := ob hf
  refine P.get (pc' := 16) ci2 1 (by decide) (gfI_spec h8) q243 (Or.inl rfl) dX2_fault_13 rfl ?_
  obtain ⟨x9, h10, hf⟩ := ob hf
  refine P.sald (t := 3) (pc' := 17) rfl h10 dX2_fault_16 rfl ?_
  obtain ⟨q11, h12, hf⟩ := ob hf
  refine P.callI (pc' := 20) (As := [.int p1, .int x9]) 2 (ok_X10_init F μ.2.1 p1 x9 μ1 h12) (Nat.le_of_ble_eq_true rfl) q721 q180 q719 q720 rfl yok_X10_init rfl (Nat.le_of_ble_eq_true rfl) (Nat.le_of_ble_eq_true rfl) rfl dX2_fault_17 rfl ?_
  cases hf; exact P.aret rfl (Or.inl ⟨_, rfl⟩) dX2_fault_20
theorem yok_X2_fault : yOK yX2_fault 1 := ⟨by decide +kernel, by decide +kernel, by decide +kernel⟩
abbrev mX2_go : Ym := (RX2, cX2_go, 1, (some Jvm.ClassFile.FieldType.int), false, [])
noncomputable def f_X2_go (F : Nat) (this : Nat) (μ : Sw) : Option ((Int32 ⊕ Nat) × Sw) :=
  Option.bind (gfI μ this 2 1) fun x1 =>
  if x1 = 400 then
    Option.bind (oc μ this 2) fun u12 =>
    Option.bind (f_X2_fault F this 2 μ) fun q10 =>
    Option.bind (oc q10.2 q10.1 10) fun u14 =>
    some (.inr q10.1, q10.2)
  else
    Option.bind (gfI μ this 2 1) fun x4 =>
    Option.bind (pf μ this 2 1 (.int (x4 + 1))) fun μ6 =>
    Option.bind (gfI μ6 this 2 1) fun x8 =>
    some (.inl (x8 - 1), μ6)
set_option maxHeartbeats 4000000 in
theorem ok_X2_go {g : Gx} (F : Nat) (this : Nat) (μ : Sw) {res : Int32 ⊕ Nat} {μF : Sw} (hf : f_X2_go F this μ = some (res, μF)) : ClX g 6 yX2_go cX2_go 1 (some Jvm.ClassFile.FieldType.int) [.ref this] μ (rvI res) μF := by
  unfold f_X2_go at hf
  refine ClX.of (own := RX2) (ini := false) (by decide +kernel) rfl (by decide) (Nat.le_of_ble_eq_true rfl) ?_
  show PW g mX2_go 6 μ μF (QX g (rvI res) μ μF) 0 [(0, .ref this)] [] μ
  refine P.aload_n 0 (pc' := 1) dX2_go_0 rfl rfl rfl ?_
  obtain ⟨x1, h2, hf⟩ := ob hf
  refine P.get (pc' := 4) ci2 1 (by decide) (gfI_spec h2) q243 (Or.inl rfl) dX2_go_1 rfl ?_
  refine P.sipush (v := 400) (pc' := 7) dX2_go_4 rfl (by decide) ?_
  refine P.icmp_ne (tgt := 16) (pc' := 10) dX2_go_7 (by decide) rfl (fun y3 => ?_) (fun y3 => ?_)
  · have hf := (if_neg y3).symm.trans hf
    refine P.aload_n 0 (pc' := 17) dX2_go_16 rfl rfl rfl ?_
    refine P.dup (pc' := 18) dX2_go_17 rfl rfl ?_
    obtain ⟨x4, h5, hf⟩ := ob hf
    refine P.get (pc' := 21) ci2 1 (by decide) (gfI_spec h5) q243 (Or.inl rfl) dX2_go_18 rfl ?_
    refine P.iconst (v := 1) (pc' := 22) dX2_go_21 rfl (by decide) ?_
    refine P.iadd (pc' := 23) dX2_go_22 rfl ?_
    obtain ⟨μ6, h7, hf⟩ := ob hf
    refine P.put (v := .int (x4 + 1)) (pc' := 26) ci2 1 (by decide) h7 q243 (Or.inl rfl) rfl rfl rfl dX2_go_23 rfl ?_
    refine P.aload_n 0 (pc' := 27) dX2_go_26 rfl rfl rfl ?_
    obtain ⟨x8, h9, hf⟩ := ob hf
    refine P.get (pc' := 30) ci2 1 (by decide) (gfI_spec h9) q243 (Or.inl rfl) dX2_go_27 rfl ?_
    refine P.iconst (v := 1) (pc' := 31) dX2_go_30 rfl (by decide) ?_
    refine P.isub (pc' := 32) dX2_go_31 rfl ?_
    cases hf; exact P.iretX rfl dX2_go_32
  · have hf := (if_pos y3).symm.trans hf
    refine P.aload_n 0 (pc' := 11) dX2_go_10 rfl rfl rfl ?_
    refine P.iconst (v := 2) (pc' := 12) dX2_go_11 rfl (by decide) ?_
    obtain ⟨u12, h13, hf⟩ := ob hf
    obtain ⟨q10, h11, hf⟩ := ob hf
    refine P.callV (pc' := 15) (As := [.int 2]) 1 (ok_X2_fault F this 2 μ h11) (Nat.le_of_ble_eq_true rfl) (lw_V q676 q678 qs11 q161 q679) rfl yok_X2_fault rfl (Nat.le_of_ble_eq_true rfl) ci2 h13 (by decide) rfl dX2_go_12 rfl ?_
    obtain ⟨u14, h15, hf⟩ := ob hf
    cases hf; exact P.athrow rfl h15 dX2_go_15
theorem yok_X2_go : yOK yX2_go 0 := ⟨by decide +kernel, by decide +kernel, by decide +kernel⟩
theorem yok_X2_is : yOK yX2_is 1 := ⟨by decide +kernel, by decide +kernel, by decide +kernel⟩
abbrev mX2_must : Ym := (RX2, cX2_must, 2, (some Jvm.ClassFile.FieldType.int), false, [])
noncomputable def f_X2_must (F : Nat) (this : Nat) (p1 : Int32) (μ : Sw) : Option ((Int32 ⊕ Nat) × Sw) :=
  Option.bind (oc μ this 2) fun u3 =>
  Option.bind (f_X2_is F this p1 μ) fun q1 =>
  if q1 = 0 then
    Option.bind (oc μ this 2) fun u15 =>
    Option.bind (f_X2_fault F this 1 μ) fun q13 =>
    Option.bind (oc q13.2 q13.1 10) fun u17 =>
    some (.inr q13.1, q13.2)
  else
    Option.bind (oc μ this 2) fun u8 =>
    Option.bind (f_X2_go F this μ) fun q6 =>
    thr q6.1 q6.2 fun x11 =>
    some (.inl x11, q6.2)
set_option maxHeartbeats 4000000 in
theorem ok_X2_must {g : Gx} (F : Nat) (this : Nat) (p1 : Int32) (μ : Sw) {res : Int32 ⊕ Nat} {μF : Sw} (hf : f_X2_must F this p1 μ = some (res, μF)) : ClX g 7 yX2_must cX2_must 2 (some Jvm.ClassFile.FieldType.int) [.ref this, .int p1] μ (rvI res) μF := by
  unfold f_X2_must at hf
  refine ClX.of (own := RX2) (ini := false) (by decide +kernel) rfl (by decide) (Nat.le_of_ble_eq_true rfl) ?_
  show PW g mX2_must 7 μ μF (QX g (rvI res) μ μF) 0 [(0, .ref this), (1, .int p1)] [] μ
  refine P.aload_n 0 (pc' := 1) dX2_must_0 rfl rfl rfl ?_
  refine P.iload_n 1 (pc' := 2) dX2_must_1 rfl rfl rfl ?_
  obtain ⟨u3, h4, hf⟩ := ob hf
  obtain ⟨q1, h2, hf⟩ := ob hf
  refine P.callV (pc' := 5) (As := [.int p1]) 1 (ok_X2_is F this p1 μ h2) (Nat.le_of_ble_eq_true rfl) (lw_V q656 q658 qs7 q161 q659) rfl yok_X2_is rfl (Nat.le_of_ble_eq_true rfl) ci2 h4 (by decide) rfl dX2_must_2 rfl ?_
  refine P.if_ne (tgt := 14) (pc' := 8) dX2_must_5 (by decide) rfl (fun y5 => ?_) (fun y5 => ?_)
  · have hf := (if_neg y5).symm.trans hf
    refine P.aload_n 0 (pc' := 15) dX2_must_14 rfl rfl rfl ?_
    obtain ⟨u8, h9, hf⟩ := ob hf
    obtain ⟨q6, h7, hf⟩ := ob hf
    rcases e10 : q6.1 with x11 | x12
    rotate_left
    · have h7 := h7.trans (congrArg some (Prod.ext e10 rfl : q6 = (.inr x12, q6.2)))
      rw [e10] at hf
      have hf := thr_r hf
      cases hf
      exact P.callVXt (As := []) 0 (ok_X2_go F this μ h7) rfl (Nat.le_of_ble_eq_true rfl) (lw_V q752 q754 qs13 q161 q755) rfl yok_X2_go rfl (Nat.le_of_ble_eq_true rfl) ci2 h9 (by decide) rfl dX2_must_15
    have h7 := h7.trans (congrArg some (Prod.ext e10 rfl : q6 = (.inl x11, q6.2)))
    rw [e10] at hf
    have hf := thr_l hf
    refine P.callVX (pc' := 18) (As := []) 0 (ok_X2_go F this μ h7) (Nat.le_of_ble_eq_true rfl) (lw_V q752 q754 qs13 q161 q755) rfl yok_X2_go rfl (Nat.le_of_ble_eq_true rfl) ci2 h9 (by decide) rfl dX2_must_15 rfl ?_
    cases hf; exact P.iretX rfl dX2_must_18
  · have hf := (if_pos y5).symm.trans hf
    refine P.aload_n 0 (pc' := 9) dX2_must_8 rfl rfl rfl ?_
    refine P.iconst (v := 1) (pc' := 10) dX2_must_9 rfl (by decide) ?_
    obtain ⟨u15, h16, hf⟩ := ob hf
    obtain ⟨q13, h14, hf⟩ := ob hf
    refine P.callV (pc' := 13) (As := [.int 1]) 1 (ok_X2_fault F this 1 μ h14) (Nat.le_of_ble_eq_true rfl) (lw_V q676 q678 qs11 q161 q679) rfl yok_X2_fault rfl (Nat.le_of_ble_eq_true rfl) ci2 h16 (by decide) rfl dX2_must_10 rfl ?_
    obtain ⟨u17, h18, hf⟩ := ob hf
    cases hf; exact P.athrow rfl h18 dX2_must_13
abbrev mX2_wrong : Ym := (RX2, cX2_wrong, 4, none, false, [])
noncomputable def f_X2_wrong (F : Nat) (this : Nat) (p1 : Int32) (p2 : Int32) (μ : Sw) : Option Sw :=
  Option.bind (gfR μ this 2 0) fun x1 =>
  Option.bind (gfR μ x1 1 3) fun x3 =>
  Option.bind (aI μ 3 x3 p2) fun x5 =>
  Option.bind (gfI μ this 2 3) fun x7 =>
  if x7 = 0 then
    Option.bind (pf μ this 2 3 (.int p1)) fun μ10 =>
    Option.bind (pf μ10 this 2 4 (.int x5)) fun μ12 =>
    some μ12
  else
    Option.bind (gfI μ this 2 4) fun x14 =>
    if x14 < x5 then
      some μ
    else
      Option.bind (gfI μ this 2 4) fun x17 =>
      if x5 = x17 then
        Option.bind (gfI μ this 2 3) fun x24 =>
        if p1 < x24 then
          Option.bind (pf μ this 2 3 (.int p1)) fun μ27 =>
          Option.bind (pf μ27 this 2 4 (.int x5)) fun μ29 =>
          some μ29
        else
          some μ
      else
        Option.bind (pf μ this 2 3 (.int p1)) fun μ20 =>
        Option.bind (pf μ20 this 2 4 (.int x5)) fun μ22 =>
        some μ22
set_option maxHeartbeats 4000000 in
theorem ok_X2_wrong {g : Gx} (F : Nat) (this : Nat) (p1 : Int32) (p2 : Int32) (μ : Sw) {μF : Sw} (hf : f_X2_wrong F this p1 p2 μ = some μF) : Cl g 1 yX2_wrong cX2_wrong 4 none [.ref this, .int p1, .int p2] μ none μF := by
  unfold f_X2_wrong at hf
  refine Cl.of (own := RX2) (ini := false) (by decide +kernel) rfl (by decide) (Nat.le_of_ble_eq_true rfl) ?_
  show PW g mX2_wrong 1 μ μF (QN g none μ μF) 0 [(0, .ref this), (1, .int p1), (2, .int p2)] [] μ
  refine P.aload_n 0 (pc' := 1) dX2_wrong_0 rfl rfl rfl ?_
  obtain ⟨x1, h2, hf⟩ := ob hf
  refine P.get (pc' := 4) ci2 0 (by decide) (gfR_spec h2) q242 (Or.inl rfl) dX2_wrong_1 rfl ?_
  obtain ⟨x3, h4, hf⟩ := ob hf
  refine P.getN (pc' := 7) ci1 3 (by decide) (gfR_spec h4) q216 (Or.inl rfl) dX2_wrong_4 rfl ?_
  refine P.iload_n 2 (pc' := 8) dX2_wrong_7 rfl rfl rfl ?_
  obtain ⟨x5, h6, hf⟩ := ob hf
  refine P.sald (t := 3) (pc' := 9) rfl h6 dX2_wrong_8 rfl ?_
  refine P.istore_n (pc' := 10) (lv' := [(3, .int x5), (0, .ref this), (1, .int p1), (2, .int p2)]) dX2_wrong_9 rfl rfl (Nat.le_of_ble_eq_true rfl) rfl ?_
  refine P.aload_n 1 (pc' := 11) dX2_wrong_10 rfl rfl rfl ?_
  obtain ⟨x7, h8, hf⟩ := ob hf
  refine P.get (pc' := 14) ci2 3 (by decide) (gfI_spec h8) q245 (Or.inl rfl) dX2_wrong_11 rfl ?_
  refine P.if_eq (tgt := 42) (pc' := 17) dX2_wrong_14 (by decide) rfl (fun y9 => ?_) (fun y9 => ?_)
  · have hf := (if_pos y9).symm.trans hf
    refine P.aload_n 1 (pc' := 43) dX2_wrong_42 rfl rfl rfl ?_
    refine P.iload_n 2 (pc' := 44) dX2_wrong_43 rfl rfl rfl ?_
    obtain ⟨μ10, h11, hf⟩ := ob hf
    refine P.put (v := .int p1) (pc' := 47) ci2 3 (by decide) h11 q245 (Or.inl rfl) rfl rfl rfl dX2_wrong_44 rfl ?_
    refine P.aload_n 1 (pc' := 48) dX2_wrong_47 rfl rfl rfl ?_
    refine P.iload_n 0 (pc' := 49) dX2_wrong_48 rfl rfl rfl ?_
    obtain ⟨μ12, h13, hf⟩ := ob hf
    refine P.put (v := .int x5) (pc' := 52) ci2 4 (by decide) h13 q246 (Or.inl rfl) rfl rfl rfl dX2_wrong_49 rfl ?_
    cases hf; exact P.vret rfl dX2_wrong_52
  · have hf := (if_neg y9).symm.trans hf
    refine P.iload_n 0 (pc' := 18) dX2_wrong_17 rfl rfl rfl ?_
    refine P.aload_n 1 (pc' := 19) dX2_wrong_18 rfl rfl rfl ?_
    obtain ⟨x14, h15, hf⟩ := ob hf
    refine P.get (pc' := 22) ci2 4 (by decide) (gfI_spec h15) q246 (Or.inl rfl) dX2_wrong_19 rfl ?_
    refine P.icmp_gt (tgt := 41) (pc' := 25) dX2_wrong_22 (by decide) rfl (fun y16 => ?_) (fun y16 => ?_)
    · have hf := (if_pos y16).symm.trans hf
      cases hf; exact P.vret rfl dX2_wrong_41
    · have hf := (if_neg y16).symm.trans hf
      refine P.iload_n 0 (pc' := 26) dX2_wrong_25 rfl rfl rfl ?_
      refine P.aload_n 1 (pc' := 27) dX2_wrong_26 rfl rfl rfl ?_
      obtain ⟨x17, h18, hf⟩ := ob hf
      refine P.get (pc' := 30) ci2 4 (by decide) (gfI_spec h18) q246 (Or.inl rfl) dX2_wrong_27 rfl ?_
      refine P.icmp_ne (tgt := 42) (pc' := 33) dX2_wrong_30 (by decide) rfl (fun y19 => ?_) (fun y19 => ?_)
      · have hf := (if_neg y19).symm.trans hf
        refine P.aload_n 1 (pc' := 43) dX2_wrong_42 rfl rfl rfl ?_
        refine P.iload_n 2 (pc' := 44) dX2_wrong_43 rfl rfl rfl ?_
        obtain ⟨μ20, h21, hf⟩ := ob hf
        refine P.put (v := .int p1) (pc' := 47) ci2 3 (by decide) h21 q245 (Or.inl rfl) rfl rfl rfl dX2_wrong_44 rfl ?_
        refine P.aload_n 1 (pc' := 48) dX2_wrong_47 rfl rfl rfl ?_
        refine P.iload_n 0 (pc' := 49) dX2_wrong_48 rfl rfl rfl ?_
        obtain ⟨μ22, h23, hf⟩ := ob hf
        refine P.put (v := .int x5) (pc' := 52) ci2 4 (by decide) h23 q246 (Or.inl rfl) rfl rfl rfl dX2_wrong_49 rfl ?_
        cases hf; exact P.vret rfl dX2_wrong_52
      · have hf := (if_pos y19).symm.trans hf
        refine P.iload_n 2 (pc' := 34) dX2_wrong_33 rfl rfl rfl ?_
        refine P.aload_n 1 (pc' := 35) dX2_wrong_34 rfl rfl rfl ?_
        obtain ⟨x24, h25, hf⟩ := ob hf
        refine P.get (pc' := 38) ci2 3 (by decide) (gfI_spec h25) q245 (Or.inl rfl) dX2_wrong_35 rfl ?_
        refine P.icmp_lt (tgt := 42) (pc' := 41) dX2_wrong_38 (by decide) rfl (fun y26 => ?_) (fun y26 => ?_)
        · have hf := (if_pos y26).symm.trans hf
          refine P.aload_n 1 (pc' := 43) dX2_wrong_42 rfl rfl rfl ?_
          refine P.iload_n 2 (pc' := 44) dX2_wrong_43 rfl rfl rfl ?_
          obtain ⟨μ27, h28, hf⟩ := ob hf
          refine P.put (v := .int p1) (pc' := 47) ci2 3 (by decide) h28 q245 (Or.inl rfl) rfl rfl rfl dX2_wrong_44 rfl ?_
          refine P.aload_n 1 (pc' := 48) dX2_wrong_47 rfl rfl rfl ?_
          refine P.iload_n 0 (pc' := 49) dX2_wrong_48 rfl rfl rfl ?_
          obtain ⟨μ29, h30, hf⟩ := ob hf
          refine P.put (v := .int x5) (pc' := 52) ci2 4 (by decide) h30 q246 (Or.inl rfl) rfl rfl rfl dX2_wrong_49 rfl ?_
          cases hf; exact P.vret rfl dX2_wrong_52
        · have hf := (if_neg y26).symm.trans hf
          cases hf; exact P.vret rfl dX2_wrong_41
theorem yok_X2_must : yOK yX2_must 1 := ⟨by decide +kernel, by decide +kernel, by decide +kernel⟩
theorem yok_X2_wrong : yOK yX2_wrong 2 := ⟨by decide +kernel, by decide +kernel, by decide +kernel⟩
abbrev mX2_bounded : Ym := (RX2, cX2_bounded, 5, (some Jvm.ClassFile.FieldType.int), false, [])
noncomputable def f_X2_bounded (F : Nat) (this : Nat) (p1 : Int32) (p2 : Int32) (μ : Sw) : Option ((Int32 ⊕ Nat) × Sw) :=
  Option.bind (oc μ this 2) fun u3 =>
  Option.bind (f_X2_must F this 2 μ) fun q1 =>
  thr q1.1 q1.2 fun x6 =>
  Option.bind (gfR q1.2 this 2 0) fun x8 =>
  Option.bind (gfR q1.2 x8 1 4) fun x10 =>
  Option.bind (aL q1.2 1 x10 x6) fun x12 =>
  Option.bind (p_X0_within F x12.toInt32 p1 p2) fun q14 =>
  if q14 = 0 then
    Option.bind (oc q1.2 this 2) fun u19 =>
    Option.bind (f_X2_wrong F this 5 x6 q1.2) fun q17 =>
    some (.inl x12.toInt32, q17)
  else
    some (.inl x12.toInt32, q1.2)
set_option maxHeartbeats 4000000 in
theorem ok_X2_bounded {g : Gx} (F : Nat) (this : Nat) (p1 : Int32) (p2 : Int32) (μ : Sw) {res : Int32 ⊕ Nat} {μF : Sw} (hf : f_X2_bounded F this p1 p2 μ = some (res, μF)) : ClX g 8 yX2_bounded cX2_bounded 5 (some Jvm.ClassFile.FieldType.int) [.ref this, .int p1, .int p2] μ (rvI res) μF := by
  unfold f_X2_bounded at hf
  refine ClX.of (own := RX2) (ini := false) (by decide +kernel) rfl (by decide) (Nat.le_of_ble_eq_true rfl) ?_
  show PW g mX2_bounded 8 μ μF (QX g (rvI res) μ μF) 0 [(0, .ref this), (1, .int p1), (2, .int p2)] [] μ
  refine P.aload_n 0 (pc' := 1) dX2_bounded_0 rfl rfl rfl ?_
  refine P.iconst (v := 2) (pc' := 2) dX2_bounded_1 rfl (by decide) ?_
  obtain ⟨u3, h4, hf⟩ := ob hf
  obtain ⟨q1, h2, hf⟩ := ob hf
  rcases e5 : q1.1 with x6 | x7
  rotate_left
  · have h2 := h2.trans (congrArg some (Prod.ext e5 rfl : q1 = (.inr x7, q1.2)))
    rw [e5] at hf
    have hf := thr_r hf
    cases hf
    exact P.callVXt (As := [.int 2]) 1 (ok_X2_must F this 2 μ h2) rfl (Nat.le_of_ble_eq_true rfl) (lw_V q760 q762 qs15 q161 q763) rfl yok_X2_must rfl (Nat.le_of_ble_eq_true rfl) ci2 h4 (by decide) rfl dX2_bounded_2
  have h2 := h2.trans (congrArg some (Prod.ext e5 rfl : q1 = (.inl x6, q1.2)))
  rw [e5] at hf
  have hf := thr_l hf
  refine P.callVX (pc' := 5) (As := [.int 2]) 1 (ok_X2_must F this 2 μ h2) (Nat.le_of_ble_eq_true rfl) (lw_V q760 q762 qs15 q161 q763) rfl yok_X2_must rfl (Nat.le_of_ble_eq_true rfl) ci2 h4 (by decide) rfl dX2_bounded_2 rfl ?_
  refine P.istore_n (pc' := 6) (lv' := [(3, .int x6), (0, .ref this), (1, .int p1), (2, .int p2)]) dX2_bounded_5 rfl rfl (Nat.le_of_ble_eq_true rfl) rfl ?_
  refine P.aload_n 1 (pc' := 7) dX2_bounded_6 rfl rfl rfl ?_
  obtain ⟨x8, h9, hf⟩ := ob hf
  refine P.get (pc' := 10) ci2 0 (by decide) (gfR_spec h9) q242 (Or.inl rfl) dX2_bounded_7 rfl ?_
  obtain ⟨x10, h11, hf⟩ := ob hf
  refine P.getN (pc' := 13) ci1 4 (by decide) (gfR_spec h11) q218 (Or.inl rfl) dX2_bounded_10 rfl ?_
  refine P.iload_n 0 (pc' := 14) dX2_bounded_13 rfl rfl rfl ?_
  obtain ⟨x12, h13, hf⟩ := ob hf
  refine P.lald (t := 1) (pc' := 15) rfl h13 dX2_bounded_14 rfl ?_
  refine P.l2i (pc' := 16) dX2_bounded_15 rfl ?_
  refine P.istore (pc' := 18) (lv' := [(4, .int x12.toInt32), (3, .int x6), (0, .ref this), (1, .int p1), (2, .int p2)]) dX2_bounded_16 rfl (Nat.le_of_ble_eq_true rfl) rfl ?_
  refine P.iload 0 (pc' := 20) dX2_bounded_18 rfl rfl ?_
  refine P.iload_n 3 (pc' := 21) dX2_bounded_20 rfl rfl rfl ?_
  refine P.iload_n 4 (pc' := 22) dX2_bounded_21 rfl rfl rfl ?_
  obtain ⟨q14, h15, hf⟩ := ob hf
  refine P.callSN (pc' := 25) (As := [.int x12.toInt32, .int p1, .int p2]) 3 (ok_X0_within F x12.toInt32 p1 p2 q1.2 h15) (Nat.le_of_ble_eq_true rfl) q558 q159 q776 q557 yok_X0_within rfl (Nat.le_of_ble_eq_true rfl) (by decide) rfl dX2_bounded_22 rfl ?_
  refine P.if_ne (tgt := 34) (pc' := 28) dX2_bounded_25 (by decide) rfl (fun y16 => ?_) (fun y16 => ?_)
  · have hf := (if_neg y16).symm.trans hf
    refine P.iload 0 (pc' := 36) dX2_bounded_34 rfl rfl ?_
    cases hf; exact P.iretX rfl dX2_bounded_36
  · have hf := (if_pos y16).symm.trans hf
    refine P.aload_n 2 (pc' := 29) dX2_bounded_28 rfl rfl rfl ?_
    refine P.iconst (v := 5) (pc' := 30) dX2_bounded_29 rfl (by decide) ?_
    refine P.iload_n 1 (pc' := 31) dX2_bounded_30 rfl rfl rfl ?_
    obtain ⟨u19, h20, hf⟩ := ob hf
    obtain ⟨q17, h18, hf⟩ := ob hf
    refine P.callV (pc' := 34) (As := [.int 5, .int x6]) 2 (ok_X2_wrong F this 5 x6 q1.2 h18) (Nat.le_of_ble_eq_true rfl) (lw_V q768 q770 qs17 q161 q771) rfl yok_X2_wrong rfl (Nat.le_of_ble_eq_true rfl) ci2 h20 (by decide) rfl dX2_bounded_31 rfl ?_
    refine P.iload 0 (pc' := 36) dX2_bounded_34 rfl rfl ?_
    cases hf; exact P.iretX rfl dX2_bounded_36
abbrev mJ2_size : Ym := (RJ2, cJ2_size, 1, (some Jvm.ClassFile.FieldType.int), false, [])
noncomputable def f_J2_size (F : Nat) (this : Nat) (μ : Sw) : Option Int32 :=
  Option.bind (gfI μ this 20 2) fun x1 =>
  some x1
set_option maxHeartbeats 4000000 in
theorem ok_J2_size {g : Gx} (F : Nat) (this : Nat) (μ : Sw) {rv : Int32} (hf : f_J2_size F this μ = some rv) : Cl g 1 yJ2_size cJ2_size 1 (some Jvm.ClassFile.FieldType.int) [.ref this] μ (some (.int rv)) μ := by
  unfold f_J2_size at hf
  refine Cl.of (own := RJ2) (ini := false) (by decide +kernel) rfl (by decide) (Nat.le_of_ble_eq_true rfl) ?_
  show PW g mJ2_size 1 μ μ (QN g (some (.int rv)) μ μ) 0 [(0, .ref this)] [] μ
  refine P.aload_n 0 (pc' := 1) dJ2_size_0 rfl rfl rfl ?_
  obtain ⟨x1, h2, hf⟩ := ob hf
  refine P.get (pc' := 4) ci20 2 (by decide) (gfI_spec h2) q292 (Or.inl rfl) dJ2_size_1 rfl ?_
  cases hf; exact P.iret rfl dJ2_size_4
abbrev mX2_room : Ym := (RX2, cX2_room, 3, none, false, [])
noncomputable def f_X2_room (F : Nat) (this : Nat) (p1 : Int32) (p2 : Int32) (μ : Sw) : Option ((Unit ⊕ Nat) × Sw) :=
  if p1 = p2 then
    Option.bind (oc μ this 2) fun u11 =>
    Option.bind (f_X2_fault F this 2 μ) fun q9 =>
    Option.bind (oc q9.2 q9.1 10) fun u13 =>
    some (.inr q9.1, q9.2)
  else
    Option.bind (oc μ this 2) fun u4 =>
    Option.bind (f_X2_go F this μ) fun q2 =>
    thr q2.1 q2.2 fun x7 =>
    some (.inl (), q2.2)
set_option maxHeartbeats 4000000 in
theorem ok_X2_room {g : Gx} (F : Nat) (this : Nat) (p1 : Int32) (p2 : Int32) (μ : Sw) {res : Unit ⊕ Nat} {μF : Sw} (hf : f_X2_room F this p1 p2 μ = some (res, μF)) : ClX g 7 yX2_room cX2_room 3 none [.ref this, .int p1, .int p2] μ (rvU res) μF := by
  unfold f_X2_room at hf
  refine ClX.of (own := RX2) (ini := false) (by decide +kernel) rfl (by decide) (Nat.le_of_ble_eq_true rfl) ?_
  show PW g mX2_room 7 μ μF (QX g (rvU res) μ μF) 0 [(0, .ref this), (1, .int p1), (2, .int p2)] [] μ
  refine P.iload_n 1 (pc' := 1) dX2_room_0 rfl rfl rfl ?_
  refine P.iload_n 2 (pc' := 2) dX2_room_1 rfl rfl rfl ?_
  refine P.icmp_ne (tgt := 11) (pc' := 5) dX2_room_2 (by decide) rfl (fun y1 => ?_) (fun y1 => ?_)
  · have hf := (if_neg y1).symm.trans hf
    refine P.aload_n 0 (pc' := 12) dX2_room_11 rfl rfl rfl ?_
    obtain ⟨u4, h5, hf⟩ := ob hf
    obtain ⟨q2, h3, hf⟩ := ob hf
    rcases e6 : q2.1 with x7 | x8
    rotate_left
    · have h3 := h3.trans (congrArg some (Prod.ext e6 rfl : q2 = (.inr x8, q2.2)))
      rw [e6] at hf
      have hf := thr_r hf
      cases hf
      exact P.callVXt (As := []) 0 (ok_X2_go F this μ h3) rfl (Nat.le_of_ble_eq_true rfl) (lw_V q752 q754 qs13 q161 q755) rfl yok_X2_go rfl (Nat.le_of_ble_eq_true rfl) ci2 h5 (by decide) rfl dX2_room_12
    have h3 := h3.trans (congrArg some (Prod.ext e6 rfl : q2 = (.inl x7, q2.2)))
    rw [e6] at hf
    have hf := thr_l hf
    refine P.callVX (pc' := 15) (As := []) 0 (ok_X2_go F this μ h3) (Nat.le_of_ble_eq_true rfl) (lw_V q752 q754 qs13 q161 q755) rfl yok_X2_go rfl (Nat.le_of_ble_eq_true rfl) ci2 h5 (by decide) rfl dX2_room_12 rfl ?_
    refine P.pop (pc' := 16) dX2_room_15 rfl rfl ?_
    cases hf; exact P.vretX rfl dX2_room_16
  · have hf := (if_pos y1).symm.trans hf
    refine P.aload_n 0 (pc' := 6) dX2_room_5 rfl rfl rfl ?_
    refine P.iconst (v := 2) (pc' := 7) dX2_room_6 rfl (by decide) ?_
    obtain ⟨u11, h12, hf⟩ := ob hf
    obtain ⟨q9, h10, hf⟩ := ob hf
    refine P.callV (pc' := 10) (As := [.int 2]) 1 (ok_X2_fault F this 2 μ h10) (Nat.le_of_ble_eq_true rfl) (lw_V q676 q678 qs11 q161 q679) rfl yok_X2_fault rfl (Nat.le_of_ble_eq_true rfl) ci2 h12 (by decide) rfl dX2_room_7 rfl ?_
    obtain ⟨u13, h14, hf⟩ := ob hf
    cases hf; exact P.athrow rfl h14 dX2_room_10
abbrev mX13_init : Ym := (RX13, cX13_init, 3, none, true, [])
noncomputable def f_X13_init (F : Nat) (this : Nat) (p1 : Int32) (p2 : Int32) (μ : Sw) : Option Sw :=
  Option.bind (f_J3_init F this μ) fun q1 =>
  Option.bind (pf μ this 13 0 (.int p1)) fun μ3 =>
  Option.bind (pf μ3 this 13 1 (.int p2)) fun μ5 =>
  some μ5
set_option maxHeartbeats 4000000 in
theorem ok_X13_init {g : Gx} (F : Nat) (this : Nat) (p1 : Int32) (p2 : Int32) (μ : Sw) {μF : Sw} (hf : f_X13_init F this p1 p2 μ = some μF) : Cl g 2 yX13_init cX13_init 3 none [.ref this, .int p1, .int p2] μ none μF := by
  unfold f_X13_init at hf
  refine Cl.of (own := RX13) (ini := true) (by decide +kernel) rfl (by decide) (Nat.le_of_ble_eq_true rfl) ?_
  show PW g mX13_init 2 μ μF (QN g none μ μF) 0 [(0, .ref this), (1, .int p1), (2, .int p2)] [] μ
  refine P.aload_n 0 (pc' := 1) dX13_init_0 rfl rfl rfl ?_
  obtain ⟨q1, h2, hf⟩ := ob hf
  refine P.callI (pc' := 4) (As := []) 0 (ok_J3_init F this μ h2) (Nat.le_of_ble_eq_true rfl) q310 q166 q899 q309 rfl yok_J3_init rfl (Nat.le_of_ble_eq_true rfl) (by decide) rfl dX13_init_1 rfl ?_
  refine P.aload_n 0 (pc' := 5) dX13_init_4 rfl rfl rfl ?_
  refine P.iload_n 1 (pc' := 6) dX13_init_5 rfl rfl rfl ?_
  obtain ⟨μ3, h4, hf⟩ := ob hf
  refine P.putF (v := .int p1) (pc' := 9) ci13 0 (by decide) h4 q900 (Or.inl rfl) rfl rfl rfl rfl rfl dX13_init_6 rfl ?_
  refine P.aload_n 0 (pc' := 10) dX13_init_9 rfl rfl rfl ?_
  refine P.iload_n 2 (pc' := 11) dX13_init_10 rfl rfl rfl ?_
  obtain ⟨μ5, h6, hf⟩ := ob hf
  refine P.putF (v := .int p2) (pc' := 14) ci13 1 (by decide) h6 q902 (Or.inl rfl) rfl rfl rfl rfl rfl dX13_init_11 rfl ?_
  cases hf; exact P.vret rfl dX13_init_14
abbrev mJ11_newLength : Ym := (RJ11, cJ11_newLength, 4, (some Jvm.ClassFile.FieldType.int), false, [])
noncomputable def f_J11_newLength (F : Nat) (p1 : Int32) (p2 : Int32) (p3 : Int32) (μ : Sw) : Option (Int32 × Sw) :=
  nm (p1 + (mx p2 p3)) fun x1 =>
  if x1 ≤ 0 then
    none
  else
    if 2147483639 < x1 then
      none
    else
      some (x1, μ)
set_option maxHeartbeats 4000000 in
theorem ok_J11_newLength {g : Gx} (F : Nat) (p1 : Int32) (p2 : Int32) (p3 : Int32) (μ : Sw) {rv : Int32} {μF : Sw} (hf : f_J11_newLength F p1 p2 p3 μ = some (rv, μF)) : Cl g 2 yJ11_newLength cJ11_newLength 4 (some Jvm.ClassFile.FieldType.int) [.int p1, .int p2, .int p3] μ (some (.int rv)) μF := by
  unfold f_J11_newLength at hf
  refine Cl.of (own := RJ11) (ini := false) (by decide +kernel) rfl (by decide) (Nat.le_of_ble_eq_true rfl) ?_
  show PW g mJ11_newLength 2 μ μF (QN g (some (.int rv)) μ μF) 0 [(0, .int p1), (1, .int p2), (2, .int p3)] [] μ
  refine P.iload_n 0 (pc' := 1) dJ11_newLength_0 rfl rfl rfl ?_
  refine P.iload_n 1 (pc' := 2) dJ11_newLength_1 rfl rfl rfl ?_
  refine P.iload_n 2 (pc' := 3) dJ11_newLength_2 rfl rfl rfl ?_
  refine P.mmax (pc' := 6) q815 q816 q183 q817 (Nat.le_of_ble_eq_true rfl) (Nat.le_of_ble_eq_true rfl) dJ11_newLength_3 rfl ?_
  refine P.iadd (pc' := 7) dJ11_newLength_6 rfl ?_
  obtain ⟨x1, e2, hf⟩ := nm_i hf
  refine P.nmi e2 ?_
  refine P.istore_n (pc' := 8) (lv' := [(3, .int x1), (0, .int p1), (1, .int p2), (2, .int p3)]) dJ11_newLength_7 rfl rfl (Nat.le_of_ble_eq_true rfl) rfl ?_
  refine P.iconst (v := 0) (pc' := 9) dJ11_newLength_8 rfl (by decide) ?_
  refine P.iload_n 0 (pc' := 10) dJ11_newLength_9 rfl rfl rfl ?_
  refine P.icmp_ge (tgt := 21) (pc' := 13) dJ11_newLength_10 (by decide) rfl (fun y3 => ?_) (fun y3 => ?_)
  · have hf := (if_pos y3).symm.trans hf
    refine P.iload_n 1 (pc' := 22) dJ11_newLength_21 rfl rfl rfl ?_
    refine P.iload_n 2 (pc' := 23) dJ11_newLength_22 rfl rfl rfl ?_
    cases hf
  · have hf := (if_neg y3).symm.trans hf
    refine P.iload_n 0 (pc' := 14) dJ11_newLength_13 rfl rfl rfl ?_
    refine P.ldc (v := 2147483639) (pc' := 16) dJ11_newLength_14 rfl q818 ?_
    refine P.icmp_gt (tgt := 21) (pc' := 19) dJ11_newLength_16 (by decide) rfl (fun y4 => ?_) (fun y4 => ?_)
    · have hf := (if_pos y4).symm.trans hf
      refine P.iload_n 1 (pc' := 22) dJ11_newLength_21 rfl rfl rfl ?_
      refine P.iload_n 2 (pc' := 23) dJ11_newLength_22 rfl rfl rfl ?_
      cases hf
    · have hf := (if_neg y4).symm.trans hf
      refine P.iload_n 0 (pc' := 20) dJ11_newLength_19 rfl rfl rfl ?_
      cases hf; exact P.iret rfl dJ11_newLength_20
abbrev mJ13_copyOf_2 : Ym := (RJ13, cJ13_copyOf_2, 4, (some (Jvm.ClassFile.FieldType.array (Jvm.ClassFile.FieldType.object "java/lang/Object"))), false, [])
noncomputable def f_J13_copyOf_2_j24 (F : Nat) (v0 : Nat) (v1 : Int32) (s0 : Nat) (μ : Sw) : Option (Nat × Sw) :=
  Option.bind (aN μ v0) fun x1 =>
  Option.bind (cpQ μ 6 v0 0 s0 0 (mn x1 v1)) fun μ3 =>
  some (s0, μ3)
set_option maxHeartbeats 4000000 in
theorem ok_f_J13_copyOf_2_j24 {g : Gx} {μ0 : Sw} {rv : Nat} {μF : Sw} (F : Nat) (v0 : Nat) (v1 : Int32) (s0 : Nat) (μ : Sw) (hf : f_J13_copyOf_2_j24 F v0 v1 s0 μ = some (rv, μF)) : PW g mJ13_copyOf_2 2 μ0 μF (QN g (some (.ref rv)) μ0 μF) 24 [(0, .ref v0), (1, .int v1)] [.ref s0] μ := by
  unfold f_J13_copyOf_2_j24 at hf
  refine P.astore_n (pc' := 25) (lv' := [(3, .ref s0), (0, .ref v0), (1, .int v1)]) dJ13_copyOf_2_24 rfl rfl (Nat.le_of_ble_eq_true rfl) rfl ?_
  refine P.aload_n 1 (pc' := 26) dJ13_copyOf_2_25 rfl rfl rfl ?_
  refine P.iconst (v := 0) (pc' := 27) dJ13_copyOf_2_26 rfl (by decide) ?_
  refine P.aload_n 0 (pc' := 28) dJ13_copyOf_2_27 rfl rfl rfl ?_
  refine P.iconst (v := 0) (pc' := 29) dJ13_copyOf_2_28 rfl (by decide) ?_
  refine P.aload_n 1 (pc' := 30) dJ13_copyOf_2_29 rfl rfl rfl ?_
  obtain ⟨x1, h2, hf⟩ := ob hf
  refine P.alen (pc' := 31) h2 dJ13_copyOf_2_30 rfl ?_
  refine P.iload_n 2 (pc' := 32) dJ13_copyOf_2_31 rfl rfl rfl ?_
  refine P.mmin (pc' := 35) q856 q857 q183 q858 (Nat.le_of_ble_eq_true rfl) (Nat.le_of_ble_eq_true rfl) dJ13_copyOf_2_32 rfl ?_
  obtain ⟨μ3, h4, hf⟩ := ob hf
  refine P.cpQ (pc' := 38) h4 q859 q861 q860 q185 (Nat.le_of_ble_eq_true rfl) (by decide) dJ13_copyOf_2_35 rfl ?_
  refine P.aload_n 0 (pc' := 39) dJ13_copyOf_2_38 rfl rfl rfl ?_
  cases hf; exact P.aret rfl (Or.inr ⟨_, rfl⟩) dJ13_copyOf_2_39
noncomputable def f_J13_copyOf_2 (F : Nat) (p1 : Nat) (p2 : Int32) (p3 : Nat) (μ : Sw) : Option (Nat × Sw) :=
  if p3 = (μ.2.2.2 2) then
    Option.bind (nwQ μ 6 p2) fun μ2 =>
    f_J13_copyOf_2_j24 F p1 p2 μ.2.1 μ2
  else
    none
set_option maxHeartbeats 4000000 in
theorem ok_J13_copyOf_2 {g : Gx} (F : Nat) (p1 : Nat) (p2 : Int32) (p3 : Nat) (μ : Sw) {rv : Nat} {μF : Sw} (hf : f_J13_copyOf_2 F p1 p2 p3 μ = some (rv, μF)) : Cl g 2 yJ13_copyOf_2 cJ13_copyOf_2 4 (some (Jvm.ClassFile.FieldType.array (Jvm.ClassFile.FieldType.object "java/lang/Object"))) [.ref p1, .int p2, .ref p3] μ (some (.ref rv)) μF := by
  unfold f_J13_copyOf_2 at hf
  refine Cl.of (own := RJ13) (ini := false) (by decide +kernel) rfl (by decide) (Nat.le_of_ble_eq_true rfl) ?_
  show PW g mJ13_copyOf_2 2 μ μF (QN g (some (.ref rv)) μ μF) 0 [(0, .ref p1), (1, .int p2), (2, .ref p3)] [] μ
  refine P.aload_n 2 (pc' := 1) dJ13_copyOf_2_0 rfl rfl rfl ?_
  refine P.ldcM (pc' := 3) q853 dJ13_copyOf_2_1 rfl ?_
  refine P.acmp_ne (tgt := 13) (pc' := 6) dJ13_copyOf_2_3 (by decide) rfl (fun y1 => ?_) (fun y1 => ?_)
  · have hf := (if_neg y1).symm.trans hf
    refine P.aload_n 2 (pc' := 14) dJ13_copyOf_2_13 rfl rfl rfl ?_
    cases hf
  · have hf := (if_pos y1).symm.trans hf
    refine P.iload_n 1 (pc' := 7) dJ13_copyOf_2_6 rfl rfl rfl ?_
    obtain ⟨μ2, h4, hf⟩ := ob hf
    refine P.anewQ (t := 6) (C := "java/lang/Object") (pc' := 10) q855 (by decide) rfl (by decide) h4 dJ13_copyOf_2_7 rfl ?_
    refine P.goto (tgt := 24) dJ13_copyOf_2_10 (by decide) ?_
    exact PW.sub [0, 1] rfl (ok_f_J13_copyOf_2_j24 F p1 p2 μ.2.1 μ2 hf)
theorem yok_J13_copyOf_2 : yOK yJ13_copyOf_2 3 := ⟨by decide +kernel, by decide +kernel, by decide +kernel⟩
abbrev mJ13_copyOf : Ym := (RJ13, cJ13_copyOf, 2, (some (Jvm.ClassFile.FieldType.array (Jvm.ClassFile.FieldType.object "java/lang/Object"))), false, [])
noncomputable def f_J13_copyOf (F : Nat) (p1 : Nat) (p2 : Int32) (μ : Sw) : Option (Nat × Sw) :=
  Option.bind (oAo μ p1) fun u1 =>
  Option.bind (f_J13_copyOf_2 F p1 p2 (μ.2.2.2 2) μ) fun q3 =>
  some (q3.1, q3.2)
set_option maxHeartbeats 4000000 in
theorem ok_J13_copyOf {g : Gx} (F : Nat) (p1 : Nat) (p2 : Int32) (μ : Sw) {rv : Nat} {μF : Sw} (hf : f_J13_copyOf F p1 p2 μ = some (rv, μF)) : Cl g 3 yJ13_copyOf cJ13_copyOf 2 (some (Jvm.ClassFile.FieldType.array (Jvm.ClassFile.FieldType.object "java/lang/Object"))) [.ref p1, .int p2] μ (some (.ref rv)) μF := by
  unfold f_J13_copyOf at hf
  refine Cl.of (own := RJ13) (ini := false) (by decide +kernel) rfl (by decide) (Nat.le_of_ble_eq_true rfl) ?_
  show PW g mJ13_copyOf 3 μ μF (QN g (some (.ref rv)) μ μF) 0 [(0, .ref p1), (1, .int p2)] [] μ
  refine P.aload_n 0 (pc' := 1) dJ13_copyOf_0 rfl rfl rfl ?_
  refine P.iload_n 1 (pc' := 2) dJ13_copyOf_1 rfl rfl rfl ?_
  refine P.aload_n 0 (pc' := 3) dJ13_copyOf_2 rfl rfl rfl ?_
  obtain ⟨u1, h2, hf⟩ := ob hf
  refine P.getCls (pc' := 6) h2 q825 (Nat.le_of_ble_eq_true rfl) (Nat.le_of_ble_eq_true rfl) dJ13_copyOf_3 rfl ?_
  obtain ⟨q3, h4, hf⟩ := ob hf
  refine P.callS (pc' := 9) (As := [.ref p1, .int p2, .ref (μ.2.2.2 2)]) 3 (ok_J13_copyOf_2 F p1 p2 (μ.2.2.2 2) μ h4) (Nat.le_of_ble_eq_true rfl) (lw_S q850 q851 q184 q852) yok_J13_copyOf_2 rfl (Nat.le_of_ble_eq_true rfl) (by decide) rfl dJ13_copyOf_6 rfl ?_
  cases hf; exact P.aret rfl (Or.inr ⟨_, rfl⟩) dJ13_copyOf_9
theorem yok_J11_newLength : yOK yJ11_newLength 3 := ⟨by decide +kernel, by decide +kernel, by decide +kernel⟩
theorem yok_J13_copyOf : yOK yJ13_copyOf 2 := ⟨by decide +kernel, by decide +kernel, by decide +kernel⟩
abbrev mJ2_grow_2 : Ym := (RJ2, cJ2_grow_2, 4, (some (Jvm.ClassFile.FieldType.array (Jvm.ClassFile.FieldType.object "java/lang/Object"))), false, [])
noncomputable def f_J2_grow_2_j20 (F : Nat) (v0 : Nat) (v1 : Int32) (v2 : Int32) (μ : Sw) : Option (Nat × Sw) :=
  Option.bind (f_J11_newLength F v2 (v1 - v2) (v2 >>> (1 &&& 31)) μ) fun q1 =>
  Option.bind (gfR q1.2 v0 20 1) fun x3 =>
  Option.bind (f_J13_copyOf F x3 q1.1 q1.2) fun q5 =>
  Option.bind (pf q5.2 v0 20 1 (.ref q5.1)) fun μ7 =>
  some (q5.1, μ7)
set_option maxHeartbeats 4000000 in
theorem ok_f_J2_grow_2_j20 {g : Gx} {μ0 : Sw} {rv : Nat} {μF : Sw} (F : Nat) (v0 : Nat) (v1 : Int32) (v2 : Int32) (μ : Sw) (hf : f_J2_grow_2_j20 F v0 v1 v2 μ = some (rv, μF)) : PW g mJ2_grow_2 4 μ0 μF (QN g (some (.ref rv)) μ0 μF) 20 [(0, .ref v0), (1, .int v1), (2, .int v2)] [] μ := by
  unfold f_J2_grow_2_j20 at hf
  refine P.iload_n 2 (pc' := 21) dJ2_grow_2_20 rfl rfl rfl ?_
  refine P.iload_n 1 (pc' := 22) dJ2_grow_2_21 rfl rfl rfl ?_
  refine P.iload_n 2 (pc' := 23) dJ2_grow_2_22 rfl rfl rfl ?_
  refine P.isub (pc' := 24) dJ2_grow_2_23 rfl ?_
  refine P.iload_n 2 (pc' := 25) dJ2_grow_2_24 rfl rfl rfl ?_
  refine P.iconst (v := 1) (pc' := 26) dJ2_grow_2_25 rfl (by decide) ?_
  refine P.ishr (pc' := 27) dJ2_grow_2_26 rfl ?_
  obtain ⟨q1, h2, hf⟩ := ob hf
  refine P.callS (pc' := 30) (As := [.int v2, .int (v1 - v2), .int (v2 >>> (1 &&& 31))]) 3 (ok_J11_newLength F v2 (v1 - v2) (v2 >>> (1 &&& 31)) μ h2) (Nat.le_of_ble_eq_true rfl) (lw_S q812 q813 q182 q814) yok_J11_newLength rfl (Nat.le_of_ble_eq_true rfl) (by decide) rfl dJ2_grow_2_27 rfl ?_
  refine P.istore_n (pc' := 31) (lv' := [(3, .int q1.1), (0, .ref v0), (1, .int v1), (2, .int v2)]) dJ2_grow_2_30 rfl rfl (Nat.le_of_ble_eq_true rfl) rfl ?_
  refine P.aload_n 1 (pc' := 32) dJ2_grow_2_31 rfl rfl rfl ?_
  refine P.aload_n 1 (pc' := 33) dJ2_grow_2_32 rfl rfl rfl ?_
  obtain ⟨x3, h4, hf⟩ := ob hf
  refine P.get (pc' := 36) ci20 1 (by decide) (gfR_spec h4) q291 (Or.inl rfl) dJ2_grow_2_33 rfl ?_
  refine P.iload_n 0 (pc' := 37) dJ2_grow_2_36 rfl rfl rfl ?_
  obtain ⟨q5, h6, hf⟩ := ob hf
  refine P.callS (pc' := 40) (As := [.ref x3, .int q1.1]) 2 (ok_J13_copyOf F x3 q1.1 q1.2 h6) (Nat.le_of_ble_eq_true rfl) (lw_S q822 q823 q184 q824) yok_J13_copyOf rfl (Nat.le_of_ble_eq_true rfl) (Nat.le_of_ble_eq_true rfl) rfl dJ2_grow_2_37 rfl ?_
  refine P.dup_x1 (pc' := 41) dJ2_grow_2_40 rfl rfl rfl ?_
  obtain ⟨μ7, h8, hf⟩ := ob hf
  refine P.put (v := .ref q5.1) (pc' := 44) ci20 1 (by decide) h8 q291 (Or.inl rfl) rfl rfl rfl dJ2_grow_2_41 rfl ?_
  cases hf; exact P.aret rfl (Or.inr ⟨_, rfl⟩) dJ2_grow_2_44
noncomputable def f_J2_grow_2 (F : Nat) (this : Nat) (p1 : Int32) (μ : Sw) : Option (Nat × Sw) :=
  Option.bind (gfR μ this 20 1) fun x1 =>
  Option.bind (aN μ x1) fun x3 =>
  if 0 < x3 then
    f_J2_grow_2_j20 F this p1 x3 μ
  else
    Option.bind (gfR μ this 20 1) fun x6 =>
    if x6 = (μ.2.2.2 0) then
      Option.bind (nwQ μ 6 (mx 10 p1)) fun μ9 =>
      Option.bind (pf μ9 this 20 1 (.ref μ.2.1)) fun μ12 =>
      some (μ.2.1, μ12)
    else
      f_J2_grow_2_j20 F this p1 x3 μ
set_option maxHeartbeats 4000000 in
theorem ok_J2_grow_2 {g : Gx} (F : Nat) (this : Nat) (p1 : Int32) (μ : Sw) {rv : Nat} {μF : Sw} (hf : f_J2_grow_2 F this p1 μ = some (rv, μF)) : Cl g 4 yJ2_grow_2 cJ2_grow_2 4 (some (Jvm.ClassFile.FieldType.array (Jvm.ClassFile.FieldType.object "java/lang/Object"))) [.ref this, .int p1] μ (some (.ref rv)) μF := by
  unfold f_J2_grow_2 at hf
  refine Cl.of (own := RJ2) (ini := false) (by decide +kernel) rfl (by decide) (Nat.le_of_ble_eq_true rfl) ?_
  show PW g mJ2_grow_2 4 μ μF (QN g (some (.ref rv)) μ μF) 0 [(0, .ref this), (1, .int p1)] [] μ
  refine P.aload_n 0 (pc' := 1) dJ2_grow_2_0 rfl rfl rfl ?_
  obtain ⟨x1, h2, hf⟩ := ob hf
  refine P.get (pc' := 4) ci20 1 (by decide) (gfR_spec h2) q291 (Or.inl rfl) dJ2_grow_2_1 rfl ?_
  obtain ⟨x3, h4, hf⟩ := ob hf
  refine P.alen (pc' := 5) h4 dJ2_grow_2_4 rfl ?_
  refine P.istore_n (pc' := 6) (lv' := [(2, .int x3), (0, .ref this), (1, .int p1)]) dJ2_grow_2_5 rfl rfl (Nat.le_of_ble_eq_true rfl) rfl ?_
  refine P.iload_n 0 (pc' := 7) dJ2_grow_2_6 rfl rfl rfl ?_
  refine P.if_gt (tgt := 20) (pc' := 10) dJ2_grow_2_7 (by decide) rfl (fun y5 => ?_) (fun y5 => ?_)
  · have hf := (if_pos y5).symm.trans hf
    exact PW.sub [1, 2, 0] rfl (ok_f_J2_grow_2_j20 F this p1 x3 μ hf)
  · have hf := (if_neg y5).symm.trans hf
    refine P.aload_n 1 (pc' := 11) dJ2_grow_2_10 rfl rfl rfl ?_
    obtain ⟨x6, h7, hf⟩ := ob hf
    refine P.get (pc' := 14) ci20 1 (by decide) (gfR_spec h7) q291 (Or.inl rfl) dJ2_grow_2_11 rfl ?_
    refine P.getsR (pc' := 17) 0 (zs0 g) q289 dJ2_grow_2_14 rfl ?_
    refine P.acmp_eq (tgt := 45) (pc' := 20) dJ2_grow_2_17 (by decide) rfl (fun y8 => ?_) (fun y8 => ?_)
    · have hf := (if_pos y8).symm.trans hf
      refine P.aload_n 1 (pc' := 46) dJ2_grow_2_45 rfl rfl rfl ?_
      refine P.bipush (v := 10) (pc' := 48) dJ2_grow_2_46 rfl (by decide) ?_
      refine P.iload_n 2 (pc' := 49) dJ2_grow_2_48 rfl rfl rfl ?_
      refine P.mmax (pc' := 52) q862 q816 q183 q817 (Nat.le_of_ble_eq_true rfl) (Nat.le_of_ble_eq_true rfl) dJ2_grow_2_49 rfl ?_
      obtain ⟨μ9, h11, hf⟩ := ob hf
      refine P.anewQ (t := 6) (C := "java/lang/Object") (pc' := 55) q863 (by decide) rfl (by decide) h11 dJ2_grow_2_52 rfl ?_
      refine P.dup_x1 (pc' := 56) dJ2_grow_2_55 rfl rfl rfl ?_
      obtain ⟨μ12, h13, hf⟩ := ob hf
      refine P.put (v := .ref μ.2.1) (pc' := 59) ci20 1 (by decide) h13 q291 (Or.inl rfl) rfl rfl rfl dJ2_grow_2_56 rfl ?_
      cases hf; exact P.aret rfl (Or.inr ⟨_, rfl⟩) dJ2_grow_2_59
    · have hf := (if_neg y8).symm.trans hf
      exact PW.sub [1, 2, 0] rfl (ok_f_J2_grow_2_j20 F this p1 x3 μ hf)
theorem yok_J2_grow_2 : yOK yJ2_grow_2 1 := ⟨by decide +kernel, by decide +kernel, by decide +kernel⟩
abbrev mJ2_grow : Ym := (RJ2, cJ2_grow, 1, (some (Jvm.ClassFile.FieldType.array (Jvm.ClassFile.FieldType.object "java/lang/Object"))), false, [])
noncomputable def f_J2_grow (F : Nat) (this : Nat) (μ : Sw) : Option (Nat × Sw) :=
  Option.bind (gfI μ this 20 2) fun x1 =>
  Option.bind (oc μ this 20) fun u5 =>
  Option.bind (f_J2_grow_2 F this (x1 + 1) μ) fun q3 =>
  some (q3.1, q3.2)
set_option maxHeartbeats 4000000 in
theorem ok_J2_grow {g : Gx} (F : Nat) (this : Nat) (μ : Sw) {rv : Nat} {μF : Sw} (hf : f_J2_grow F this μ = some (rv, μF)) : Cl g 5 yJ2_grow cJ2_grow 1 (some (Jvm.ClassFile.FieldType.array (Jvm.ClassFile.FieldType.object "java/lang/Object"))) [.ref this] μ (some (.ref rv)) μF := by
  unfold f_J2_grow at hf
  refine Cl.of (own := RJ2) (ini := false) (by decide +kernel) rfl (by decide) (Nat.le_of_ble_eq_true rfl) ?_
  show PW g mJ2_grow 5 μ μF (QN g (some (.ref rv)) μ μF) 0 [(0, .ref this)] [] μ
  refine P.aload_n 0 (pc' := 1) dJ2_grow_0 rfl rfl rfl ?_
  refine P.aload_n 0 (pc' := 2) dJ2_grow_1 rfl rfl rfl ?_
  obtain ⟨x1, h2, hf⟩ := ob hf
  refine P.get (pc' := 5) ci20 2 (by decide) (gfI_spec h2) q292 (Or.inl rfl) dJ2_grow_2 rfl ?_
  refine P.iconst (v := 1) (pc' := 6) dJ2_grow_5 rfl (by decide) ?_
  refine P.iadd (pc' := 7) dJ2_grow_6 rfl ?_
  obtain ⟨u5, h6, hf⟩ := ob hf
  obtain ⟨q3, h4, hf⟩ := ob hf
  refine P.callV (pc' := 10) (As := [.int (x1 + 1)]) 1 (ok_J2_grow_2 F this (x1 + 1) μ h4) (Nat.le_of_ble_eq_true rfl) (lw_V q808 q810 qs21 q165 q811) rfl yok_J2_grow_2 rfl (Nat.le_of_ble_eq_true rfl) ci20 h6 (by decide) rfl dJ2_grow_7 rfl ?_
  cases hf; exact P.aret rfl (Or.inr ⟨_, rfl⟩) dJ2_grow_10
theorem yok_J2_grow : yOK yJ2_grow 0 := ⟨by decide +kernel, by decide +kernel, by decide +kernel⟩
abbrev mJ2_add_2 : Ym := (RJ2, cJ2_add_2, 4, none, false, [])
noncomputable def f_J2_add_2 (F : Nat) (this : Nat) (p1 : Nat) (p2 : Nat) (p3 : Int32) (μ : Sw) : Option Sw :=
  Option.bind (aN μ p2) fun x1 =>
  if p3 = x1 then
    Option.bind (oc μ this 20) fun u12 =>
    Option.bind (f_J2_grow F this μ) fun q10 =>
    Option.bind (sQ q10.2 6 q10.1 p3 (some p1)) fun μ15 =>
    Option.bind (oAny q10.2 p1) fun u17 =>
    Option.bind (pf μ15 this 20 2 (.int (p3 + 1))) fun μ18 =>
    some μ18
  else
    Option.bind (sQ μ 6 p2 p3 (some p1)) fun μ5 =>
    Option.bind (oAny μ p1) fun u7 =>
    Option.bind (pf μ5 this 20 2 (.int (p3 + 1))) fun μ8 =>
    some μ8
set_option maxHeartbeats 4000000 in
theorem ok_J2_add_2 {g : Gx} (F : Nat) (this : Nat) (p1 : Nat) (p2 : Nat) (p3 : Int32) (μ : Sw) {μF : Sw} (hf : f_J2_add_2 F this p1 p2 p3 μ = some μF) : Cl g 6 yJ2_add_2 cJ2_add_2 4 none [.ref this, .ref p1, .ref p2, .int p3] μ none μF := by
  unfold f_J2_add_2 at hf
  refine Cl.of (own := RJ2) (ini := false) (by decide +kernel) rfl (by decide) (Nat.le_of_ble_eq_true rfl) ?_
  show PW g mJ2_add_2 6 μ μF (QN g none μ μF) 0 [(0, .ref this), (1, .ref p1), (2, .ref p2), (3, .int p3)] [] μ
  refine P.iload_n 3 (pc' := 1) dJ2_add_2_0 rfl rfl rfl ?_
  refine P.aload_n 2 (pc' := 2) dJ2_add_2_1 rfl rfl rfl ?_
  obtain ⟨x1, h2, hf⟩ := ob hf
  refine P.alen (pc' := 3) h2 dJ2_add_2_2 rfl ?_
  refine P.icmp_ne (tgt := 11) (pc' := 6) dJ2_add_2_3 (by decide) rfl (fun y3 => ?_) (fun y3 => ?_)
  · have hf := (if_neg y3).symm.trans hf
    refine P.aload_n 2 (pc' := 12) dJ2_add_2_11 rfl rfl rfl ?_
    refine P.iload_n 3 (pc' := 13) dJ2_add_2_12 rfl rfl rfl ?_
    refine P.aload_n 1 (pc' := 14) dJ2_add_2_13 rfl rfl rfl ?_
    obtain ⟨μ5, h4, hf⟩ := ob hf
    obtain ⟨u7, h6, hf⟩ := ob hf
    refine P.aastO (pc' := 15) h6 h4 dJ2_add_2_14 rfl ?_
    refine P.aload_n 0 (pc' := 16) dJ2_add_2_15 rfl rfl rfl ?_
    refine P.iload_n 3 (pc' := 17) dJ2_add_2_16 rfl rfl rfl ?_
    refine P.iconst (v := 1) (pc' := 18) dJ2_add_2_17 rfl (by decide) ?_
    refine P.iadd (pc' := 19) dJ2_add_2_18 rfl ?_
    obtain ⟨μ8, h9, hf⟩ := ob hf
    refine P.put (v := .int (p3 + 1)) (pc' := 22) ci20 2 (by decide) h9 q292 (Or.inl rfl) rfl rfl rfl dJ2_add_2_19 rfl ?_
    cases hf; exact P.vret rfl dJ2_add_2_22
  · have hf := (if_pos y3).symm.trans hf
    refine P.aload_n 0 (pc' := 7) dJ2_add_2_6 rfl rfl rfl ?_
    obtain ⟨u12, h13, hf⟩ := ob hf
    obtain ⟨q10, h11, hf⟩ := ob hf
    refine P.callV (pc' := 10) (As := []) 0 (ok_J2_grow F this μ h11) (Nat.le_of_ble_eq_true rfl) (lw_V q804 q806 qs20 q165 q807) rfl yok_J2_grow rfl (Nat.le_of_ble_eq_true rfl) ci20 h13 (by decide) rfl dJ2_add_2_7 rfl ?_
    refine P.astore_n (pc' := 11) (lv' := [(2, .ref q10.1), (0, .ref this), (1, .ref p1), (3, .int p3)]) dJ2_add_2_10 rfl rfl (Nat.le_of_ble_eq_true rfl) rfl ?_
    refine P.aload_n 0 (pc' := 12) dJ2_add_2_11 rfl rfl rfl ?_
    refine P.iload_n 3 (pc' := 13) dJ2_add_2_12 rfl rfl rfl ?_
    refine P.aload_n 2 (pc' := 14) dJ2_add_2_13 rfl rfl rfl ?_
    obtain ⟨μ15, h14, hf⟩ := ob hf
    obtain ⟨u17, h16, hf⟩ := ob hf
    refine P.aastO (pc' := 15) h16 h14 dJ2_add_2_14 rfl ?_
    refine P.aload_n 1 (pc' := 16) dJ2_add_2_15 rfl rfl rfl ?_
    refine P.iload_n 3 (pc' := 17) dJ2_add_2_16 rfl rfl rfl ?_
    refine P.iconst (v := 1) (pc' := 18) dJ2_add_2_17 rfl (by decide) ?_
    refine P.iadd (pc' := 19) dJ2_add_2_18 rfl ?_
    obtain ⟨μ18, h19, hf⟩ := ob hf
    refine P.put (v := .int (p3 + 1)) (pc' := 22) ci20 2 (by decide) h19 q292 (Or.inl rfl) rfl rfl rfl dJ2_add_2_19 rfl ?_
    cases hf; exact P.vret rfl dJ2_add_2_22
theorem yok_J2_add_2 : yOK yJ2_add_2 3 := ⟨by decide +kernel, by decide +kernel, by decide +kernel⟩
abbrev mJ2_add : Ym := (RJ2, cJ2_add, 2, (some Jvm.ClassFile.FieldType.boolean), false, [])
noncomputable def f_J2_add (F : Nat) (this : Nat) (p1 : Nat) (μ : Sw) : Option (Int32 × Sw) :=
  Option.bind (gfI μ this 20 0) fun x1 =>
  Option.bind (pf μ this 20 0 (.int (x1 + 1))) fun μ3 =>
  Option.bind (gfR μ3 this 20 1) fun x5 =>
  Option.bind (gfI μ3 this 20 2) fun x7 =>
  Option.bind (oc μ3 this 20) fun u11 =>
  Option.bind (f_J2_add_2 F this p1 x5 x7 μ3) fun q9 =>
  some (1, q9)
set_option maxHeartbeats 4000000 in
theorem ok_J2_add {g : Gx} (F : Nat) (this : Nat) (p1 : Nat) (μ : Sw) {rv : Int32} {μF : Sw} (hf : f_J2_add F this p1 μ = some (rv, μF)) : Cl g 7 yJ2_add cJ2_add 2 (some Jvm.ClassFile.FieldType.boolean) [.ref this, .ref p1] μ (some (.int rv)) μF := by
  unfold f_J2_add at hf
  refine Cl.of (own := RJ2) (ini := false) (by decide +kernel) rfl (by decide) (Nat.le_of_ble_eq_true rfl) ?_
  show PW g mJ2_add 7 μ μF (QN g (some (.int rv)) μ μF) 0 [(0, .ref this), (1, .ref p1)] [] μ
  refine P.aload_n 0 (pc' := 1) dJ2_add_0 rfl rfl rfl ?_
  refine P.dup (pc' := 2) dJ2_add_1 rfl rfl ?_
  obtain ⟨x1, h2, hf⟩ := ob hf
  refine P.get (pc' := 5) ci20 0 (by decide) (gfI_spec h2) q294 (Or.inr q295) dJ2_add_2 rfl ?_
  refine P.iconst (v := 1) (pc' := 6) dJ2_add_5 rfl (by decide) ?_
  refine P.iadd (pc' := 7) dJ2_add_6 rfl ?_
  obtain ⟨μ3, h4, hf⟩ := ob hf
  refine P.put (v := .int (x1 + 1)) (pc' := 10) ci20 0 (by decide) h4 q294 (Or.inr q295) rfl rfl rfl dJ2_add_7 rfl ?_
  refine P.aload_n 0 (pc' := 11) dJ2_add_10 rfl rfl rfl ?_
  refine P.aload_n 1 (pc' := 12) dJ2_add_11 rfl rfl rfl ?_
  refine P.aload_n 0 (pc' := 13) dJ2_add_12 rfl rfl rfl ?_
  obtain ⟨x5, h6, hf⟩ := ob hf
  refine P.get (pc' := 16) ci20 1 (by decide) (gfR_spec h6) q291 (Or.inl rfl) dJ2_add_13 rfl ?_
  refine P.aload_n 0 (pc' := 17) dJ2_add_16 rfl rfl rfl ?_
  obtain ⟨x7, h8, hf⟩ := ob hf
  refine P.get (pc' := 20) ci20 2 (by decide) (gfI_spec h8) q292 (Or.inl rfl) dJ2_add_17 rfl ?_
  obtain ⟨u11, h12, hf⟩ := ob hf
  obtain ⟨q9, h10, hf⟩ := ob hf
  refine P.callV (pc' := 23) (As := [.ref p1, .ref x5, .int x7]) 3 (ok_J2_add_2 F this p1 x5 x7 μ3 h10) (Nat.le_of_ble_eq_true rfl) (lw_V q800 q802 qs19 q165 q803) rfl yok_J2_add_2 rfl (Nat.le_of_ble_eq_true rfl) ci20 h12 (by decide) rfl dJ2_add_20 rfl ?_
  refine P.iconst (v := 1) (pc' := 24) dJ2_add_23 rfl (by decide) ?_
  cases hf; exact P.zret rfl (Or.inr rfl) dJ2_add_24
abbrev mX2_find : Ym := (RX2, cX2_find, 4, (some Jvm.ClassFile.FieldType.int), false, [])
noncomputable def f_X2_find_L2_b (F : Nat) (c0 : Nat) (c1 : Int64) (μ : Sw) (self : Int32 → Option Int32) (v3 : Int32) : Option Int32 :=
  Option.bind (gfI μ c0 2 8) fun x1 =>
  if x1 ≤ v3 then
    some (-1)
  else
    Option.bind (gfR μ c0 2 6) fun x4 =>
    Option.bind (aL μ 1 x4 v3) fun x6 =>
    if (lg_cmp x6 c1) = 0 then
      Option.bind (gfR μ c0 2 7) fun x11 =>
      Option.bind (aI μ 0 x11 v3) fun x13 =>
      some x13
    else
      nm (v3 + 1) fun x9 =>
      self x9
noncomputable def f_X2_find_L2 (F : Nat) (c0 : Nat) (c1 : Int64) (μ : Sw) (n : Nat) : Int32 → Option Int32 := Nat.rec (motive := fun _ => Int32 → Option Int32) (fun _ => none) (fun _ self => f_X2_find_L2_b F c0 c1 μ self) n
set_option maxHeartbeats 4000000 in
theorem ok_f_X2_find_L2 {g : Gx} {μ0 : Sw} {rv : Int32} (F : Nat) (c0 : Nat) (c1 : Int64) (μ : Sw) : ∀ (n : Nat) (v3 : Int32), f_X2_find_L2 F c0 c1 μ n v3 = some rv → PW g mX2_find 1 μ0 μ (QN g (some (.int rv)) μ0 μ) 2 [(0, .ref c0), (1, .long c1), (3, .int v3)] [] μ := by
  intro n
  induction n with
  | zero =>
    intro v3 hf
    have hf : (none : Option Int32) = some _ := hf
    cases hf
  | succ n ih =>
    intro v3 hf
    have hf : f_X2_find_L2_b F c0 c1 μ (f_X2_find_L2 F c0 c1 μ n) v3 = some rv := hf
    unfold f_X2_find_L2_b at hf
    refine P.iload_n 2 (pc' := 3) dX2_find_2 rfl rfl rfl ?_
    refine P.aload_n 0 (pc' := 4) dX2_find_3 rfl rfl rfl ?_
    obtain ⟨x1, h2, hf⟩ := ob hf
    refine P.get (pc' := 7) ci2 8 (by decide) (gfI_spec h2) q250 (Or.inl rfl) dX2_find_4 rfl ?_
    refine P.icmp_ge (tgt := 34) (pc' := 10) dX2_find_7 (by decide) rfl (fun y3 => ?_) (fun y3 => ?_)
    · have hf := (if_pos y3).symm.trans hf
      refine P.iconst (v := (-1)) (pc' := 35) dX2_find_34 rfl (by decide) ?_
      cases hf; exact P.iret rfl dX2_find_35
    · have hf := (if_neg y3).symm.trans hf
      refine P.aload_n 0 (pc' := 11) dX2_find_10 rfl rfl rfl ?_
      obtain ⟨x4, h5, hf⟩ := ob hf
      refine P.get (pc' := 14) ci2 6 (by decide) (gfR_spec h5) q248 (Or.inl rfl) dX2_find_11 rfl ?_
      refine P.iload_n 2 (pc' := 15) dX2_find_14 rfl rfl rfl ?_
      obtain ⟨x6, h7, hf⟩ := ob hf
      refine P.lald (t := 1) (pc' := 16) rfl h7 dX2_find_15 rfl ?_
      refine P.lload_n 1 (pc' := 17) dX2_find_16 rfl rfl rfl ?_
      refine P.lcmp (pc' := 18) dX2_find_17 rfl ?_
      refine P.if_ne (tgt := 28) (pc' := 21) dX2_find_18 (by decide) rfl (fun y8 => ?_) (fun y8 => ?_)
      · have hf := (if_neg y8).symm.trans hf
        obtain ⟨x9, e10, hf⟩ := nm_i hf
        refine P.iinc 2 (pc' := 31) (lv' := [(3, .int x9), (0, .ref c0), (1, .long c1)]) dX2_find_28 rfl rfl (by decide) e10 (Nat.le_of_ble_eq_true rfl) rfl ?_
        refine P.goto (tgt := 2) dX2_find_31 (by decide) ?_
        exact PW.sub [1, 2, 0] rfl (ih _ hf)
      · have hf := (if_pos y8).symm.trans hf
        refine P.aload_n 0 (pc' := 22) dX2_find_21 rfl rfl rfl ?_
        obtain ⟨x11, h12, hf⟩ := ob hf
        refine P.get (pc' := 25) ci2 7 (by decide) (gfR_spec h12) q249 (Or.inl rfl) dX2_find_22 rfl ?_
        refine P.iload_n 2 (pc' := 26) dX2_find_25 rfl rfl rfl ?_
        obtain ⟨x13, h14, hf⟩ := ob hf
        refine P.iald (t := 0) (pc' := 27) rfl h14 dX2_find_26 rfl ?_
        cases hf; exact P.iret rfl dX2_find_27
noncomputable def f_X2_find (F : Nat) (this : Nat) (p1 : Int64) (μ : Sw) : Option Int32 :=
  f_X2_find_L2 F this p1 μ F 0
set_option maxHeartbeats 4000000 in
theorem ok_X2_find {g : Gx} (F : Nat) (this : Nat) (p1 : Int64) (μ : Sw) {rv : Int32} (hf : f_X2_find F this p1 μ = some rv) : Cl g 1 yX2_find cX2_find 4 (some Jvm.ClassFile.FieldType.int) [.ref this, .long p1] μ (some (.int rv)) μ := by
  unfold f_X2_find at hf
  refine Cl.of (own := RX2) (ini := false) (by decide +kernel) rfl (by decide) (Nat.le_of_ble_eq_true rfl) ?_
  show PW g mX2_find 1 μ μ (QN g (some (.int rv)) μ μ) 0 [(0, .ref this), (1, .long p1)] [] μ
  refine P.iconst (v := 0) (pc' := 1) dX2_find_0 rfl (by decide) ?_
  refine P.istore_n (pc' := 2) (lv' := [(3, .int 0), (0, .ref this), (1, .long p1)]) dX2_find_1 rfl rfl (Nat.le_of_ble_eq_true rfl) rfl ?_
  exact PW.sub [1, 2, 0] rfl (ok_f_X2_find_L2 F this p1 μ F _ hf)
theorem yok_X2_find : yOK yX2_find 1 := ⟨by decide +kernel, by decide +kernel, by decide +kernel⟩
abbrev mX2_known : Ym := (RX2, cX2_known, 4, (some Jvm.ClassFile.FieldType.int), false, [])
noncomputable def f_X2_known (F : Nat) (this : Nat) (p1 : Int32) (μ : Sw) : Option ((Int32 ⊕ Nat) × Sw) :=
  Option.bind (oc μ this 2) fun u3 =>
  Option.bind (f_X2_must F this 1 μ) fun q1 =>
  thr q1.1 q1.2 fun x6 =>
  Option.bind (gfR q1.2 this 2 0) fun x8 =>
  Option.bind (gfR q1.2 x8 1 4) fun x10 =>
  Option.bind (aL q1.2 1 x10 x6) fun x12 =>
  Option.bind (oc q1.2 this 2) fun u16 =>
  Option.bind (f_X2_find F this x12 q1.2) fun q14 =>
  if q14 = (-1) then
    Option.bind (oc q1.2 this 2) fun u21 =>
    Option.bind (f_X2_wrong F this 4 x6 q1.2) fun q19 =>
    some (.inl (-1), q19)
  else
    Option.bind (dvO q14 100) fun x23 =>
    if (x23 * 100) = p1 then
      some (.inl (q14 - p1), q1.2)
    else
      Option.bind (oc q1.2 this 2) fun u28 =>
      Option.bind (f_X2_wrong F this 4 x6 q1.2) fun q26 =>
      some (.inl (-1), q26)
set_option maxHeartbeats 4000000 in
theorem ok_X2_known {g : Gx} (F : Nat) (this : Nat) (p1 : Int32) (μ : Sw) {res : Int32 ⊕ Nat} {μF : Sw} (hf : f_X2_known F this p1 μ = some (res, μF)) : ClX g 8 yX2_known cX2_known 4 (some Jvm.ClassFile.FieldType.int) [.ref this, .int p1] μ (rvI res) μF := by
  unfold f_X2_known at hf
  refine ClX.of (own := RX2) (ini := false) (by decide +kernel) rfl (by decide) (Nat.le_of_ble_eq_true rfl) ?_
  show PW g mX2_known 8 μ μF (QX g (rvI res) μ μF) 0 [(0, .ref this), (1, .int p1)] [] μ
  refine P.aload_n 0 (pc' := 1) dX2_known_0 rfl rfl rfl ?_
  refine P.iconst (v := 1) (pc' := 2) dX2_known_1 rfl (by decide) ?_
  obtain ⟨u3, h4, hf⟩ := ob hf
  obtain ⟨q1, h2, hf⟩ := ob hf
  rcases e5 : q1.1 with x6 | x7
  rotate_left
  · have h2 := h2.trans (congrArg some (Prod.ext e5 rfl : q1 = (.inr x7, q1.2)))
    rw [e5] at hf
    have hf := thr_r hf
    cases hf
    exact P.callVXt (As := [.int 1]) 1 (ok_X2_must F this 1 μ h2) rfl (Nat.le_of_ble_eq_true rfl) (lw_V q760 q762 qs15 q161 q763) rfl yok_X2_must rfl (Nat.le_of_ble_eq_true rfl) ci2 h4 (by decide) rfl dX2_known_2
  have h2 := h2.trans (congrArg some (Prod.ext e5 rfl : q1 = (.inl x6, q1.2)))
  rw [e5] at hf
  have hf := thr_l hf
  refine P.callVX (pc' := 5) (As := [.int 1]) 1 (ok_X2_must F this 1 μ h2) (Nat.le_of_ble_eq_true rfl) (lw_V q760 q762 qs15 q161 q763) rfl yok_X2_must rfl (Nat.le_of_ble_eq_true rfl) ci2 h4 (by decide) rfl dX2_known_2 rfl ?_
  refine P.istore_n (pc' := 6) (lv' := [(2, .int x6), (0, .ref this), (1, .int p1)]) dX2_known_5 rfl rfl (Nat.le_of_ble_eq_true rfl) rfl ?_
  refine P.aload_n 1 (pc' := 7) dX2_known_6 rfl rfl rfl ?_
  refine P.aload_n 1 (pc' := 8) dX2_known_7 rfl rfl rfl ?_
  obtain ⟨x8, h9, hf⟩ := ob hf
  refine P.get (pc' := 11) ci2 0 (by decide) (gfR_spec h9) q242 (Or.inl rfl) dX2_known_8 rfl ?_
  obtain ⟨x10, h11, hf⟩ := ob hf
  refine P.getN (pc' := 14) ci1 4 (by decide) (gfR_spec h11) q218 (Or.inl rfl) dX2_known_11 rfl ?_
  refine P.iload_n 0 (pc' := 15) dX2_known_14 rfl rfl rfl ?_
  obtain ⟨x12, h13, hf⟩ := ob hf
  refine P.lald (t := 1) (pc' := 16) rfl h13 dX2_known_15 rfl ?_
  obtain ⟨u16, h17, hf⟩ := ob hf
  obtain ⟨q14, h15, hf⟩ := ob hf
  refine P.callV (pc' := 19) (As := [.long x12]) 1 (ok_X2_find F this x12 q1.2 h15) (Nat.le_of_ble_eq_true rfl) (lw_V q764 q766 qs16 q161 q767) rfl yok_X2_find rfl (Nat.le_of_ble_eq_true rfl) ci2 h17 (by decide) rfl dX2_known_16 rfl ?_
  refine P.istore_n (pc' := 20) (lv' := [(3, .int q14), (2, .int x6), (0, .ref this), (1, .int p1)]) dX2_known_19 rfl rfl (Nat.le_of_ble_eq_true rfl) rfl ?_
  refine P.iload_n 0 (pc' := 21) dX2_known_20 rfl rfl rfl ?_
  refine P.iconst (v := (-1)) (pc' := 22) dX2_known_21 rfl (by decide) ?_
  refine P.icmp_eq (tgt := 40) (pc' := 25) dX2_known_22 (by decide) rfl (fun y18 => ?_) (fun y18 => ?_)
  · have hf := (if_pos y18).symm.trans hf
    refine P.aload_n 2 (pc' := 41) dX2_known_40 rfl rfl rfl ?_
    refine P.iconst (v := 4) (pc' := 42) dX2_known_41 rfl (by decide) ?_
    refine P.iload_n 1 (pc' := 43) dX2_known_42 rfl rfl rfl ?_
    obtain ⟨u21, h22, hf⟩ := ob hf
    obtain ⟨q19, h20, hf⟩ := ob hf
    refine P.callV (pc' := 46) (As := [.int 4, .int x6]) 2 (ok_X2_wrong F this 4 x6 q1.2 h20) (Nat.le_of_ble_eq_true rfl) (lw_V q768 q770 qs17 q161 q771) rfl yok_X2_wrong rfl (Nat.le_of_ble_eq_true rfl) ci2 h22 (by decide) rfl dX2_known_43 rfl ?_
    refine P.iconst (v := (-1)) (pc' := 47) dX2_known_46 rfl (by decide) ?_
    cases hf; exact P.iretX rfl dX2_known_47
  · have hf := (if_neg y18).symm.trans hf
    refine P.iload_n 0 (pc' := 26) dX2_known_25 rfl rfl rfl ?_
    refine P.bipush (v := 100) (pc' := 28) dX2_known_26 rfl (by decide) ?_
    obtain ⟨x23, h24, hf⟩ := ob hf
    refine P.idivO (pc' := 29) h24 dX2_known_28 rfl ?_
    refine P.bipush (v := 100) (pc' := 31) dX2_known_29 rfl (by decide) ?_
    refine P.imul (pc' := 32) dX2_known_31 rfl ?_
    refine P.iload_n 3 (pc' := 33) dX2_known_32 rfl rfl rfl ?_
    refine P.icmp_ne (tgt := 40) (pc' := 36) dX2_known_33 (by decide) rfl (fun y25 => ?_) (fun y25 => ?_)
    · have hf := (if_neg y25).symm.trans hf
      refine P.aload_n 2 (pc' := 41) dX2_known_40 rfl rfl rfl ?_
      refine P.iconst (v := 4) (pc' := 42) dX2_known_41 rfl (by decide) ?_
      refine P.iload_n 1 (pc' := 43) dX2_known_42 rfl rfl rfl ?_
      obtain ⟨u28, h29, hf⟩ := ob hf
      obtain ⟨q26, h27, hf⟩ := ob hf
      refine P.callV (pc' := 46) (As := [.int 4, .int x6]) 2 (ok_X2_wrong F this 4 x6 q1.2 h27) (Nat.le_of_ble_eq_true rfl) (lw_V q768 q770 qs17 q161 q771) rfl yok_X2_wrong rfl (Nat.le_of_ble_eq_true rfl) ci2 h29 (by decide) rfl dX2_known_43 rfl ?_
      refine P.iconst (v := (-1)) (pc' := 47) dX2_known_46 rfl (by decide) ?_
      cases hf; exact P.iretX rfl dX2_known_47
    · have hf := (if_pos y25).symm.trans hf
      refine P.iload_n 0 (pc' := 37) dX2_known_36 rfl rfl rfl ?_
      refine P.iload_n 3 (pc' := 38) dX2_known_37 rfl rfl rfl ?_
      refine P.isub (pc' := 39) dX2_known_38 rfl ?_
      cases hf; exact P.iretX rfl dX2_known_39
abbrev mX12_init : Ym := (RX12, cX12_init, 4, none, true, [])
noncomputable def f_X12_init (F : Nat) (this : Nat) (p1 : Int32) (p2 : Int32) (p3 : Int32) (μ : Sw) : Option Sw :=
  Option.bind (f_J3_init F this μ) fun q1 =>
  Option.bind (pf μ this 12 0 (.int p1)) fun μ3 =>
  Option.bind (pf μ3 this 12 1 (.int p2)) fun μ5 =>
  Option.bind (pf μ5 this 12 2 (.int p3)) fun μ7 =>
  some μ7
set_option maxHeartbeats 4000000 in
theorem ok_X12_init {g : Gx} (F : Nat) (this : Nat) (p1 : Int32) (p2 : Int32) (p3 : Int32) (μ : Sw) {μF : Sw} (hf : f_X12_init F this p1 p2 p3 μ = some μF) : Cl g 2 yX12_init cX12_init 4 none [.ref this, .int p1, .int p2, .int p3] μ none μF := by
  unfold f_X12_init at hf
  refine Cl.of (own := RX12) (ini := true) (by decide +kernel) rfl (by decide) (Nat.le_of_ble_eq_true rfl) ?_
  show PW g mX12_init 2 μ μF (QN g none μ μF) 0 [(0, .ref this), (1, .int p1), (2, .int p2), (3, .int p3)] [] μ
  refine P.aload_n 0 (pc' := 1) dX12_init_0 rfl rfl rfl ?_
  obtain ⟨q1, h2, hf⟩ := ob hf
  refine P.callI (pc' := 4) (As := []) 0 (ok_J3_init F this μ h2) (Nat.le_of_ble_eq_true rfl) q310 q166 q880 q309 rfl yok_J3_init rfl (Nat.le_of_ble_eq_true rfl) (by decide) rfl dX12_init_1 rfl ?_
  refine P.aload_n 0 (pc' := 5) dX12_init_4 rfl rfl rfl ?_
  refine P.iload_n 1 (pc' := 6) dX12_init_5 rfl rfl rfl ?_
  obtain ⟨μ3, h4, hf⟩ := ob hf
  refine P.putF (v := .int p1) (pc' := 9) ci12 0 (by decide) h4 q881 (Or.inl rfl) rfl rfl rfl rfl rfl dX12_init_6 rfl ?_
  refine P.aload_n 0 (pc' := 10) dX12_init_9 rfl rfl rfl ?_
  refine P.iload_n 2 (pc' := 11) dX12_init_10 rfl rfl rfl ?_
  obtain ⟨μ5, h6, hf⟩ := ob hf
  refine P.putF (v := .int p2) (pc' := 14) ci12 1 (by decide) h6 q883 (Or.inl rfl) rfl rfl rfl rfl rfl dX12_init_11 rfl ?_
  refine P.aload_n 0 (pc' := 15) dX12_init_14 rfl rfl rfl ?_
  refine P.iload_n 3 (pc' := 16) dX12_init_15 rfl rfl rfl ?_
  obtain ⟨μ7, h8, hf⟩ := ob hf
  refine P.putF (v := .int p3) (pc' := 19) ci12 2 (by decide) h8 q885 (Or.inl rfl) rfl rfl rfl rfl rfl dX12_init_16 rfl ?_
  cases hf; exact P.vret rfl dX12_init_19
theorem yok_J2_add : yOK yJ2_add 1 := ⟨by decide +kernel, by decide +kernel, by decide +kernel⟩
theorem yok_X12_init : yOK yX12_init 3 := ⟨by decide +kernel, by decide +kernel, by decide +kernel⟩
theorem yok_X2_bounded : yOK yX2_bounded 2 := ⟨by decide +kernel, by decide +kernel, by decide +kernel⟩
theorem yok_X2_known : yOK yX2_known 1 := ⟨by decide +kernel, by decide +kernel, by decide +kernel⟩
abbrev mX2_tellStair : Ym := (RX2, cX2_tellStair, 4, none, false, [])
noncomputable def f_X2_tellStair_j53 (F : Nat) (v0 : Nat) (v1 : Int32) (v3 : Int32) (μ : Sw) : Option ((Unit ⊕ Nat) × Sw) :=
  Option.bind (gfR μ v0 2 5) fun x1 =>
  Option.bind (gfR μ x1 3 1) fun x3 =>
  nm (nw μ (.inr (12, dfX12)) 3) fun μ5 =>
  Option.bind (oc μ5 v0 2) fun u9 =>
  Option.bind (f_X2_bounded F v0 0 99 μ5) fun q7 =>
  thr q7.1 q7.2 fun x12 =>
  Option.bind (f_X12_init F μ.2.1 v1 v3 x12 q7.2) fun q14 =>
  Option.bind (oc q14 x3 20) fun u18 =>
  Option.bind (f_J2_add F x3 μ.2.1 q14) fun q16 =>
  some (.inl (), q16.2)
set_option maxHeartbeats 4000000 in
theorem ok_f_X2_tellStair_j53 {g : Gx} {μ0 : Sw} {res : Unit ⊕ Nat} {μF : Sw} (F : Nat) (v0 : Nat) (v1 : Int32) (v3 : Int32) (μ : Sw) (hf : f_X2_tellStair_j53 F v0 v1 v3 μ = some (res, μF)) : PW g mX2_tellStair 9 μ0 μF (QX g (rvU res) μ0 μF) 53 [(0, .ref v0), (1, .int v1), (3, .int v3)] [] μ := by
  unfold f_X2_tellStair_j53 at hf
  refine P.aload_n 0 (pc' := 54) dX2_tellStair_53 rfl rfl rfl ?_
  obtain ⟨x1, h2, hf⟩ := ob hf
  refine P.get (pc' := 57) ci2 5 (by decide) (gfR_spec h2) q247 (Or.inl rfl) dX2_tellStair_54 rfl ?_
  obtain ⟨x3, h4, hf⟩ := ob hf
  refine P.getN (pc' := 60) ci3 1 (by decide) (gfR_spec h4) q331 (Or.inl rfl) dX2_tellStair_57 rfl ?_
  obtain ⟨μ5, e6, hf⟩ := nm_i hf
  refine P.newE (pc' := 63) ci12 q875 q876 q186 dfX12_ok e6 dX2_tellStair_60 rfl ?_
  refine P.dup (pc' := 64) dX2_tellStair_63 rfl rfl ?_
  refine P.iload_n 1 (pc' := 65) dX2_tellStair_64 rfl rfl rfl ?_
  refine P.iload_n 2 (pc' := 66) dX2_tellStair_65 rfl rfl rfl ?_
  refine P.aload_n 0 (pc' := 67) dX2_tellStair_66 rfl rfl rfl ?_
  refine P.iconst (v := 0) (pc' := 68) dX2_tellStair_67 rfl (by decide) ?_
  refine P.bipush (v := 99) (pc' := 70) dX2_tellStair_68 rfl (by decide) ?_
  obtain ⟨u9, h10, hf⟩ := ob hf
  obtain ⟨q7, h8, hf⟩ := ob hf
  rcases e11 : q7.1 with x12 | x13
  rotate_left
  · have h8 := h8.trans (congrArg some (Prod.ext e11 rfl : q7 = (.inr x13, q7.2)))
    rw [e11] at hf
    have hf := thr_r hf
    cases hf
    exact P.callVXt (As := [.int 0, .int 99]) 2 (ok_X2_bounded F v0 0 99 μ5 h8) rfl (Nat.le_of_ble_eq_true rfl) (lw_V q772 q774 qs18 q161 q775) rfl yok_X2_bounded rfl (Nat.le_of_ble_eq_true rfl) ci2 h10 (Nat.le_of_ble_eq_true rfl) rfl dX2_tellStair_70
  have h8 := h8.trans (congrArg some (Prod.ext e11 rfl : q7 = (.inl x12, q7.2)))
  rw [e11] at hf
  have hf := thr_l hf
  refine P.callVX (pc' := 73) (As := [.int 0, .int 99]) 2 (ok_X2_bounded F v0 0 99 μ5 h8) (Nat.le_of_ble_eq_true rfl) (lw_V q772 q774 qs18 q161 q775) rfl yok_X2_bounded rfl (Nat.le_of_ble_eq_true rfl) ci2 h10 (Nat.le_of_ble_eq_true rfl) rfl dX2_tellStair_70 rfl ?_
  obtain ⟨q14, h15, hf⟩ := ob hf
  refine P.callIN (pc' := 76) (As := [.int v1, .int v3, .int x12]) 3 (ok_X12_init F μ.2.1 v1 v3 x12 q7.2 h15) (Nat.le_of_ble_eq_true rfl) q879 q186 q877 q878 rfl yok_X12_init rfl (Nat.le_of_ble_eq_true rfl) (Nat.le_of_ble_eq_true rfl) rfl dX2_tellStair_73 rfl ?_
  obtain ⟨u18, h19, hf⟩ := ob hf
  obtain ⟨q16, h17, hf⟩ := ob hf
  refine P.callV (pc' := 79) (As := [.ref μ.2.1]) 1 (ok_J2_add F x3 μ.2.1 q14 h17) (Nat.le_of_ble_eq_true rfl) (lw_V q796 q797 q798 q165 q799) rfl yok_J2_add rfl (Nat.le_of_ble_eq_true rfl) ci20 h19 (by decide) rfl dX2_tellStair_76 rfl ?_
  refine P.pop (pc' := 80) dX2_tellStair_79 rfl rfl ?_
  cases hf; exact P.vretX rfl dX2_tellStair_80
noncomputable def f_X2_tellStair_j37 (F : Nat) (v0 : Nat) (v1 : Int32) (v2 : Int32) (v3 : Int32) (μ : Sw) : Option ((Unit ⊕ Nat) × Sw) :=
  if v1 = (-1) then
    f_X2_tellStair_j53 F v0 v1 v3 μ
  else
    if v1 = v3 then
      Option.bind (oc μ v0 2) fun u5 =>
      Option.bind (f_X2_wrong F v0 5 v2 μ) fun q3 =>
      f_X2_tellStair_j53 F v0 v1 v3 q3
    else
      f_X2_tellStair_j53 F v0 v1 v3 μ
set_option maxHeartbeats 4000000 in
theorem ok_f_X2_tellStair_j37 {g : Gx} {μ0 : Sw} {res : Unit ⊕ Nat} {μF : Sw} (F : Nat) (v0 : Nat) (v1 : Int32) (v2 : Int32) (v3 : Int32) (μ : Sw) (hf : f_X2_tellStair_j37 F v0 v1 v2 v3 μ = some (res, μF)) : PW g mX2_tellStair 9 μ0 μF (QX g (rvU res) μ0 μF) 37 [(0, .ref v0), (1, .int v1), (2, .int v2), (3, .int v3)] [] μ := by
  unfold f_X2_tellStair_j37 at hf
  refine P.iload_n 1 (pc' := 38) dX2_tellStair_37 rfl rfl rfl ?_
  refine P.iconst (v := (-1)) (pc' := 39) dX2_tellStair_38 rfl (by decide) ?_
  refine P.icmp_eq (tgt := 53) (pc' := 42) dX2_tellStair_39 (by decide) rfl (fun y1 => ?_) (fun y1 => ?_)
  · have hf := (if_pos y1).symm.trans hf
    exact PW.sub [0, 1, 3] rfl (ok_f_X2_tellStair_j53 F v0 v1 v3 μ hf)
  · have hf := (if_neg y1).symm.trans hf
    refine P.iload_n 1 (pc' := 43) dX2_tellStair_42 rfl rfl rfl ?_
    refine P.iload_n 3 (pc' := 44) dX2_tellStair_43 rfl rfl rfl ?_
    refine P.icmp_ne (tgt := 53) (pc' := 47) dX2_tellStair_44 (by decide) rfl (fun y2 => ?_) (fun y2 => ?_)
    · have hf := (if_neg y2).symm.trans hf
      exact PW.sub [0, 1, 3] rfl (ok_f_X2_tellStair_j53 F v0 v1 v3 μ hf)
    · have hf := (if_pos y2).symm.trans hf
      refine P.aload_n 0 (pc' := 48) dX2_tellStair_47 rfl rfl rfl ?_
      refine P.iconst (v := 5) (pc' := 49) dX2_tellStair_48 rfl (by decide) ?_
      refine P.iload_n 2 (pc' := 50) dX2_tellStair_49 rfl rfl rfl ?_
      obtain ⟨u5, h6, hf⟩ := ob hf
      obtain ⟨q3, h4, hf⟩ := ob hf
      refine P.callV (pc' := 53) (As := [.int 5, .int v2]) 2 (ok_X2_wrong F v0 5 v2 μ h4) (Nat.le_of_ble_eq_true rfl) (lw_V q768 q770 qs17 q161 q771) rfl yok_X2_wrong rfl (Nat.le_of_ble_eq_true rfl) ci2 h6 (by decide) rfl dX2_tellStair_50 rfl ?_
      exact PW.sub [0, 1, 3] rfl (ok_f_X2_tellStair_j53 F v0 v1 v3 q3 hf)
noncomputable def f_X2_tellStair (F : Nat) (this : Nat) (μ : Sw) : Option ((Unit ⊕ Nat) × Sw) :=
  Option.bind (oc μ this 2) fun u3 =>
  Option.bind (f_X2_known F this 0 μ) fun q1 =>
  thr q1.1 q1.2 fun x6 =>
  Option.bind (gfI q1.2 this 2 1) fun x8 =>
  Option.bind (oc q1.2 this 2) fun u12 =>
  Option.bind (f_X2_is F this 204 q1.2) fun q10 =>
  if q10 = 0 then
    Option.bind (oc q1.2 this 2) fun u17 =>
    Option.bind (f_X2_known F this 0 q1.2) fun q15 =>
    thr q15.1 q15.2 fun x20 =>
    f_X2_tellStair_j37 F this x6 x8 x20 q15.2
  else
    Option.bind (oc q1.2 this 2) fun u24 =>
    Option.bind (f_X2_go F this q1.2) fun q22 =>
    thr q22.1 q22.2 fun x27 =>
    f_X2_tellStair_j37 F this x6 x8 (-1) q22.2
set_option maxHeartbeats 4000000 in
theorem ok_X2_tellStair {g : Gx} (F : Nat) (this : Nat) (μ : Sw) {res : Unit ⊕ Nat} {μF : Sw} (hf : f_X2_tellStair F this μ = some (res, μF)) : ClX g 9 yX2_tellStair cX2_tellStair 4 none [.ref this] μ (rvU res) μF := by
  unfold f_X2_tellStair at hf
  refine ClX.of (own := RX2) (ini := false) (by decide +kernel) rfl (by decide) (Nat.le_of_ble_eq_true rfl) ?_
  show PW g mX2_tellStair 9 μ μF (QX g (rvU res) μ μF) 0 [(0, .ref this)] [] μ
  refine P.aload_n 0 (pc' := 1) dX2_tellStair_0 rfl rfl rfl ?_
  refine P.iconst (v := 0) (pc' := 2) dX2_tellStair_1 rfl (by decide) ?_
  obtain ⟨u3, h4, hf⟩ := ob hf
  obtain ⟨q1, h2, hf⟩ := ob hf
  rcases e5 : q1.1 with x6 | x7
  rotate_left
  · have h2 := h2.trans (congrArg some (Prod.ext e5 rfl : q1 = (.inr x7, q1.2)))
    rw [e5] at hf
    have hf := thr_r hf
    cases hf
    exact P.callVXt (As := [.int 0]) 1 (ok_X2_known F this 0 μ h2) rfl (Nat.le_of_ble_eq_true rfl) (lw_V q864 q866 qs22 q161 q867) rfl yok_X2_known rfl (Nat.le_of_ble_eq_true rfl) ci2 h4 (by decide) rfl dX2_tellStair_2
  have h2 := h2.trans (congrArg some (Prod.ext e5 rfl : q1 = (.inl x6, q1.2)))
  rw [e5] at hf
  have hf := thr_l hf
  refine P.callVX (pc' := 5) (As := [.int 0]) 1 (ok_X2_known F this 0 μ h2) (Nat.le_of_ble_eq_true rfl) (lw_V q864 q866 qs22 q161 q867) rfl yok_X2_known rfl (Nat.le_of_ble_eq_true rfl) ci2 h4 (by decide) rfl dX2_tellStair_2 rfl ?_
  refine P.istore_n (pc' := 6) (lv' := [(1, .int x6), (0, .ref this)]) dX2_tellStair_5 rfl rfl (Nat.le_of_ble_eq_true rfl) rfl ?_
  refine P.aload_n 1 (pc' := 7) dX2_tellStair_6 rfl rfl rfl ?_
  obtain ⟨x8, h9, hf⟩ := ob hf
  refine P.get (pc' := 10) ci2 1 (by decide) (gfI_spec h9) q243 (Or.inl rfl) dX2_tellStair_7 rfl ?_
  refine P.istore_n (pc' := 11) (lv' := [(2, .int x8), (1, .int x6), (0, .ref this)]) dX2_tellStair_10 rfl rfl (Nat.le_of_ble_eq_true rfl) rfl ?_
  refine P.iconst (v := (-1)) (pc' := 12) dX2_tellStair_11 rfl (by decide) ?_
  refine P.istore_n (pc' := 13) (lv' := [(3, .int (-1)), (2, .int x8), (1, .int x6), (0, .ref this)]) dX2_tellStair_12 rfl rfl (Nat.le_of_ble_eq_true rfl) rfl ?_
  refine P.aload_n 3 (pc' := 14) dX2_tellStair_13 rfl rfl rfl ?_
  refine P.sipush (v := 204) (pc' := 17) dX2_tellStair_14 rfl (by decide) ?_
  obtain ⟨u12, h13, hf⟩ := ob hf
  obtain ⟨q10, h11, hf⟩ := ob hf
  refine P.callV (pc' := 20) (As := [.int 204]) 1 (ok_X2_is F this 204 q1.2 h11) (Nat.le_of_ble_eq_true rfl) (lw_V q656 q658 qs7 q161 q659) rfl yok_X2_is rfl (Nat.le_of_ble_eq_true rfl) ci2 h13 (by decide) rfl dX2_tellStair_17 rfl ?_
  refine P.if_eq (tgt := 31) (pc' := 23) dX2_tellStair_20 (by decide) rfl (fun y14 => ?_) (fun y14 => ?_)
  · have hf := (if_pos y14).symm.trans hf
    refine P.aload_n 3 (pc' := 32) dX2_tellStair_31 rfl rfl rfl ?_
    refine P.iconst (v := 0) (pc' := 33) dX2_tellStair_32 rfl (by decide) ?_
    obtain ⟨u17, h18, hf⟩ := ob hf
    obtain ⟨q15, h16, hf⟩ := ob hf
    rcases e19 : q15.1 with x20 | x21
    rotate_left
    · have h16 := h16.trans (congrArg some (Prod.ext e19 rfl : q15 = (.inr x21, q15.2)))
      rw [e19] at hf
      have hf := thr_r hf
      cases hf
      exact P.callVXt (As := [.int 0]) 1 (ok_X2_known F this 0 q1.2 h16) rfl (Nat.le_of_ble_eq_true rfl) (lw_V q864 q866 qs22 q161 q867) rfl yok_X2_known rfl (Nat.le_of_ble_eq_true rfl) ci2 h18 (by decide) rfl dX2_tellStair_33
    have h16 := h16.trans (congrArg some (Prod.ext e19 rfl : q15 = (.inl x20, q15.2)))
    rw [e19] at hf
    have hf := thr_l hf
    refine P.callVX (pc' := 36) (As := [.int 0]) 1 (ok_X2_known F this 0 q1.2 h16) (Nat.le_of_ble_eq_true rfl) (lw_V q864 q866 qs22 q161 q867) rfl yok_X2_known rfl (Nat.le_of_ble_eq_true rfl) ci2 h18 (by decide) rfl dX2_tellStair_33 rfl ?_
    refine P.istore_n (pc' := 37) (lv' := [(3, .int x20), (2, .int x8), (1, .int x6), (0, .ref this)]) dX2_tellStair_36 rfl rfl (Nat.le_of_ble_eq_true rfl) rfl ?_
    exact PW.sub [3, 2, 1, 0] rfl (ok_f_X2_tellStair_j37 F this x6 x8 x20 q15.2 hf)
  · have hf := (if_neg y14).symm.trans hf
    refine P.aload_n 3 (pc' := 24) dX2_tellStair_23 rfl rfl rfl ?_
    obtain ⟨u24, h25, hf⟩ := ob hf
    obtain ⟨q22, h23, hf⟩ := ob hf
    rcases e26 : q22.1 with x27 | x28
    rotate_left
    · have h23 := h23.trans (congrArg some (Prod.ext e26 rfl : q22 = (.inr x28, q22.2)))
      rw [e26] at hf
      have hf := thr_r hf
      cases hf
      exact P.callVXt (As := []) 0 (ok_X2_go F this q1.2 h23) rfl (Nat.le_of_ble_eq_true rfl) (lw_V q752 q754 qs13 q161 q755) rfl yok_X2_go rfl (Nat.le_of_ble_eq_true rfl) ci2 h25 (by decide) rfl dX2_tellStair_24
    have h23 := h23.trans (congrArg some (Prod.ext e26 rfl : q22 = (.inl x27, q22.2)))
    rw [e26] at hf
    have hf := thr_l hf
    refine P.callVX (pc' := 27) (As := []) 0 (ok_X2_go F this q1.2 h23) (Nat.le_of_ble_eq_true rfl) (lw_V q752 q754 qs13 q161 q755) rfl yok_X2_go rfl (Nat.le_of_ble_eq_true rfl) ci2 h25 (by decide) rfl dX2_tellStair_24 rfl ?_
    refine P.pop (pc' := 28) dX2_tellStair_27 rfl rfl ?_
    refine P.goto (tgt := 37) dX2_tellStair_28 (by decide) ?_
    exact PW.sub [3, 2, 1, 0] rfl (ok_f_X2_tellStair_j37 F this x6 x8 (-1) q22.2 hf)
abbrev mX0_gives : Ym := (RX0, cX0_gives, 4, none, false, [])
noncomputable def f_X0_gives_L2_b (F : Nat) (c0 : Nat) (c1 : Int32) (c2 : Int32) (self : Int32 → Sw → Option Sw) (v3 : Int32) (μ : Sw) : Option Sw :=
  if 16 ≤ v3 then
    Option.bind (sI μ 0 c0 c1 c2) fun μ3 =>
    some μ3
  else
    if c2 = (-1) then
      Option.bind (sI μ 0 c0 c1 c2) fun μ6 =>
      some μ6
    else
      Option.bind (aI μ 0 c0 v3) fun x7 =>
      if x7 = c2 then
        Option.bind (sI μ 0 c0 v3 (-1)) fun μ13 =>
        nm (v3 + 1) fun x14 =>
        self x14 μ13
      else
        nm (v3 + 1) fun x10 =>
        self x10 μ
noncomputable def f_X0_gives_L2 (F : Nat) (c0 : Nat) (c1 : Int32) (c2 : Int32) (n : Nat) : Int32 → Sw → Option Sw := Nat.rec (motive := fun _ => Int32 → Sw → Option Sw) (fun _ _ => none) (fun _ self => f_X0_gives_L2_b F c0 c1 c2 self) n
set_option maxHeartbeats 4000000 in
theorem ok_f_X0_gives_L2 {g : Gx} {μ0 : Sw} {μF : Sw} (F : Nat) (c0 : Nat) (c1 : Int32) (c2 : Int32) : ∀ (n : Nat) (v3 : Int32) (μ : Sw), f_X0_gives_L2 F c0 c1 c2 n v3 μ = some μF → PW g mX0_gives 1 μ0 μF (QN g none μ0 μF) 2 [(0, .ref c0), (1, .int c1), (2, .int c2), (3, .int v3)] [] μ := by
  intro n
  induction n with
  | zero =>
    intro v3 μ hf
    have hf : (none : Option Sw) = some _ := hf
    cases hf
  | succ n ih =>
    intro v3 μ hf
    have hf : f_X0_gives_L2_b F c0 c1 c2 (f_X0_gives_L2 F c0 c1 c2 n) v3 μ = some μF := hf
    unfold f_X0_gives_L2_b at hf
    refine P.iload_n 3 (pc' := 3) dX0_gives_2 rfl rfl rfl ?_
    refine P.bipush (v := 16) (pc' := 5) dX0_gives_3 rfl (by decide) ?_
    refine P.icmp_ge (tgt := 30) (pc' := 8) dX0_gives_5 (by decide) rfl (fun y1 => ?_) (fun y1 => ?_)
    · have hf := (if_pos y1).symm.trans hf
      refine P.aload_n 0 (pc' := 31) dX0_gives_30 rfl rfl rfl ?_
      refine P.iload_n 1 (pc' := 32) dX0_gives_31 rfl rfl rfl ?_
      refine P.iload_n 2 (pc' := 33) dX0_gives_32 rfl rfl rfl ?_
      obtain ⟨μ3, h2, hf⟩ := ob hf
      refine P.iast (pc' := 34) h2 dX0_gives_33 rfl ?_
      cases hf; exact P.vret rfl dX0_gives_34
    · have hf := (if_neg y1).symm.trans hf
      refine P.iload_n 2 (pc' := 9) dX0_gives_8 rfl rfl rfl ?_
      refine P.iconst (v := (-1)) (pc' := 10) dX0_gives_9 rfl (by decide) ?_
      refine P.icmp_eq (tgt := 30) (pc' := 13) dX0_gives_10 (by decide) rfl (fun y4 => ?_) (fun y4 => ?_)
      · have hf := (if_pos y4).symm.trans hf
        refine P.aload_n 0 (pc' := 31) dX0_gives_30 rfl rfl rfl ?_
        refine P.iload_n 1 (pc' := 32) dX0_gives_31 rfl rfl rfl ?_
        refine P.iload_n 2 (pc' := 33) dX0_gives_32 rfl rfl rfl ?_
        obtain ⟨μ6, h5, hf⟩ := ob hf
        refine P.iast (pc' := 34) h5 dX0_gives_33 rfl ?_
        cases hf; exact P.vret rfl dX0_gives_34
      · have hf := (if_neg y4).symm.trans hf
        refine P.aload_n 0 (pc' := 14) dX0_gives_13 rfl rfl rfl ?_
        refine P.iload_n 3 (pc' := 15) dX0_gives_14 rfl rfl rfl ?_
        obtain ⟨x7, h8, hf⟩ := ob hf
        refine P.iald (t := 0) (pc' := 16) rfl h8 dX0_gives_15 rfl ?_
        refine P.iload_n 2 (pc' := 17) dX0_gives_16 rfl rfl rfl ?_
        refine P.icmp_ne (tgt := 24) (pc' := 20) dX0_gives_17 (by decide) rfl (fun y9 => ?_) (fun y9 => ?_)
        · have hf := (if_neg y9).symm.trans hf
          obtain ⟨x10, e11, hf⟩ := nm_i hf
          refine P.iinc 3 (pc' := 27) (lv' := [(3, .int x10), (0, .ref c0), (1, .int c1), (2, .int c2)]) dX0_gives_24 rfl rfl (by decide) e11 (Nat.le_of_ble_eq_true rfl) rfl ?_
          refine P.goto (tgt := 2) dX0_gives_27 (by decide) ?_
          exact PW.sub [1, 2, 3, 0] rfl (ih _ _ hf)
        · have hf := (if_pos y9).symm.trans hf
          refine P.aload_n 0 (pc' := 21) dX0_gives_20 rfl rfl rfl ?_
          refine P.iload_n 3 (pc' := 22) dX0_gives_21 rfl rfl rfl ?_
          refine P.iconst (v := (-1)) (pc' := 23) dX0_gives_22 rfl (by decide) ?_
          obtain ⟨μ13, h12, hf⟩ := ob hf
          refine P.iast (pc' := 24) h12 dX0_gives_23 rfl ?_
          obtain ⟨x14, e15, hf⟩ := nm_i hf
          refine P.iinc 3 (pc' := 27) (lv' := [(3, .int x14), (0, .ref c0), (1, .int c1), (2, .int c2)]) dX0_gives_24 rfl rfl (by decide) e15 (Nat.le_of_ble_eq_true rfl) rfl ?_
          refine P.goto (tgt := 2) dX0_gives_27 (by decide) ?_
          exact PW.sub [1, 2, 3, 0] rfl (ih _ _ hf)
noncomputable def f_X0_gives (F : Nat) (p1 : Nat) (p2 : Int32) (p3 : Int32) (μ : Sw) : Option Sw :=
  f_X0_gives_L2 F p1 p2 p3 F 0 μ
set_option maxHeartbeats 4000000 in
theorem ok_X0_gives {g : Gx} (F : Nat) (p1 : Nat) (p2 : Int32) (p3 : Int32) (μ : Sw) {μF : Sw} (hf : f_X0_gives F p1 p2 p3 μ = some μF) : Cl g 1 yX0_gives cX0_gives 4 none [.ref p1, .int p2, .int p3] μ none μF := by
  unfold f_X0_gives at hf
  refine Cl.of (own := RX0) (ini := false) (by decide +kernel) rfl (by decide) (Nat.le_of_ble_eq_true rfl) ?_
  show PW g mX0_gives 1 μ μF (QN g none μ μF) 0 [(0, .ref p1), (1, .int p2), (2, .int p3)] [] μ
  refine P.iconst (v := 0) (pc' := 1) dX0_gives_0 rfl (by decide) ?_
  refine P.istore_n (pc' := 2) (lv' := [(3, .int 0), (0, .ref p1), (1, .int p2), (2, .int p3)]) dX0_gives_1 rfl rfl (Nat.le_of_ble_eq_true rfl) rfl ?_
  exact PW.sub [1, 2, 3, 0] rfl (ok_f_X0_gives_L2 F p1 p2 p3 F _ _ hf)
abbrev mX2_tellName : Ym := (RX2, cX2_tellName, 3, none, false, [])
noncomputable def f_X2_tellName_j29 (F : Nat) (v0 : Nat) (v1 : Int32) (v2 : Int32) (μ : Sw) : Option ((Unit ⊕ Nat) × Sw) :=
  Option.bind (gfR μ v0 2 6) fun x1 =>
  Option.bind (gfI μ v0 2 8) fun x3 =>
  Option.bind (gfR μ v0 2 0) fun x5 =>
  Option.bind (gfR μ x5 1 4) fun x7 =>
  Option.bind (aL μ 1 x7 v2) fun x9 =>
  Option.bind (sL μ 1 x1 x3 x9) fun μ12 =>
  Option.bind (gfR μ12 v0 2 7) fun x13 =>
  Option.bind (gfI μ12 v0 2 8) fun x15 =>
  Option.bind (sI μ12 0 x13 x15 v1) fun μ18 =>
  Option.bind (gfI μ18 v0 2 8) fun x19 =>
  Option.bind (pf μ18 v0 2 8 (.int (x19 + 1))) fun μ21 =>
  some (.inl (), μ21)
set_option maxHeartbeats 4000000 in
theorem ok_f_X2_tellName_j29 {g : Gx} {μ0 : Sw} {res : Unit ⊕ Nat} {μF : Sw} (F : Nat) (v0 : Nat) (v1 : Int32) (v2 : Int32) (μ : Sw) (hf : f_X2_tellName_j29 F v0 v1 v2 μ = some (res, μF)) : PW g mX2_tellName 8 μ0 μF (QX g (rvU res) μ0 μF) 29 [(0, .ref v0), (1, .int v1), (2, .int v2)] [] μ := by
  unfold f_X2_tellName_j29 at hf
  refine P.aload_n 0 (pc' := 30) dX2_tellName_29 rfl rfl rfl ?_
  obtain ⟨x1, h2, hf⟩ := ob hf
  refine P.get (pc' := 33) ci2 6 (by decide) (gfR_spec h2) q248 (Or.inl rfl) dX2_tellName_30 rfl ?_
  refine P.aload_n 0 (pc' := 34) dX2_tellName_33 rfl rfl rfl ?_
  obtain ⟨x3, h4, hf⟩ := ob hf
  refine P.get (pc' := 37) ci2 8 (by decide) (gfI_spec h4) q250 (Or.inl rfl) dX2_tellName_34 rfl ?_
  refine P.aload_n 0 (pc' := 38) dX2_tellName_37 rfl rfl rfl ?_
  obtain ⟨x5, h6, hf⟩ := ob hf
  refine P.get (pc' := 41) ci2 0 (by decide) (gfR_spec h6) q242 (Or.inl rfl) dX2_tellName_38 rfl ?_
  obtain ⟨x7, h8, hf⟩ := ob hf
  refine P.getN (pc' := 44) ci1 4 (by decide) (gfR_spec h8) q218 (Or.inl rfl) dX2_tellName_41 rfl ?_
  refine P.iload_n 2 (pc' := 45) dX2_tellName_44 rfl rfl rfl ?_
  obtain ⟨x9, h10, hf⟩ := ob hf
  refine P.lald (t := 1) (pc' := 46) rfl h10 dX2_tellName_45 rfl ?_
  obtain ⟨μ12, h11, hf⟩ := ob hf
  refine P.last (pc' := 47) h11 dX2_tellName_46 rfl ?_
  refine P.aload_n 0 (pc' := 48) dX2_tellName_47 rfl rfl rfl ?_
  obtain ⟨x13, h14, hf⟩ := ob hf
  refine P.get (pc' := 51) ci2 7 (by decide) (gfR_spec h14) q249 (Or.inl rfl) dX2_tellName_48 rfl ?_
  refine P.aload_n 0 (pc' := 52) dX2_tellName_51 rfl rfl rfl ?_
  obtain ⟨x15, h16, hf⟩ := ob hf
  refine P.get (pc' := 55) ci2 8 (by decide) (gfI_spec h16) q250 (Or.inl rfl) dX2_tellName_52 rfl ?_
  refine P.iload_n 1 (pc' := 56) dX2_tellName_55 rfl rfl rfl ?_
  obtain ⟨μ18, h17, hf⟩ := ob hf
  refine P.iast (pc' := 57) h17 dX2_tellName_56 rfl ?_
  refine P.aload_n 0 (pc' := 58) dX2_tellName_57 rfl rfl rfl ?_
  refine P.dup (pc' := 59) dX2_tellName_58 rfl rfl ?_
  obtain ⟨x19, h20, hf⟩ := ob hf
  refine P.get (pc' := 62) ci2 8 (by decide) (gfI_spec h20) q250 (Or.inl rfl) dX2_tellName_59 rfl ?_
  refine P.iconst (v := 1) (pc' := 63) dX2_tellName_62 rfl (by decide) ?_
  refine P.iadd (pc' := 64) dX2_tellName_63 rfl ?_
  obtain ⟨μ21, h22, hf⟩ := ob hf
  refine P.put (v := .int (x19 + 1)) (pc' := 67) ci2 8 (by decide) h22 q250 (Or.inl rfl) rfl rfl rfl dX2_tellName_64 rfl ?_
  cases hf; exact P.vretX rfl dX2_tellName_67
noncomputable def f_X2_tellName (F : Nat) (this : Nat) (p1 : Int32) (μ : Sw) : Option ((Unit ⊕ Nat) × Sw) :=
  Option.bind (oc μ this 2) fun u3 =>
  Option.bind (f_X2_must F this 1 μ) fun q1 =>
  thr q1.1 q1.2 fun x6 =>
  Option.bind (gfR q1.2 this 2 0) fun x8 =>
  Option.bind (gfR q1.2 x8 1 4) fun x10 =>
  Option.bind (aL q1.2 1 x10 x6) fun x12 =>
  Option.bind (oc q1.2 this 2) fun u16 =>
  Option.bind (f_X2_find F this x12 q1.2) fun q14 =>
  if q14 = (-1) then
    f_X2_tellName_j29 F this p1 x6 q1.2
  else
    Option.bind (oc q1.2 this 2) fun u21 =>
    Option.bind (f_X2_wrong F this 3 x6 q1.2) fun q19 =>
    f_X2_tellName_j29 F this p1 x6 q19
set_option maxHeartbeats 4000000 in
theorem ok_X2_tellName {g : Gx} (F : Nat) (this : Nat) (p1 : Int32) (μ : Sw) {res : Unit ⊕ Nat} {μF : Sw} (hf : f_X2_tellName F this p1 μ = some (res, μF)) : ClX g 8 yX2_tellName cX2_tellName 3 none [.ref this, .int p1] μ (rvU res) μF := by
  unfold f_X2_tellName at hf
  refine ClX.of (own := RX2) (ini := false) (by decide +kernel) rfl (by decide) (Nat.le_of_ble_eq_true rfl) ?_
  show PW g mX2_tellName 8 μ μF (QX g (rvU res) μ μF) 0 [(0, .ref this), (1, .int p1)] [] μ
  refine P.aload_n 0 (pc' := 1) dX2_tellName_0 rfl rfl rfl ?_
  refine P.iconst (v := 1) (pc' := 2) dX2_tellName_1 rfl (by decide) ?_
  obtain ⟨u3, h4, hf⟩ := ob hf
  obtain ⟨q1, h2, hf⟩ := ob hf
  rcases e5 : q1.1 with x6 | x7
  rotate_left
  · have h2 := h2.trans (congrArg some (Prod.ext e5 rfl : q1 = (.inr x7, q1.2)))
    rw [e5] at hf
    have hf := thr_r hf
    cases hf
    exact P.callVXt (As := [.int 1]) 1 (ok_X2_must F this 1 μ h2) rfl (Nat.le_of_ble_eq_true rfl) (lw_V q760 q762 qs15 q161 q763) rfl yok_X2_must rfl (Nat.le_of_ble_eq_true rfl) ci2 h4 (by decide) rfl dX2_tellName_2
  have h2 := h2.trans (congrArg some (Prod.ext e5 rfl : q1 = (.inl x6, q1.2)))
  rw [e5] at hf
  have hf := thr_l hf
  refine P.callVX (pc' := 5) (As := [.int 1]) 1 (ok_X2_must F this 1 μ h2) (Nat.le_of_ble_eq_true rfl) (lw_V q760 q762 qs15 q161 q763) rfl yok_X2_must rfl (Nat.le_of_ble_eq_true rfl) ci2 h4 (by decide) rfl dX2_tellName_2 rfl ?_
  refine P.istore_n (pc' := 6) (lv' := [(2, .int x6), (0, .ref this), (1, .int p1)]) dX2_tellName_5 rfl rfl (Nat.le_of_ble_eq_true rfl) rfl ?_
  refine P.aload_n 1 (pc' := 7) dX2_tellName_6 rfl rfl rfl ?_
  refine P.aload_n 1 (pc' := 8) dX2_tellName_7 rfl rfl rfl ?_
  obtain ⟨x8, h9, hf⟩ := ob hf
  refine P.get (pc' := 11) ci2 0 (by decide) (gfR_spec h9) q242 (Or.inl rfl) dX2_tellName_8 rfl ?_
  obtain ⟨x10, h11, hf⟩ := ob hf
  refine P.getN (pc' := 14) ci1 4 (by decide) (gfR_spec h11) q218 (Or.inl rfl) dX2_tellName_11 rfl ?_
  refine P.iload_n 0 (pc' := 15) dX2_tellName_14 rfl rfl rfl ?_
  obtain ⟨x12, h13, hf⟩ := ob hf
  refine P.lald (t := 1) (pc' := 16) rfl h13 dX2_tellName_15 rfl ?_
  obtain ⟨u16, h17, hf⟩ := ob hf
  obtain ⟨q14, h15, hf⟩ := ob hf
  refine P.callV (pc' := 19) (As := [.long x12]) 1 (ok_X2_find F this x12 q1.2 h15) (Nat.le_of_ble_eq_true rfl) (lw_V q764 q766 qs16 q161 q767) rfl yok_X2_find rfl (Nat.le_of_ble_eq_true rfl) ci2 h17 (by decide) rfl dX2_tellName_16 rfl ?_
  refine P.iconst (v := (-1)) (pc' := 20) dX2_tellName_19 rfl (by decide) ?_
  refine P.icmp_eq (tgt := 29) (pc' := 23) dX2_tellName_20 (by decide) rfl (fun y18 => ?_) (fun y18 => ?_)
  · have hf := (if_pos y18).symm.trans hf
    exact PW.sub [1, 2, 0] rfl (ok_f_X2_tellName_j29 F this p1 x6 q1.2 hf)
  · have hf := (if_neg y18).symm.trans hf
    refine P.aload_n 1 (pc' := 24) dX2_tellName_23 rfl rfl rfl ?_
    refine P.iconst (v := 3) (pc' := 25) dX2_tellName_24 rfl (by decide) ?_
    refine P.iload_n 0 (pc' := 26) dX2_tellName_25 rfl rfl rfl ?_
    obtain ⟨u21, h22, hf⟩ := ob hf
    obtain ⟨q19, h20, hf⟩ := ob hf
    refine P.callV (pc' := 29) (As := [.int 3, .int x6]) 2 (ok_X2_wrong F this 3 x6 q1.2 h20) (Nat.le_of_ble_eq_true rfl) (lw_V q768 q770 qs17 q161 q771) rfl yok_X2_wrong rfl (Nat.le_of_ble_eq_true rfl) ci2 h22 (by decide) rfl dX2_tellName_26 rfl ?_
    exact PW.sub [1, 2, 0] rfl (ok_f_X2_tellName_j29 F this p1 x6 q19 hf)
abbrev mX11_init : Ym := (RX11, cX11_init, 4, none, true, [])
noncomputable def f_X11_init (F : Nat) (this : Nat) (p1 : Int32) (p2 : Int32) (p3 : Int32) (μ : Sw) : Option Sw :=
  Option.bind (f_J3_init F this μ) fun q1 =>
  Option.bind (pf μ this 11 0 (.int p1)) fun μ3 =>
  Option.bind (pf μ3 this 11 1 (.int p2)) fun μ5 =>
  Option.bind (pf μ5 this 11 2 (.int p3)) fun μ7 =>
  some μ7
set_option maxHeartbeats 4000000 in
theorem ok_X11_init {g : Gx} (F : Nat) (this : Nat) (p1 : Int32) (p2 : Int32) (p3 : Int32) (μ : Sw) {μF : Sw} (hf : f_X11_init F this p1 p2 p3 μ = some μF) : Cl g 2 yX11_init cX11_init 4 none [.ref this, .int p1, .int p2, .int p3] μ none μF := by
  unfold f_X11_init at hf
  refine Cl.of (own := RX11) (ini := true) (by decide +kernel) rfl (by decide) (Nat.le_of_ble_eq_true rfl) ?_
  show PW g mX11_init 2 μ μF (QN g none μ μF) 0 [(0, .ref this), (1, .int p1), (2, .int p2), (3, .int p3)] [] μ
  refine P.aload_n 0 (pc' := 1) dX11_init_0 rfl rfl rfl ?_
  obtain ⟨q1, h2, hf⟩ := ob hf
  refine P.callI (pc' := 4) (As := []) 0 (ok_J3_init F this μ h2) (Nat.le_of_ble_eq_true rfl) q310 q166 q782 q309 rfl yok_J3_init rfl (Nat.le_of_ble_eq_true rfl) (by decide) rfl dX11_init_1 rfl ?_
  refine P.aload_n 0 (pc' := 5) dX11_init_4 rfl rfl rfl ?_
  refine P.iload_n 1 (pc' := 6) dX11_init_5 rfl rfl rfl ?_
  obtain ⟨μ3, h4, hf⟩ := ob hf
  refine P.putF (v := .int p1) (pc' := 9) ci11 0 (by decide) h4 q783 (Or.inl rfl) rfl rfl rfl rfl rfl dX11_init_6 rfl ?_
  refine P.aload_n 0 (pc' := 10) dX11_init_9 rfl rfl rfl ?_
  refine P.iload_n 2 (pc' := 11) dX11_init_10 rfl rfl rfl ?_
  obtain ⟨μ5, h6, hf⟩ := ob hf
  refine P.putF (v := .int p2) (pc' := 14) ci11 1 (by decide) h6 q785 (Or.inl rfl) rfl rfl rfl rfl rfl dX11_init_11 rfl ?_
  refine P.aload_n 0 (pc' := 15) dX11_init_14 rfl rfl rfl ?_
  refine P.iload_n 3 (pc' := 16) dX11_init_15 rfl rfl rfl ?_
  obtain ⟨μ7, h8, hf⟩ := ob hf
  refine P.putF (v := .int p3) (pc' := 19) ci11 2 (by decide) h8 q787 (Or.inl rfl) rfl rfl rfl rfl rfl dX11_init_16 rfl ?_
  cases hf; exact P.vret rfl dX11_init_19
theorem yok_X2_kind : yOK yX2_kind 0 := ⟨by decide +kernel, by decide +kernel, by decide +kernel⟩
theorem yok_X2_sum : yOK yX2_sum 0 := ⟨by decide +kernel, by decide +kernel, by decide +kernel⟩
abbrev mX2_unit : Ym := (RX2, cX2_unit, 2, (some (Jvm.ClassFile.FieldType.object "StiltTown$Term")), false, [])
noncomputable def f_X2_unit (F : Nat) (rec : Nat → Sw → Option ((Nat ⊕ Nat) × Sw)) (this : Nat) (μ : Sw) : Option ((Nat ⊕ Nat) × Sw) :=
  Option.bind (oc μ this 2) fun u3 =>
  Option.bind (f_X2_is F this 2 μ) fun q1 =>
  if q1 = 0 then
    Option.bind (oc μ this 2) fun u8 =>
    Option.bind (f_X2_kind F this μ) fun q6 =>
    Option.bind (p_X0_within F q6 218 225) fun q10 =>
    if q10 = 0 then
      Option.bind (oc μ this 2) fun u15 =>
      Option.bind (f_X2_is F this 211 μ) fun q13 =>
      if q13 = 0 then
        Option.bind (oc μ this 2) fun u20 =>
        Option.bind (f_X2_is F this 40 μ) fun q18 =>
        if q18 = 0 then
          Option.bind (oc μ this 2) fun u63 =>
          Option.bind (f_X2_fault F this 1 μ) fun q61 =>
          Option.bind (oc q61.2 q61.1 10) fun u65 =>
          some (.inr q61.1, q61.2)
        else
          Option.bind (gfI μ this 2 2) fun x23 =>
          if x23 = 6 then
            Option.bind (oc μ this 2) fun u57 =>
            Option.bind (f_X2_fault F this 2 μ) fun q55 =>
            Option.bind (oc q55.2 q55.1 10) fun u59 =>
            some (.inr q55.1, q55.2)
          else
            Option.bind (gfI μ this 2 2) fun x26 =>
            Option.bind (pf μ this 2 2 (.int (x26 + 1))) fun μ28 =>
            Option.bind (oc μ28 this 2) fun u32 =>
            Option.bind (f_X2_go F this μ28) fun q30 =>
            thr q30.1 q30.2 fun x35 =>
            Option.bind (oc q30.2 this 2) fun u39 =>
            Option.bind (rec this q30.2) fun q37 =>
            thr q37.1 q37.2 fun x42 =>
            Option.bind (oc q37.2 this 2) fun u46 =>
            Option.bind (f_X2_must F this 41 q37.2) fun q44 =>
            thr q44.1 q44.2 fun x49 =>
            Option.bind (gfI q44.2 this 2 2) fun x51 =>
            Option.bind (pf q44.2 this 2 2 (.int (x51 - 1))) fun μ53 =>
            some (.inl x42, μ53)
      else
        Option.bind (oc μ this 2) fun u69 =>
        Option.bind (f_X2_go F this μ) fun q67 =>
        thr q67.1 q67.2 fun x72 =>
        nm (nw q67.2 (.inr (5, dfX5)) 1) fun μ74 =>
        Option.bind (f_X5_init F q67.2.2.1 8 μ74) fun q76 =>
        some (.inl q67.2.2.1, q76)
    else
      nm (nw μ (.inr (5, dfX5)) 1) fun μ78 =>
      Option.bind (gfR μ78 this 2 0) fun x80 =>
      Option.bind (gfR μ78 x80 1 2) fun x82 =>
      Option.bind (oc μ78 this 2) fun u86 =>
      Option.bind (f_X2_go F this μ78) fun q84 =>
      thr q84.1 q84.2 fun x89 =>
      Option.bind (aI q84.2 3 x82 x89) fun x91 =>
      Option.bind (f_X5_init F μ.2.1 (x91 - 218) q84.2) fun q93 =>
      some (.inl μ.2.1, q93)
  else
    nm (nw μ (.inr (4, dfX4)) 1) fun μ95 =>
    Option.bind (gfR μ95 this 2 0) fun x97 =>
    Option.bind (gfR μ95 x97 1 4) fun x99 =>
    Option.bind (oc μ95 this 2) fun u103 =>
    Option.bind (f_X2_go F this μ95) fun q101 =>
    thr q101.1 q101.2 fun x106 =>
    Option.bind (aL q101.2 1 x99 x106) fun x108 =>
    Option.bind (f_X4_init F μ.2.1 x108.toInt32 q101.2) fun q110 =>
    some (.inl μ.2.1, q110)
set_option maxHeartbeats 4000000 in
theorem ok_X2_unit {g : Gx} (F : Nat) (D0 : Nat) (h13 : 13 ≤ D0) (rec : Nat → Sw → Option ((Nat ⊕ Nat) × Sw)) (hrec : ∀ this μ res μ1, rec this μ = some (res, μ1) → ClX g D0 yX2_sum cX2_sum 3 (some (.object "StiltTown$Term")) [.ref this] μ (rvA res) μ1) (this : Nat) (μ : Sw) {res : Nat ⊕ Nat} {μF : Sw} (hf : f_X2_unit F rec this μ = some (res, μF)) : ClX g (D0 + 1) yX2_unit cX2_unit 2 (some (Jvm.ClassFile.FieldType.object "StiltTown$Term")) [.ref this] μ (rvA res) μF := by
  unfold f_X2_unit at hf
  refine ClX.of (own := RX2) (ini := false) (by decide +kernel) rfl (by decide) (Nat.le_of_ble_eq_true rfl) ?_
  show PW g mX2_unit (D0 + 1) μ μF (QX g (rvA res) μ μF) 0 [(0, .ref this)] [] μ
  refine P.aload_n 0 (pc' := 1) dX2_unit_0 rfl rfl rfl ?_
  refine P.iconst (v := 2) (pc' := 2) dX2_unit_1 rfl (by decide) ?_
  obtain ⟨u3, h4, hf⟩ := ob hf
  obtain ⟨q1, h2, hf⟩ := ob hf
  refine P.callV (pc' := 5) (As := [.int 2]) 1 (ok_X2_is F this 2 μ h2) (by omega) (lw_V q656 q658 qs7 q161 q659) rfl yok_X2_is rfl (by omega) ci2 h4 (by decide) rfl dX2_unit_2 rfl ?_
  refine P.if_eq (tgt := 29) (pc' := 8) dX2_unit_5 (by decide) rfl (fun y5 => ?_) (fun y5 => ?_)
  · have hf := (if_pos y5).symm.trans hf
    refine P.aload_n 0 (pc' := 30) dX2_unit_29 rfl rfl rfl ?_
    obtain ⟨u8, h9, hf⟩ := ob hf
    obtain ⟨q6, h7, hf⟩ := ob hf
    refine P.callV (pc' := 33) (As := []) 0 (ok_X2_kind F this μ h7) (by omega) (lw_V q664 q666 qs9 q161 q667) rfl yok_X2_kind rfl (by omega) ci2 h9 (by decide) rfl dX2_unit_30 rfl ?_
    refine P.sipush (v := 218) (pc' := 36) dX2_unit_33 rfl (by decide) ?_
    refine P.sipush (v := 225) (pc' := 39) dX2_unit_36 rfl (by decide) ?_
    obtain ⟨q10, h11, hf⟩ := ob hf
    refine P.callSN (pc' := 42) (As := [.int q6, .int 218, .int 225]) 3 (ok_X0_within F q6 218 225 μ h11) (by omega) q558 q159 q776 q557 yok_X0_within rfl (by omega) (by decide) rfl dX2_unit_39 rfl ?_
    refine P.if_eq (tgt := 69) (pc' := 45) dX2_unit_42 (by decide) rfl (fun y12 => ?_) (fun y12 => ?_)
    · have hf := (if_pos y12).symm.trans hf
      refine P.aload_n 0 (pc' := 70) dX2_unit_69 rfl rfl rfl ?_
      refine P.sipush (v := 211) (pc' := 73) dX2_unit_70 rfl (by decide) ?_
      obtain ⟨u15, h16, hf⟩ := ob hf
      obtain ⟨q13, h14, hf⟩ := ob hf
      refine P.callV (pc' := 76) (As := [.int 211]) 1 (ok_X2_is F this 211 μ h14) (by omega) (lw_V q656 q658 qs7 q161 q659) rfl yok_X2_is rfl (by omega) ci2 h16 (by decide) rfl dX2_unit_73 rfl ?_
      refine P.if_eq (tgt := 94) (pc' := 79) dX2_unit_76 (by decide) rfl (fun y17 => ?_) (fun y17 => ?_)
      · have hf := (if_pos y17).symm.trans hf
        refine P.aload_n 0 (pc' := 95) dX2_unit_94 rfl rfl rfl ?_
        refine P.bipush (v := 40) (pc' := 97) dX2_unit_95 rfl (by decide) ?_
        obtain ⟨u20, h21, hf⟩ := ob hf
        obtain ⟨q18, h19, hf⟩ := ob hf
        refine P.callV (pc' := 100) (As := [.int 40]) 1 (ok_X2_is F this 40 μ h19) (by omega) (lw_V q656 q658 qs7 q161 q659) rfl yok_X2_is rfl (by omega) ci2 h21 (by decide) rfl dX2_unit_97 rfl ?_
        refine P.if_ne (tgt := 109) (pc' := 103) dX2_unit_100 (by decide) rfl (fun y22 => ?_) (fun y22 => ?_)
        · have hf := (if_neg y22).symm.trans hf
          refine P.aload_n 0 (pc' := 110) dX2_unit_109 rfl rfl rfl ?_
          obtain ⟨x23, h24, hf⟩ := ob hf
          refine P.get (pc' := 113) ci2 2 (by decide) (gfI_spec h24) q244 (Or.inl rfl) dX2_unit_110 rfl ?_
          refine P.bipush (v := 6) (pc' := 115) dX2_unit_113 rfl (by decide) ?_
          refine P.icmp_ne (tgt := 124) (pc' := 118) dX2_unit_115 (by decide) rfl (fun y25 => ?_) (fun y25 => ?_)
          · have hf := (if_neg y25).symm.trans hf
            refine P.aload_n 0 (pc' := 125) dX2_unit_124 rfl rfl rfl ?_
            refine P.dup (pc' := 126) dX2_unit_125 rfl rfl ?_
            obtain ⟨x26, h27, hf⟩ := ob hf
            refine P.get (pc' := 129) ci2 2 (by decide) (gfI_spec h27) q244 (Or.inl rfl) dX2_unit_126 rfl ?_
            refine P.iconst (v := 1) (pc' := 130) dX2_unit_129 rfl (by decide) ?_
            refine P.iadd (pc' := 131) dX2_unit_130 rfl ?_
            obtain ⟨μ28, h29, hf⟩ := ob hf
            refine P.put (v := .int (x26 + 1)) (pc' := 134) ci2 2 (by decide) h29 q244 (Or.inl rfl) rfl rfl rfl dX2_unit_131 rfl ?_
            refine P.aload_n 0 (pc' := 135) dX2_unit_134 rfl rfl rfl ?_
            obtain ⟨u32, h33, hf⟩ := ob hf
            obtain ⟨q30, h31, hf⟩ := ob hf
            rcases e34 : q30.1 with x35 | x36
            rotate_left
            · have h31 := h31.trans (congrArg some (Prod.ext e34 rfl : q30 = (.inr x36, q30.2)))
              rw [e34] at hf
              have hf := thr_r hf
              cases hf
              exact P.callVXt (As := []) 0 (ok_X2_go F this μ28 h31) rfl (by omega) (lw_V q752 q754 qs13 q161 q755) rfl yok_X2_go rfl (by omega) ci2 h33 (by decide) rfl dX2_unit_135
            have h31 := h31.trans (congrArg some (Prod.ext e34 rfl : q30 = (.inl x35, q30.2)))
            rw [e34] at hf
            have hf := thr_l hf
            refine P.callVX (pc' := 138) (As := []) 0 (ok_X2_go F this μ28 h31) (by omega) (lw_V q752 q754 qs13 q161 q755) rfl yok_X2_go rfl (by omega) ci2 h33 (by decide) rfl dX2_unit_135 rfl ?_
            refine P.pop (pc' := 139) dX2_unit_138 rfl rfl ?_
            refine P.aload_n 0 (pc' := 140) dX2_unit_139 rfl rfl rfl ?_
            obtain ⟨u39, h40, hf⟩ := ob hf
            obtain ⟨q37, h38, hf⟩ := ob hf
            rcases e41 : q37.1 with x42 | x43
            rotate_left
            · have h38 := h38.trans (congrArg some (Prod.ext e41 rfl : q37 = (.inr x43, q37.2)))
              rw [e41] at hf
              have hf := thr_r hf
              cases hf
              exact P.callVXt (As := []) 0 (hrec _ _ _ _ h38) rfl (by omega) (lw_V q917 q919 qs26 q161 q920) rfl yok_X2_sum rfl (by omega) ci2 h40 (by decide) rfl dX2_unit_140
            have h38 := h38.trans (congrArg some (Prod.ext e41 rfl : q37 = (.inl x42, q37.2)))
            rw [e41] at hf
            have hf := thr_l hf
            refine P.callVX (pc' := 143) (As := []) 0 (hrec _ _ _ _ h38) (by omega) (lw_V q917 q919 qs26 q161 q920) rfl yok_X2_sum rfl (by omega) ci2 h40 (by decide) rfl dX2_unit_140 rfl ?_
            refine P.astore_n (pc' := 144) (lv' := [(1, .ref x42), (0, .ref this)]) dX2_unit_143 rfl rfl (Nat.le_of_ble_eq_true rfl) rfl ?_
            refine P.aload_n 1 (pc' := 145) dX2_unit_144 rfl rfl rfl ?_
            refine P.bipush (v := 41) (pc' := 147) dX2_unit_145 rfl (by decide) ?_
            obtain ⟨u46, h47, hf⟩ := ob hf
            obtain ⟨q44, h45, hf⟩ := ob hf
            rcases e48 : q44.1 with x49 | x50
            rotate_left
            · have h45 := h45.trans (congrArg some (Prod.ext e48 rfl : q44 = (.inr x50, q44.2)))
              rw [e48] at hf
              have hf := thr_r hf
              cases hf
              exact P.callVXt (As := [.int 41]) 1 (ok_X2_must F this 41 q37.2 h45) rfl (by omega) (lw_V q760 q762 qs15 q161 q763) rfl yok_X2_must rfl (by omega) ci2 h47 (by decide) rfl dX2_unit_147
            have h45 := h45.trans (congrArg some (Prod.ext e48 rfl : q44 = (.inl x49, q44.2)))
            rw [e48] at hf
            have hf := thr_l hf
            refine P.callVX (pc' := 150) (As := [.int 41]) 1 (ok_X2_must F this 41 q37.2 h45) (by omega) (lw_V q760 q762 qs15 q161 q763) rfl yok_X2_must rfl (by omega) ci2 h47 (by decide) rfl dX2_unit_147 rfl ?_
            refine P.pop (pc' := 151) dX2_unit_150 rfl rfl ?_
            refine P.aload_n 1 (pc' := 152) dX2_unit_151 rfl rfl rfl ?_
            refine P.dup (pc' := 153) dX2_unit_152 rfl rfl ?_
            obtain ⟨x51, h52, hf⟩ := ob hf
            refine P.get (pc' := 156) ci2 2 (by decide) (gfI_spec h52) q244 (Or.inl rfl) dX2_unit_153 rfl ?_
            refine P.iconst (v := 1) (pc' := 157) dX2_unit_156 rfl (by decide) ?_
            refine P.isub (pc' := 158) dX2_unit_157 rfl ?_
            obtain ⟨μ53, h54, hf⟩ := ob hf
            refine P.put (v := .int (x51 - 1)) (pc' := 161) ci2 2 (by decide) h54 q244 (Or.inl rfl) rfl rfl rfl dX2_unit_158 rfl ?_
            refine P.aload_n 0 (pc' := 162) dX2_unit_161 rfl rfl rfl ?_
            cases hf; exact P.aretX rfl (Or.inl ⟨_, rfl⟩) dX2_unit_162
          · have hf := (if_pos y25).symm.trans hf
            refine P.aload_n 0 (pc' := 119) dX2_unit_118 rfl rfl rfl ?_
            refine P.iconst (v := 2) (pc' := 120) dX2_unit_119 rfl (by decide) ?_
            obtain ⟨u57, h58, hf⟩ := ob hf
            obtain ⟨q55, h56, hf⟩ := ob hf
            refine P.callV (pc' := 123) (As := [.int 2]) 1 (ok_X2_fault F this 2 μ h56) (by omega) (lw_V q676 q678 qs11 q161 q679) rfl yok_X2_fault rfl (by omega) ci2 h58 (by decide) rfl dX2_unit_120 rfl ?_
            obtain ⟨u59, h60, hf⟩ := ob hf
            cases hf; exact P.athrow rfl h60 dX2_unit_123
        · have hf := (if_pos y22).symm.trans hf
          refine P.aload_n 0 (pc' := 104) dX2_unit_103 rfl rfl rfl ?_
          refine P.iconst (v := 1) (pc' := 105) dX2_unit_104 rfl (by decide) ?_
          obtain ⟨u63, h64, hf⟩ := ob hf
          obtain ⟨q61, h62, hf⟩ := ob hf
          refine P.callV (pc' := 108) (As := [.int 1]) 1 (ok_X2_fault F this 1 μ h62) (by omega) (lw_V q676 q678 qs11 q161 q679) rfl yok_X2_fault rfl (by omega) ci2 h64 (by decide) rfl dX2_unit_105 rfl ?_
          obtain ⟨u65, h66, hf⟩ := ob hf
          cases hf; exact P.athrow rfl h66 dX2_unit_108
      · have hf := (if_neg y17).symm.trans hf
        refine P.aload_n 0 (pc' := 80) dX2_unit_79 rfl rfl rfl ?_
        obtain ⟨u69, h70, hf⟩ := ob hf
        obtain ⟨q67, h68, hf⟩ := ob hf
        rcases e71 : q67.1 with x72 | x73
        rotate_left
        · have h68 := h68.trans (congrArg some (Prod.ext e71 rfl : q67 = (.inr x73, q67.2)))
          rw [e71] at hf
          have hf := thr_r hf
          cases hf
          exact P.callVXt (As := []) 0 (ok_X2_go F this μ h68) rfl (by omega) (lw_V q752 q754 qs13 q161 q755) rfl yok_X2_go rfl (by omega) ci2 h70 (by decide) rfl dX2_unit_80
        have h68 := h68.trans (congrArg some (Prod.ext e71 rfl : q67 = (.inl x72, q67.2)))
        rw [e71] at hf
        have hf := thr_l hf
        refine P.callVX (pc' := 83) (As := []) 0 (ok_X2_go F this μ h68) (by omega) (lw_V q752 q754 qs13 q161 q755) rfl yok_X2_go rfl (by omega) ci2 h70 (by decide) rfl dX2_unit_80 rfl ?_
        refine P.pop (pc' := 84) dX2_unit_83 rfl rfl ?_
        obtain ⟨μ74, e75, hf⟩ := nm_i hf
        refine P.newE (pc' := 87) ci5 q931 q318 q168 dfX5_ok e75 dX2_unit_84 rfl ?_
        refine P.dup (pc' := 88) dX2_unit_87 rfl rfl ?_
        refine P.bipush (v := 8) (pc' := 90) dX2_unit_88 rfl (by decide) ?_
        obtain ⟨q76, h77, hf⟩ := ob hf
        refine P.callIN (pc' := 93) (As := [.int 8]) 1 (ok_X5_init F q67.2.2.1 8 μ74 h77) (by omega) q321 q168 q932 q320 rfl yok_X5_init rfl (by omega) (Nat.le_of_ble_eq_true rfl) rfl dX2_unit_90 rfl ?_
        cases hf; exact P.aretX rfl (Or.inl ⟨_, rfl⟩) dX2_unit_93
    · have hf := (if_neg y12).symm.trans hf
      obtain ⟨μ78, e79, hf⟩ := nm_i hf
      refine P.newE (pc' := 48) ci5 q931 q318 q168 dfX5_ok e79 dX2_unit_45 rfl ?_
      refine P.dup (pc' := 49) dX2_unit_48 rfl rfl ?_
      refine P.aload_n 0 (pc' := 50) dX2_unit_49 rfl rfl rfl ?_
      obtain ⟨x80, h81, hf⟩ := ob hf
      refine P.get (pc' := 53) ci2 0 (by decide) (gfR_spec h81) q242 (Or.inl rfl) dX2_unit_50 rfl ?_
      obtain ⟨x82, h83, hf⟩ := ob hf
      refine P.getN (pc' := 56) ci1 2 (by decide) (gfR_spec h83) q214 (Or.inl rfl) dX2_unit_53 rfl ?_
      refine P.aload_n 0 (pc' := 57) dX2_unit_56 rfl rfl rfl ?_
      obtain ⟨u86, h87, hf⟩ := ob hf
      obtain ⟨q84, h85, hf⟩ := ob hf
      rcases e88 : q84.1 with x89 | x90
      rotate_left
      · have h85 := h85.trans (congrArg some (Prod.ext e88 rfl : q84 = (.inr x90, q84.2)))
        rw [e88] at hf
        have hf := thr_r hf
        cases hf
        exact P.callVXt (As := []) 0 (ok_X2_go F this μ78 h85) rfl (by omega) (lw_V q752 q754 qs13 q161 q755) rfl yok_X2_go rfl (by omega) ci2 h87 (Nat.le_of_ble_eq_true rfl) rfl dX2_unit_57
      have h85 := h85.trans (congrArg some (Prod.ext e88 rfl : q84 = (.inl x89, q84.2)))
      rw [e88] at hf
      have hf := thr_l hf
      refine P.callVX (pc' := 60) (As := []) 0 (ok_X2_go F this μ78 h85) (by omega) (lw_V q752 q754 qs13 q161 q755) rfl yok_X2_go rfl (by omega) ci2 h87 (Nat.le_of_ble_eq_true rfl) rfl dX2_unit_57 rfl ?_
      obtain ⟨x91, h92, hf⟩ := ob hf
      refine P.sald (t := 3) (pc' := 61) rfl h92 dX2_unit_60 rfl ?_
      refine P.sipush (v := 218) (pc' := 64) dX2_unit_61 rfl (by decide) ?_
      refine P.isub (pc' := 65) dX2_unit_64 rfl ?_
      obtain ⟨q93, h94, hf⟩ := ob hf
      refine P.callIN (pc' := 68) (As := [.int (x91 - 218)]) 1 (ok_X5_init F μ.2.1 (x91 - 218) q84.2 h94) (by omega) q321 q168 q932 q320 rfl yok_X5_init rfl (by omega) (Nat.le_of_ble_eq_true rfl) rfl dX2_unit_65 rfl ?_
      cases hf; exact P.aretX rfl (Or.inl ⟨_, rfl⟩) dX2_unit_68
  · have hf := (if_neg y5).symm.trans hf
    obtain ⟨μ95, e96, hf⟩ := nm_i hf
    refine P.newE (pc' := 11) ci4 q929 q304 q167 dfX4_ok e96 dX2_unit_8 rfl ?_
    refine P.dup (pc' := 12) dX2_unit_11 rfl rfl ?_
    refine P.aload_n 0 (pc' := 13) dX2_unit_12 rfl rfl rfl ?_
    obtain ⟨x97, h98, hf⟩ := ob hf
    refine P.get (pc' := 16) ci2 0 (by decide) (gfR_spec h98) q242 (Or.inl rfl) dX2_unit_13 rfl ?_
    obtain ⟨x99, h100, hf⟩ := ob hf
    refine P.getN (pc' := 19) ci1 4 (by decide) (gfR_spec h100) q218 (Or.inl rfl) dX2_unit_16 rfl ?_
    refine P.aload_n 0 (pc' := 20) dX2_unit_19 rfl rfl rfl ?_
    obtain ⟨u103, h104, hf⟩ := ob hf
    obtain ⟨q101, h102, hf⟩ := ob hf
    rcases e105 : q101.1 with x106 | x107
    rotate_left
    · have h102 := h102.trans (congrArg some (Prod.ext e105 rfl : q101 = (.inr x107, q101.2)))
      rw [e105] at hf
      have hf := thr_r hf
      cases hf
      exact P.callVXt (As := []) 0 (ok_X2_go F this μ95 h102) rfl (by omega) (lw_V q752 q754 qs13 q161 q755) rfl yok_X2_go rfl (by omega) ci2 h104 (Nat.le_of_ble_eq_true rfl) rfl dX2_unit_20
    have h102 := h102.trans (congrArg some (Prod.ext e105 rfl : q101 = (.inl x106, q101.2)))
    rw [e105] at hf
    have hf := thr_l hf
    refine P.callVX (pc' := 23) (As := []) 0 (ok_X2_go F this μ95 h102) (by omega) (lw_V q752 q754 qs13 q161 q755) rfl yok_X2_go rfl (by omega) ci2 h104 (Nat.le_of_ble_eq_true rfl) rfl dX2_unit_20 rfl ?_
    obtain ⟨x108, h109, hf⟩ := ob hf
    refine P.lald (t := 1) (pc' := 24) rfl h109 dX2_unit_23 rfl ?_
    refine P.l2i (pc' := 25) dX2_unit_24 rfl ?_
    obtain ⟨q110, h111, hf⟩ := ob hf
    refine P.callIN (pc' := 28) (As := [.int x108.toInt32]) 1 (ok_X4_init F μ.2.1 x108.toInt32 q101.2 h111) (by omega) q307 q167 q930 q306 rfl yok_X4_init rfl (by omega) (Nat.le_of_ble_eq_true rfl) rfl dX2_unit_25 rfl ?_
    cases hf; exact P.aretX rfl (Or.inl ⟨_, rfl⟩) dX2_unit_28
abbrev mX14_init : Ym := (RX14, cX14_init, 4, none, true, [])
noncomputable def f_X14_init (F : Nat) (this : Nat) (p1 : Int32) (p2 : Nat) (p3 : Nat) (μ : Sw) : Option Sw :=
  Option.bind (f_J3_init F this μ) fun q1 =>
  Option.bind (pf μ this 14 0 (.int p1)) fun μ3 =>
  Option.bind (pf μ3 this 14 1 (.ref p2)) fun μ5 =>
  Option.bind (pf μ5 this 14 2 (.ref p3)) fun μ7 =>
  some μ7
set_option maxHeartbeats 4000000 in
theorem ok_X14_init {g : Gx} (F : Nat) (this : Nat) (p1 : Int32) (p2 : Nat) (p3 : Nat) (μ : Sw) {μF : Sw} (hf : f_X14_init F this p1 p2 p3 μ = some μF) : Cl g 2 yX14_init cX14_init 4 none [.ref this, .int p1, .ref p2, .ref p3] μ none μF := by
  unfold f_X14_init at hf
  refine Cl.of (own := RX14) (ini := true) (by decide +kernel) rfl (by decide) (Nat.le_of_ble_eq_true rfl) ?_
  show PW g mX14_init 2 μ μF (QN g none μ μF) 0 [(0, .ref this), (1, .int p1), (2, .ref p2), (3, .ref p3)] [] μ
  refine P.aload_n 0 (pc' := 1) dX14_init_0 rfl rfl rfl ?_
  obtain ⟨q1, h2, hf⟩ := ob hf
  refine P.callI (pc' := 4) (As := []) 0 (ok_J3_init F this μ h2) (Nat.le_of_ble_eq_true rfl) q310 q166 q938 q309 rfl yok_J3_init rfl (Nat.le_of_ble_eq_true rfl) (by decide) rfl dX14_init_1 rfl ?_
  refine P.aload_n 0 (pc' := 5) dX14_init_4 rfl rfl rfl ?_
  refine P.iload_n 1 (pc' := 6) dX14_init_5 rfl rfl rfl ?_
  obtain ⟨μ3, h4, hf⟩ := ob hf
  refine P.putF (v := .int p1) (pc' := 9) ci14 0 (by decide) h4 q939 (Or.inl rfl) rfl rfl rfl rfl rfl dX14_init_6 rfl ?_
  refine P.aload_n 0 (pc' := 10) dX14_init_9 rfl rfl rfl ?_
  refine P.aload_n 2 (pc' := 11) dX14_init_10 rfl rfl rfl ?_
  obtain ⟨μ5, h6, hf⟩ := ob hf
  refine P.putF (v := .ref p2) (pc' := 14) ci14 1 (by decide) h6 q940 (Or.inl rfl) rfl rfl rfl rfl rfl dX14_init_11 rfl ?_
  refine P.aload_n 0 (pc' := 15) dX14_init_14 rfl rfl rfl ?_
  refine P.aload_n 3 (pc' := 16) dX14_init_15 rfl rfl rfl ?_
  obtain ⟨μ7, h8, hf⟩ := ob hf
  refine P.putF (v := .ref p3) (pc' := 19) ci14 2 (by decide) h8 q941 (Or.inl rfl) rfl rfl rfl rfl rfl dX14_init_16 rfl ?_
  cases hf; exact P.vret rfl dX14_init_19
theorem yok_X14_init : yOK yX14_init 3 := ⟨by decide +kernel, by decide +kernel, by decide +kernel⟩
theorem yok_X2_unit : yOK yX2_unit 0 := ⟨by decide +kernel, by decide +kernel, by decide +kernel⟩
abbrev mX2_product : Ym := (RX2, cX2_product, 3, (some (Jvm.ClassFile.FieldType.object "StiltTown$Term")), false, [])
noncomputable def f_X2_product_j23 (F : Nat) (rec : Nat → Sw → Option ((Nat ⊕ Nat) × Sw)) (self : Nat → Sw → Option ((Nat ⊕ Nat) × Sw)) (v0 : Nat) (v1 : Nat) (μ : Sw) : Option ((Nat ⊕ Nat) × Sw) :=
  Option.bind (oc μ v0 2) fun u3 =>
  Option.bind (f_X2_kind F v0 μ) fun q1 =>
  Option.bind (oc μ v0 2) fun u7 =>
  Option.bind (f_X2_go F v0 μ) fun q5 =>
  thr q5.1 q5.2 fun x10 =>
  nm (nw q5.2 (.inr (14, dfX14)) 3) fun μ12 =>
  Option.bind (oc μ12 v0 2) fun u16 =>
  Option.bind (f_X2_unit F rec v0 μ12) fun q14 =>
  thr q14.1 q14.2 fun x19 =>
  Option.bind (f_X14_init F q5.2.2.1 q1 v1 x19 q14.2) fun q21 =>
  self q5.2.2.1 q21
set_option maxHeartbeats 4000000 in
theorem ok_f_X2_product_j23 {g : Gx} {μ0 : Sw} {res : Nat ⊕ Nat} {μF : Sw} (F : Nat) (D0 : Nat) (h13 : 13 ≤ D0) (rec : Nat → Sw → Option ((Nat ⊕ Nat) × Sw)) (hrec : ∀ this μ res μ1, rec this μ = some (res, μ1) → ClX g D0 yX2_sum cX2_sum 3 (some (.object "StiltTown$Term")) [.ref this] μ (rvA res) μ1) (v0 : Nat) (v1 : Nat) (μ : Sw) (self : Nat → Sw → Option ((Nat ⊕ Nat) × Sw)) (ih : ∀ (w1 : Nat) (μ : Sw), self w1 μ = some (res, μF) → PW g mX2_product (D0 + 2) μ0 μF (QX g (rvA res) μ0 μF) 5 [(0, .ref v0), (1, .ref w1)] [] μ) (hf : f_X2_product_j23 F rec self v0 v1 μ = some (res, μF)) : PW g mX2_product (D0 + 2) μ0 μF (QX g (rvA res) μ0 μF) 23 [(0, .ref v0), (1, .ref v1)] [] μ := by
  unfold f_X2_product_j23 at hf
  refine P.aload_n 0 (pc' := 24) dX2_product_23 rfl rfl rfl ?_
  obtain ⟨u3, h4, hf⟩ := ob hf
  obtain ⟨q1, h2, hf⟩ := ob hf
  refine P.callV (pc' := 27) (As := []) 0 (ok_X2_kind F v0 μ h2) (by omega) (lw_V q664 q666 qs9 q161 q667) rfl yok_X2_kind rfl (by omega) ci2 h4 (by decide) rfl dX2_product_24 rfl ?_
  refine P.istore_n (pc' := 28) (lv' := [(2, .int q1), (0, .ref v0), (1, .ref v1)]) dX2_product_27 rfl rfl (Nat.le_of_ble_eq_true rfl) rfl ?_
  refine P.aload_n 1 (pc' := 29) dX2_product_28 rfl rfl rfl ?_
  obtain ⟨u7, h8, hf⟩ := ob hf
  obtain ⟨q5, h6, hf⟩ := ob hf
  rcases e9 : q5.1 with x10 | x11
  rotate_left
  · have h6 := h6.trans (congrArg some (Prod.ext e9 rfl : q5 = (.inr x11, q5.2)))
    rw [e9] at hf
    have hf := thr_r hf
    cases hf
    exact P.callVXt (As := []) 0 (ok_X2_go F v0 μ h6) rfl (by omega) (lw_V q752 q754 qs13 q161 q755) rfl yok_X2_go rfl (by omega) ci2 h8 (by decide) rfl dX2_product_29
  have h6 := h6.trans (congrArg some (Prod.ext e9 rfl : q5 = (.inl x10, q5.2)))
  rw [e9] at hf
  have hf := thr_l hf
  refine P.callVX (pc' := 32) (As := []) 0 (ok_X2_go F v0 μ h6) (by omega) (lw_V q752 q754 qs13 q161 q755) rfl yok_X2_go rfl (by omega) ci2 h8 (by decide) rfl dX2_product_29 rfl ?_
  refine P.pop (pc' := 33) dX2_product_32 rfl rfl ?_
  obtain ⟨μ12, e13, hf⟩ := nm_i hf
  refine P.newE (pc' := 36) ci14 q933 q934 q188 dfX14_ok e13 dX2_product_33 rfl ?_
  refine P.dup (pc' := 37) dX2_product_36 rfl rfl ?_
  refine P.iload_n 0 (pc' := 38) dX2_product_37 rfl rfl rfl ?_
  refine P.aload_n 2 (pc' := 39) dX2_product_38 rfl rfl rfl ?_
  refine P.aload_n 1 (pc' := 40) dX2_product_39 rfl rfl rfl ?_
  obtain ⟨u16, h17, hf⟩ := ob hf
  obtain ⟨q14, h15, hf⟩ := ob hf
  rcases e18 : q14.1 with x19 | x20
  rotate_left
  · have h15 := h15.trans (congrArg some (Prod.ext e18 rfl : q14 = (.inr x20, q14.2)))
    rw [e18] at hf
    have hf := thr_r hf
    cases hf
    exact P.callVXt (As := []) 0 (ok_X2_unit F D0 h13 rec hrec v0 μ12 h15) rfl (by omega) (lw_V q925 q927 qs28 q161 q928) rfl yok_X2_unit rfl (by omega) ci2 h17 (Nat.le_of_ble_eq_true rfl) rfl dX2_product_40
  have h15 := h15.trans (congrArg some (Prod.ext e18 rfl : q14 = (.inl x19, q14.2)))
  rw [e18] at hf
  have hf := thr_l hf
  refine P.callVX (pc' := 43) (As := []) 0 (ok_X2_unit F D0 h13 rec hrec v0 μ12 h15) (by omega) (lw_V q925 q927 qs28 q161 q928) rfl yok_X2_unit rfl (by omega) ci2 h17 (Nat.le_of_ble_eq_true rfl) rfl dX2_product_40 rfl ?_
  obtain ⟨q21, h22, hf⟩ := ob hf
  refine P.callIN (pc' := 46) (As := [.int q1, .ref v1, .ref x19]) 3 (ok_X14_init F q5.2.2.1 q1 v1 x19 q14.2 h22) (by omega) q937 q188 q935 q936 rfl yok_X14_init rfl (by omega) (Nat.le_of_ble_eq_true rfl) rfl dX2_product_43 rfl ?_
  refine P.astore_n (pc' := 47) (lv' := [(1, .ref q5.2.2.1), (2, .int q1), (0, .ref v0)]) dX2_product_46 rfl rfl (Nat.le_of_ble_eq_true rfl) rfl ?_
  refine P.goto (tgt := 5) dX2_product_47 (by decide) ?_
  exact PW.sub [2, 0] rfl (ih _ _ hf)
noncomputable def f_X2_product_L5_b (F : Nat) (rec : Nat → Sw → Option ((Nat ⊕ Nat) × Sw)) (c0 : Nat) (self : Nat → Sw → Option ((Nat ⊕ Nat) × Sw)) (v1 : Nat) (μ : Sw) : Option ((Nat ⊕ Nat) × Sw) :=
  Option.bind (oc μ c0 2) fun u3 =>
  Option.bind (f_X2_is F c0 42 μ) fun q1 =>
  if q1 = 0 then
    Option.bind (oc μ c0 2) fun u8 =>
    Option.bind (f_X2_is F c0 47 μ) fun q6 =>
    if q6 = 0 then
      some (.inl v1, μ)
    else
      f_X2_product_j23 F rec self c0 v1 μ
  else
    f_X2_product_j23 F rec self c0 v1 μ
noncomputable def f_X2_product_L5 (F : Nat) (rec : Nat → Sw → Option ((Nat ⊕ Nat) × Sw)) (c0 : Nat) (n : Nat) : Nat → Sw → Option ((Nat ⊕ Nat) × Sw) := Nat.rec (motive := fun _ => Nat → Sw → Option ((Nat ⊕ Nat) × Sw)) (fun _ _ => none) (fun _ self => f_X2_product_L5_b F rec c0 self) n
set_option maxHeartbeats 4000000 in
theorem ok_f_X2_product_L5 {g : Gx} {μ0 : Sw} {res : Nat ⊕ Nat} {μF : Sw} (F : Nat) (D0 : Nat) (h13 : 13 ≤ D0) (rec : Nat → Sw → Option ((Nat ⊕ Nat) × Sw)) (hrec : ∀ this μ res μ1, rec this μ = some (res, μ1) → ClX g D0 yX2_sum cX2_sum 3 (some (.object "StiltTown$Term")) [.ref this] μ (rvA res) μ1) (c0 : Nat) : ∀ (n : Nat) (v1 : Nat) (μ : Sw), f_X2_product_L5 F rec c0 n v1 μ = some (res, μF) → PW g mX2_product (D0 + 2) μ0 μF (QX g (rvA res) μ0 μF) 5 [(0, .ref c0), (1, .ref v1)] [] μ := by
  intro n
  induction n with
  | zero =>
    intro v1 μ hf
    have hf : (none : Option ((Nat ⊕ Nat) × Sw)) = some _ := hf
    cases hf
  | succ n ih =>
    intro v1 μ hf
    have hf : f_X2_product_L5_b F rec c0 (f_X2_product_L5 F rec c0 n) v1 μ = some (res, μF) := hf
    unfold f_X2_product_L5_b at hf
    refine P.aload_n 0 (pc' := 6) dX2_product_5 rfl rfl rfl ?_
    refine P.bipush (v := 42) (pc' := 8) dX2_product_6 rfl (by decide) ?_
    obtain ⟨u3, h4, hf⟩ := ob hf
    obtain ⟨q1, h2, hf⟩ := ob hf
    refine P.callV (pc' := 11) (As := [.int 42]) 1 (ok_X2_is F c0 42 μ h2) (by omega) (lw_V q656 q658 qs7 q161 q659) rfl yok_X2_is rfl (by omega) ci2 h4 (by decide) rfl dX2_product_8 rfl ?_
    refine P.if_ne (tgt := 23) (pc' := 14) dX2_product_11 (by decide) rfl (fun y5 => ?_) (fun y5 => ?_)
    · have hf := (if_neg y5).symm.trans hf
      exact PW.sub [0, 1] rfl (ok_f_X2_product_j23 F D0 h13 rec hrec c0 v1 μ _ ih hf)
    · have hf := (if_pos y5).symm.trans hf
      refine P.aload_n 0 (pc' := 15) dX2_product_14 rfl rfl rfl ?_
      refine P.bipush (v := 47) (pc' := 17) dX2_product_15 rfl (by decide) ?_
      obtain ⟨u8, h9, hf⟩ := ob hf
      obtain ⟨q6, h7, hf⟩ := ob hf
      refine P.callV (pc' := 20) (As := [.int 47]) 1 (ok_X2_is F c0 47 μ h7) (by omega) (lw_V q656 q658 qs7 q161 q659) rfl yok_X2_is rfl (by omega) ci2 h9 (by decide) rfl dX2_product_17 rfl ?_
      refine P.if_eq (tgt := 50) (pc' := 23) dX2_product_20 (by decide) rfl (fun y10 => ?_) (fun y10 => ?_)
      · have hf := (if_pos y10).symm.trans hf
        refine P.aload_n 1 (pc' := 51) dX2_product_50 rfl rfl rfl ?_
        cases hf; exact P.aretX rfl (Or.inl ⟨_, rfl⟩) dX2_product_51
      · have hf := (if_neg y10).symm.trans hf
        exact PW.sub [0, 1] rfl (ok_f_X2_product_j23 F D0 h13 rec hrec c0 v1 μ _ ih hf)
noncomputable def f_X2_product (F : Nat) (rec : Nat → Sw → Option ((Nat ⊕ Nat) × Sw)) (this : Nat) (μ : Sw) : Option ((Nat ⊕ Nat) × Sw) :=
  Option.bind (oc μ this 2) fun u3 =>
  Option.bind (f_X2_unit F rec this μ) fun q1 =>
  thr q1.1 q1.2 fun x6 =>
  f_X2_product_L5 F rec this F x6 q1.2
set_option maxHeartbeats 4000000 in
theorem ok_X2_product {g : Gx} (F : Nat) (D0 : Nat) (h13 : 13 ≤ D0) (rec : Nat → Sw → Option ((Nat ⊕ Nat) × Sw)) (hrec : ∀ this μ res μ1, rec this μ = some (res, μ1) → ClX g D0 yX2_sum cX2_sum 3 (some (.object "StiltTown$Term")) [.ref this] μ (rvA res) μ1) (this : Nat) (μ : Sw) {res : Nat ⊕ Nat} {μF : Sw} (hf : f_X2_product F rec this μ = some (res, μF)) : ClX g (D0 + 2) yX2_product cX2_product 3 (some (Jvm.ClassFile.FieldType.object "StiltTown$Term")) [.ref this] μ (rvA res) μF := by
  unfold f_X2_product at hf
  refine ClX.of (own := RX2) (ini := false) (by decide +kernel) rfl (by decide) (Nat.le_of_ble_eq_true rfl) ?_
  show PW g mX2_product (D0 + 2) μ μF (QX g (rvA res) μ μF) 0 [(0, .ref this)] [] μ
  refine P.aload_n 0 (pc' := 1) dX2_product_0 rfl rfl rfl ?_
  obtain ⟨u3, h4, hf⟩ := ob hf
  obtain ⟨q1, h2, hf⟩ := ob hf
  rcases e5 : q1.1 with x6 | x7
  rotate_left
  · have h2 := h2.trans (congrArg some (Prod.ext e5 rfl : q1 = (.inr x7, q1.2)))
    rw [e5] at hf
    have hf := thr_r hf
    cases hf
    exact P.callVXt (As := []) 0 (ok_X2_unit F D0 h13 rec hrec this μ h2) rfl (by omega) (lw_V q925 q927 qs28 q161 q928) rfl yok_X2_unit rfl (by omega) ci2 h4 (by decide) rfl dX2_product_1
  have h2 := h2.trans (congrArg some (Prod.ext e5 rfl : q1 = (.inl x6, q1.2)))
  rw [e5] at hf
  have hf := thr_l hf
  refine P.callVX (pc' := 4) (As := []) 0 (ok_X2_unit F D0 h13 rec hrec this μ h2) (by omega) (lw_V q925 q927 qs28 q161 q928) rfl yok_X2_unit rfl (by omega) ci2 h4 (by decide) rfl dX2_product_1 rfl ?_
  refine P.astore_n (pc' := 5) (lv' := [(1, .ref x6), (0, .ref this)]) dX2_product_4 rfl rfl (Nat.le_of_ble_eq_true rfl) rfl ?_
  exact PW.sub [1, 0] rfl (ok_f_X2_product_L5 F D0 h13 rec hrec this F _ _ hf)
theorem yok_X2_product : yOK yX2_product 0 := ⟨by decide +kernel, by decide +kernel, by decide +kernel⟩
abbrev mX2_sum : Ym := (RX2, cX2_sum, 3, (some (Jvm.ClassFile.FieldType.object "StiltTown$Term")), false, [])
noncomputable def f_X2_sum_j23 (F : Nat) (rec : Nat → Sw → Option ((Nat ⊕ Nat) × Sw)) (self : Nat → Sw → Option ((Nat ⊕ Nat) × Sw)) (v0 : Nat) (v1 : Nat) (μ : Sw) : Option ((Nat ⊕ Nat) × Sw) :=
  Option.bind (oc μ v0 2) fun u3 =>
  Option.bind (f_X2_kind F v0 μ) fun q1 =>
  Option.bind (oc μ v0 2) fun u7 =>
  Option.bind (f_X2_go F v0 μ) fun q5 =>
  thr q5.1 q5.2 fun x10 =>
  nm (nw q5.2 (.inr (14, dfX14)) 3) fun μ12 =>
  Option.bind (oc μ12 v0 2) fun u16 =>
  Option.bind (f_X2_product F rec v0 μ12) fun q14 =>
  thr q14.1 q14.2 fun x19 =>
  Option.bind (f_X14_init F q5.2.2.1 q1 v1 x19 q14.2) fun q21 =>
  self q5.2.2.1 q21
set_option maxHeartbeats 4000000 in
theorem ok_f_X2_sum_j23 {g : Gx} {μ0 : Sw} {res : Nat ⊕ Nat} {μF : Sw} (F : Nat) (D0 : Nat) (h13 : 13 ≤ D0) (rec : Nat → Sw → Option ((Nat ⊕ Nat) × Sw)) (hrec : ∀ this μ res μ1, rec this μ = some (res, μ1) → ClX g D0 yX2_sum cX2_sum 3 (some (.object "StiltTown$Term")) [.ref this] μ (rvA res) μ1) (v0 : Nat) (v1 : Nat) (μ : Sw) (self : Nat → Sw → Option ((Nat ⊕ Nat) × Sw)) (ih : ∀ (w1 : Nat) (μ : Sw), self w1 μ = some (res, μF) → PW g mX2_sum (D0 + 3) μ0 μF (QX g (rvA res) μ0 μF) 5 [(0, .ref v0), (1, .ref w1)] [] μ) (hf : f_X2_sum_j23 F rec self v0 v1 μ = some (res, μF)) : PW g mX2_sum (D0 + 3) μ0 μF (QX g (rvA res) μ0 μF) 23 [(0, .ref v0), (1, .ref v1)] [] μ := by
  unfold f_X2_sum_j23 at hf
  refine P.aload_n 0 (pc' := 24) dX2_sum_23 rfl rfl rfl ?_
  obtain ⟨u3, h4, hf⟩ := ob hf
  obtain ⟨q1, h2, hf⟩ := ob hf
  refine P.callV (pc' := 27) (As := []) 0 (ok_X2_kind F v0 μ h2) (by omega) (lw_V q664 q666 qs9 q161 q667) rfl yok_X2_kind rfl (by omega) ci2 h4 (by decide) rfl dX2_sum_24 rfl ?_
  refine P.istore_n (pc' := 28) (lv' := [(2, .int q1), (0, .ref v0), (1, .ref v1)]) dX2_sum_27 rfl rfl (Nat.le_of_ble_eq_true rfl) rfl ?_
  refine P.aload_n 1 (pc' := 29) dX2_sum_28 rfl rfl rfl ?_
  obtain ⟨u7, h8, hf⟩ := ob hf
  obtain ⟨q5, h6, hf⟩ := ob hf
  rcases e9 : q5.1 with x10 | x11
  rotate_left
  · have h6 := h6.trans (congrArg some (Prod.ext e9 rfl : q5 = (.inr x11, q5.2)))
    rw [e9] at hf
    have hf := thr_r hf
    cases hf
    exact P.callVXt (As := []) 0 (ok_X2_go F v0 μ h6) rfl (by omega) (lw_V q752 q754 qs13 q161 q755) rfl yok_X2_go rfl (by omega) ci2 h8 (by decide) rfl dX2_sum_29
  have h6 := h6.trans (congrArg some (Prod.ext e9 rfl : q5 = (.inl x10, q5.2)))
  rw [e9] at hf
  have hf := thr_l hf
  refine P.callVX (pc' := 32) (As := []) 0 (ok_X2_go F v0 μ h6) (by omega) (lw_V q752 q754 qs13 q161 q755) rfl yok_X2_go rfl (by omega) ci2 h8 (by decide) rfl dX2_sum_29 rfl ?_
  refine P.pop (pc' := 33) dX2_sum_32 rfl rfl ?_
  obtain ⟨μ12, e13, hf⟩ := nm_i hf
  refine P.newE (pc' := 36) ci14 q933 q934 q188 dfX14_ok e13 dX2_sum_33 rfl ?_
  refine P.dup (pc' := 37) dX2_sum_36 rfl rfl ?_
  refine P.iload_n 0 (pc' := 38) dX2_sum_37 rfl rfl rfl ?_
  refine P.aload_n 2 (pc' := 39) dX2_sum_38 rfl rfl rfl ?_
  refine P.aload_n 1 (pc' := 40) dX2_sum_39 rfl rfl rfl ?_
  obtain ⟨u16, h17, hf⟩ := ob hf
  obtain ⟨q14, h15, hf⟩ := ob hf
  rcases e18 : q14.1 with x19 | x20
  rotate_left
  · have h15 := h15.trans (congrArg some (Prod.ext e18 rfl : q14 = (.inr x20, q14.2)))
    rw [e18] at hf
    have hf := thr_r hf
    cases hf
    exact P.callVXt (As := []) 0 (ok_X2_product F D0 h13 rec hrec v0 μ12 h15) rfl (by omega) (lw_V q921 q923 qs27 q161 q924) rfl yok_X2_product rfl (by omega) ci2 h17 (Nat.le_of_ble_eq_true rfl) rfl dX2_sum_40
  have h15 := h15.trans (congrArg some (Prod.ext e18 rfl : q14 = (.inl x19, q14.2)))
  rw [e18] at hf
  have hf := thr_l hf
  refine P.callVX (pc' := 43) (As := []) 0 (ok_X2_product F D0 h13 rec hrec v0 μ12 h15) (by omega) (lw_V q921 q923 qs27 q161 q924) rfl yok_X2_product rfl (by omega) ci2 h17 (Nat.le_of_ble_eq_true rfl) rfl dX2_sum_40 rfl ?_
  obtain ⟨q21, h22, hf⟩ := ob hf
  refine P.callIN (pc' := 46) (As := [.int q1, .ref v1, .ref x19]) 3 (ok_X14_init F q5.2.2.1 q1 v1 x19 q14.2 h22) (by omega) q937 q188 q935 q936 rfl yok_X14_init rfl (by omega) (Nat.le_of_ble_eq_true rfl) rfl dX2_sum_43 rfl ?_
  refine P.astore_n (pc' := 47) (lv' := [(1, .ref q5.2.2.1), (2, .int q1), (0, .ref v0)]) dX2_sum_46 rfl rfl (Nat.le_of_ble_eq_true rfl) rfl ?_
  refine P.goto (tgt := 5) dX2_sum_47 (by decide) ?_
  exact PW.sub [2, 0] rfl (ih _ _ hf)
noncomputable def f_X2_sum_L5_b (F : Nat) (rec : Nat → Sw → Option ((Nat ⊕ Nat) × Sw)) (c0 : Nat) (self : Nat → Sw → Option ((Nat ⊕ Nat) × Sw)) (v1 : Nat) (μ : Sw) : Option ((Nat ⊕ Nat) × Sw) :=
  Option.bind (oc μ c0 2) fun u3 =>
  Option.bind (f_X2_is F c0 43 μ) fun q1 =>
  if q1 = 0 then
    Option.bind (oc μ c0 2) fun u8 =>
    Option.bind (f_X2_is F c0 45 μ) fun q6 =>
    if q6 = 0 then
      some (.inl v1, μ)
    else
      f_X2_sum_j23 F rec self c0 v1 μ
  else
    f_X2_sum_j23 F rec self c0 v1 μ
noncomputable def f_X2_sum_L5 (F : Nat) (rec : Nat → Sw → Option ((Nat ⊕ Nat) × Sw)) (c0 : Nat) (n : Nat) : Nat → Sw → Option ((Nat ⊕ Nat) × Sw) := Nat.rec (motive := fun _ => Nat → Sw → Option ((Nat ⊕ Nat) × Sw)) (fun _ _ => none) (fun _ self => f_X2_sum_L5_b F rec c0 self) n
set_option maxHeartbeats 4000000 in
theorem ok_f_X2_sum_L5 {g : Gx} {μ0 : Sw} {res : Nat ⊕ Nat} {μF : Sw} (F : Nat) (D0 : Nat) (h13 : 13 ≤ D0) (rec : Nat → Sw → Option ((Nat ⊕ Nat) × Sw)) (hrec : ∀ this μ res μ1, rec this μ = some (res, μ1) → ClX g D0 yX2_sum cX2_sum 3 (some (.object "StiltTown$Term")) [.ref this] μ (rvA res) μ1) (c0 : Nat) : ∀ (n : Nat) (v1 : Nat) (μ : Sw), f_X2_sum_L5 F rec c0 n v1 μ = some (res, μF) → PW g mX2_sum (D0 + 3) μ0 μF (QX g (rvA res) μ0 μF) 5 [(0, .ref c0), (1, .ref v1)] [] μ := by
  intro n
  induction n with
  | zero =>
    intro v1 μ hf
    have hf : (none : Option ((Nat ⊕ Nat) × Sw)) = some _ := hf
    cases hf
  | succ n ih =>
    intro v1 μ hf
    have hf : f_X2_sum_L5_b F rec c0 (f_X2_sum_L5 F rec c0 n) v1 μ = some (res, μF) := hf
    unfold f_X2_sum_L5_b at hf
    refine P.aload_n 0 (pc' := 6) dX2_sum_5 rfl rfl rfl ?_
    refine P.bipush (v := 43) (pc' := 8) dX2_sum_6 rfl (by decide) ?_
    obtain ⟨u3, h4, hf⟩ := ob hf
    obtain ⟨q1, h2, hf⟩ := ob hf
    refine P.callV (pc' := 11) (As := [.int 43]) 1 (ok_X2_is F c0 43 μ h2) (by omega) (lw_V q656 q658 qs7 q161 q659) rfl yok_X2_is rfl (by omega) ci2 h4 (by decide) rfl dX2_sum_8 rfl ?_
    refine P.if_ne (tgt := 23) (pc' := 14) dX2_sum_11 (by decide) rfl (fun y5 => ?_) (fun y5 => ?_)
    · have hf := (if_neg y5).symm.trans hf
      exact PW.sub [0, 1] rfl (ok_f_X2_sum_j23 F D0 h13 rec hrec c0 v1 μ _ ih hf)
    · have hf := (if_pos y5).symm.trans hf
      refine P.aload_n 0 (pc' := 15) dX2_sum_14 rfl rfl rfl ?_
      refine P.bipush (v := 45) (pc' := 17) dX2_sum_15 rfl (by decide) ?_
      obtain ⟨u8, h9, hf⟩ := ob hf
      obtain ⟨q6, h7, hf⟩ := ob hf
      refine P.callV (pc' := 20) (As := [.int 45]) 1 (ok_X2_is F c0 45 μ h7) (by omega) (lw_V q656 q658 qs7 q161 q659) rfl yok_X2_is rfl (by omega) ci2 h9 (by decide) rfl dX2_sum_17 rfl ?_
      refine P.if_eq (tgt := 50) (pc' := 23) dX2_sum_20 (by decide) rfl (fun y10 => ?_) (fun y10 => ?_)
      · have hf := (if_pos y10).symm.trans hf
        refine P.aload_n 1 (pc' := 51) dX2_sum_50 rfl rfl rfl ?_
        cases hf; exact P.aretX rfl (Or.inl ⟨_, rfl⟩) dX2_sum_51
      · have hf := (if_neg y10).symm.trans hf
        exact PW.sub [0, 1] rfl (ok_f_X2_sum_j23 F D0 h13 rec hrec c0 v1 μ _ ih hf)
noncomputable def f_X2_sum (F : Nat) (rec : Nat → Sw → Option ((Nat ⊕ Nat) × Sw)) (this : Nat) (μ : Sw) : Option ((Nat ⊕ Nat) × Sw) :=
  Option.bind (oc μ this 2) fun u3 =>
  Option.bind (f_X2_product F rec this μ) fun q1 =>
  thr q1.1 q1.2 fun x6 =>
  f_X2_sum_L5 F rec this F x6 q1.2
set_option maxHeartbeats 4000000 in
theorem ok_X2_sum {g : Gx} (F : Nat) (D0 : Nat) (h13 : 13 ≤ D0) (rec : Nat → Sw → Option ((Nat ⊕ Nat) × Sw)) (hrec : ∀ this μ res μ1, rec this μ = some (res, μ1) → ClX g D0 yX2_sum cX2_sum 3 (some (.object "StiltTown$Term")) [.ref this] μ (rvA res) μ1) (this : Nat) (μ : Sw) {res : Nat ⊕ Nat} {μF : Sw} (hf : f_X2_sum F rec this μ = some (res, μF)) : ClX g (D0 + 3) yX2_sum cX2_sum 3 (some (Jvm.ClassFile.FieldType.object "StiltTown$Term")) [.ref this] μ (rvA res) μF := by
  unfold f_X2_sum at hf
  refine ClX.of (own := RX2) (ini := false) (by decide +kernel) rfl (by decide) (Nat.le_of_ble_eq_true rfl) ?_
  show PW g mX2_sum (D0 + 3) μ μF (QX g (rvA res) μ μF) 0 [(0, .ref this)] [] μ
  refine P.aload_n 0 (pc' := 1) dX2_sum_0 rfl rfl rfl ?_
  obtain ⟨u3, h4, hf⟩ := ob hf
  obtain ⟨q1, h2, hf⟩ := ob hf
  rcases e5 : q1.1 with x6 | x7
  rotate_left
  · have h2 := h2.trans (congrArg some (Prod.ext e5 rfl : q1 = (.inr x7, q1.2)))
    rw [e5] at hf
    have hf := thr_r hf
    cases hf
    exact P.callVXt (As := []) 0 (ok_X2_product F D0 h13 rec hrec this μ h2) rfl (by omega) (lw_V q921 q923 qs27 q161 q924) rfl yok_X2_product rfl (by omega) ci2 h4 (by decide) rfl dX2_sum_1
  have h2 := h2.trans (congrArg some (Prod.ext e5 rfl : q1 = (.inl x6, q1.2)))
  rw [e5] at hf
  have hf := thr_l hf
  refine P.callVX (pc' := 4) (As := []) 0 (ok_X2_product F D0 h13 rec hrec this μ h2) (by omega) (lw_V q921 q923 qs27 q161 q924) rfl yok_X2_product rfl (by omega) ci2 h4 (by decide) rfl dX2_sum_1 rfl ?_
  refine P.astore_n (pc' := 5) (lv' := [(1, .ref x6), (0, .ref this)]) dX2_sum_4 rfl rfl (Nat.le_of_ble_eq_true rfl) rfl ?_
  exact PW.sub [1, 0] rfl (ok_f_X2_sum_L5 F D0 h13 rec hrec this F _ _ hf)
/-! a sum within a sum -/
noncomputable def f_sum (F : Nat) (n : Nat) : Nat → Sw → Option ((Nat ⊕ Nat) × Sw) := Nat.rec (motive := fun _ => Nat → Sw → Option ((Nat ⊕ Nat) × Sw)) (fun _ _ => none) (fun _ rec this μ => f_X2_sum F rec this μ) n
theorem ok_sumN {g : Gx} (F n : Nat) : ∀ (this : Nat) (μ : Sw) (res : Nat ⊕ Nat) (μ1 : Sw), f_sum F n this μ = some (res, μ1) → ClX g (13 + 3 * n) yX2_sum cX2_sum 3 (some (.object "StiltTown$Term")) [.ref this] μ (rvA res) μ1 := by
  induction n with
  | zero => intro this μ res μ1 h; have h : (none : Option ((Nat ⊕ Nat) × Sw)) = some _ := h; cases h
  | succ n ih =>
    intro this μ res μ1 h
    have k := ok_X2_sum F (13 + 3 * n) (by omega) (f_sum F n) ih this μ h
    rw [show 13 + 3 * n + 3 = 13 + 3 * (n + 1) by omega] at k
    exact k
theorem ok_sum9 {g : Gx} (F : Nat) (this : Nat) (μ : Sw) {res : Nat ⊕ Nat} {μ1 : Sw} (h : f_sum F 9 this μ = some (res, μ1)) : ClX g 40 yX2_sum cX2_sum 3 (some (.object "StiltTown$Term")) [.ref this] μ (rvA res) μ1 := ok_sumN F 9 this μ res μ1 h

abbrev mX15_init : Ym := (RX15, cX15_init, 4, none, true, [])
noncomputable def f_X15_init (F : Nat) (this : Nat) (p1 : Int32) (p2 : Nat) (p3 : Nat) (μ : Sw) : Option Sw :=
  Option.bind (f_J3_init F this μ) fun q1 =>
  Option.bind (pf μ this 15 0 (.int p1)) fun μ3 =>
  Option.bind (pf μ3 this 15 1 (.ref p2)) fun μ5 =>
  Option.bind (pf μ5 this 15 2 (.ref p3)) fun μ7 =>
  some μ7
set_option maxHeartbeats 4000000 in
theorem ok_X15_init {g : Gx} (F : Nat) (this : Nat) (p1 : Int32) (p2 : Nat) (p3 : Nat) (μ : Sw) {μF : Sw} (hf : f_X15_init F this p1 p2 p3 μ = some μF) : Cl g 2 yX15_init cX15_init 4 none [.ref this, .int p1, .ref p2, .ref p3] μ none μF := by
  unfold f_X15_init at hf
  refine Cl.of (own := RX15) (ini := true) (by decide +kernel) rfl (by decide) (Nat.le_of_ble_eq_true rfl) ?_
  show PW g mX15_init 2 μ μF (QN g none μ μF) 0 [(0, .ref this), (1, .int p1), (2, .ref p2), (3, .ref p3)] [] μ
  refine P.aload_n 0 (pc' := 1) dX15_init_0 rfl rfl rfl ?_
  obtain ⟨q1, h2, hf⟩ := ob hf
  refine P.callI (pc' := 4) (As := []) 0 (ok_J3_init F this μ h2) (Nat.le_of_ble_eq_true rfl) q310 q166 q972 q309 rfl yok_J3_init rfl (Nat.le_of_ble_eq_true rfl) (by decide) rfl dX15_init_1 rfl ?_
  refine P.aload_n 0 (pc' := 5) dX15_init_4 rfl rfl rfl ?_
  refine P.iload_n 1 (pc' := 6) dX15_init_5 rfl rfl rfl ?_
  obtain ⟨μ3, h4, hf⟩ := ob hf
  refine P.putF (v := .int p1) (pc' := 9) ci15 0 (by decide) h4 q973 (Or.inl rfl) rfl rfl rfl rfl rfl dX15_init_6 rfl ?_
  refine P.aload_n 0 (pc' := 10) dX15_init_9 rfl rfl rfl ?_
  refine P.aload_n 2 (pc' := 11) dX15_init_10 rfl rfl rfl ?_
  obtain ⟨μ5, h6, hf⟩ := ob hf
  refine P.putF (v := .ref p2) (pc' := 14) ci15 1 (by decide) h6 q974 (Or.inl rfl) rfl rfl rfl rfl rfl dX15_init_11 rfl ?_
  refine P.aload_n 0 (pc' := 15) dX15_init_14 rfl rfl rfl ?_
  refine P.aload_n 3 (pc' := 16) dX15_init_15 rfl rfl rfl ?_
  obtain ⟨μ7, h8, hf⟩ := ob hf
  refine P.putF (v := .ref p3) (pc' := 19) ci15 2 (by decide) h8 q975 (Or.inl rfl) rfl rfl rfl rfl rfl dX15_init_16 rfl ?_
  cases hf; exact P.vret rfl dX15_init_19
abbrev mX16_init : Ym := (RX16, cX16_init, 2, none, true, [])
noncomputable def f_X16_init (F : Nat) (this : Nat) (p1 : Nat) (μ : Sw) : Option Sw :=
  Option.bind (f_J3_init F this μ) fun q1 =>
  Option.bind (pf μ this 16 0 (.ref p1)) fun μ3 =>
  some μ3
set_option maxHeartbeats 4000000 in
theorem ok_X16_init {g : Gx} (F : Nat) (this : Nat) (p1 : Nat) (μ : Sw) {μF : Sw} (hf : f_X16_init F this p1 μ = some μF) : Cl g 2 yX16_init cX16_init 2 none [.ref this, .ref p1] μ none μF := by
  unfold f_X16_init at hf
  refine Cl.of (own := RX16) (ini := true) (by decide +kernel) rfl (by decide) (Nat.le_of_ble_eq_true rfl) ?_
  show PW g mX16_init 2 μ μF (QN g none μ μF) 0 [(0, .ref this), (1, .ref p1)] [] μ
  refine P.aload_n 0 (pc' := 1) dX16_init_0 rfl rfl rfl ?_
  obtain ⟨q1, h2, hf⟩ := ob hf
  refine P.callI (pc' := 4) (As := []) 0 (ok_J3_init F this μ h2) (Nat.le_of_ble_eq_true rfl) q310 q166 q988 q309 rfl yok_J3_init rfl (Nat.le_of_ble_eq_true rfl) (by decide) rfl dX16_init_1 rfl ?_
  refine P.aload_n 0 (pc' := 5) dX16_init_4 rfl rfl rfl ?_
  refine P.aload_n 1 (pc' := 6) dX16_init_5 rfl rfl rfl ?_
  obtain ⟨μ3, h4, hf⟩ := ob hf
  refine P.putF (v := .ref p1) (pc' := 9) ci16 0 (by decide) h4 q989 (Or.inl rfl) rfl rfl rfl rfl rfl dX16_init_6 rfl ?_
  cases hf; exact P.vret rfl dX16_init_9
theorem yok_X15_init : yOK yX15_init 3 := ⟨by decide +kernel, by decide +kernel, by decide +kernel⟩
theorem yok_X16_init : yOK yX16_init 1 := ⟨by decide +kernel, by decide +kernel, by decide +kernel⟩
abbrev mX2_literal : Ym := (RX2, cX2_literal, 5, (some (Jvm.ClassFile.FieldType.object "StiltTown$Test")), false, [])
noncomputable def f_X2_literal_L2_b (F : Nat) (k30 : Int32 → Sw → Option ((Nat ⊕ Nat) × Sw)) (c0 : Nat) (self : Int32 → Sw → Option ((Nat ⊕ Nat) × Sw)) (v1 : Int32) (μ : Sw) : Option ((Nat ⊕ Nat) × Sw) :=
  Option.bind (oc μ c0 2) fun u3 =>
  Option.bind (f_X2_is F c0 217 μ) fun q1 =>
  if q1 = 0 then
    k30 v1 μ
  else
    Option.bind (oc μ c0 2) fun u8 =>
    Option.bind (f_X2_go F c0 μ) fun q6 =>
    thr q6.1 q6.2 fun x11 =>
    if v1 = 0 then
      self 1 q6.2
    else
      self 0 q6.2
noncomputable def f_X2_literal_L2 (F : Nat) (k30 : Int32 → Sw → Option ((Nat ⊕ Nat) × Sw)) (c0 : Nat) (n : Nat) : Int32 → Sw → Option ((Nat ⊕ Nat) × Sw) := Nat.rec (motive := fun _ => Int32 → Sw → Option ((Nat ⊕ Nat) × Sw)) (fun _ _ => none) (fun _ self => f_X2_literal_L2_b F k30 c0 self) n
set_option maxHeartbeats 4000000 in
theorem ok_f_X2_literal_L2 {g : Gx} {μ0 : Sw} {res : Nat ⊕ Nat} {μF : Sw} (F : Nat) (c0 : Nat) (k30 : Int32 → Sw → Option ((Nat ⊕ Nat) × Sw)) (hk30 : ∀ (w1 : Int32) (μ : Sw), k30 w1 μ = some (res, μF) → PW g mX2_literal 41 μ0 μF (QX g (rvA res) μ0 μF) 30 [(0, .ref c0), (1, .int w1)] [] μ) : ∀ (n : Nat) (v1 : Int32) (μ : Sw), f_X2_literal_L2 F k30 c0 n v1 μ = some (res, μF) → PW g mX2_literal 41 μ0 μF (QX g (rvA res) μ0 μF) 2 [(0, .ref c0), (1, .int v1)] [] μ := by
  intro n
  induction n with
  | zero =>
    intro v1 μ hf
    have hf : (none : Option ((Nat ⊕ Nat) × Sw)) = some _ := hf
    cases hf
  | succ n ih =>
    intro v1 μ hf
    have hf : f_X2_literal_L2_b F k30 c0 (f_X2_literal_L2 F k30 c0 n) v1 μ = some (res, μF) := hf
    unfold f_X2_literal_L2_b at hf
    refine P.aload_n 0 (pc' := 3) dX2_literal_2 rfl rfl rfl ?_
    refine P.sipush (v := 217) (pc' := 6) dX2_literal_3 rfl (by decide) ?_
    obtain ⟨u3, h4, hf⟩ := ob hf
    obtain ⟨q1, h2, hf⟩ := ob hf
    refine P.callV (pc' := 9) (As := [.int 217]) 1 (ok_X2_is F c0 217 μ h2) (Nat.le_of_ble_eq_true rfl) (lw_V q656 q658 qs7 q161 q659) rfl yok_X2_is rfl (Nat.le_of_ble_eq_true rfl) ci2 h4 (by decide) rfl dX2_literal_6 rfl ?_
    refine P.if_eq (tgt := 30) (pc' := 12) dX2_literal_9 (by decide) rfl (fun y5 => ?_) (fun y5 => ?_)
    · have hf := (if_pos y5).symm.trans hf
      exact PW.sub [0, 1] rfl (hk30 _ _ hf)
    · have hf := (if_neg y5).symm.trans hf
      refine P.aload_n 0 (pc' := 13) dX2_literal_12 rfl rfl rfl ?_
      obtain ⟨u8, h9, hf⟩ := ob hf
      obtain ⟨q6, h7, hf⟩ := ob hf
      rcases e10 : q6.1 with x11 | x12
      rotate_left
      · have h7 := h7.trans (congrArg some (Prod.ext e10 rfl : q6 = (.inr x12, q6.2)))
        rw [e10] at hf
        have hf := thr_r hf
        cases hf
        exact P.callVXt (As := []) 0 (ok_X2_go F c0 μ h7) rfl (Nat.le_of_ble_eq_true rfl) (lw_V q752 q754 qs13 q161 q755) rfl yok_X2_go rfl (Nat.le_of_ble_eq_true rfl) ci2 h9 (by decide) rfl dX2_literal_13
      have h7 := h7.trans (congrArg some (Prod.ext e10 rfl : q6 = (.inl x11, q6.2)))
      rw [e10] at hf
      have hf := thr_l hf
      refine P.callVX (pc' := 16) (As := []) 0 (ok_X2_go F c0 μ h7) (Nat.le_of_ble_eq_true rfl) (lw_V q752 q754 qs13 q161 q755) rfl yok_X2_go rfl (Nat.le_of_ble_eq_true rfl) ci2 h9 (by decide) rfl dX2_literal_13 rfl ?_
      refine P.pop (pc' := 17) dX2_literal_16 rfl rfl ?_
      refine P.iload_n 1 (pc' := 18) dX2_literal_17 rfl rfl rfl ?_
      refine P.if_ne (tgt := 25) (pc' := 21) dX2_literal_18 (by decide) rfl (fun y13 => ?_) (fun y13 => ?_)
      · have hf := (if_neg y13).symm.trans hf
        refine P.iconst (v := 0) (pc' := 26) dX2_literal_25 rfl (by decide) ?_
        refine P.istore_n (pc' := 27) (lv' := [(1, .int 0), (0, .ref c0)]) dX2_literal_26 rfl rfl (Nat.le_of_ble_eq_true rfl) rfl ?_
        refine P.goto (tgt := 2) dX2_literal_27 (by decide) ?_
        exact PW.sub [1, 0] rfl (ih _ _ hf)
      · have hf := (if_pos y13).symm.trans hf
        refine P.iconst (v := 1) (pc' := 22) dX2_literal_21 rfl (by decide) ?_
        refine P.goto (tgt := 26) dX2_literal_22 (by decide) ?_
        refine P.istore_n (pc' := 27) (lv' := [(1, .int 1), (0, .ref c0)]) dX2_literal_26 rfl rfl (Nat.le_of_ble_eq_true rfl) rfl ?_
        refine P.goto (tgt := 2) dX2_literal_27 (by decide) ?_
        exact PW.sub [1, 0] rfl (ih _ _ hf)
noncomputable def f_X2_literal_j92 (F : Nat) (v0 : Nat) (v1 : Int32) (v2 : Nat) (s0 : Int32) (μ : Sw) : Option ((Nat ⊕ Nat) × Sw) :=
  if s0 = 0 then
    Option.bind (oc μ v0 2) fun u27 =>
    Option.bind (f_X2_fault F v0 1 μ) fun q25 =>
    Option.bind (oc q25.2 q25.1 10) fun u29 =>
    some (.inr q25.1, q25.2)
  else
    Option.bind (oc μ v0 2) fun u4 =>
    Option.bind (f_X2_go F v0 μ) fun q2 =>
    thr q2.1 q2.2 fun x7 =>
    nm (nw q2.2 (.inr (15, dfX15)) 3) fun μ9 =>
    Option.bind (oc μ9 v0 2) fun u13 =>
    Option.bind (f_sum F 9 v0 μ9) fun q11 =>
    thr q11.1 q11.2 fun x16 =>
    Option.bind (f_X15_init F q2.2.2.1 s0 v2 x16 q11.2) fun q18 =>
    if v1 = 0 then
      some (.inl q2.2.2.1, q18)
    else
      nm (nw q18 (.inr (16, dfX16)) 1) fun μ21 =>
      Option.bind (f_X16_init F q18.2.1 q2.2.2.1 μ21) fun q23 =>
      some (.inl q18.2.1, q23)
set_option maxHeartbeats 4000000 in
theorem ok_f_X2_literal_j92 {g : Gx} {μ0 : Sw} {res : Nat ⊕ Nat} {μF : Sw} (F : Nat) (v0 : Nat) (v1 : Int32) (v2 : Nat) (s0 : Int32) (μ : Sw) (hf : f_X2_literal_j92 F v0 v1 v2 s0 μ = some (res, μF)) : PW g mX2_literal 41 μ0 μF (QX g (rvA res) μ0 μF) 92 [(0, .ref v0), (1, .int v1), (2, .ref v2)] [.int s0] μ := by
  unfold f_X2_literal_j92 at hf
  refine P.istore_n (pc' := 93) (lv' := [(3, .int s0), (0, .ref v0), (1, .int v1), (2, .ref v2)]) dX2_literal_92 rfl rfl (Nat.le_of_ble_eq_true rfl) rfl ?_
  refine P.iload_n 0 (pc' := 94) dX2_literal_93 rfl rfl rfl ?_
  refine P.if_ne (tgt := 103) (pc' := 97) dX2_literal_94 (by decide) rfl (fun y1 => ?_) (fun y1 => ?_)
  · have hf := (if_neg y1).symm.trans hf
    refine P.aload_n 1 (pc' := 104) dX2_literal_103 rfl rfl rfl ?_
    obtain ⟨u4, h5, hf⟩ := ob hf
    obtain ⟨q2, h3, hf⟩ := ob hf
    rcases e6 : q2.1 with x7 | x8
    rotate_left
    · have h3 := h3.trans (congrArg some (Prod.ext e6 rfl : q2 = (.inr x8, q2.2)))
      rw [e6] at hf
      have hf := thr_r hf
      cases hf
      exact P.callVXt (As := []) 0 (ok_X2_go F v0 μ h3) rfl (Nat.le_of_ble_eq_true rfl) (lw_V q752 q754 qs13 q161 q755) rfl yok_X2_go rfl (Nat.le_of_ble_eq_true rfl) ci2 h5 (by decide) rfl dX2_literal_104
    have h3 := h3.trans (congrArg some (Prod.ext e6 rfl : q2 = (.inl x7, q2.2)))
    rw [e6] at hf
    have hf := thr_l hf
    refine P.callVX (pc' := 107) (As := []) 0 (ok_X2_go F v0 μ h3) (Nat.le_of_ble_eq_true rfl) (lw_V q752 q754 qs13 q161 q755) rfl yok_X2_go rfl (Nat.le_of_ble_eq_true rfl) ci2 h5 (by decide) rfl dX2_literal_104 rfl ?_
    refine P.pop (pc' := 108) dX2_literal_107 rfl rfl ?_
    obtain ⟨μ9, e10, hf⟩ := nm_i hf
    refine P.newE (pc' := 111) ci15 q967 q968 q189 dfX15_ok e10 dX2_literal_108 rfl ?_
    refine P.dup (pc' := 112) dX2_literal_111 rfl rfl ?_
    refine P.iload_n 0 (pc' := 113) dX2_literal_112 rfl rfl rfl ?_
    refine P.aload_n 3 (pc' := 114) dX2_literal_113 rfl rfl rfl ?_
    refine P.aload_n 1 (pc' := 115) dX2_literal_114 rfl rfl rfl ?_
    obtain ⟨u13, h14, hf⟩ := ob hf
    obtain ⟨q11, h12, hf⟩ := ob hf
    rcases e15 : q11.1 with x16 | x17
    rotate_left
    · have h12 := h12.trans (congrArg some (Prod.ext e15 rfl : q11 = (.inr x17, q11.2)))
      rw [e15] at hf
      have hf := thr_r hf
      cases hf
      exact P.callVXt (As := []) 0 (ok_sum9 F v0 μ9 h12) rfl (Nat.le_of_ble_eq_true rfl) (lw_V q917 q919 qs26 q161 q920) rfl yok_X2_sum rfl (Nat.le_of_ble_eq_true rfl) ci2 h14 (Nat.le_of_ble_eq_true rfl) rfl dX2_literal_115
    have h12 := h12.trans (congrArg some (Prod.ext e15 rfl : q11 = (.inl x16, q11.2)))
    rw [e15] at hf
    have hf := thr_l hf
    refine P.callVX (pc' := 118) (As := []) 0 (ok_sum9 F v0 μ9 h12) (Nat.le_of_ble_eq_true rfl) (lw_V q917 q919 qs26 q161 q920) rfl yok_X2_sum rfl (Nat.le_of_ble_eq_true rfl) ci2 h14 (Nat.le_of_ble_eq_true rfl) rfl dX2_literal_115 rfl ?_
    obtain ⟨q18, h19, hf⟩ := ob hf
    refine P.callIN (pc' := 121) (As := [.int s0, .ref v2, .ref x16]) 3 (ok_X15_init F q2.2.2.1 s0 v2 x16 q11.2 h19) (Nat.le_of_ble_eq_true rfl) q971 q189 q969 q970 rfl yok_X15_init rfl (Nat.le_of_ble_eq_true rfl) (Nat.le_of_ble_eq_true rfl) rfl dX2_literal_118 rfl ?_
    refine P.astore (pc' := 123) (lv' := [(4, .ref q2.2.2.1), (3, .int s0), (0, .ref v0), (1, .int v1), (2, .ref v2)]) dX2_literal_121 rfl (Nat.le_of_ble_eq_true rfl) rfl ?_
    refine P.iload_n 3 (pc' := 124) dX2_literal_123 rfl rfl rfl ?_
    refine P.if_eq (tgt := 139) (pc' := 127) dX2_literal_124 (by decide) rfl (fun y20 => ?_) (fun y20 => ?_)
    · have hf := (if_pos y20).symm.trans hf
      refine P.aload 0 (pc' := 141) dX2_literal_139 rfl rfl ?_
      cases hf; exact P.aretX rfl (Or.inl ⟨_, rfl⟩) dX2_literal_141
    · have hf := (if_neg y20).symm.trans hf
      obtain ⟨μ21, e22, hf⟩ := nm_i hf
      refine P.newE (pc' := 130) ci16 q983 q984 q190 dfX16_ok e22 dX2_literal_127 rfl ?_
      refine P.dup (pc' := 131) dX2_literal_130 rfl rfl ?_
      refine P.aload 0 (pc' := 133) dX2_literal_131 rfl rfl ?_
      obtain ⟨q23, h24, hf⟩ := ob hf
      refine P.callIN (pc' := 136) (As := [.ref q2.2.2.1]) 1 (ok_X16_init F q18.2.1 q2.2.2.1 μ21 h24) (Nat.le_of_ble_eq_true rfl) q987 q190 q985 q986 rfl yok_X16_init rfl (Nat.le_of_ble_eq_true rfl) (Nat.le_of_ble_eq_true rfl) rfl dX2_literal_133 rfl ?_
      refine P.goto (tgt := 141) dX2_literal_136 (by decide) ?_
      cases hf; exact P.aretX rfl (Or.inl ⟨_, rfl⟩) dX2_literal_141
  · have hf := (if_pos y1).symm.trans hf
    refine P.aload_n 1 (pc' := 98) dX2_literal_97 rfl rfl rfl ?_
    refine P.iconst (v := 1) (pc' := 99) dX2_literal_98 rfl (by decide) ?_
    obtain ⟨u27, h28, hf⟩ := ob hf
    obtain ⟨q25, h26, hf⟩ := ob hf
    refine P.callV (pc' := 102) (As := [.int 1]) 1 (ok_X2_fault F v0 1 μ h26) (Nat.le_of_ble_eq_true rfl) (lw_V q676 q678 qs11 q161 q679) rfl yok_X2_fault rfl (Nat.le_of_ble_eq_true rfl) ci2 h28 (by decide) rfl dX2_literal_99 rfl ?_
    obtain ⟨u29, h30, hf⟩ := ob hf
    cases hf; exact P.athrow rfl h30 dX2_literal_102
noncomputable def f_X2_literal (F : Nat) (this : Nat) (μ : Sw) : Option ((Nat ⊕ Nat) × Sw) :=
  f_X2_literal_L2 F
    (fun w1 μ2 =>
      Option.bind (oc μ2 this 2) fun u5 =>
      Option.bind (f_sum F 9 this μ2) fun q3 =>
      thr q3.1 q3.2 fun x8 =>
      Option.bind (oc q3.2 this 2) fun u12 =>
      Option.bind (f_X2_is F this 101 q3.2) fun q10 =>
      if q10 = 0 then
        Option.bind (oc q3.2 this 2) fun u17 =>
        Option.bind (f_X2_is F this 110 q3.2) fun q15 =>
        if q15 = 0 then
          Option.bind (oc q3.2 this 2) fun u22 =>
          Option.bind (f_X2_is F this 60 q3.2) fun q20 =>
          if q20 = 0 then
            Option.bind (oc q3.2 this 2) fun u27 =>
            Option.bind (f_X2_is F this 109 q3.2) fun q25 =>
            if q25 = 0 then
              f_X2_literal_j92 F this w1 x8 0 q3.2
            else
              f_X2_literal_j92 F this w1 x8 109 q3.2
          else
            f_X2_literal_j92 F this w1 x8 60 q3.2
        else
          f_X2_literal_j92 F this w1 x8 33 q3.2
      else
        f_X2_literal_j92 F this w1 x8 61 q3.2)
    this F 0 μ
set_option maxHeartbeats 4000000 in
theorem ok_X2_literal {g : Gx} (F : Nat) (this : Nat) (μ : Sw) {res : Nat ⊕ Nat} {μF : Sw} (hf : f_X2_literal F this μ = some (res, μF)) : ClX g 41 yX2_literal cX2_literal 5 (some (Jvm.ClassFile.FieldType.object "StiltTown$Test")) [.ref this] μ (rvA res) μF := by
  unfold f_X2_literal at hf
  refine ClX.of (own := RX2) (ini := false) (by decide +kernel) rfl (by decide) (Nat.le_of_ble_eq_true rfl) ?_
  show PW g mX2_literal 41 μ μF (QX g (rvA res) μ μF) 0 [(0, .ref this)] [] μ
  refine P.iconst (v := 0) (pc' := 1) dX2_literal_0 rfl (by decide) ?_
  refine P.istore_n (pc' := 2) (lv' := [(1, .int 0), (0, .ref this)]) dX2_literal_1 rfl rfl (Nat.le_of_ble_eq_true rfl) rfl ?_
  refine PW.sub [1, 0] rfl (ok_f_X2_literal_L2 F this _ ?_ F _ _ hf)
  · intro w1 μ2 hf
    refine P.aload_n 0 (pc' := 31) dX2_literal_30 rfl rfl rfl ?_
    obtain ⟨u5, h6, hf⟩ := ob hf
    obtain ⟨q3, h4, hf⟩ := ob hf
    rcases e7 : q3.1 with x8 | x9
    rotate_left
    · have h4 := h4.trans (congrArg some (Prod.ext e7 rfl : q3 = (.inr x9, q3.2)))
      rw [e7] at hf
      have hf := thr_r hf
      cases hf
      exact P.callVXt (As := []) 0 (ok_sum9 F this μ2 h4) rfl (Nat.le_of_ble_eq_true rfl) (lw_V q917 q919 qs26 q161 q920) rfl yok_X2_sum rfl (Nat.le_of_ble_eq_true rfl) ci2 h6 (by decide) rfl dX2_literal_31
    have h4 := h4.trans (congrArg some (Prod.ext e7 rfl : q3 = (.inl x8, q3.2)))
    rw [e7] at hf
    have hf := thr_l hf
    refine P.callVX (pc' := 34) (As := []) 0 (ok_sum9 F this μ2 h4) (Nat.le_of_ble_eq_true rfl) (lw_V q917 q919 qs26 q161 q920) rfl yok_X2_sum rfl (Nat.le_of_ble_eq_true rfl) ci2 h6 (by decide) rfl dX2_literal_31 rfl ?_
    refine P.astore_n (pc' := 35) (lv' := [(2, .ref x8), (0, .ref this), (1, .int w1)]) dX2_literal_34 rfl rfl (Nat.le_of_ble_eq_true rfl) rfl ?_
    refine P.aload_n 1 (pc' := 36) dX2_literal_35 rfl rfl rfl ?_
    refine P.bipush (v := 101) (pc' := 38) dX2_literal_36 rfl (by decide) ?_
    obtain ⟨u12, h13, hf⟩ := ob hf
    obtain ⟨q10, h11, hf⟩ := ob hf
    refine P.callV (pc' := 41) (As := [.int 101]) 1 (ok_X2_is F this 101 q3.2 h11) (Nat.le_of_ble_eq_true rfl) (lw_V q656 q658 qs7 q161 q659) rfl yok_X2_is rfl (Nat.le_of_ble_eq_true rfl) ci2 h13 (by decide) rfl dX2_literal_38 rfl ?_
    refine P.if_eq (tgt := 49) (pc' := 44) dX2_literal_41 (by decide) rfl (fun y14 => ?_) (fun y14 => ?_)
    · have hf := (if_pos y14).symm.trans hf
      refine P.aload_n 1 (pc' := 50) dX2_literal_49 rfl rfl rfl ?_
      refine P.bipush (v := 110) (pc' := 52) dX2_literal_50 rfl (by decide) ?_
      obtain ⟨u17, h18, hf⟩ := ob hf
      obtain ⟨q15, h16, hf⟩ := ob hf
      refine P.callV (pc' := 55) (As := [.int 110]) 1 (ok_X2_is F this 110 q3.2 h16) (Nat.le_of_ble_eq_true rfl) (lw_V q656 q658 qs7 q161 q659) rfl yok_X2_is rfl (Nat.le_of_ble_eq_true rfl) ci2 h18 (by decide) rfl dX2_literal_52 rfl ?_
      refine P.if_eq (tgt := 63) (pc' := 58) dX2_literal_55 (by decide) rfl (fun y19 => ?_) (fun y19 => ?_)
      · have hf := (if_pos y19).symm.trans hf
        refine P.aload_n 1 (pc' := 64) dX2_literal_63 rfl rfl rfl ?_
        refine P.bipush (v := 60) (pc' := 66) dX2_literal_64 rfl (by decide) ?_
        obtain ⟨u22, h23, hf⟩ := ob hf
        obtain ⟨q20, h21, hf⟩ := ob hf
        refine P.callV (pc' := 69) (As := [.int 60]) 1 (ok_X2_is F this 60 q3.2 h21) (Nat.le_of_ble_eq_true rfl) (lw_V q656 q658 qs7 q161 q659) rfl yok_X2_is rfl (Nat.le_of_ble_eq_true rfl) ci2 h23 (by decide) rfl dX2_literal_66 rfl ?_
        refine P.if_eq (tgt := 77) (pc' := 72) dX2_literal_69 (by decide) rfl (fun y24 => ?_) (fun y24 => ?_)
        · have hf := (if_pos y24).symm.trans hf
          refine P.aload_n 1 (pc' := 78) dX2_literal_77 rfl rfl rfl ?_
          refine P.bipush (v := 109) (pc' := 80) dX2_literal_78 rfl (by decide) ?_
          obtain ⟨u27, h28, hf⟩ := ob hf
          obtain ⟨q25, h26, hf⟩ := ob hf
          refine P.callV (pc' := 83) (As := [.int 109]) 1 (ok_X2_is F this 109 q3.2 h26) (Nat.le_of_ble_eq_true rfl) (lw_V q656 q658 qs7 q161 q659) rfl yok_X2_is rfl (Nat.le_of_ble_eq_true rfl) ci2 h28 (by decide) rfl dX2_literal_80 rfl ?_
          refine P.if_eq (tgt := 91) (pc' := 86) dX2_literal_83 (by decide) rfl (fun y29 => ?_) (fun y29 => ?_)
          · have hf := (if_pos y29).symm.trans hf
            refine P.iconst (v := 0) (pc' := 92) dX2_literal_91 rfl (by decide) ?_
            exact PW.sub [1, 2, 0] rfl (ok_f_X2_literal_j92 F this w1 x8 0 q3.2 hf)
          · have hf := (if_neg y29).symm.trans hf
            refine P.bipush (v := 109) (pc' := 88) dX2_literal_86 rfl (by decide) ?_
            refine P.goto (tgt := 92) dX2_literal_88 (by decide) ?_
            exact PW.sub [1, 2, 0] rfl (ok_f_X2_literal_j92 F this w1 x8 109 q3.2 hf)
        · have hf := (if_neg y24).symm.trans hf
          refine P.bipush (v := 60) (pc' := 74) dX2_literal_72 rfl (by decide) ?_
          refine P.goto (tgt := 92) dX2_literal_74 (by decide) ?_
          exact PW.sub [1, 2, 0] rfl (ok_f_X2_literal_j92 F this w1 x8 60 q3.2 hf)
      · have hf := (if_neg y19).symm.trans hf
        refine P.bipush (v := 33) (pc' := 60) dX2_literal_58 rfl (by decide) ?_
        refine P.goto (tgt := 92) dX2_literal_60 (by decide) ?_
        exact PW.sub [1, 2, 0] rfl (ok_f_X2_literal_j92 F this w1 x8 33 q3.2 hf)
    · have hf := (if_neg y14).symm.trans hf
      refine P.bipush (v := 61) (pc' := 46) dX2_literal_44 rfl (by decide) ?_
      refine P.goto (tgt := 92) dX2_literal_46 (by decide) ?_
      exact PW.sub [1, 2, 0] rfl (ok_f_X2_literal_j92 F this w1 x8 61 q3.2 hf)
abbrev mX17_init : Ym := (RX17, cX17_init, 3, none, true, [])
noncomputable def f_X17_init (F : Nat) (this : Nat) (p1 : Int32) (p2 : Nat) (μ : Sw) : Option Sw :=
  Option.bind (f_J3_init F this μ) fun q1 =>
  Option.bind (pfZ μ this 17 0 p1) fun μ3 =>
  Option.bind (pf μ3 this 17 1 (.ref p2)) fun μ5 =>
  some μ5
set_option maxHeartbeats 4000000 in
theorem ok_X17_init {g : Gx} (F : Nat) (this : Nat) (p1 : Int32) (p2 : Nat) (μ : Sw) {μF : Sw} (hf : f_X17_init F this p1 p2 μ = some μF) : Cl g 2 yX17_init cX17_init 3 none [.ref this, .int p1, .ref p2] μ none μF := by
  unfold f_X17_init at hf
  refine Cl.of (own := RX17) (ini := true) (by decide +kernel) rfl (by decide) (Nat.le_of_ble_eq_true rfl) ?_
  show PW g mX17_init 2 μ μF (QN g none μ μF) 0 [(0, .ref this), (1, .int p1), (2, .ref p2)] [] μ
  refine P.aload_n 0 (pc' := 1) dX17_init_0 rfl rfl rfl ?_
  obtain ⟨q1, h2, hf⟩ := ob hf
  refine P.callI (pc' := 4) (As := []) 0 (ok_J3_init F this μ h2) (Nat.le_of_ble_eq_true rfl) q310 q166 q998 q309 rfl yok_J3_init rfl (Nat.le_of_ble_eq_true rfl) (by decide) rfl dX17_init_1 rfl ?_
  refine P.aload_n 0 (pc' := 5) dX17_init_4 rfl rfl rfl ?_
  refine P.iload_n 1 (pc' := 6) dX17_init_5 rfl rfl rfl ?_
  obtain ⟨μ3, h4, hf⟩ := ob hf
  refine P.putF (v := .int p1) (pc' := 9) ci17 0 (by decide) (pfZ_spec h4).2 q999 (Or.inl rfl) rfl rfl rfl (pfZ_nar h4) (pfZ_fit h4) dX17_init_6 rfl ?_
  refine P.aload_n 0 (pc' := 10) dX17_init_9 rfl rfl rfl ?_
  refine P.aload_n 2 (pc' := 11) dX17_init_10 rfl rfl rfl ?_
  obtain ⟨μ5, h6, hf⟩ := ob hf
  refine P.putF (v := .ref p2) (pc' := 14) ci17 1 (by decide) h6 q1000 (Or.inl rfl) rfl rfl rfl rfl rfl dX17_init_11 rfl ?_
  cases hf; exact P.vret rfl dX17_init_14
