set_option maxRecDepth 100000
abbrev mX8_back : Ym := (RX8, cX8_back, 2, none, false, [])
noncomputable def f_X8_back (F : Nat) (this : Nat) (p1 : Nat) (μ : Sw) : Option Sw :=
  Option.bind (gfR μ this 8 0) fun x1 =>
  Option.bind (gfR μ p1 6 0) fun x3 =>
  Option.bind (cpI μ x1 0 x3 0 16) fun μ5 =>
  Option.bind (gfR μ5 this 8 1) fun x7 =>
  Option.bind (gfR μ5 p1 6 2) fun x9 =>
  Option.bind (cpI μ5 x7 0 x9 0 8) fun μ11 =>
  some μ11
set_option maxHeartbeats 4000000 in
theorem ok_X8_back {g : Gx} (F : Nat) (this : Nat) (p1 : Nat) (μ : Sw) {μF : Sw} (hf : f_X8_back F this p1 μ = some μF) : Cl g 2 yX8_back cX8_back 2 none [.ref this, .ref p1] μ none μF := by
  unfold f_X8_back at hf
  refine Cl.of (own := RX8) (ini := false) (by decide +kernel) rfl (by decide) (Nat.le_of_ble_eq_true rfl) ?_
  show PW g mX8_back 2 μ μF (QN g none μ μF) 0 [(0, .ref this), (1, .ref p1)] [] μ
  refine P.aload_n 0 (pc' := 1) dX8_back_0 rfl rfl rfl ?_
  obtain ⟨x1, h2, hf⟩ := ob hf
  refine P.get (pc' := 4) ci8 0 (by decide) (gfR_spec h2) q463 (Or.inl rfl) dX8_back_1 rfl ?_
  refine P.iconst (v := 0) (pc' := 5) dX8_back_4 rfl (by decide) ?_
  refine P.aload_n 1 (pc' := 6) dX8_back_5 rfl rfl rfl ?_
  obtain ⟨x3, h4, hf⟩ := ob hf
  refine P.getN (pc' := 9) ci6 0 (by decide) (gfR_spec h4) q413 (Or.inl rfl) dX8_back_6 rfl ?_
  refine P.iconst (v := 0) (pc' := 10) dX8_back_9 rfl (by decide) ?_
  refine P.bipush (v := 16) (pc' := 12) dX8_back_10 rfl (by decide) ?_
  obtain ⟨μ5, h6, hf⟩ := ob hf
  refine P.cpI (pc' := 15) h6 q1291 q861 q860 q185 (Nat.le_of_ble_eq_true rfl) (by decide) dX8_back_12 rfl ?_
  refine P.aload_n 0 (pc' := 16) dX8_back_15 rfl rfl rfl ?_
  obtain ⟨x7, h8, hf⟩ := ob hf
  refine P.get (pc' := 19) ci8 1 (by decide) (gfR_spec h8) q465 (Or.inl rfl) dX8_back_16 rfl ?_
  refine P.iconst (v := 0) (pc' := 20) dX8_back_19 rfl (by decide) ?_
  refine P.aload_n 1 (pc' := 21) dX8_back_20 rfl rfl rfl ?_
  obtain ⟨x9, h10, hf⟩ := ob hf
  refine P.getN (pc' := 24) ci6 2 (by decide) (gfR_spec h10) q418 (Or.inl rfl) dX8_back_21 rfl ?_
  refine P.iconst (v := 0) (pc' := 25) dX8_back_24 rfl (by decide) ?_
  refine P.bipush (v := 8) (pc' := 27) dX8_back_25 rfl (by decide) ?_
  obtain ⟨μ11, h12, hf⟩ := ob hf
  refine P.cpI (pc' := 30) h12 q1291 q861 q860 q185 (Nat.le_of_ble_eq_true rfl) (by decide) dX8_back_27 rfl ?_
  cases hf; exact P.vret rfl dX8_back_30
theorem yok_X0_works : yOK yX0_works 0 := ⟨by decide +kernel, by decide +kernel, by decide +kernel⟩
theorem yok_X8_back : yOK yX8_back 1 := ⟨by decide +kernel, by decide +kernel, by decide +kernel⟩
theorem yok_X8_keep : yOK yX8_keep 1 := ⟨by decide +kernel, by decide +kernel, by decide +kernel⟩
abbrev mX0_judge : Ym := (RX0, cX0_judge, 2, (some Jvm.ClassFile.FieldType.int), false, [])
noncomputable def f_X0_judge (F : Nat) (this : Nat) (μ : Sw) : Option (Int32 × Sw) :=
  Option.bind (gfR μ this 0 7) fun x1 =>
  Option.bind (gfR μ this 0 4) fun x3 =>
  Option.bind (oc μ x1 8) fun u7 =>
  Option.bind (f_X8_keep F x1 x3 μ) fun q5 =>
  Option.bind (oc q5 this 0) fun u11 =>
  Option.bind (f_X0_works F this q5) fun q9 =>
  Option.bind (gfR q9.2 this 0 7) fun x13 =>
  Option.bind (gfR q9.2 this 0 4) fun x15 =>
  Option.bind (oc q9.2 x13 8) fun u19 =>
  Option.bind (f_X8_back F x13 x15 q9.2) fun q17 =>
  some (q9.1, q17)
set_option maxHeartbeats 4000000 in
theorem ok_X0_judge {g : Gx} (F : Nat) (this : Nat) (μ : Sw) {rv : Int32} {μF : Sw} (hf : f_X0_judge F this μ = some (rv, μF)) : Cl g 415 yX0_judge cX0_judge 2 (some Jvm.ClassFile.FieldType.int) [.ref this] μ (some (.int rv)) μF := by
  unfold f_X0_judge at hf
  refine Cl.of (own := RX0) (ini := false) (by decide +kernel) rfl (by decide) (Nat.le_of_ble_eq_true rfl) ?_
  show PW g mX0_judge 415 μ μF (QN g (some (.int rv)) μ μF) 0 [(0, .ref this)] [] μ
  refine P.aload_n 0 (pc' := 1) dX0_judge_0 rfl rfl rfl ?_
  obtain ⟨x1, h2, hf⟩ := ob hf
  refine P.get (pc' := 4) ci0 7 (by decide) (gfR_spec h2) q482 (Or.inl rfl) dX0_judge_1 rfl ?_
  refine P.aload_n 0 (pc' := 5) dX0_judge_4 rfl rfl rfl ?_
  obtain ⟨x3, h4, hf⟩ := ob hf
  refine P.get (pc' := 8) ci0 4 (by decide) (gfR_spec h4) q479 (Or.inl rfl) dX0_judge_5 rfl ?_
  obtain ⟨u7, h8, hf⟩ := ob hf
  obtain ⟨q5, h6, hf⟩ := ob hf
  refine P.callV (pc' := 11) (As := [.ref x3]) 1 (ok_X8_keep F x1 x3 μ h6) (Nat.le_of_ble_eq_true rfl) (lw_V q1287 q1288 q1289 q171 q1290) rfl yok_X8_keep rfl (Nat.le_of_ble_eq_true rfl) ci8 h8 (by decide) rfl dX0_judge_8 rfl ?_
  refine P.aload_n 0 (pc' := 12) dX0_judge_11 rfl rfl rfl ?_
  obtain ⟨u11, h12, hf⟩ := ob hf
  obtain ⟨q9, h10, hf⟩ := ob hf
  refine P.callV (pc' := 15) (As := []) 0 (ok_X0_works F this q5 h10) (Nat.le_of_ble_eq_true rfl) (lw_V q1292 q1294 qs54 q159 q1295) rfl yok_X0_works rfl (Nat.le_of_ble_eq_true rfl) ci0 h12 (by decide) rfl dX0_judge_12 rfl ?_
  refine P.istore_n (pc' := 16) (lv' := [(1, .int q9.1), (0, .ref this)]) dX0_judge_15 rfl rfl (Nat.le_of_ble_eq_true rfl) rfl ?_
  refine P.aload_n 1 (pc' := 17) dX0_judge_16 rfl rfl rfl ?_
  obtain ⟨x13, h14, hf⟩ := ob hf
  refine P.get (pc' := 20) ci0 7 (by decide) (gfR_spec h14) q482 (Or.inl rfl) dX0_judge_17 rfl ?_
  refine P.aload_n 1 (pc' := 21) dX0_judge_20 rfl rfl rfl ?_
  obtain ⟨x15, h16, hf⟩ := ob hf
  refine P.get (pc' := 24) ci0 4 (by decide) (gfR_spec h16) q479 (Or.inl rfl) dX0_judge_21 rfl ?_
  obtain ⟨u19, h20, hf⟩ := ob hf
  obtain ⟨q17, h18, hf⟩ := ob hf
  refine P.callV (pc' := 27) (As := [.ref x15]) 1 (ok_X8_back F x13 x15 q9.2 h18) (Nat.le_of_ble_eq_true rfl) (lw_V q1304 q1305 q1306 q171 q1307) rfl yok_X8_back rfl (Nat.le_of_ble_eq_true rfl) ci8 h20 (by decide) rfl dX0_judge_24 rfl ?_
  refine P.iload_n 0 (pc' := 28) dX0_judge_27 rfl rfl rfl ?_
  cases hf; exact P.iret rfl dX0_judge_28
abbrev mJ2_isEmpty : Ym := (RJ2, cJ2_isEmpty, 1, (some Jvm.ClassFile.FieldType.boolean), false, [])
noncomputable def f_J2_isEmpty (F : Nat) (this : Nat) (μ : Sw) : Option Int32 :=
  Option.bind (gfI μ this 20 2) fun x1 =>
  if x1 = 0 then
    some 1
  else
    some 0
set_option maxHeartbeats 4000000 in
theorem ok_J2_isEmpty {g : Gx} (F : Nat) (this : Nat) (μ : Sw) {rv : Int32} (hf : f_J2_isEmpty F this μ = some rv) : Cl g 1 yJ2_isEmpty cJ2_isEmpty 1 (some Jvm.ClassFile.FieldType.boolean) [.ref this] μ (some (.int rv)) μ := by
  unfold f_J2_isEmpty at hf
  refine Cl.of (own := RJ2) (ini := false) (by decide +kernel) rfl (by decide) (Nat.le_of_ble_eq_true rfl) ?_
  show PW g mJ2_isEmpty 1 μ μ (QN g (some (.int rv)) μ μ) 0 [(0, .ref this)] [] μ
  refine P.aload_n 0 (pc' := 1) dJ2_isEmpty_0 rfl rfl rfl ?_
  obtain ⟨x1, h2, hf⟩ := ob hf
  refine P.get (pc' := 4) ci20 2 (by decide) (gfI_spec h2) q292 (Or.inl rfl) dJ2_isEmpty_1 rfl ?_
  refine P.if_ne (tgt := 11) (pc' := 7) dJ2_isEmpty_4 (by decide) rfl (fun y3 => ?_) (fun y3 => ?_)
  · have hf := (if_neg y3).symm.trans hf
    refine P.iconst (v := 0) (pc' := 12) dJ2_isEmpty_11 rfl (by decide) ?_
    cases hf; exact P.zret rfl (Or.inl rfl) dJ2_isEmpty_12
  · have hf := (if_pos y3).symm.trans hf
    refine P.iconst (v := 1) (pc' := 8) dJ2_isEmpty_7 rfl (by decide) ?_
    refine P.goto (tgt := 12) dJ2_isEmpty_8 (by decide) ?_
    cases hf; exact P.zret rfl (Or.inr rfl) dJ2_isEmpty_12
theorem yok_J2_isEmpty : yOK yJ2_isEmpty 0 := ⟨by decide +kernel, by decide +kernel, by decide +kernel⟩
abbrev mX0_done : Ym := (RX0, cX0_done, 2, (some Jvm.ClassFile.FieldType.int), false, [])
noncomputable def f_X0_done_j96 (F : Nat) (v0 : Nat) (μ : Sw) : Option (Int32 × Sw) :=
  Option.bind (gfR μ v0 0 7) fun x1 =>
  Option.bind (gfR μ x1 8 0) fun x3 =>
  Option.bind (gfR μ v0 0 8) fun x5 =>
  Option.bind (gfI μ v0 0 9) fun x7 =>
  Option.bind (aR μ 8 x5 x7) fun x9 =>
  Option.bind (gfR μ x9 8 0) fun x11 =>
  Option.bind (cpI μ x3 0 x11 0 16) fun μ13 =>
  Option.bind (gfR μ13 v0 0 7) fun x15 =>
  Option.bind (gfR μ13 x15 8 1) fun x17 =>
  Option.bind (gfR μ13 v0 0 8) fun x19 =>
  Option.bind (gfI μ13 v0 0 9) fun x21 =>
  Option.bind (aR μ13 8 x19 x21) fun x23 =>
  Option.bind (gfR μ13 x23 8 1) fun x25 =>
  Option.bind (cpI μ13 x17 0 x25 0 8) fun μ27 =>
  Option.bind (gfI μ27 v0 0 9) fun x29 =>
  Option.bind (pf μ27 v0 0 9 (.int (x29 + 1))) fun μ31 =>
  Option.bind (gfR μ31 v0 0 4) fun x33 =>
  Option.bind (gfR μ31 x33 6 4) fun x35 =>
  Option.bind (oc μ31 x35 20) fun u39 =>
  Option.bind (f_J2_clear F x35 μ31) fun q37 =>
  Option.bind (gfI q37 v0 0 13) fun x41 =>
  some (x41, q37)
set_option maxHeartbeats 4000000 in
theorem ok_f_X0_done_j96 {g : Gx} {μ0 : Sw} {rv : Int32} {μF : Sw} (F : Nat) (v0 : Nat) (μ : Sw) (hf : f_X0_done_j96 F v0 μ = some (rv, μF)) : PW g mX0_done 415 μ0 μF (QN g (some (.int rv)) μ0 μF) 96 [(0, .ref v0)] [] μ := by
  unfold f_X0_done_j96 at hf
  refine P.aload_n 0 (pc' := 97) dX0_done_96 rfl rfl rfl ?_
  obtain ⟨x1, h2, hf⟩ := ob hf
  refine P.get (pc' := 100) ci0 7 (by decide) (gfR_spec h2) q482 (Or.inl rfl) dX0_done_97 rfl ?_
  obtain ⟨x3, h4, hf⟩ := ob hf
  refine P.getN (pc' := 103) ci8 0 (by decide) (gfR_spec h4) q464 (Or.inl rfl) dX0_done_100 rfl ?_
  refine P.iconst (v := 0) (pc' := 104) dX0_done_103 rfl (by decide) ?_
  refine P.aload_n 0 (pc' := 105) dX0_done_104 rfl rfl rfl ?_
  obtain ⟨x5, h6, hf⟩ := ob hf
  refine P.get (pc' := 108) ci0 8 (by decide) (gfR_spec h6) q483 (Or.inl rfl) dX0_done_105 rfl ?_
  refine P.aload_n 0 (pc' := 109) dX0_done_108 rfl rfl rfl ?_
  obtain ⟨x7, h8, hf⟩ := ob hf
  refine P.get (pc' := 112) ci0 9 (by decide) (gfI_spec h8) q484 (Or.inl rfl) dX0_done_109 rfl ?_
  obtain ⟨x9, h10, hf⟩ := ob hf
  refine P.aald (t := 8) (pc' := 113) rfl h10 dX0_done_112 rfl ?_
  obtain ⟨x11, h12, hf⟩ := ob hf
  refine P.getN (pc' := 116) ci8 0 (by decide) (gfR_spec h12) q464 (Or.inl rfl) dX0_done_113 rfl ?_
  refine P.iconst (v := 0) (pc' := 117) dX0_done_116 rfl (by decide) ?_
  refine P.bipush (v := 16) (pc' := 119) dX0_done_117 rfl (by decide) ?_
  obtain ⟨μ13, h14, hf⟩ := ob hf
  refine P.cpI (pc' := 122) h14 q1020 q861 q860 q185 (Nat.le_of_ble_eq_true rfl) (by decide) dX0_done_119 rfl ?_
  refine P.aload_n 0 (pc' := 123) dX0_done_122 rfl rfl rfl ?_
  obtain ⟨x15, h16, hf⟩ := ob hf
  refine P.get (pc' := 126) ci0 7 (by decide) (gfR_spec h16) q482 (Or.inl rfl) dX0_done_123 rfl ?_
  obtain ⟨x17, h18, hf⟩ := ob hf
  refine P.getN (pc' := 129) ci8 1 (by decide) (gfR_spec h18) q466 (Or.inl rfl) dX0_done_126 rfl ?_
  refine P.iconst (v := 0) (pc' := 130) dX0_done_129 rfl (by decide) ?_
  refine P.aload_n 0 (pc' := 131) dX0_done_130 rfl rfl rfl ?_
  obtain ⟨x19, h20, hf⟩ := ob hf
  refine P.get (pc' := 134) ci0 8 (by decide) (gfR_spec h20) q483 (Or.inl rfl) dX0_done_131 rfl ?_
  refine P.aload_n 0 (pc' := 135) dX0_done_134 rfl rfl rfl ?_
  obtain ⟨x21, h22, hf⟩ := ob hf
  refine P.get (pc' := 138) ci0 9 (by decide) (gfI_spec h22) q484 (Or.inl rfl) dX0_done_135 rfl ?_
  obtain ⟨x23, h24, hf⟩ := ob hf
  refine P.aald (t := 8) (pc' := 139) rfl h24 dX0_done_138 rfl ?_
  obtain ⟨x25, h26, hf⟩ := ob hf
  refine P.getN (pc' := 142) ci8 1 (by decide) (gfR_spec h26) q466 (Or.inl rfl) dX0_done_139 rfl ?_
  refine P.iconst (v := 0) (pc' := 143) dX0_done_142 rfl (by decide) ?_
  refine P.bipush (v := 8) (pc' := 145) dX0_done_143 rfl (by decide) ?_
  obtain ⟨μ27, h28, hf⟩ := ob hf
  refine P.cpI (pc' := 148) h28 q1020 q861 q860 q185 (Nat.le_of_ble_eq_true rfl) (by decide) dX0_done_145 rfl ?_
  refine P.aload_n 0 (pc' := 149) dX0_done_148 rfl rfl rfl ?_
  refine P.dup (pc' := 150) dX0_done_149 rfl rfl ?_
  obtain ⟨x29, h30, hf⟩ := ob hf
  refine P.get (pc' := 153) ci0 9 (by decide) (gfI_spec h30) q484 (Or.inl rfl) dX0_done_150 rfl ?_
  refine P.iconst (v := 1) (pc' := 154) dX0_done_153 rfl (by decide) ?_
  refine P.iadd (pc' := 155) dX0_done_154 rfl ?_
  obtain ⟨μ31, h32, hf⟩ := ob hf
  refine P.put (v := .int (x29 + 1)) (pc' := 158) ci0 9 (by decide) h32 q484 (Or.inl rfl) rfl rfl rfl dX0_done_155 rfl ?_
  refine P.aload_n 0 (pc' := 159) dX0_done_158 rfl rfl rfl ?_
  obtain ⟨x33, h34, hf⟩ := ob hf
  refine P.get (pc' := 162) ci0 4 (by decide) (gfR_spec h34) q479 (Or.inl rfl) dX0_done_159 rfl ?_
  obtain ⟨x35, h36, hf⟩ := ob hf
  refine P.getN (pc' := 165) ci6 4 (by decide) (gfR_spec h36) q423 (Or.inl rfl) dX0_done_162 rfl ?_
  obtain ⟨u39, h40, hf⟩ := ob hf
  obtain ⟨q37, h38, hf⟩ := ob hf
  refine P.callV (pc' := 168) (As := []) 0 (ok_J2_clear F x35 μ31 h38) (Nat.le_of_ble_eq_true rfl) (lw_V q1279 q1280 q1281 q165 q1282) rfl yok_J2_clear rfl (Nat.le_of_ble_eq_true rfl) ci20 h40 (by decide) rfl dX0_done_165 rfl ?_
  refine P.aload_n 0 (pc' := 169) dX0_done_168 rfl rfl rfl ?_
  obtain ⟨x41, h42, hf⟩ := ob hf
  refine P.get (pc' := 172) ci0 13 (by decide) (gfI_spec h42) q488 (Or.inl rfl) dX0_done_169 rfl ?_
  cases hf; exact P.iret rfl dX0_done_172
noncomputable def f_X0_done (F : Nat) (this : Nat) (μ : Sw) : Option (Int32 × Sw) :=
  Option.bind (gfR μ this 0 4) fun x1 =>
  Option.bind (gfR μ x1 6 4) fun x3 =>
  Option.bind (oc μ x3 20) fun u7 =>
  Option.bind (f_J2_isEmpty F x3 μ) fun q5 =>
  if q5 = 0 then
    Option.bind (gfR μ this 0 7) fun x10 =>
    Option.bind (gfR μ this 0 4) fun x12 =>
    Option.bind (oc μ x10 8) fun u16 =>
    Option.bind (f_X8_keep F x10 x12 μ) fun q14 =>
    Option.bind (oc q14 this 0) fun u20 =>
    Option.bind (f_X0_works F this q14) fun q18 =>
    if q18.1 = 0 then
      Option.bind (gfI q18.2 this 0 9) fun x23 =>
      if x23 = 20 then
        Option.bind (gfR q18.2 this 0 8) fun x26 =>
        Option.bind (aR q18.2 8 x26 0) fun x28 =>
        Option.bind (gfR q18.2 this 0 8) fun x30 =>
        Option.bind (gfR q18.2 this 0 8) fun x32 =>
        Option.bind (cpQ q18.2 8 x30 1 x32 0 19) fun μ34 =>
        Option.bind (gfR μ34 this 0 8) fun x36 =>
        Option.bind (sQ μ34 8 x36 19 (some x28)) fun μ39 =>
        Option.bind (oc μ34 x28 8) fun u41 =>
        Option.bind (gfI μ39 this 0 9) fun x42 =>
        Option.bind (pf μ39 this 0 9 (.int (x42 - 1))) fun μ44 =>
        f_X0_done_j96 F this μ44
      else
        f_X0_done_j96 F this q18.2
    else
      Option.bind (gfR q18.2 this 0 7) fun x46 =>
      Option.bind (gfR q18.2 this 0 4) fun x48 =>
      Option.bind (oc q18.2 x46 8) fun u52 =>
      Option.bind (f_X8_back F x46 x48 q18.2) fun q50 =>
      some ((-2), q50)
  else
    some (0, μ)
set_option maxHeartbeats 4000000 in
theorem ok_X0_done {g : Gx} (F : Nat) (this : Nat) (μ : Sw) {rv : Int32} {μF : Sw} (hf : f_X0_done F this μ = some (rv, μF)) : Cl g 415 yX0_done cX0_done 2 (some Jvm.ClassFile.FieldType.int) [.ref this] μ (some (.int rv)) μF := by
  unfold f_X0_done at hf
  refine Cl.of (own := RX0) (ini := false) (by decide +kernel) rfl (by decide) (Nat.le_of_ble_eq_true rfl) ?_
  show PW g mX0_done 415 μ μF (QN g (some (.int rv)) μ μF) 0 [(0, .ref this)] [] μ
  refine P.aload_n 0 (pc' := 1) dX0_done_0 rfl rfl rfl ?_
  obtain ⟨x1, h2, hf⟩ := ob hf
  refine P.get (pc' := 4) ci0 4 (by decide) (gfR_spec h2) q479 (Or.inl rfl) dX0_done_1 rfl ?_
  obtain ⟨x3, h4, hf⟩ := ob hf
  refine P.getN (pc' := 7) ci6 4 (by decide) (gfR_spec h4) q423 (Or.inl rfl) dX0_done_4 rfl ?_
  obtain ⟨u7, h8, hf⟩ := ob hf
  obtain ⟨q5, h6, hf⟩ := ob hf
  refine P.callV (pc' := 10) (As := []) 0 (ok_J2_isEmpty F x3 μ h6) (Nat.le_of_ble_eq_true rfl) (lw_V q1312 q1313 q1314 q165 q1315) rfl yok_J2_isEmpty rfl (Nat.le_of_ble_eq_true rfl) ci20 h8 (by decide) rfl dX0_done_7 rfl ?_
  refine P.if_eq (tgt := 15) (pc' := 13) dX0_done_10 (by decide) rfl (fun y9 => ?_) (fun y9 => ?_)
  · have hf := (if_pos y9).symm.trans hf
    refine P.aload_n 0 (pc' := 16) dX0_done_15 rfl rfl rfl ?_
    obtain ⟨x10, h11, hf⟩ := ob hf
    refine P.get (pc' := 19) ci0 7 (by decide) (gfR_spec h11) q482 (Or.inl rfl) dX0_done_16 rfl ?_
    refine P.aload_n 0 (pc' := 20) dX0_done_19 rfl rfl rfl ?_
    obtain ⟨x12, h13, hf⟩ := ob hf
    refine P.get (pc' := 23) ci0 4 (by decide) (gfR_spec h13) q479 (Or.inl rfl) dX0_done_20 rfl ?_
    obtain ⟨u16, h17, hf⟩ := ob hf
    obtain ⟨q14, h15, hf⟩ := ob hf
    refine P.callV (pc' := 26) (As := [.ref x12]) 1 (ok_X8_keep F x10 x12 μ h15) (Nat.le_of_ble_eq_true rfl) (lw_V q1287 q1288 q1289 q171 q1290) rfl yok_X8_keep rfl (Nat.le_of_ble_eq_true rfl) ci8 h17 (by decide) rfl dX0_done_23 rfl ?_
    refine P.aload_n 0 (pc' := 27) dX0_done_26 rfl rfl rfl ?_
    obtain ⟨u20, h21, hf⟩ := ob hf
    obtain ⟨q18, h19, hf⟩ := ob hf
    refine P.callV (pc' := 30) (As := []) 0 (ok_X0_works F this q14 h19) (Nat.le_of_ble_eq_true rfl) (lw_V q1292 q1294 qs54 q159 q1295) rfl yok_X0_works rfl (Nat.le_of_ble_eq_true rfl) ci0 h21 (by decide) rfl dX0_done_27 rfl ?_
    refine P.if_eq (tgt := 47) (pc' := 33) dX0_done_30 (by decide) rfl (fun y22 => ?_) (fun y22 => ?_)
    · have hf := (if_pos y22).symm.trans hf
      refine P.aload_n 0 (pc' := 48) dX0_done_47 rfl rfl rfl ?_
      obtain ⟨x23, h24, hf⟩ := ob hf
      refine P.get (pc' := 51) ci0 9 (by decide) (gfI_spec h24) q484 (Or.inl rfl) dX0_done_48 rfl ?_
      refine P.bipush (v := 20) (pc' := 53) dX0_done_51 rfl (by decide) ?_
      refine P.icmp_ne (tgt := 96) (pc' := 56) dX0_done_53 (by decide) rfl (fun y25 => ?_) (fun y25 => ?_)
      · have hf := (if_neg y25).symm.trans hf
        exact PW.sub [0] rfl (ok_f_X0_done_j96 F this q18.2 hf)
      · have hf := (if_pos y25).symm.trans hf
        refine P.aload_n 0 (pc' := 57) dX0_done_56 rfl rfl rfl ?_
        obtain ⟨x26, h27, hf⟩ := ob hf
        refine P.get (pc' := 60) ci0 8 (by decide) (gfR_spec h27) q483 (Or.inl rfl) dX0_done_57 rfl ?_
        refine P.iconst (v := 0) (pc' := 61) dX0_done_60 rfl (by decide) ?_
        obtain ⟨x28, h29, hf⟩ := ob hf
        refine P.aald (t := 8) (pc' := 62) rfl h29 dX0_done_61 rfl ?_
        refine P.astore_n (pc' := 63) (lv' := [(1, .ref x28), (0, .ref this)]) dX0_done_62 rfl rfl (Nat.le_of_ble_eq_true rfl) rfl ?_
        refine P.aload_n 1 (pc' := 64) dX0_done_63 rfl rfl rfl ?_
        obtain ⟨x30, h31, hf⟩ := ob hf
        refine P.get (pc' := 67) ci0 8 (by decide) (gfR_spec h31) q483 (Or.inl rfl) dX0_done_64 rfl ?_
        refine P.iconst (v := 1) (pc' := 68) dX0_done_67 rfl (by decide) ?_
        refine P.aload_n 1 (pc' := 69) dX0_done_68 rfl rfl rfl ?_
        obtain ⟨x32, h33, hf⟩ := ob hf
        refine P.get (pc' := 72) ci0 8 (by decide) (gfR_spec h33) q483 (Or.inl rfl) dX0_done_69 rfl ?_
        refine P.iconst (v := 0) (pc' := 73) dX0_done_72 rfl (by decide) ?_
        refine P.bipush (v := 19) (pc' := 75) dX0_done_73 rfl (by decide) ?_
        obtain ⟨μ34, h35, hf⟩ := ob hf
        refine P.cpQ (pc' := 78) h35 q1020 q861 q860 q185 (Nat.le_of_ble_eq_true rfl) (by decide) dX0_done_75 rfl ?_
        refine P.aload_n 1 (pc' := 79) dX0_done_78 rfl rfl rfl ?_
        obtain ⟨x36, h37, hf⟩ := ob hf
        refine P.get (pc' := 82) ci0 8 (by decide) (gfR_spec h37) q483 (Or.inl rfl) dX0_done_79 rfl ?_
        refine P.bipush (v := 19) (pc' := 84) dX0_done_82 rfl (by decide) ?_
        refine P.aload_n 0 (pc' := 85) dX0_done_84 rfl rfl rfl ?_
        obtain ⟨μ39, h38, hf⟩ := ob hf
        obtain ⟨u41, h40, hf⟩ := ob hf
        refine P.aast (t := 8) (pc' := 86) ci8 rfl (by decide) (oc_spec h40).choose_spec h38 dX0_done_85 rfl ?_
        refine P.aload_n 1 (pc' := 87) dX0_done_86 rfl rfl rfl ?_
        refine P.dup (pc' := 88) dX0_done_87 rfl rfl ?_
        obtain ⟨x42, h43, hf⟩ := ob hf
        refine P.get (pc' := 91) ci0 9 (by decide) (gfI_spec h43) q484 (Or.inl rfl) dX0_done_88 rfl ?_
        refine P.iconst (v := 1) (pc' := 92) dX0_done_91 rfl (by decide) ?_
        refine P.isub (pc' := 93) dX0_done_92 rfl ?_
        obtain ⟨μ44, h45, hf⟩ := ob hf
        refine P.put (v := .int (x42 - 1)) (pc' := 96) ci0 9 (by decide) h45 q484 (Or.inl rfl) rfl rfl rfl dX0_done_93 rfl ?_
        exact PW.sub [1] rfl (ok_f_X0_done_j96 F this μ44 hf)
    · have hf := (if_neg y22).symm.trans hf
      refine P.aload_n 0 (pc' := 34) dX0_done_33 rfl rfl rfl ?_
      obtain ⟨x46, h47, hf⟩ := ob hf
      refine P.get (pc' := 37) ci0 7 (by decide) (gfR_spec h47) q482 (Or.inl rfl) dX0_done_34 rfl ?_
      refine P.aload_n 0 (pc' := 38) dX0_done_37 rfl rfl rfl ?_
      obtain ⟨x48, h49, hf⟩ := ob hf
      refine P.get (pc' := 41) ci0 4 (by decide) (gfR_spec h49) q479 (Or.inl rfl) dX0_done_38 rfl ?_
      obtain ⟨u52, h53, hf⟩ := ob hf
      obtain ⟨q50, h51, hf⟩ := ob hf
      refine P.callV (pc' := 44) (As := [.ref x48]) 1 (ok_X8_back F x46 x48 q18.2 h51) (Nat.le_of_ble_eq_true rfl) (lw_V q1304 q1305 q1306 q171 q1307) rfl yok_X8_back rfl (Nat.le_of_ble_eq_true rfl) ci8 h53 (by decide) rfl dX0_done_41 rfl ?_
      refine P.bipush (v := (-2)) (pc' := 46) dX0_done_44 rfl (by decide) ?_
      cases hf; exact P.iret rfl dX0_done_46
  · have hf := (if_neg y9).symm.trans hf
    refine P.iconst (v := 0) (pc' := 14) dX0_done_13 rfl (by decide) ?_
    cases hf; exact P.iret rfl dX0_done_14
abbrev mX0_undo : Ym := (RX0, cX0_undo, 1, (some Jvm.ClassFile.FieldType.boolean), false, [])
noncomputable def f_X0_undo (F : Nat) (this : Nat) (μ : Sw) : Option (Int32 × Sw) :=
  Option.bind (gfI μ this 0 9) fun x1 =>
  if x1 = 0 then
    some (0, μ)
  else
    Option.bind (gfI μ this 0 9) fun x4 =>
    Option.bind (pf μ this 0 9 (.int (x4 - 1))) fun μ6 =>
    Option.bind (gfR μ6 this 0 8) fun x8 =>
    Option.bind (gfI μ6 this 0 9) fun x10 =>
    Option.bind (aR μ6 8 x8 x10) fun x12 =>
    Option.bind (gfR μ6 this 0 4) fun x14 =>
    Option.bind (oc μ6 x12 8) fun u18 =>
    Option.bind (f_X8_back F x12 x14 μ6) fun q16 =>
    some (1, q16)
set_option maxHeartbeats 4000000 in
theorem ok_X0_undo {g : Gx} (F : Nat) (this : Nat) (μ : Sw) {rv : Int32} {μF : Sw} (hf : f_X0_undo F this μ = some (rv, μF)) : Cl g 3 yX0_undo cX0_undo 1 (some Jvm.ClassFile.FieldType.boolean) [.ref this] μ (some (.int rv)) μF := by
  unfold f_X0_undo at hf
  refine Cl.of (own := RX0) (ini := false) (by decide +kernel) rfl (by decide) (Nat.le_of_ble_eq_true rfl) ?_
  show PW g mX0_undo 3 μ μF (QN g (some (.int rv)) μ μF) 0 [(0, .ref this)] [] μ
  refine P.aload_n 0 (pc' := 1) dX0_undo_0 rfl rfl rfl ?_
  obtain ⟨x1, h2, hf⟩ := ob hf
  refine P.get (pc' := 4) ci0 9 (by decide) (gfI_spec h2) q484 (Or.inl rfl) dX0_undo_1 rfl ?_
  refine P.if_ne (tgt := 9) (pc' := 7) dX0_undo_4 (by decide) rfl (fun y3 => ?_) (fun y3 => ?_)
  · have hf := (if_neg y3).symm.trans hf
    refine P.aload_n 0 (pc' := 10) dX0_undo_9 rfl rfl rfl ?_
    refine P.dup (pc' := 11) dX0_undo_10 rfl rfl ?_
    obtain ⟨x4, h5, hf⟩ := ob hf
    refine P.get (pc' := 14) ci0 9 (by decide) (gfI_spec h5) q484 (Or.inl rfl) dX0_undo_11 rfl ?_
    refine P.iconst (v := 1) (pc' := 15) dX0_undo_14 rfl (by decide) ?_
    refine P.isub (pc' := 16) dX0_undo_15 rfl ?_
    obtain ⟨μ6, h7, hf⟩ := ob hf
    refine P.put (v := .int (x4 - 1)) (pc' := 19) ci0 9 (by decide) h7 q484 (Or.inl rfl) rfl rfl rfl dX0_undo_16 rfl ?_
    refine P.aload_n 0 (pc' := 20) dX0_undo_19 rfl rfl rfl ?_
    obtain ⟨x8, h9, hf⟩ := ob hf
    refine P.get (pc' := 23) ci0 8 (by decide) (gfR_spec h9) q483 (Or.inl rfl) dX0_undo_20 rfl ?_
    refine P.aload_n 0 (pc' := 24) dX0_undo_23 rfl rfl rfl ?_
    obtain ⟨x10, h11, hf⟩ := ob hf
    refine P.get (pc' := 27) ci0 9 (by decide) (gfI_spec h11) q484 (Or.inl rfl) dX0_undo_24 rfl ?_
    obtain ⟨x12, h13, hf⟩ := ob hf
    refine P.aald (t := 8) (pc' := 28) rfl h13 dX0_undo_27 rfl ?_
    refine P.aload_n 0 (pc' := 29) dX0_undo_28 rfl rfl rfl ?_
    obtain ⟨x14, h15, hf⟩ := ob hf
    refine P.get (pc' := 32) ci0 4 (by decide) (gfR_spec h15) q479 (Or.inl rfl) dX0_undo_29 rfl ?_
    obtain ⟨u18, h19, hf⟩ := ob hf
    obtain ⟨q16, h17, hf⟩ := ob hf
    refine P.callV (pc' := 35) (As := [.ref x14]) 1 (ok_X8_back F x12 x14 μ6 h17) (Nat.le_of_ble_eq_true rfl) (lw_V q1304 q1305 q1306 q171 q1307) rfl yok_X8_back rfl (Nat.le_of_ble_eq_true rfl) ci8 h19 (by decide) rfl dX0_undo_32 rfl ?_
    refine P.iconst (v := 1) (pc' := 36) dX0_undo_35 rfl (by decide) ?_
    cases hf; exact P.zret rfl (Or.inr rfl) dX0_undo_36
  · have hf := (if_pos y3).symm.trans hf
    refine P.iconst (v := 0) (pc' := 8) dX0_undo_7 rfl (by decide) ?_
    cases hf; exact P.zret rfl (Or.inl rfl) dX0_undo_8
abbrev mX0_canAdd : Ym := (RX0, cX0_canAdd, 3, (some Jvm.ClassFile.FieldType.boolean), false, [])
noncomputable def f_X0_canAdd (F : Nat) (this : Nat) (p1 : Int32) (p2 : Int32) (μ : Sw) : Option Int32 :=
  Option.bind (p_J15_bitCount F p2) fun q1 =>
  Option.bind (gfR μ this 0 3) fun x3 =>
  Option.bind (gfI μ x3 3 11) fun x5 =>
  if x5 < q1 then
    some 0
  else
    Option.bind (gfR μ this 0 17) fun x8 =>
    Option.bind (aI μ 4 x8 (p1 ||| p2)) fun x10 =>
    if x10 = 0 then
      some 0
    else
      Option.bind (gfR μ this 0 16) fun x13 =>
      Option.bind (aI μ 2 x13 (p1 ||| p2)) fun x15 =>
      if 99 ≤ x15 then
        some 0
      else
        some 1
set_option maxHeartbeats 4000000 in
theorem ok_X0_canAdd {g : Gx} (F : Nat) (this : Nat) (p1 : Int32) (p2 : Int32) (μ : Sw) {rv : Int32} (hf : f_X0_canAdd F this p1 p2 μ = some rv) : Cl g 2 yX0_canAdd cX0_canAdd 3 (some Jvm.ClassFile.FieldType.boolean) [.ref this, .int p1, .int p2] μ (some (.int rv)) μ := by
  unfold f_X0_canAdd at hf
  refine Cl.of (own := RX0) (ini := false) (by decide +kernel) rfl (by decide) (Nat.le_of_ble_eq_true rfl) ?_
  show PW g mX0_canAdd 2 μ μ (QN g (some (.int rv)) μ μ) 0 [(0, .ref this), (1, .int p1), (2, .int p2)] [] μ
  refine P.iload_n 2 (pc' := 1) dX0_canAdd_0 rfl rfl rfl ?_
  obtain ⟨q1, h2, hf⟩ := ob hf
  refine P.callS (pc' := 4) (As := [.int p2]) 1 (ok_J15_bitCount F p2 μ h2) (Nat.le_of_ble_eq_true rfl) (lw_S q1168 q1169 q193 q1170) yok_J15_bitCount rfl (Nat.le_of_ble_eq_true rfl) (by decide) rfl dX0_canAdd_1 rfl ?_
  refine P.aload_n 0 (pc' := 5) dX0_canAdd_4 rfl rfl rfl ?_
  obtain ⟨x3, h4, hf⟩ := ob hf
  refine P.get (pc' := 8) ci0 3 (by decide) (gfR_spec h4) q478 (Or.inl rfl) dX0_canAdd_5 rfl ?_
  obtain ⟨x5, h6, hf⟩ := ob hf
  refine P.getN (pc' := 11) ci3 11 (by decide) (gfI_spec h6) q358 (Or.inl rfl) dX0_canAdd_8 rfl ?_
  refine P.icmp_gt (tgt := 42) (pc' := 14) dX0_canAdd_11 (by decide) rfl (fun y7 => ?_) (fun y7 => ?_)
  · have hf := (if_pos y7).symm.trans hf
    refine P.iconst (v := 0) (pc' := 43) dX0_canAdd_42 rfl (by decide) ?_
    cases hf; exact P.zret rfl (Or.inl rfl) dX0_canAdd_43
  · have hf := (if_neg y7).symm.trans hf
    refine P.aload_n 0 (pc' := 15) dX0_canAdd_14 rfl rfl rfl ?_
    obtain ⟨x8, h9, hf⟩ := ob hf
    refine P.get (pc' := 18) ci0 17 (by decide) (gfR_spec h9) q492 (Or.inl rfl) dX0_canAdd_15 rfl ?_
    refine P.iload_n 1 (pc' := 19) dX0_canAdd_18 rfl rfl rfl ?_
    refine P.iload_n 2 (pc' := 20) dX0_canAdd_19 rfl rfl rfl ?_
    refine P.ior (pc' := 21) dX0_canAdd_20 rfl ?_
    obtain ⟨x10, h11, hf⟩ := ob hf
    refine P.zald (t := 4) (pc' := 22) rfl h11 dX0_canAdd_21 rfl ?_
    refine P.if_eq (tgt := 42) (pc' := 25) dX0_canAdd_22 (by decide) rfl (fun y12 => ?_) (fun y12 => ?_)
    · have hf := (if_pos y12).symm.trans hf
      refine P.iconst (v := 0) (pc' := 43) dX0_canAdd_42 rfl (by decide) ?_
      cases hf; exact P.zret rfl (Or.inl rfl) dX0_canAdd_43
    · have hf := (if_neg y12).symm.trans hf
      refine P.aload_n 0 (pc' := 26) dX0_canAdd_25 rfl rfl rfl ?_
      obtain ⟨x13, h14, hf⟩ := ob hf
      refine P.get (pc' := 29) ci0 16 (by decide) (gfR_spec h14) q491 (Or.inl rfl) dX0_canAdd_26 rfl ?_
      refine P.iload_n 1 (pc' := 30) dX0_canAdd_29 rfl rfl rfl ?_
      refine P.iload_n 2 (pc' := 31) dX0_canAdd_30 rfl rfl rfl ?_
      refine P.ior (pc' := 32) dX0_canAdd_31 rfl ?_
      obtain ⟨x15, h16, hf⟩ := ob hf
      refine P.bald (t := 2) (pc' := 33) rfl h16 dX0_canAdd_32 rfl ?_
      refine P.bipush (v := 99) (pc' := 35) dX0_canAdd_33 rfl (by decide) ?_
      refine P.icmp_ge (tgt := 42) (pc' := 38) dX0_canAdd_35 (by decide) rfl (fun y17 => ?_) (fun y17 => ?_)
      · have hf := (if_pos y17).symm.trans hf
        refine P.iconst (v := 0) (pc' := 43) dX0_canAdd_42 rfl (by decide) ?_
        cases hf; exact P.zret rfl (Or.inl rfl) dX0_canAdd_43
      · have hf := (if_neg y17).symm.trans hf
        refine P.iconst (v := 1) (pc' := 39) dX0_canAdd_38 rfl (by decide) ?_
        refine P.goto (tgt := 43) dX0_canAdd_39 (by decide) ?_
        cases hf; exact P.zret rfl (Or.inr rfl) dX0_canAdd_43
theorem yok_X0_canAdd : yOK yX0_canAdd 2 := ⟨by decide +kernel, by decide +kernel, by decide +kernel⟩
abbrev mX0_fillNights : Ym := (RX0, cX0_fillNights, 8, (some Jvm.ClassFile.FieldType.int), false, [])
noncomputable def f_X0_fillNights_L21_b (F : Nat) (k67 : Int32 → Sw → Option (Int32 × Sw)) (c0 : Nat) (c2 : Int32) (self : Int32 → Int32 → Sw → Option (Int32 × Sw)) (v1 : Int32) (v3 : Int32) (μ : Sw) : Option (Int32 × Sw) :=
  Option.bind (oc μ c0 0) fun u3 =>
  Option.bind (f_X0_houses F c0 μ) fun q1 =>
  if q1 ≤ v3 then
    k67 v1 μ
  else
    if ((c2 >>> (v3 &&& 31)) &&& 1) = 0 then
      nm (v3 + 1) fun x23 =>
      self v1 x23 μ
    else
      Option.bind (gfR μ c0 0 14) fun x7 =>
      Option.bind (sI μ 0 x7 v1 v3) fun μ10 =>
      Option.bind (gfR μ10 c0 0 15) fun x11 =>
      Option.bind (oc μ10 c0 0) fun u15 =>
      Option.bind (f_X0_dueOf F c0 v3 μ10) fun q13 =>
      Option.bind (sI q13.2 0 x11 v1 q13.1) fun μ18 =>
      nm (v1 + 1) fun x19 =>
      nm (v3 + 1) fun x21 =>
      self x19 x21 μ18
noncomputable def f_X0_fillNights_L21 (F : Nat) (k67 : Int32 → Sw → Option (Int32 × Sw)) (c0 : Nat) (c2 : Int32) (n : Nat) : Int32 → Int32 → Sw → Option (Int32 × Sw) := Nat.rec (motive := fun _ => Int32 → Int32 → Sw → Option (Int32 × Sw)) (fun _ _ _ => none) (fun _ self => f_X0_fillNights_L21_b F k67 c0 c2 self) n
set_option maxHeartbeats 4000000 in
theorem ok_f_X0_fillNights_L21 {g : Gx} {μ0 : Sw} {rv : Int32} {μF : Sw} (F : Nat) (c0 : Nat) (c2 : Int32) (k67 : Int32 → Sw → Option (Int32 × Sw)) (hk67 : ∀ (w1 : Int32) (μ : Sw), k67 w1 μ = some (rv, μF) → PW g mX0_fillNights 414 μ0 μF (QN g (some (.int rv)) μ0 μF) 67 [(0, .ref c0), (1, .int w1)] [] μ) : ∀ (n : Nat) (v1 : Int32) (v3 : Int32) (μ : Sw), f_X0_fillNights_L21 F k67 c0 c2 n v1 v3 μ = some (rv, μF) → PW g mX0_fillNights 414 μ0 μF (QN g (some (.int rv)) μ0 μF) 21 [(0, .ref c0), (1, .int v1), (2, .int c2), (3, .int v3)] [] μ := by
  intro n
  induction n with
  | zero =>
    intro v1 v3 μ hf
    have hf : (none : Option (Int32 × Sw)) = some _ := hf
    cases hf
  | succ n ih =>
    intro v1 v3 μ hf
    have hf : f_X0_fillNights_L21_b F k67 c0 c2 (f_X0_fillNights_L21 F k67 c0 c2 n) v1 v3 μ = some (rv, μF) := hf
    unfold f_X0_fillNights_L21_b at hf
    refine P.iload_n 3 (pc' := 22) dX0_fillNights_21 rfl rfl rfl ?_
    refine P.aload_n 0 (pc' := 23) dX0_fillNights_22 rfl rfl rfl ?_
    obtain ⟨u3, h4, hf⟩ := ob hf
    obtain ⟨q1, h2, hf⟩ := ob hf
    refine P.callV (pc' := 26) (As := []) 0 (ok_X0_houses F c0 μ h2) (Nat.le_of_ble_eq_true rfl) (lw_V q1034 q1036 qs34 q159 q1037) rfl yok_X0_houses rfl (Nat.le_of_ble_eq_true rfl) ci0 h4 (Nat.le_of_ble_eq_true rfl) rfl dX0_fillNights_23 rfl ?_
    refine P.icmp_ge (tgt := 67) (pc' := 29) dX0_fillNights_26 (by decide) rfl (fun y5 => ?_) (fun y5 => ?_)
    · have hf := (if_pos y5).symm.trans hf
      exact PW.sub [0, 1] rfl (hk67 _ _ hf)
    · have hf := (if_neg y5).symm.trans hf
      refine P.iload_n 2 (pc' := 30) dX0_fillNights_29 rfl rfl rfl ?_
      refine P.iload_n 3 (pc' := 31) dX0_fillNights_30 rfl rfl rfl ?_
      refine P.ishr (pc' := 32) dX0_fillNights_31 rfl ?_
      refine P.iconst (v := 1) (pc' := 33) dX0_fillNights_32 rfl (by decide) ?_
      refine P.iand (pc' := 34) dX0_fillNights_33 rfl ?_
      refine P.if_ne (tgt := 40) (pc' := 37) dX0_fillNights_34 (by decide) rfl (fun y6 => ?_) (fun y6 => ?_)
      · have hf := (if_neg y6).symm.trans hf
        refine P.aload_n 0 (pc' := 41) dX0_fillNights_40 rfl rfl rfl ?_
        obtain ⟨x7, h8, hf⟩ := ob hf
        refine P.get (pc' := 44) ci0 14 (by decide) (gfR_spec h8) q489 (Or.inl rfl) dX0_fillNights_41 rfl ?_
        refine P.iload_n 1 (pc' := 45) dX0_fillNights_44 rfl rfl rfl ?_
        refine P.iload_n 3 (pc' := 46) dX0_fillNights_45 rfl rfl rfl ?_
        obtain ⟨μ10, h9, hf⟩ := ob hf
        refine P.iast (pc' := 47) h9 dX0_fillNights_46 rfl ?_
        refine P.aload_n 0 (pc' := 48) dX0_fillNights_47 rfl rfl rfl ?_
        obtain ⟨x11, h12, hf⟩ := ob hf
        refine P.get (pc' := 51) ci0 15 (by decide) (gfR_spec h12) q490 (Or.inl rfl) dX0_fillNights_48 rfl ?_
        refine P.iload_n 1 (pc' := 52) dX0_fillNights_51 rfl rfl rfl ?_
        refine P.aload_n 0 (pc' := 53) dX0_fillNights_52 rfl rfl rfl ?_
        refine P.iload_n 3 (pc' := 54) dX0_fillNights_53 rfl rfl rfl ?_
        obtain ⟨u15, h16, hf⟩ := ob hf
        obtain ⟨q13, h14, hf⟩ := ob hf
        refine P.callV (pc' := 57) (As := [.int v3]) 1 (ok_X0_dueOf F c0 v3 μ10 h14) (Nat.le_of_ble_eq_true rfl) (lw_V q1043 q1045 qs36 q159 q1046) rfl yok_X0_dueOf rfl (Nat.le_of_ble_eq_true rfl) ci0 h16 (Nat.le_of_ble_eq_true rfl) rfl dX0_fillNights_54 rfl ?_
        obtain ⟨μ18, h17, hf⟩ := ob hf
        refine P.iast (pc' := 58) h17 dX0_fillNights_57 rfl ?_
        obtain ⟨x19, e20, hf⟩ := nm_i hf
        refine P.iinc 1 (pc' := 61) (lv' := [(1, .int x19), (0, .ref c0), (2, .int c2), (3, .int v3)]) dX0_fillNights_58 rfl rfl (by decide) e20 (Nat.le_of_ble_eq_true rfl) rfl ?_
        obtain ⟨x21, e22, hf⟩ := nm_i hf
        refine P.iinc 3 (pc' := 64) (lv' := [(3, .int x21), (1, .int x19), (0, .ref c0), (2, .int c2)]) dX0_fillNights_61 rfl rfl (by decide) e22 (Nat.le_of_ble_eq_true rfl) rfl ?_
        refine P.goto (tgt := 21) dX0_fillNights_64 (by decide) ?_
        exact PW.sub [2, 1, 3, 0] rfl (ih _ _ _ hf)
      · have hf := (if_pos y6).symm.trans hf
        refine P.goto (tgt := 61) dX0_fillNights_37 (by decide) ?_
        obtain ⟨x23, e24, hf⟩ := nm_i hf
        refine P.iinc 3 (pc' := 64) (lv' := [(3, .int x23), (0, .ref c0), (1, .int v1), (2, .int c2)]) dX0_fillNights_61 rfl rfl (by decide) e24 (Nat.le_of_ble_eq_true rfl) rfl ?_
        refine P.goto (tgt := 21) dX0_fillNights_64 (by decide) ?_
        exact PW.sub [1, 2, 3, 0] rfl (ih _ _ _ hf)
noncomputable def f_X0_fillNights_L99_b (F : Nat) (k162 : Sw → Option (Int32 × Sw)) (c0 : Nat) (c1 : Int32) (c3 : Int32) (c4 : Int32) (self : Int32 → Sw → Option (Int32 × Sw)) (v5 : Int32) (μ : Sw) : Option (Int32 × Sw) :=
  if c1 ≤ v5 then
    k162 μ
  else
    Option.bind (gfR μ c0 0 4) fun x2 =>
    Option.bind (gfR μ x2 6 0) fun x4 =>
    Option.bind (gfR μ c0 0 14) fun x6 =>
    Option.bind (aI μ 0 x6 v5) fun x8 =>
    if ((c4 >>> (v5 &&& 31)) &&& 1) = 1 then
      Option.bind (gfR μ c0 0 15) fun x25 =>
      Option.bind (aI μ 0 x25 v5) fun x27 =>
      Option.bind (sI μ 0 x4 x8 x27) fun μ30 =>
      nm (v5 + 1) fun x31 =>
      self x31 μ30
    else
      Option.bind (gfR μ c0 0 7) fun x11 =>
      Option.bind (gfR μ x11 8 0) fun x13 =>
      Option.bind (gfR μ c0 0 14) fun x15 =>
      Option.bind (aI μ 0 x15 v5) fun x17 =>
      Option.bind (aI μ 0 x13 x17) fun x19 =>
      Option.bind (sI μ 0 x4 x8 x19) fun μ22 =>
      nm (v5 + 1) fun x23 =>
      self x23 μ22
noncomputable def f_X0_fillNights_L99 (F : Nat) (k162 : Sw → Option (Int32 × Sw)) (c0 : Nat) (c1 : Int32) (c3 : Int32) (c4 : Int32) (n : Nat) : Int32 → Sw → Option (Int32 × Sw) := Nat.rec (motive := fun _ => Int32 → Sw → Option (Int32 × Sw)) (fun _ _ => none) (fun _ self => f_X0_fillNights_L99_b F k162 c0 c1 c3 c4 self) n
set_option maxHeartbeats 4000000 in
theorem ok_f_X0_fillNights_L99 {g : Gx} {μ0 : Sw} {rv : Int32} {μF : Sw} (F : Nat) (c0 : Nat) (c1 : Int32) (c3 : Int32) (c4 : Int32) (k162 : Sw → Option (Int32 × Sw)) (hk162 : ∀ (μ : Sw), k162 μ = some (rv, μF) → PW g mX0_fillNights 414 μ0 μF (QN g (some (.int rv)) μ0 μF) 162 [(0, .ref c0), (1, .int c1), (3, .int c3), (4, .int c4)] [] μ) : ∀ (n : Nat) (v5 : Int32) (μ : Sw), f_X0_fillNights_L99 F k162 c0 c1 c3 c4 n v5 μ = some (rv, μF) → PW g mX0_fillNights 414 μ0 μF (QN g (some (.int rv)) μ0 μF) 99 [(0, .ref c0), (1, .int c1), (3, .int c3), (4, .int c4), (5, .int v5)] [] μ := by
  intro n
  induction n with
  | zero =>
    intro v5 μ hf
    have hf : (none : Option (Int32 × Sw)) = some _ := hf
    cases hf
  | succ n ih =>
    intro v5 μ hf
    have hf : f_X0_fillNights_L99_b F k162 c0 c1 c3 c4 (f_X0_fillNights_L99 F k162 c0 c1 c3 c4 n) v5 μ = some (rv, μF) := hf
    unfold f_X0_fillNights_L99_b at hf
    refine P.iload 4 (pc' := 101) dX0_fillNights_99 rfl rfl ?_
    refine P.iload_n 1 (pc' := 102) dX0_fillNights_101 rfl rfl rfl ?_
    refine P.icmp_ge (tgt := 162) (pc' := 105) dX0_fillNights_102 (by decide) rfl (fun y1 => ?_) (fun y1 => ?_)
    · have hf := (if_pos y1).symm.trans hf
      exact PW.sub [0, 1, 2, 3] rfl (hk162 _ hf)
    · have hf := (if_neg y1).symm.trans hf
      refine P.aload_n 0 (pc' := 106) dX0_fillNights_105 rfl rfl rfl ?_
      obtain ⟨x2, h3, hf⟩ := ob hf
      refine P.get (pc' := 109) ci0 4 (by decide) (gfR_spec h3) q479 (Or.inl rfl) dX0_fillNights_106 rfl ?_
      obtain ⟨x4, h5, hf⟩ := ob hf
      refine P.getN (pc' := 112) ci6 0 (by decide) (gfR_spec h5) q414 (Or.inl rfl) dX0_fillNights_109 rfl ?_
      refine P.aload_n 0 (pc' := 113) dX0_fillNights_112 rfl rfl rfl ?_
      obtain ⟨x6, h7, hf⟩ := ob hf
      refine P.get (pc' := 116) ci0 14 (by decide) (gfR_spec h7) q489 (Or.inl rfl) dX0_fillNights_113 rfl ?_
      refine P.iload 4 (pc' := 118) dX0_fillNights_116 rfl rfl ?_
      obtain ⟨x8, h9, hf⟩ := ob hf
      refine P.iald (t := 0) (pc' := 119) rfl h9 dX0_fillNights_118 rfl ?_
      refine P.iload 3 (pc' := 121) dX0_fillNights_119 rfl rfl ?_
      refine P.iload 4 (pc' := 123) dX0_fillNights_121 rfl rfl ?_
      refine P.ishr (pc' := 124) dX0_fillNights_123 rfl ?_
      refine P.iconst (v := 1) (pc' := 125) dX0_fillNights_124 rfl (by decide) ?_
      refine P.iand (pc' := 126) dX0_fillNights_125 rfl ?_
      refine P.iconst (v := 1) (pc' := 127) dX0_fillNights_126 rfl (by decide) ?_
      refine P.icmp_ne (tgt := 140) (pc' := 130) dX0_fillNights_127 (by decide) rfl (fun y10 => ?_) (fun y10 => ?_)
      · have hf := (if_neg y10).symm.trans hf
        refine P.aload_n 0 (pc' := 141) dX0_fillNights_140 rfl rfl rfl ?_
        obtain ⟨x11, h12, hf⟩ := ob hf
        refine P.get (pc' := 144) ci0 7 (by decide) (gfR_spec h12) q482 (Or.inl rfl) dX0_fillNights_141 rfl ?_
        obtain ⟨x13, h14, hf⟩ := ob hf
        refine P.getN (pc' := 147) ci8 0 (by decide) (gfR_spec h14) q464 (Or.inl rfl) dX0_fillNights_144 rfl ?_
        refine P.aload_n 0 (pc' := 148) dX0_fillNights_147 rfl rfl rfl ?_
        obtain ⟨x15, h16, hf⟩ := ob hf
        refine P.get (pc' := 151) ci0 14 (by decide) (gfR_spec h16) q489 (Or.inl rfl) dX0_fillNights_148 rfl ?_
        refine P.iload 4 (pc' := 153) dX0_fillNights_151 rfl rfl ?_
        obtain ⟨x17, h18, hf⟩ := ob hf
        refine P.iald (t := 0) (pc' := 154) rfl h18 dX0_fillNights_153 rfl ?_
        obtain ⟨x19, h20, hf⟩ := ob hf
        refine P.iald (t := 0) (pc' := 155) rfl h20 dX0_fillNights_154 rfl ?_
        obtain ⟨μ22, h21, hf⟩ := ob hf
        refine P.iast (pc' := 156) h21 dX0_fillNights_155 rfl ?_
        obtain ⟨x23, e24, hf⟩ := nm_i hf
        refine P.iinc 4 (pc' := 159) (lv' := [(5, .int x23), (0, .ref c0), (1, .int c1), (3, .int c3), (4, .int c4)]) dX0_fillNights_156 rfl rfl (by decide) e24 (Nat.le_of_ble_eq_true rfl) rfl ?_
        refine P.goto (tgt := 99) dX0_fillNights_159 (by decide) ?_
        exact PW.sub [1, 2, 3, 4, 0] rfl (ih _ _ hf)
      · have hf := (if_pos y10).symm.trans hf
        refine P.aload_n 0 (pc' := 131) dX0_fillNights_130 rfl rfl rfl ?_
        obtain ⟨x25, h26, hf⟩ := ob hf
        refine P.get (pc' := 134) ci0 15 (by decide) (gfR_spec h26) q490 (Or.inl rfl) dX0_fillNights_131 rfl ?_
        refine P.iload 4 (pc' := 136) dX0_fillNights_134 rfl rfl ?_
        obtain ⟨x27, h28, hf⟩ := ob hf
        refine P.iald (t := 0) (pc' := 137) rfl h28 dX0_fillNights_136 rfl ?_
        refine P.goto (tgt := 155) dX0_fillNights_137 (by decide) ?_
        obtain ⟨μ30, h29, hf⟩ := ob hf
        refine P.iast (pc' := 156) h29 dX0_fillNights_155 rfl ?_
        obtain ⟨x31, e32, hf⟩ := nm_i hf
        refine P.iinc 4 (pc' := 159) (lv' := [(5, .int x31), (0, .ref c0), (1, .int c1), (3, .int c3), (4, .int c4)]) dX0_fillNights_156 rfl rfl (by decide) e32 (Nat.le_of_ble_eq_true rfl) rfl ?_
        refine P.goto (tgt := 99) dX0_fillNights_159 (by decide) ?_
        exact PW.sub [1, 2, 3, 4, 0] rfl (ih _ _ hf)
noncomputable def f_X0_fillNights_L88_b (F : Nat) (k193 : Sw → Option (Int32 × Sw)) (c0 : Nat) (c1 : Int32) (c3 : Int32) (self : Int32 → Sw → Option (Int32 × Sw)) (v4 : Int32) (μ : Sw) : Option (Int32 × Sw) :=
  if ((1 : Int32) <<< (c1 &&& 31)) ≤ v4 then
    k193 μ
  else
    f_X0_fillNights_L99 F
      (fun μ2 =>
        Option.bind (gfR μ2 c0 0 17) fun x3 =>
        Option.bind (oc μ2 c0 0) fun u7 =>
        Option.bind (f_X0_reachedAt F c0 12 μ2) fun q5 =>
        if (c3 &&& (q5.1 ^^^ (-1))) = 0 then
          Option.bind (sI q5.2 4 x3 v4 1) fun μ15 =>
          nm (v4 + 1) fun x16 =>
          self x16 μ15
        else
          Option.bind (sI q5.2 4 x3 v4 0) fun μ11 =>
          nm (v4 + 1) fun x12 =>
          self x12 μ11)
      c0 c1 c3 v4 F 0 μ
noncomputable def f_X0_fillNights_L88 (F : Nat) (k193 : Sw → Option (Int32 × Sw)) (c0 : Nat) (c1 : Int32) (c3 : Int32) (n : Nat) : Int32 → Sw → Option (Int32 × Sw) := Nat.rec (motive := fun _ => Int32 → Sw → Option (Int32 × Sw)) (fun _ _ => none) (fun _ self => f_X0_fillNights_L88_b F k193 c0 c1 c3 self) n
set_option maxHeartbeats 4000000 in
theorem ok_f_X0_fillNights_L88 {g : Gx} {μ0 : Sw} {rv : Int32} {μF : Sw} (F : Nat) (c0 : Nat) (c1 : Int32) (c3 : Int32) (k193 : Sw → Option (Int32 × Sw)) (hk193 : ∀ (μ : Sw), k193 μ = some (rv, μF) → PW g mX0_fillNights 414 μ0 μF (QN g (some (.int rv)) μ0 μF) 193 [(0, .ref c0), (1, .int c1)] [] μ) : ∀ (n : Nat) (v4 : Int32) (μ : Sw), f_X0_fillNights_L88 F k193 c0 c1 c3 n v4 μ = some (rv, μF) → PW g mX0_fillNights 414 μ0 μF (QN g (some (.int rv)) μ0 μF) 88 [(0, .ref c0), (1, .int c1), (3, .int c3), (4, .int v4)] [] μ := by
  intro n
  induction n with
  | zero =>
    intro v4 μ hf
    have hf : (none : Option (Int32 × Sw)) = some _ := hf
    cases hf
  | succ n ih =>
    intro v4 μ hf
    have hf : f_X0_fillNights_L88_b F k193 c0 c1 c3 (f_X0_fillNights_L88 F k193 c0 c1 c3 n) v4 μ = some (rv, μF) := hf
    unfold f_X0_fillNights_L88_b at hf
    refine P.iload 3 (pc' := 90) dX0_fillNights_88 rfl rfl ?_
    refine P.iconst (v := 1) (pc' := 91) dX0_fillNights_90 rfl (by decide) ?_
    refine P.iload_n 1 (pc' := 92) dX0_fillNights_91 rfl rfl rfl ?_
    refine P.ishl (pc' := 93) dX0_fillNights_92 rfl ?_
    refine P.icmp_ge (tgt := 193) (pc' := 96) dX0_fillNights_93 (by decide) rfl (fun y1 => ?_) (fun y1 => ?_)
    · have hf := (if_pos y1).symm.trans hf
      exact PW.sub [0, 1] rfl (hk193 _ hf)
    · have hf := (if_neg y1).symm.trans hf
      refine P.iconst (v := 0) (pc' := 97) dX0_fillNights_96 rfl (by decide) ?_
      refine P.istore (pc' := 99) (lv' := [(5, .int 0), (0, .ref c0), (1, .int c1), (3, .int c3), (4, .int v4)]) dX0_fillNights_97 rfl (Nat.le_of_ble_eq_true rfl) rfl ?_
      refine PW.sub [1, 2, 3, 4, 0] rfl (ok_f_X0_fillNights_L99 F c0 c1 c3 v4 _ ?_ F _ _ hf)
      · intro μ2 hf
        refine P.aload_n 0 (pc' := 163) dX0_fillNights_162 rfl rfl rfl ?_
        obtain ⟨x3, h4, hf⟩ := ob hf
        refine P.get (pc' := 166) ci0 17 (by decide) (gfR_spec h4) q492 (Or.inl rfl) dX0_fillNights_163 rfl ?_
        refine P.iload 3 (pc' := 168) dX0_fillNights_166 rfl rfl ?_
        refine P.iload_n 2 (pc' := 169) dX0_fillNights_168 rfl rfl rfl ?_
        refine P.aload_n 0 (pc' := 170) dX0_fillNights_169 rfl rfl rfl ?_
        refine P.bipush (v := 12) (pc' := 172) dX0_fillNights_170 rfl (by decide) ?_
        obtain ⟨u7, h8, hf⟩ := ob hf
        obtain ⟨q5, h6, hf⟩ := ob hf
        refine P.callV (pc' := 175) (As := [.int 12]) 1 (ok_X0_reachedAt F c0 12 μ2 h6) (Nat.le_of_ble_eq_true rfl) (lw_V q1144 q1146 qs43 q159 q1147) rfl yok_X0_reachedAt rfl (Nat.le_of_ble_eq_true rfl) ci0 h8 (Nat.le_of_ble_eq_true rfl) rfl dX0_fillNights_172 rfl ?_
        refine P.iconst (v := (-1)) (pc' := 176) dX0_fillNights_175 rfl (by decide) ?_
        refine P.ixor (pc' := 177) dX0_fillNights_176 rfl ?_
        refine P.iand (pc' := 178) dX0_fillNights_177 rfl ?_
        refine P.if_ne (tgt := 185) (pc' := 181) dX0_fillNights_178 (by decide) rfl (fun y9 => ?_) (fun y9 => ?_)
        · have hf := (if_neg y9).symm.trans hf
          refine P.iconst (v := 0) (pc' := 186) dX0_fillNights_185 rfl (by decide) ?_
          obtain ⟨μ11, h10, hf⟩ := ob hf
          refine P.zast (pc' := 187) h10 dX0_fillNights_186 rfl ?_
          obtain ⟨x12, e13, hf⟩ := nm_i hf
          refine P.iinc 3 (pc' := 190) (lv' := [(4, .int x12), (0, .ref c0), (1, .int c1), (3, .int c3)]) dX0_fillNights_187 rfl rfl (by decide) e13 (Nat.le_of_ble_eq_true rfl) rfl ?_
          refine P.goto (tgt := 88) dX0_fillNights_190 (by decide) ?_
          exact PW.sub [1, 2, 3, 0] rfl (ih _ _ hf)
        · have hf := (if_pos y9).symm.trans hf
          refine P.iconst (v := 1) (pc' := 182) dX0_fillNights_181 rfl (by decide) ?_
          refine P.goto (tgt := 186) dX0_fillNights_182 (by decide) ?_
          obtain ⟨μ15, h14, hf⟩ := ob hf
          refine P.zast (pc' := 187) h14 dX0_fillNights_186 rfl ?_
          obtain ⟨x16, e17, hf⟩ := nm_i hf
          refine P.iinc 3 (pc' := 190) (lv' := [(4, .int x16), (0, .ref c0), (1, .int c1), (3, .int c3)]) dX0_fillNights_187 rfl rfl (by decide) e17 (Nat.le_of_ble_eq_true rfl) rfl ?_
          refine P.goto (tgt := 88) dX0_fillNights_190 (by decide) ?_
          exact PW.sub [1, 2, 3, 0] rfl (ih _ _ hf)
noncomputable def f_X0_fillNights_L254_b (F : Nat) (k312 : Sw → Option (Int32 × Sw)) (c0 : Nat) (c1 : Int32) (c4 : Int32) (c5 : Int32) (c6 : Int32) (self : Int32 → Sw → Option (Int32 × Sw)) (v7 : Int32) (μ : Sw) : Option (Int32 × Sw) :=
  if v7 ≤ 0 then
    k312 μ
  else
    Option.bind (oc μ c0 0) fun u4 =>
    Option.bind (f_X0_canAdd F c0 c5 v7 μ) fun q2 =>
    if q2 = 0 then
      nm ((v7 - 1) &&& c6) fun x7 =>
      self x7 μ
    else
      Option.bind (gfR μ c0 0 16) fun x9 =>
      Option.bind (gfR μ c0 0 16) fun x11 =>
      Option.bind (aI μ 2 x11 c5) fun x13 =>
      Option.bind (gfR μ c0 0 16) fun x15 =>
      Option.bind (aI μ 2 x15 (c5 ||| v7)) fun x17 =>
      Option.bind (sI μ 2 x9 c5 ((mn x13 (x17 + 1)).toInt8.toInt32)) fun μ20 =>
      nm ((v7 - 1) &&& c6) fun x21 =>
      self x21 μ20
noncomputable def f_X0_fillNights_L254 (F : Nat) (k312 : Sw → Option (Int32 × Sw)) (c0 : Nat) (c1 : Int32) (c4 : Int32) (c5 : Int32) (c6 : Int32) (n : Nat) : Int32 → Sw → Option (Int32 × Sw) := Nat.rec (motive := fun _ => Int32 → Sw → Option (Int32 × Sw)) (fun _ _ => none) (fun _ self => f_X0_fillNights_L254_b F k312 c0 c1 c4 c5 c6 self) n
set_option maxHeartbeats 4000000 in
theorem ok_f_X0_fillNights_L254 {g : Gx} {μ0 : Sw} {rv : Int32} {μF : Sw} (F : Nat) (c0 : Nat) (c1 : Int32) (c4 : Int32) (c5 : Int32) (c6 : Int32) (k312 : Sw → Option (Int32 × Sw)) (hk312 : ∀ (μ : Sw), k312 μ = some (rv, μF) → PW g mX0_fillNights 414 μ0 μF (QN g (some (.int rv)) μ0 μF) 312 [(0, .ref c0), (1, .int c1), (4, .int c4), (5, .int c5)] [] μ) : ∀ (n : Nat) (v7 : Int32) (μ : Sw), f_X0_fillNights_L254 F k312 c0 c1 c4 c5 c6 n v7 μ = some (rv, μF) → PW g mX0_fillNights 414 μ0 μF (QN g (some (.int rv)) μ0 μF) 254 [(0, .ref c0), (1, .int c1), (4, .int c4), (5, .int c5), (6, .int c6), (7, .int v7)] [] μ := by
  intro n
  induction n with
  | zero =>
    intro v7 μ hf
    have hf : (none : Option (Int32 × Sw)) = some _ := hf
    cases hf
  | succ n ih =>
    intro v7 μ hf
    have hf : f_X0_fillNights_L254_b F k312 c0 c1 c4 c5 c6 (f_X0_fillNights_L254 F k312 c0 c1 c4 c5 c6 n) v7 μ = some (rv, μF) := hf
    unfold f_X0_fillNights_L254_b at hf
    refine P.iload 5 (pc' := 256) dX0_fillNights_254 rfl rfl ?_
    refine P.if_le (tgt := 312) (pc' := 259) dX0_fillNights_256 (by decide) rfl (fun y1 => ?_) (fun y1 => ?_)
    · have hf := (if_pos y1).symm.trans hf
      exact PW.sub [0, 1, 2, 3] rfl (hk312 _ hf)
    · have hf := (if_neg y1).symm.trans hf
      refine P.aload_n 0 (pc' := 260) dX0_fillNights_259 rfl rfl rfl ?_
      refine P.iload 3 (pc' := 262) dX0_fillNights_260 rfl rfl ?_
      refine P.iload 5 (pc' := 264) dX0_fillNights_262 rfl rfl ?_
      obtain ⟨u4, h5, hf⟩ := ob hf
      obtain ⟨q2, h3, hf⟩ := ob hf
      refine P.callV (pc' := 267) (As := [.int c5, .int v7]) 2 (ok_X0_canAdd F c0 c5 v7 μ h3) (Nat.le_of_ble_eq_true rfl) (lw_V q1328 q1330 qs58 q159 q1331) rfl yok_X0_canAdd rfl (Nat.le_of_ble_eq_true rfl) ci0 h5 (by decide) rfl dX0_fillNights_264 rfl ?_
      refine P.if_eq (tgt := 300) (pc' := 270) dX0_fillNights_267 (by decide) rfl (fun y6 => ?_) (fun y6 => ?_)
      · have hf := (if_pos y6).symm.trans hf
        refine P.iload 5 (pc' := 302) dX0_fillNights_300 rfl rfl ?_
        refine P.iconst (v := 1) (pc' := 303) dX0_fillNights_302 rfl (by decide) ?_
        refine P.isub (pc' := 304) dX0_fillNights_303 rfl ?_
        refine P.iload 4 (pc' := 306) dX0_fillNights_304 rfl rfl ?_
        refine P.iand (pc' := 307) dX0_fillNights_306 rfl ?_
        obtain ⟨x7, e8, hf⟩ := nm_i hf
        refine P.nmi e8 ?_
        refine P.istore (pc' := 309) (lv' := [(7, .int x7), (0, .ref c0), (1, .int c1), (4, .int c4), (5, .int c5), (6, .int c6)]) dX0_fillNights_307 rfl (Nat.le_of_ble_eq_true rfl) rfl ?_
        refine P.goto (tgt := 254) dX0_fillNights_309 (by decide) ?_
        exact PW.sub [1, 2, 3, 4, 5, 0] rfl (ih _ _ hf)
      · have hf := (if_neg y6).symm.trans hf
        refine P.aload_n 0 (pc' := 271) dX0_fillNights_270 rfl rfl rfl ?_
        obtain ⟨x9, h10, hf⟩ := ob hf
        refine P.get (pc' := 274) ci0 16 (by decide) (gfR_spec h10) q491 (Or.inl rfl) dX0_fillNights_271 rfl ?_
        refine P.iload 3 (pc' := 276) dX0_fillNights_274 rfl rfl ?_
        refine P.aload_n 0 (pc' := 277) dX0_fillNights_276 rfl rfl rfl ?_
        obtain ⟨x11, h12, hf⟩ := ob hf
        refine P.get (pc' := 280) ci0 16 (by decide) (gfR_spec h12) q491 (Or.inl rfl) dX0_fillNights_277 rfl ?_
        refine P.iload 3 (pc' := 282) dX0_fillNights_280 rfl rfl ?_
        obtain ⟨x13, h14, hf⟩ := ob hf
        refine P.bald (t := 2) (pc' := 283) rfl h14 dX0_fillNights_282 rfl ?_
        refine P.aload_n 0 (pc' := 284) dX0_fillNights_283 rfl rfl rfl ?_
        obtain ⟨x15, h16, hf⟩ := ob hf
        refine P.get (pc' := 287) ci0 16 (by decide) (gfR_spec h16) q491 (Or.inl rfl) dX0_fillNights_284 rfl ?_
        refine P.iload 3 (pc' := 289) dX0_fillNights_287 rfl rfl ?_
        refine P.iload 5 (pc' := 291) dX0_fillNights_289 rfl rfl ?_
        refine P.ior (pc' := 292) dX0_fillNights_291 rfl ?_
        obtain ⟨x17, h18, hf⟩ := ob hf
        refine P.bald (t := 2) (pc' := 293) rfl h18 dX0_fillNights_292 rfl ?_
        refine P.iconst (v := 1) (pc' := 294) dX0_fillNights_293 rfl (by decide) ?_
        refine P.iadd (pc' := 295) dX0_fillNights_294 rfl ?_
        refine P.mmin (pc' := 298) q1087 q857 q183 q858 (Nat.le_of_ble_eq_true rfl) (Nat.le_of_ble_eq_true rfl) dX0_fillNights_295 rfl ?_
        refine P.i2b (pc' := 299) dX0_fillNights_298 rfl ?_
        obtain ⟨μ20, h19, hf⟩ := ob hf
        refine P.bast (pc' := 300) h19 dX0_fillNights_299 rfl ?_
        refine P.iload 5 (pc' := 302) dX0_fillNights_300 rfl rfl ?_
        refine P.iconst (v := 1) (pc' := 303) dX0_fillNights_302 rfl (by decide) ?_
        refine P.isub (pc' := 304) dX0_fillNights_303 rfl ?_
        refine P.iload 4 (pc' := 306) dX0_fillNights_304 rfl rfl ?_
        refine P.iand (pc' := 307) dX0_fillNights_306 rfl ?_
        obtain ⟨x21, e22, hf⟩ := nm_i hf
        refine P.nmi e22 ?_
        refine P.istore (pc' := 309) (lv' := [(7, .int x21), (0, .ref c0), (1, .int c1), (4, .int c4), (5, .int c5), (6, .int c6)]) dX0_fillNights_307 rfl (Nat.le_of_ble_eq_true rfl) rfl ?_
        refine P.goto (tgt := 254) dX0_fillNights_309 (by decide) ?_
        exact PW.sub [1, 2, 3, 4, 5, 0] rfl (ih _ _ hf)
noncomputable def f_X0_fillNights_L215_b (F : Nat) (c0 : Nat) (c1 : Int32) (c4 : Int32) (self : Int32 → Sw → Option (Int32 × Sw)) (v5 : Int32) (μ : Sw) : Option (Int32 × Sw) :=
  if v5 < 0 then
    some (c1, μ)
  else
    Option.bind (gfR μ c0 0 16) fun x2 =>
    if v5 = c4 then
      Option.bind (sI μ 2 x2 v5 ((0 : Int32).toInt8.toInt32)) fun μ13 =>
      nm (c4 &&& (v5 ^^^ (-1))) fun x14 =>
      f_X0_fillNights_L254 F
        (fun μ16 =>
          nm (v5 + (-1)) fun x17 =>
          self x17 μ16)
        c0 c1 c4 v5 x14 F x14 μ13
    else
      Option.bind (sI μ 2 x2 v5 ((99 : Int32).toInt8.toInt32)) fun μ6 =>
      nm (c4 &&& (v5 ^^^ (-1))) fun x7 =>
      f_X0_fillNights_L254 F
        (fun μ9 =>
          nm (v5 + (-1)) fun x10 =>
          self x10 μ9)
        c0 c1 c4 v5 x7 F x7 μ6
noncomputable def f_X0_fillNights_L215 (F : Nat) (c0 : Nat) (c1 : Int32) (c4 : Int32) (n : Nat) : Int32 → Sw → Option (Int32 × Sw) := Nat.rec (motive := fun _ => Int32 → Sw → Option (Int32 × Sw)) (fun _ _ => none) (fun _ self => f_X0_fillNights_L215_b F c0 c1 c4 self) n
set_option maxHeartbeats 4000000 in
theorem ok_f_X0_fillNights_L215 {g : Gx} {μ0 : Sw} {rv : Int32} {μF : Sw} (F : Nat) (c0 : Nat) (c1 : Int32) (c4 : Int32) : ∀ (n : Nat) (v5 : Int32) (μ : Sw), f_X0_fillNights_L215 F c0 c1 c4 n v5 μ = some (rv, μF) → PW g mX0_fillNights 414 μ0 μF (QN g (some (.int rv)) μ0 μF) 215 [(0, .ref c0), (1, .int c1), (4, .int c4), (5, .int v5)] [] μ := by
  intro n
  induction n with
  | zero =>
    intro v5 μ hf
    have hf : (none : Option (Int32 × Sw)) = some _ := hf
    cases hf
  | succ n ih =>
    intro v5 μ hf
    have hf : f_X0_fillNights_L215_b F c0 c1 c4 (f_X0_fillNights_L215 F c0 c1 c4 n) v5 μ = some (rv, μF) := hf
    unfold f_X0_fillNights_L215_b at hf
    refine P.iload 3 (pc' := 217) dX0_fillNights_215 rfl rfl ?_
    refine P.if_lt (tgt := 318) (pc' := 220) dX0_fillNights_217 (by decide) rfl (fun y1 => ?_) (fun y1 => ?_)
    · have hf := (if_pos y1).symm.trans hf
      refine P.iload_n 1 (pc' := 319) dX0_fillNights_318 rfl rfl rfl ?_
      cases hf; exact P.iret rfl dX0_fillNights_319
    · have hf := (if_neg y1).symm.trans hf
      refine P.aload_n 0 (pc' := 221) dX0_fillNights_220 rfl rfl rfl ?_
      obtain ⟨x2, h3, hf⟩ := ob hf
      refine P.get (pc' := 224) ci0 16 (by decide) (gfR_spec h3) q491 (Or.inl rfl) dX0_fillNights_221 rfl ?_
      refine P.iload 3 (pc' := 226) dX0_fillNights_224 rfl rfl ?_
      refine P.iload 3 (pc' := 228) dX0_fillNights_226 rfl rfl ?_
      refine P.iload 2 (pc' := 230) dX0_fillNights_228 rfl rfl ?_
      refine P.icmp_ne (tgt := 237) (pc' := 233) dX0_fillNights_230 (by decide) rfl (fun y4 => ?_) (fun y4 => ?_)
      · have hf := (if_neg y4).symm.trans hf
        refine P.bipush (v := 99) (pc' := 239) dX0_fillNights_237 rfl (by decide) ?_
        refine P.i2b (pc' := 240) dX0_fillNights_239 rfl ?_
        obtain ⟨μ6, h5, hf⟩ := ob hf
        refine P.bast (pc' := 241) h5 dX0_fillNights_240 rfl ?_
        refine P.iload 2 (pc' := 243) dX0_fillNights_241 rfl rfl ?_
        refine P.iload 3 (pc' := 245) dX0_fillNights_243 rfl rfl ?_
        refine P.iconst (v := (-1)) (pc' := 246) dX0_fillNights_245 rfl (by decide) ?_
        refine P.ixor (pc' := 247) dX0_fillNights_246 rfl ?_
        refine P.iand (pc' := 248) dX0_fillNights_247 rfl ?_
        obtain ⟨x7, e8, hf⟩ := nm_i hf
        refine P.nmi e8 ?_
        refine P.istore (pc' := 250) (lv' := [(6, .int x7), (0, .ref c0), (1, .int c1), (4, .int c4), (5, .int v5)]) dX0_fillNights_248 rfl (Nat.le_of_ble_eq_true rfl) rfl ?_
        refine P.iload 0 (pc' := 252) dX0_fillNights_250 rfl rfl ?_
        refine P.istore (pc' := 254) (lv' := [(7, .int x7), (6, .int x7), (0, .ref c0), (1, .int c1), (4, .int c4), (5, .int v5)]) dX0_fillNights_252 rfl (Nat.le_of_ble_eq_true rfl) rfl ?_
        refine PW.sub [2, 3, 4, 5, 1, 0] rfl (ok_f_X0_fillNights_L254 F c0 c1 c4 v5 x7 _ ?_ F _ _ hf)
        · intro μ9 hf
          obtain ⟨x10, e11, hf⟩ := nm_i hf
          refine P.iinc 3 (pc' := 315) (lv' := [(5, .int x10), (0, .ref c0), (1, .int c1), (4, .int c4)]) dX0_fillNights_312 rfl rfl (by decide) e11 (Nat.le_of_ble_eq_true rfl) rfl ?_
          refine P.goto (tgt := 215) dX0_fillNights_315 (by decide) ?_
          exact PW.sub [1, 2, 3, 0] rfl (ih _ _ hf)
      · have hf := (if_pos y4).symm.trans hf
        refine P.iconst (v := 0) (pc' := 234) dX0_fillNights_233 rfl (by decide) ?_
        refine P.goto (tgt := 239) dX0_fillNights_234 (by decide) ?_
        refine P.i2b (pc' := 240) dX0_fillNights_239 rfl ?_
        obtain ⟨μ13, h12, hf⟩ := ob hf
        refine P.bast (pc' := 241) h12 dX0_fillNights_240 rfl ?_
        refine P.iload 2 (pc' := 243) dX0_fillNights_241 rfl rfl ?_
        refine P.iload 3 (pc' := 245) dX0_fillNights_243 rfl rfl ?_
        refine P.iconst (v := (-1)) (pc' := 246) dX0_fillNights_245 rfl (by decide) ?_
        refine P.ixor (pc' := 247) dX0_fillNights_246 rfl ?_
        refine P.iand (pc' := 248) dX0_fillNights_247 rfl ?_
        obtain ⟨x14, e15, hf⟩ := nm_i hf
        refine P.nmi e15 ?_
        refine P.istore (pc' := 250) (lv' := [(6, .int x14), (0, .ref c0), (1, .int c1), (4, .int c4), (5, .int v5)]) dX0_fillNights_248 rfl (Nat.le_of_ble_eq_true rfl) rfl ?_
        refine P.iload 0 (pc' := 252) dX0_fillNights_250 rfl rfl ?_
        refine P.istore (pc' := 254) (lv' := [(7, .int x14), (6, .int x14), (0, .ref c0), (1, .int c1), (4, .int c4), (5, .int v5)]) dX0_fillNights_252 rfl (Nat.le_of_ble_eq_true rfl) rfl ?_
        refine PW.sub [2, 3, 4, 5, 1, 0] rfl (ok_f_X0_fillNights_L254 F c0 c1 c4 v5 x14 _ ?_ F _ _ hf)
        · intro μ16 hf
          obtain ⟨x17, e18, hf⟩ := nm_i hf
          refine P.iinc 3 (pc' := 315) (lv' := [(5, .int x17), (0, .ref c0), (1, .int c1), (4, .int c4)]) dX0_fillNights_312 rfl rfl (by decide) e18 (Nat.le_of_ble_eq_true rfl) rfl ?_
          refine P.goto (tgt := 215) dX0_fillNights_315 (by decide) ?_
          exact PW.sub [1, 2, 3, 0] rfl (ih _ _ hf)
noncomputable def f_X0_fillNights (F : Nat) (this : Nat) (μ : Sw) : Option (Int32 × Sw) :=
  Option.bind (oc μ this 0) fun u3 =>
  Option.bind (f_X0_untrue F this μ) fun q1 =>
  Option.bind (p_J15_bitCount F q1.1) fun q5 =>
  if q5 ≤ 8 then
    f_X0_fillNights_L21 F
      (fun w8 μ9 =>
        Option.bind (oc μ9 this 0) fun u12 =>
        Option.bind (f_X0_reachedAt F this 12 μ9) fun q10 =>
        Option.bind (gfR q10.2 this 0 7) fun x14 =>
        Option.bind (gfR q10.2 this 0 4) fun x16 =>
        Option.bind (oc q10.2 x14 8) fun u20 =>
        Option.bind (f_X8_keep F x14 x16 q10.2) fun q18 =>
        f_X0_fillNights_L88 F
          (fun μ22 =>
            Option.bind (gfR μ22 this 0 7) fun x23 =>
            Option.bind (gfR μ22 this 0 4) fun x25 =>
            Option.bind (oc μ22 x23 8) fun u29 =>
            Option.bind (f_X8_back F x23 x25 μ22) fun q27 =>
            nm (((1 : Int32) <<< (w8 &&& 31)) - 1) fun x31 =>
            f_X0_fillNights_L215 F this w8 x31 F x31 q27)
          this w8 q10.1 F 0 q18)
      this q1.1 F 0 0 q1.2
  else
    some ((-2), q1.2)
set_option maxHeartbeats 4000000 in
theorem ok_X0_fillNights {g : Gx} (F : Nat) (this : Nat) (μ : Sw) {rv : Int32} {μF : Sw} (hf : f_X0_fillNights F this μ = some (rv, μF)) : Cl g 414 yX0_fillNights cX0_fillNights 8 (some Jvm.ClassFile.FieldType.int) [.ref this] μ (some (.int rv)) μF := by
  unfold f_X0_fillNights at hf
  refine Cl.of (own := RX0) (ini := false) (by decide +kernel) rfl (by decide) (Nat.le_of_ble_eq_true rfl) ?_
  show PW g mX0_fillNights 414 μ μF (QN g (some (.int rv)) μ μF) 0 [(0, .ref this)] [] μ
  refine P.iconst (v := 0) (pc' := 1) dX0_fillNights_0 rfl (by decide) ?_
  refine P.istore_n (pc' := 2) (lv' := [(1, .int 0), (0, .ref this)]) dX0_fillNights_1 rfl rfl (Nat.le_of_ble_eq_true rfl) rfl ?_
  refine P.aload_n 1 (pc' := 3) dX0_fillNights_2 rfl rfl rfl ?_
  obtain ⟨u3, h4, hf⟩ := ob hf
  obtain ⟨q1, h2, hf⟩ := ob hf
  refine P.callV (pc' := 6) (As := []) 0 (ok_X0_untrue F this μ h2) (Nat.le_of_ble_eq_true rfl) (lw_V q1182 q1184 qs47 q159 q1185) rfl yok_X0_untrue rfl (Nat.le_of_ble_eq_true rfl) ci0 h4 (by decide) rfl dX0_fillNights_3 rfl ?_
  refine P.istore_n (pc' := 7) (lv' := [(2, .int q1.1), (1, .int 0), (0, .ref this)]) dX0_fillNights_6 rfl rfl (Nat.le_of_ble_eq_true rfl) rfl ?_
  refine P.iload_n 0 (pc' := 8) dX0_fillNights_7 rfl rfl rfl ?_
  obtain ⟨q5, h6, hf⟩ := ob hf
  refine P.callS (pc' := 11) (As := [.int q1.1]) 1 (ok_J15_bitCount F q1.1 q1.2 h6) (Nat.le_of_ble_eq_true rfl) (lw_S q1168 q1169 q193 q1170) yok_J15_bitCount rfl (Nat.le_of_ble_eq_true rfl) (by decide) rfl dX0_fillNights_8 rfl ?_
  refine P.bipush (v := 8) (pc' := 13) dX0_fillNights_11 rfl (by decide) ?_
  refine P.icmp_le (tgt := 19) (pc' := 16) dX0_fillNights_13 (by decide) rfl (fun y7 => ?_) (fun y7 => ?_)
  · have hf := (if_pos y7).symm.trans hf
    refine P.iconst (v := 0) (pc' := 20) dX0_fillNights_19 rfl (by decide) ?_
    refine P.istore_n (pc' := 21) (lv' := [(3, .int 0), (2, .int q1.1), (1, .int 0), (0, .ref this)]) dX0_fillNights_20 rfl rfl (Nat.le_of_ble_eq_true rfl) rfl ?_
    refine PW.sub [3, 2, 1, 0] rfl (ok_f_X0_fillNights_L21 F this q1.1 _ ?_ F _ _ _ hf)
    · intro w8 μ9 hf
      refine P.aload_n 0 (pc' := 68) dX0_fillNights_67 rfl rfl rfl ?_
      refine P.bipush (v := 12) (pc' := 70) dX0_fillNights_68 rfl (by decide) ?_
      obtain ⟨u12, h13, hf⟩ := ob hf
      obtain ⟨q10, h11, hf⟩ := ob hf
      refine P.callV (pc' := 73) (As := [.int 12]) 1 (ok_X0_reachedAt F this 12 μ9 h11) (Nat.le_of_ble_eq_true rfl) (lw_V q1144 q1146 qs43 q159 q1147) rfl yok_X0_reachedAt rfl (Nat.le_of_ble_eq_true rfl) ci0 h13 (by decide) rfl dX0_fillNights_70 rfl ?_
      refine P.istore_n (pc' := 74) (lv' := [(3, .int q10.1), (0, .ref this), (1, .int w8)]) dX0_fillNights_73 rfl rfl (Nat.le_of_ble_eq_true rfl) rfl ?_
      refine P.aload_n 1 (pc' := 75) dX0_fillNights_74 rfl rfl rfl ?_
      obtain ⟨x14, h15, hf⟩ := ob hf
      refine P.get (pc' := 78) ci0 7 (by decide) (gfR_spec h15) q482 (Or.inl rfl) dX0_fillNights_75 rfl ?_
      refine P.aload_n 1 (pc' := 79) dX0_fillNights_78 rfl rfl rfl ?_
      obtain ⟨x16, h17, hf⟩ := ob hf
      refine P.get (pc' := 82) ci0 4 (by decide) (gfR_spec h17) q479 (Or.inl rfl) dX0_fillNights_79 rfl ?_
      obtain ⟨u20, h21, hf⟩ := ob hf
      obtain ⟨q18, h19, hf⟩ := ob hf
      refine P.callV (pc' := 85) (As := [.ref x16]) 1 (ok_X8_keep F x14 x16 q10.2 h19) (Nat.le_of_ble_eq_true rfl) (lw_V q1287 q1288 q1289 q171 q1290) rfl yok_X8_keep rfl (Nat.le_of_ble_eq_true rfl) ci8 h21 (by decide) rfl dX0_fillNights_82 rfl ?_
      refine P.iconst (v := 0) (pc' := 86) dX0_fillNights_85 rfl (by decide) ?_
      refine P.istore (pc' := 88) (lv' := [(4, .int 0), (3, .int q10.1), (0, .ref this), (1, .int w8)]) dX0_fillNights_86 rfl (Nat.le_of_ble_eq_true rfl) rfl ?_
      refine PW.sub [2, 3, 1, 0] rfl (ok_f_X0_fillNights_L88 F this w8 q10.1 _ ?_ F _ _ hf)
      · intro μ22 hf
        refine P.aload_n 0 (pc' := 194) dX0_fillNights_193 rfl rfl rfl ?_
        obtain ⟨x23, h24, hf⟩ := ob hf
        refine P.get (pc' := 197) ci0 7 (by decide) (gfR_spec h24) q482 (Or.inl rfl) dX0_fillNights_194 rfl ?_
        refine P.aload_n 0 (pc' := 198) dX0_fillNights_197 rfl rfl rfl ?_
        obtain ⟨x25, h26, hf⟩ := ob hf
        refine P.get (pc' := 201) ci0 4 (by decide) (gfR_spec h26) q479 (Or.inl rfl) dX0_fillNights_198 rfl ?_
        obtain ⟨u29, h30, hf⟩ := ob hf
        obtain ⟨q27, h28, hf⟩ := ob hf
        refine P.callV (pc' := 204) (As := [.ref x25]) 1 (ok_X8_back F x23 x25 μ22 h28) (Nat.le_of_ble_eq_true rfl) (lw_V q1304 q1305 q1306 q171 q1307) rfl yok_X8_back rfl (Nat.le_of_ble_eq_true rfl) ci8 h30 (by decide) rfl dX0_fillNights_201 rfl ?_
        refine P.iconst (v := 1) (pc' := 205) dX0_fillNights_204 rfl (by decide) ?_
        refine P.iload_n 1 (pc' := 206) dX0_fillNights_205 rfl rfl rfl ?_
        refine P.ishl (pc' := 207) dX0_fillNights_206 rfl ?_
        refine P.iconst (v := 1) (pc' := 208) dX0_fillNights_207 rfl (by decide) ?_
        refine P.isub (pc' := 209) dX0_fillNights_208 rfl ?_
        obtain ⟨x31, e32, hf⟩ := nm_i hf
        refine P.nmi e32 ?_
        refine P.istore (pc' := 211) (lv' := [(4, .int x31), (0, .ref this), (1, .int w8)]) dX0_fillNights_209 rfl (Nat.le_of_ble_eq_true rfl) rfl ?_
        refine P.iload 0 (pc' := 213) dX0_fillNights_211 rfl rfl ?_
        refine P.istore (pc' := 215) (lv' := [(5, .int x31), (4, .int x31), (0, .ref this), (1, .int w8)]) dX0_fillNights_213 rfl (Nat.le_of_ble_eq_true rfl) rfl ?_
        exact PW.sub [2, 3, 1, 0] rfl (ok_f_X0_fillNights_L215 F this w8 x31 F _ _ hf)
  · have hf := (if_neg y7).symm.trans hf
    refine P.bipush (v := (-2)) (pc' := 18) dX0_fillNights_16 rfl (by decide) ?_
    cases hf; exact P.iret rfl dX0_fillNights_18
theorem yok_X0_fillNights : yOK yX0_fillNights 0 := ⟨by decide +kernel, by decide +kernel, by decide +kernel⟩
abbrev mX0_nights : Ym := (RX0, cX0_nights, 7, (some Jvm.ClassFile.FieldType.int), false, [])
noncomputable def f_X0_nights_L84_b (F : Nat) (k151 : Int32 → Option (Int32 × Sw)) (c0 : Nat) (c3 : Int32) (μ : Sw) (self : Int32 → Int32 → Option (Int32 × Sw)) (v4 : Int32) (v5 : Int32) : Option (Int32 × Sw) :=
  if ((1 : Int32) <<< (c3 &&& 31)) ≤ v5 then
    k151 v4
  else
    Option.bind (oc μ c0 0) fun u4 =>
    Option.bind (f_X0_canAdd F c0 0 v5 μ) fun q2 =>
    if q2 = 0 then
      nm (v5 + 1) fun x7 =>
      self v4 x7
    else
      Option.bind (gfR μ c0 0 16) fun x9 =>
      Option.bind (aI μ 2 x9 v5) fun x11 =>
      Option.bind (gfR μ c0 0 16) fun x13 =>
      Option.bind (aI μ 2 x13 0) fun x15 =>
      if (x11 + 1) = x15 then
        if v4 = 0 then
          nm (v5 + 1) fun x19 =>
          self v5 x19
        else
          Option.bind (p_J15_bitCount F v5) fun q21 =>
          Option.bind (p_J15_bitCount F v4) fun q23 =>
          if q23 ≤ q21 then
            nm (v5 + 1) fun x26 =>
            self v4 x26
          else
            nm (v5 + 1) fun x28 =>
            self v5 x28
      else
        nm (v5 + 1) fun x30 =>
        self v4 x30
noncomputable def f_X0_nights_L84 (F : Nat) (k151 : Int32 → Option (Int32 × Sw)) (c0 : Nat) (c3 : Int32) (μ : Sw) (n : Nat) : Int32 → Int32 → Option (Int32 × Sw) := Nat.rec (motive := fun _ => Int32 → Int32 → Option (Int32 × Sw)) (fun _ _ => none) (fun _ self => f_X0_nights_L84_b F k151 c0 c3 μ self) n
set_option maxHeartbeats 4000000 in
theorem ok_f_X0_nights_L84 {g : Gx} {μ0 : Sw} {rv : Int32} {μF : Sw} (F : Nat) (c0 : Nat) (c3 : Int32) (μ : Sw) (k151 : Int32 → Option (Int32 × Sw)) (hk151 : ∀ (w4 : Int32), k151 w4 = some (rv, μF) → PW g mX0_nights 415 μ0 μF (QN g (some (.int rv)) μ0 μF) 151 [(0, .ref c0), (3, .int c3), (4, .int w4)] [] μ) : ∀ (n : Nat) (v4 : Int32) (v5 : Int32), f_X0_nights_L84 F k151 c0 c3 μ n v4 v5 = some (rv, μF) → PW g mX0_nights 415 μ0 μF (QN g (some (.int rv)) μ0 μF) 84 [(0, .ref c0), (3, .int c3), (4, .int v4), (5, .int v5)] [] μ := by
  intro n
  induction n with
  | zero =>
    intro v4 v5 hf
    have hf : (none : Option (Int32 × Sw)) = some _ := hf
    cases hf
  | succ n ih =>
    intro v4 v5 hf
    have hf : f_X0_nights_L84_b F k151 c0 c3 μ (f_X0_nights_L84 F k151 c0 c3 μ n) v4 v5 = some (rv, μF) := hf
    unfold f_X0_nights_L84_b at hf
    refine P.iload 3 (pc' := 86) dX0_nights_84 rfl rfl ?_
    refine P.iconst (v := 1) (pc' := 87) dX0_nights_86 rfl (by decide) ?_
    refine P.iload_n 1 (pc' := 88) dX0_nights_87 rfl rfl rfl ?_
    refine P.ishl (pc' := 89) dX0_nights_88 rfl ?_
    refine P.icmp_ge (tgt := 151) (pc' := 92) dX0_nights_89 (by decide) rfl (fun y1 => ?_) (fun y1 => ?_)
    · have hf := (if_pos y1).symm.trans hf
      exact PW.sub [0, 1, 2] rfl (hk151 _ hf)
    · have hf := (if_neg y1).symm.trans hf
      refine P.aload_n 0 (pc' := 93) dX0_nights_92 rfl rfl rfl ?_
      refine P.iconst (v := 0) (pc' := 94) dX0_nights_93 rfl (by decide) ?_
      refine P.iload 3 (pc' := 96) dX0_nights_94 rfl rfl ?_
      obtain ⟨u4, h5, hf⟩ := ob hf
      obtain ⟨q2, h3, hf⟩ := ob hf
      refine P.callV (pc' := 99) (As := [.int 0, .int v5]) 2 (ok_X0_canAdd F c0 0 v5 μ h3) (Nat.le_of_ble_eq_true rfl) (lw_V q1328 q1330 qs58 q159 q1331) rfl yok_X0_canAdd rfl (Nat.le_of_ble_eq_true rfl) ci0 h5 (by decide) rfl dX0_nights_96 rfl ?_
      refine P.if_eq (tgt := 145) (pc' := 102) dX0_nights_99 (by decide) rfl (fun y6 => ?_) (fun y6 => ?_)
      · have hf := (if_pos y6).symm.trans hf
        obtain ⟨x7, e8, hf⟩ := nm_i hf
        refine P.iinc 3 (pc' := 148) (lv' := [(5, .int x7), (0, .ref c0), (3, .int c3), (4, .int v4)]) dX0_nights_145 rfl rfl (by decide) e8 (Nat.le_of_ble_eq_true rfl) rfl ?_
        refine P.goto (tgt := 84) dX0_nights_148 (by decide) ?_
        exact PW.sub [1, 2, 3, 0] rfl (ih _ _ hf)
      · have hf := (if_neg y6).symm.trans hf
        refine P.aload_n 0 (pc' := 103) dX0_nights_102 rfl rfl rfl ?_
        obtain ⟨x9, h10, hf⟩ := ob hf
        refine P.get (pc' := 106) ci0 16 (by decide) (gfR_spec h10) q491 (Or.inl rfl) dX0_nights_103 rfl ?_
        refine P.iload 3 (pc' := 108) dX0_nights_106 rfl rfl ?_
        obtain ⟨x11, h12, hf⟩ := ob hf
        refine P.bald (t := 2) (pc' := 109) rfl h12 dX0_nights_108 rfl ?_
        refine P.iconst (v := 1) (pc' := 110) dX0_nights_109 rfl (by decide) ?_
        refine P.iadd (pc' := 111) dX0_nights_110 rfl ?_
        refine P.aload_n 0 (pc' := 112) dX0_nights_111 rfl rfl rfl ?_
        obtain ⟨x13, h14, hf⟩ := ob hf
        refine P.get (pc' := 115) ci0 16 (by decide) (gfR_spec h14) q491 (Or.inl rfl) dX0_nights_112 rfl ?_
        refine P.iconst (v := 0) (pc' := 116) dX0_nights_115 rfl (by decide) ?_
        obtain ⟨x15, h16, hf⟩ := ob hf
        refine P.bald (t := 2) (pc' := 117) rfl h16 dX0_nights_116 rfl ?_
        refine P.icmp_eq (tgt := 123) (pc' := 120) dX0_nights_117 (by decide) rfl (fun y17 => ?_) (fun y17 => ?_)
        · have hf := (if_pos y17).symm.trans hf
          refine P.iload 2 (pc' := 125) dX0_nights_123 rfl rfl ?_
          refine P.if_eq (tgt := 141) (pc' := 128) dX0_nights_125 (by decide) rfl (fun y18 => ?_) (fun y18 => ?_)
          · have hf := (if_pos y18).symm.trans hf
            refine P.iload 3 (pc' := 143) dX0_nights_141 rfl rfl ?_
            refine P.istore (pc' := 145) (lv' := [(4, .int v5), (0, .ref c0), (3, .int c3), (5, .int v5)]) dX0_nights_143 rfl (Nat.le_of_ble_eq_true rfl) rfl ?_
            obtain ⟨x19, e20, hf⟩ := nm_i hf
            refine P.iinc 3 (pc' := 148) (lv' := [(5, .int x19), (4, .int v5), (0, .ref c0), (3, .int c3)]) dX0_nights_145 rfl rfl (by decide) e20 (Nat.le_of_ble_eq_true rfl) rfl ?_
            refine P.goto (tgt := 84) dX0_nights_148 (by decide) ?_
            exact PW.sub [2, 3, 1, 0] rfl (ih _ _ hf)
          · have hf := (if_neg y18).symm.trans hf
            refine P.iload 3 (pc' := 130) dX0_nights_128 rfl rfl ?_
            obtain ⟨q21, h22, hf⟩ := ob hf
            refine P.callS (pc' := 133) (As := [.int v5]) 1 (ok_J15_bitCount F v5 μ h22) (Nat.le_of_ble_eq_true rfl) (lw_S q1168 q1169 q193 q1170) yok_J15_bitCount rfl (Nat.le_of_ble_eq_true rfl) (by decide) rfl dX0_nights_130 rfl ?_
            refine P.iload 2 (pc' := 135) dX0_nights_133 rfl rfl ?_
            obtain ⟨q23, h24, hf⟩ := ob hf
            refine P.callS (pc' := 138) (As := [.int v4]) 1 (ok_J15_bitCount F v4 μ h24) (Nat.le_of_ble_eq_true rfl) (lw_S q1168 q1169 q193 q1170) yok_J15_bitCount rfl (Nat.le_of_ble_eq_true rfl) (Nat.le_of_ble_eq_true rfl) rfl dX0_nights_135 rfl ?_
            refine P.icmp_ge (tgt := 145) (pc' := 141) dX0_nights_138 (by decide) rfl (fun y25 => ?_) (fun y25 => ?_)
            · have hf := (if_pos y25).symm.trans hf
              obtain ⟨x26, e27, hf⟩ := nm_i hf
              refine P.iinc 3 (pc' := 148) (lv' := [(5, .int x26), (0, .ref c0), (3, .int c3), (4, .int v4)]) dX0_nights_145 rfl rfl (by decide) e27 (Nat.le_of_ble_eq_true rfl) rfl ?_
              refine P.goto (tgt := 84) dX0_nights_148 (by decide) ?_
              exact PW.sub [1, 2, 3, 0] rfl (ih _ _ hf)
            · have hf := (if_neg y25).symm.trans hf
              refine P.iload 3 (pc' := 143) dX0_nights_141 rfl rfl ?_
              refine P.istore (pc' := 145) (lv' := [(4, .int v5), (0, .ref c0), (3, .int c3), (5, .int v5)]) dX0_nights_143 rfl (Nat.le_of_ble_eq_true rfl) rfl ?_
              obtain ⟨x28, e29, hf⟩ := nm_i hf
              refine P.iinc 3 (pc' := 148) (lv' := [(5, .int x28), (4, .int v5), (0, .ref c0), (3, .int c3)]) dX0_nights_145 rfl rfl (by decide) e29 (Nat.le_of_ble_eq_true rfl) rfl ?_
              refine P.goto (tgt := 84) dX0_nights_148 (by decide) ?_
              exact PW.sub [2, 3, 1, 0] rfl (ih _ _ hf)
        · have hf := (if_neg y17).symm.trans hf
          refine P.goto (tgt := 145) dX0_nights_120 (by decide) ?_
          obtain ⟨x30, e31, hf⟩ := nm_i hf
          refine P.iinc 3 (pc' := 148) (lv' := [(5, .int x30), (0, .ref c0), (3, .int c3), (4, .int v4)]) dX0_nights_145 rfl rfl (by decide) e31 (Nat.le_of_ble_eq_true rfl) rfl ?_
          refine P.goto (tgt := 84) dX0_nights_148 (by decide) ?_
          exact PW.sub [1, 2, 3, 0] rfl (ih _ _ hf)
noncomputable def f_X0_nights_L157_b (F : Nat) (c0 : Nat) (c3 : Int32) (c4 : Int32) (μ : Sw) (self : Int32 → Int32 → Option (Int32 × Sw)) (v5 : Int32) (v6 : Int32) : Option (Int32 × Sw) :=
  if c3 ≤ v6 then
    some (v5, μ)
  else
    if ((c4 >>> (v6 &&& 31)) &&& 1) = 1 then
      Option.bind (gfR μ c0 0 14) fun x5 =>
      Option.bind (aI μ 0 x5 v6) fun x7 =>
      nm (v5 ||| ((1 : Int32) <<< (x7 &&& 31))) fun x9 =>
      nm (v6 + 1) fun x11 =>
      self x9 x11
    else
      nm (v6 + 1) fun x3 =>
      self v5 x3
noncomputable def f_X0_nights_L157 (F : Nat) (c0 : Nat) (c3 : Int32) (c4 : Int32) (μ : Sw) (n : Nat) : Int32 → Int32 → Option (Int32 × Sw) := Nat.rec (motive := fun _ => Int32 → Int32 → Option (Int32 × Sw)) (fun _ _ => none) (fun _ self => f_X0_nights_L157_b F c0 c3 c4 μ self) n
set_option maxHeartbeats 4000000 in
theorem ok_f_X0_nights_L157 {g : Gx} {μ0 : Sw} {rv : Int32} {μF : Sw} (F : Nat) (c0 : Nat) (c3 : Int32) (c4 : Int32) (μ : Sw) : ∀ (n : Nat) (v5 : Int32) (v6 : Int32), f_X0_nights_L157 F c0 c3 c4 μ n v5 v6 = some (rv, μF) → PW g mX0_nights 415 μ0 μF (QN g (some (.int rv)) μ0 μF) 157 [(0, .ref c0), (3, .int c3), (4, .int c4), (5, .int v5), (6, .int v6)] [] μ := by
  intro n
  induction n with
  | zero =>
    intro v5 v6 hf
    have hf : (none : Option (Int32 × Sw)) = some _ := hf
    cases hf
  | succ n ih =>
    intro v5 v6 hf
    have hf : f_X0_nights_L157_b F c0 c3 c4 μ (f_X0_nights_L157 F c0 c3 c4 μ n) v5 v6 = some (rv, μF) := hf
    unfold f_X0_nights_L157_b at hf
    refine P.iload 4 (pc' := 159) dX0_nights_157 rfl rfl ?_
    refine P.iload_n 1 (pc' := 160) dX0_nights_159 rfl rfl rfl ?_
    refine P.icmp_ge (tgt := 194) (pc' := 163) dX0_nights_160 (by decide) rfl (fun y1 => ?_) (fun y1 => ?_)
    · have hf := (if_pos y1).symm.trans hf
      refine P.iload 3 (pc' := 196) dX0_nights_194 rfl rfl ?_
      cases hf; exact P.iret rfl dX0_nights_196
    · have hf := (if_neg y1).symm.trans hf
      refine P.iload 2 (pc' := 165) dX0_nights_163 rfl rfl ?_
      refine P.iload 4 (pc' := 167) dX0_nights_165 rfl rfl ?_
      refine P.ishr (pc' := 168) dX0_nights_167 rfl ?_
      refine P.iconst (v := 1) (pc' := 169) dX0_nights_168 rfl (by decide) ?_
      refine P.iand (pc' := 170) dX0_nights_169 rfl ?_
      refine P.iconst (v := 1) (pc' := 171) dX0_nights_170 rfl (by decide) ?_
      refine P.icmp_ne (tgt := 188) (pc' := 174) dX0_nights_171 (by decide) rfl (fun y2 => ?_) (fun y2 => ?_)
      · have hf := (if_neg y2).symm.trans hf
        obtain ⟨x3, e4, hf⟩ := nm_i hf
        refine P.iinc 4 (pc' := 191) (lv' := [(6, .int x3), (0, .ref c0), (3, .int c3), (4, .int c4), (5, .int v5)]) dX0_nights_188 rfl rfl (by decide) e4 (Nat.le_of_ble_eq_true rfl) rfl ?_
        refine P.goto (tgt := 157) dX0_nights_191 (by decide) ?_
        exact PW.sub [1, 2, 3, 4, 0] rfl (ih _ _ hf)
      · have hf := (if_pos y2).symm.trans hf
        refine P.iload 3 (pc' := 176) dX0_nights_174 rfl rfl ?_
        refine P.iconst (v := 1) (pc' := 177) dX0_nights_176 rfl (by decide) ?_
        refine P.aload_n 0 (pc' := 178) dX0_nights_177 rfl rfl rfl ?_
        obtain ⟨x5, h6, hf⟩ := ob hf
        refine P.get (pc' := 181) ci0 14 (by decide) (gfR_spec h6) q489 (Or.inl rfl) dX0_nights_178 rfl ?_
        refine P.iload 4 (pc' := 183) dX0_nights_181 rfl rfl ?_
        obtain ⟨x7, h8, hf⟩ := ob hf
        refine P.iald (t := 0) (pc' := 184) rfl h8 dX0_nights_183 rfl ?_
        refine P.ishl (pc' := 185) dX0_nights_184 rfl ?_
        refine P.ior (pc' := 186) dX0_nights_185 rfl ?_
        obtain ⟨x9, e10, hf⟩ := nm_i hf
        refine P.nmi e10 ?_
        refine P.istore (pc' := 188) (lv' := [(5, .int x9), (0, .ref c0), (3, .int c3), (4, .int c4), (6, .int v6)]) dX0_nights_186 rfl (Nat.le_of_ble_eq_true rfl) rfl ?_
        obtain ⟨x11, e12, hf⟩ := nm_i hf
        refine P.iinc 4 (pc' := 191) (lv' := [(6, .int x11), (5, .int x9), (0, .ref c0), (3, .int c3), (4, .int c4)]) dX0_nights_188 rfl rfl (by decide) e12 (Nat.le_of_ble_eq_true rfl) rfl ?_
        refine P.goto (tgt := 157) dX0_nights_191 (by decide) ?_
        exact PW.sub [2, 3, 4, 1, 0] rfl (ih _ _ hf)
noncomputable def f_X0_nights (F : Nat) (this : Nat) (p1 : Int32) (μ : Sw) : Option (Int32 × Sw) :=
  Option.bind (p_X0_within F p1 0 2) fun q1 =>
  if q1 = 0 then
    some ((-1), μ)
  else
    Option.bind (oc μ this 0) fun u6 =>
    Option.bind (f_X0_untrue F this μ) fun q4 =>
    Option.bind (p_J15_bitCount F q4.1) fun q8 =>
    if p1 = 2 then
      Option.bind (gfR q4.2 this 0 3) fun x27 =>
      Option.bind (gfI q4.2 x27 3 11) fun x29 =>
      Option.bind (gfR q4.2 this 0 3) fun x31 =>
      Option.bind (gfI q4.2 x31 3 11) fun x33 =>
      Option.bind (dvO ((q8 + x29) - 1) x33) fun x35 =>
      some (x35, q4.2)
    else
      Option.bind (oc q4.2 this 0) fun u13 =>
      Option.bind (f_X0_fillNights F this q4.2) fun q11 =>
      if q11.1 < 0 then
        some ((-2), q11.2)
      else
        Option.bind (gfR q11.2 this 0 16) fun x16 =>
        Option.bind (aI q11.2 2 x16 0) fun x18 =>
        if x18 = 99 then
          some ((-2), q11.2)
        else
          if p1 = 0 then
            Option.bind (gfR q11.2 this 0 16) fun x23 =>
            Option.bind (aI q11.2 2 x23 0) fun x25 =>
            some (x25, q11.2)
          else
            f_X0_nights_L84 F
              (fun w22 =>
                f_X0_nights_L157 F this q11.1 w22 q11.2 F 0 0)
              this q11.1 q11.2 F 0 1
set_option maxHeartbeats 4000000 in
theorem ok_X0_nights {g : Gx} (F : Nat) (this : Nat) (p1 : Int32) (μ : Sw) {rv : Int32} {μF : Sw} (hf : f_X0_nights F this p1 μ = some (rv, μF)) : Cl g 415 yX0_nights cX0_nights 7 (some Jvm.ClassFile.FieldType.int) [.ref this, .int p1] μ (some (.int rv)) μF := by
  unfold f_X0_nights at hf
  refine Cl.of (own := RX0) (ini := false) (by decide +kernel) rfl (by decide) (Nat.le_of_ble_eq_true rfl) ?_
  show PW g mX0_nights 415 μ μF (QN g (some (.int rv)) μ μF) 0 [(0, .ref this), (1, .int p1)] [] μ
  refine P.iload_n 1 (pc' := 1) dX0_nights_0 rfl rfl rfl ?_
  refine P.iconst (v := 0) (pc' := 2) dX0_nights_1 rfl (by decide) ?_
  refine P.iconst (v := 2) (pc' := 3) dX0_nights_2 rfl (by decide) ?_
  obtain ⟨q1, h2, hf⟩ := ob hf
  refine P.callS (pc' := 6) (As := [.int p1, .int 0, .int 2]) 3 (ok_X0_within F p1 0 2 μ h2) (Nat.le_of_ble_eq_true rfl) (lw_S q1038 q557 q159 q558) yok_X0_within rfl (Nat.le_of_ble_eq_true rfl) (by decide) rfl dX0_nights_3 rfl ?_
  refine P.if_ne (tgt := 11) (pc' := 9) dX0_nights_6 (by decide) rfl (fun y3 => ?_) (fun y3 => ?_)
  · have hf := (if_neg y3).symm.trans hf
    refine P.aload_n 0 (pc' := 12) dX0_nights_11 rfl rfl rfl ?_
    obtain ⟨u6, h7, hf⟩ := ob hf
    obtain ⟨q4, h5, hf⟩ := ob hf
    refine P.callV (pc' := 15) (As := []) 0 (ok_X0_untrue F this μ h5) (Nat.le_of_ble_eq_true rfl) (lw_V q1182 q1184 qs47 q159 q1185) rfl yok_X0_untrue rfl (Nat.le_of_ble_eq_true rfl) ci0 h7 (by decide) rfl dX0_nights_12 rfl ?_
    obtain ⟨q8, h9, hf⟩ := ob hf
    refine P.callS (pc' := 18) (As := [.int q4.1]) 1 (ok_J15_bitCount F q4.1 q4.2 h9) (Nat.le_of_ble_eq_true rfl) (lw_S q1168 q1169 q193 q1170) yok_J15_bitCount rfl (Nat.le_of_ble_eq_true rfl) (by decide) rfl dX0_nights_15 rfl ?_
    refine P.istore_n (pc' := 19) (lv' := [(2, .int q8), (0, .ref this), (1, .int p1)]) dX0_nights_18 rfl rfl (Nat.le_of_ble_eq_true rfl) rfl ?_
    refine P.iload_n 2 (pc' := 20) dX0_nights_19 rfl rfl rfl ?_
    refine P.iconst (v := 2) (pc' := 21) dX0_nights_20 rfl (by decide) ?_
    refine P.icmp_ne (tgt := 44) (pc' := 24) dX0_nights_21 (by decide) rfl (fun y10 => ?_) (fun y10 => ?_)
    · have hf := (if_neg y10).symm.trans hf
      refine P.aload_n 1 (pc' := 45) dX0_nights_44 rfl rfl rfl ?_
      obtain ⟨u13, h14, hf⟩ := ob hf
      obtain ⟨q11, h12, hf⟩ := ob hf
      refine P.callV (pc' := 48) (As := []) 0 (ok_X0_fillNights F this q4.2 h12) (Nat.le_of_ble_eq_true rfl) (lw_V q1324 q1326 qs57 q159 q1327) rfl yok_X0_fillNights rfl (Nat.le_of_ble_eq_true rfl) ci0 h14 (by decide) rfl dX0_nights_45 rfl ?_
      refine P.istore_n (pc' := 49) (lv' := [(3, .int q11.1), (2, .int q8), (0, .ref this), (1, .int p1)]) dX0_nights_48 rfl rfl (Nat.le_of_ble_eq_true rfl) rfl ?_
      refine P.iload_n 0 (pc' := 50) dX0_nights_49 rfl rfl rfl ?_
      refine P.if_lt (tgt := 64) (pc' := 53) dX0_nights_50 (by decide) rfl (fun y15 => ?_) (fun y15 => ?_)
      · have hf := (if_pos y15).symm.trans hf
        refine P.bipush (v := (-2)) (pc' := 66) dX0_nights_64 rfl (by decide) ?_
        cases hf; exact P.iret rfl dX0_nights_66
      · have hf := (if_neg y15).symm.trans hf
        refine P.aload_n 2 (pc' := 54) dX0_nights_53 rfl rfl rfl ?_
        obtain ⟨x16, h17, hf⟩ := ob hf
        refine P.get (pc' := 57) ci0 16 (by decide) (gfR_spec h17) q491 (Or.inl rfl) dX0_nights_54 rfl ?_
        refine P.iconst (v := 0) (pc' := 58) dX0_nights_57 rfl (by decide) ?_
        obtain ⟨x18, h19, hf⟩ := ob hf
        refine P.bald (t := 2) (pc' := 59) rfl h19 dX0_nights_58 rfl ?_
        refine P.bipush (v := 99) (pc' := 61) dX0_nights_59 rfl (by decide) ?_
        refine P.icmp_ne (tgt := 67) (pc' := 64) dX0_nights_61 (by decide) rfl (fun y20 => ?_) (fun y20 => ?_)
        · have hf := (if_neg y20).symm.trans hf
          refine P.iload_n 3 (pc' := 68) dX0_nights_67 rfl rfl rfl ?_
          refine P.if_ne (tgt := 78) (pc' := 71) dX0_nights_68 (by decide) rfl (fun y21 => ?_) (fun y21 => ?_)
          · have hf := (if_neg y21).symm.trans hf
            refine P.iconst (v := 0) (pc' := 79) dX0_nights_78 rfl (by decide) ?_
            refine P.istore (pc' := 81) (lv' := [(4, .int 0), (3, .int q11.1), (2, .int q8), (0, .ref this), (1, .int p1)]) dX0_nights_79 rfl (Nat.le_of_ble_eq_true rfl) rfl ?_
            refine P.iconst (v := 1) (pc' := 82) dX0_nights_81 rfl (by decide) ?_
            refine P.istore (pc' := 84) (lv' := [(5, .int 1), (4, .int 0), (3, .int q11.1), (2, .int q8), (0, .ref this), (1, .int p1)]) dX0_nights_82 rfl (Nat.le_of_ble_eq_true rfl) rfl ?_
            refine PW.sub [4, 2, 1, 0] rfl (ok_f_X0_nights_L84 F this q11.1 q11.2 _ ?_ F _ _ hf)
            · intro w22 hf
              refine P.iconst (v := 0) (pc' := 152) dX0_nights_151 rfl (by decide) ?_
              refine P.istore (pc' := 154) (lv' := [(5, .int 0), (0, .ref this), (3, .int q11.1), (4, .int w22)]) dX0_nights_152 rfl (Nat.le_of_ble_eq_true rfl) rfl ?_
              refine P.iconst (v := 0) (pc' := 155) dX0_nights_154 rfl (by decide) ?_
              refine P.istore (pc' := 157) (lv' := [(6, .int 0), (5, .int 0), (0, .ref this), (3, .int q11.1), (4, .int w22)]) dX0_nights_155 rfl (Nat.le_of_ble_eq_true rfl) rfl ?_
              exact PW.sub [2, 3, 4, 1, 0] rfl (ok_f_X0_nights_L157 F this q11.1 w22 q11.2 F _ _ hf)
          · have hf := (if_pos y21).symm.trans hf
            refine P.aload_n 2 (pc' := 72) dX0_nights_71 rfl rfl rfl ?_
            obtain ⟨x23, h24, hf⟩ := ob hf
            refine P.get (pc' := 75) ci0 16 (by decide) (gfR_spec h24) q491 (Or.inl rfl) dX0_nights_72 rfl ?_
            refine P.iconst (v := 0) (pc' := 76) dX0_nights_75 rfl (by decide) ?_
            obtain ⟨x25, h26, hf⟩ := ob hf
            refine P.bald (t := 2) (pc' := 77) rfl h26 dX0_nights_76 rfl ?_
            cases hf; exact P.iret rfl dX0_nights_77
        · have hf := (if_pos y20).symm.trans hf
          refine P.bipush (v := (-2)) (pc' := 66) dX0_nights_64 rfl (by decide) ?_
          cases hf; exact P.iret rfl dX0_nights_66
    · have hf := (if_pos y10).symm.trans hf
      refine P.iload_n 0 (pc' := 25) dX0_nights_24 rfl rfl rfl ?_
      refine P.aload_n 1 (pc' := 26) dX0_nights_25 rfl rfl rfl ?_
      obtain ⟨x27, h28, hf⟩ := ob hf
      refine P.get (pc' := 29) ci0 3 (by decide) (gfR_spec h28) q478 (Or.inl rfl) dX0_nights_26 rfl ?_
      obtain ⟨x29, h30, hf⟩ := ob hf
      refine P.getN (pc' := 32) ci3 11 (by decide) (gfI_spec h30) q358 (Or.inl rfl) dX0_nights_29 rfl ?_
      refine P.iadd (pc' := 33) dX0_nights_32 rfl ?_
      refine P.iconst (v := 1) (pc' := 34) dX0_nights_33 rfl (by decide) ?_
      refine P.isub (pc' := 35) dX0_nights_34 rfl ?_
      refine P.aload_n 1 (pc' := 36) dX0_nights_35 rfl rfl rfl ?_
      obtain ⟨x31, h32, hf⟩ := ob hf
      refine P.get (pc' := 39) ci0 3 (by decide) (gfR_spec h32) q478 (Or.inl rfl) dX0_nights_36 rfl ?_
      obtain ⟨x33, h34, hf⟩ := ob hf
      refine P.getN (pc' := 42) ci3 11 (by decide) (gfI_spec h34) q358 (Or.inl rfl) dX0_nights_39 rfl ?_
      obtain ⟨x35, h36, hf⟩ := ob hf
      refine P.idivO (pc' := 43) h36 dX0_nights_42 rfl ?_
      cases hf; exact P.iret rfl dX0_nights_43
  · have hf := (if_pos y3).symm.trans hf
    refine P.iconst (v := (-1)) (pc' := 10) dX0_nights_9 rfl (by decide) ?_
    cases hf; exact P.iret rfl dX0_nights_10
abbrev mX0_x : Ym := (RX0, cX0_x, 2, (some Jvm.ClassFile.FieldType.int), false, [])
noncomputable def f_X0_x (F : Nat) (this : Nat) (p1 : Int32) (μ : Sw) : Option Int32 :=
  Option.bind (gfR μ this 0 3) fun x1 =>
  Option.bind (gfR μ x1 3 0) fun x3 =>
  Option.bind (oc μ x3 20) fun u7 =>
  Option.bind (f_J2_get F x3 p1 μ) fun q5 =>
  Option.bind (oc μ q5 11) fun u9 =>
  Option.bind (gfI μ q5 11 0) fun x11 =>
  some x11
set_option maxHeartbeats 4000000 in
theorem ok_X0_x {g : Gx} (F : Nat) (this : Nat) (p1 : Int32) (μ : Sw) {rv : Int32} (hf : f_X0_x F this p1 μ = some rv) : Cl g 4 yX0_x cX0_x 2 (some Jvm.ClassFile.FieldType.int) [.ref this, .int p1] μ (some (.int rv)) μ := by
  unfold f_X0_x at hf
  refine Cl.of (own := RX0) (ini := false) (by decide +kernel) rfl (by decide) (Nat.le_of_ble_eq_true rfl) ?_
  show PW g mX0_x 4 μ μ (QN g (some (.int rv)) μ μ) 0 [(0, .ref this), (1, .int p1)] [] μ
  refine P.aload_n 0 (pc' := 1) dX0_x_0 rfl rfl rfl ?_
  obtain ⟨x1, h2, hf⟩ := ob hf
  refine P.get (pc' := 4) ci0 3 (by decide) (gfR_spec h2) q478 (Or.inl rfl) dX0_x_1 rfl ?_
  obtain ⟨x3, h4, hf⟩ := ob hf
  refine P.getN (pc' := 7) ci3 0 (by decide) (gfR_spec h4) q328 (Or.inl rfl) dX0_x_4 rfl ?_
  refine P.iload_n 1 (pc' := 8) dX0_x_7 rfl rfl rfl ?_
  obtain ⟨u7, h8, hf⟩ := ob hf
  obtain ⟨q5, h6, hf⟩ := ob hf
  refine P.callV (pc' := 11) (As := [.int p1]) 1 (ok_J2_get F x3 p1 μ h6) (Nat.le_of_ble_eq_true rfl) (lw_V q1007 q1008 q1009 q165 q1010) rfl yok_J2_get rfl (Nat.le_of_ble_eq_true rfl) ci20 h8 (by decide) rfl dX0_x_8 rfl ?_
  obtain ⟨u9, h10, hf⟩ := ob hf
  refine P.castS (u := u9) (pc' := 14) ci11 q1019 h10 dX0_x_11 rfl ?_
  obtain ⟨x11, h12, hf⟩ := ob hf
  refine P.getN (pc' := 17) ci11 0 (by decide) (gfI_spec h12) q784 (Or.inl rfl) dX0_x_14 rfl ?_
  cases hf; exact P.iret rfl dX0_x_17
theorem yok_X0_x : yOK yX0_x 1 := ⟨by decide +kernel, by decide +kernel, by decide +kernel⟩
abbrev mX0_looksInto : Ym := (RX0, cX0_looksInto, 6, (some Jvm.ClassFile.FieldType.boolean), false, [])
noncomputable def f_X0_looksInto_L42_b (F : Nat) (c0 : Nat) (c1 : Int32) (c2 : Int32) (c3 : Int32) (μ : Sw) (self : Int32 → Option Int32) (v4 : Int32) : Option Int32 :=
  Option.bind (oc μ c0 0) fun u3 =>
  Option.bind (f_X0_houses F c0 μ) fun q1 =>
  if q1 ≤ v4 then
    some 1
  else
    Option.bind (oc μ c0 0) fun u8 =>
    Option.bind (f_X0_x F c0 v4 μ) fun q6 =>
    Option.bind (oc μ c0 0) fun u12 =>
    Option.bind (f_X0_x F c0 c1 μ) fun q10 =>
    nm (q6 - q10) fun x14 =>
    if (x14 * c3) ≤ 0 then
      nm (v4 + 1) fun x17 =>
      self x17
    else
      if (ab x14) < (ab c3) then
        Option.bind (gfR μ c0 0 4) fun x20 =>
        Option.bind (gfR μ x20 6 0) fun x22 =>
        Option.bind (aI μ 0 x22 v4) fun x24 =>
        Option.bind (gfR μ c0 0 4) fun x26 =>
        Option.bind (gfR μ x26 6 0) fun x28 =>
        Option.bind (aI μ 0 x28 c1) fun x30 =>
        Option.bind (gfR μ c0 0 4) fun x32 =>
        Option.bind (gfR μ x32 6 0) fun x34 =>
        Option.bind (aI μ 0 x34 c2) fun x36 =>
        Option.bind (gfR μ c0 0 4) fun x38 =>
        Option.bind (gfR μ x38 6 0) fun x40 =>
        Option.bind (aI μ 0 x40 c1) fun x42 =>
        if ((x24 - x30) * (ab c3)) < ((x36 - x42) * (ab x14)) then
          nm (v4 + 1) fun x45 =>
          self x45
        else
          some 0
      else
        nm (v4 + 1) fun x47 =>
        self x47
noncomputable def f_X0_looksInto_L42 (F : Nat) (c0 : Nat) (c1 : Int32) (c2 : Int32) (c3 : Int32) (μ : Sw) (n : Nat) : Int32 → Option Int32 := Nat.rec (motive := fun _ => Int32 → Option Int32) (fun _ => none) (fun _ self => f_X0_looksInto_L42_b F c0 c1 c2 c3 μ self) n
set_option maxHeartbeats 4000000 in
theorem ok_f_X0_looksInto_L42 {g : Gx} {μ0 : Sw} {rv : Int32} (F : Nat) (c0 : Nat) (c1 : Int32) (c2 : Int32) (c3 : Int32) (μ : Sw) : ∀ (n : Nat) (v4 : Int32), f_X0_looksInto_L42 F c0 c1 c2 c3 μ n v4 = some rv → PW g mX0_looksInto 5 μ0 μ (QN g (some (.int rv)) μ0 μ) 42 [(0, .ref c0), (1, .int c1), (2, .int c2), (3, .int c3), (4, .int v4)] [] μ := by
  intro n
  induction n with
  | zero =>
    intro v4 hf
    have hf : (none : Option Int32) = some _ := hf
    cases hf
  | succ n ih =>
    intro v4 hf
    have hf : f_X0_looksInto_L42_b F c0 c1 c2 c3 μ (f_X0_looksInto_L42 F c0 c1 c2 c3 μ n) v4 = some rv := hf
    unfold f_X0_looksInto_L42_b at hf
    refine P.iload 4 (pc' := 44) dX0_looksInto_42 rfl rfl ?_
    refine P.aload_n 0 (pc' := 45) dX0_looksInto_44 rfl rfl rfl ?_
    obtain ⟨u3, h4, hf⟩ := ob hf
    obtain ⟨q1, h2, hf⟩ := ob hf
    refine P.callV (pc' := 48) (As := []) 0 (ok_X0_houses F c0 μ h2) (Nat.le_of_ble_eq_true rfl) (lw_V q1034 q1036 qs34 q159 q1037) rfl yok_X0_houses rfl (Nat.le_of_ble_eq_true rfl) ci0 h4 (Nat.le_of_ble_eq_true rfl) rfl dX0_looksInto_45 rfl ?_
    refine P.icmp_ge (tgt := 148) (pc' := 51) dX0_looksInto_48 (by decide) rfl (fun y5 => ?_) (fun y5 => ?_)
    · have hf := (if_pos y5).symm.trans hf
      refine P.iconst (v := 1) (pc' := 149) dX0_looksInto_148 rfl (by decide) ?_
      cases hf; exact P.zret rfl (Or.inr rfl) dX0_looksInto_149
    · have hf := (if_neg y5).symm.trans hf
      refine P.aload_n 0 (pc' := 52) dX0_looksInto_51 rfl rfl rfl ?_
      refine P.iload 4 (pc' := 54) dX0_looksInto_52 rfl rfl ?_
      obtain ⟨u8, h9, hf⟩ := ob hf
      obtain ⟨q6, h7, hf⟩ := ob hf
      refine P.callV (pc' := 57) (As := [.int v4]) 1 (ok_X0_x F c0 v4 μ h7) (Nat.le_of_ble_eq_true rfl) (lw_V q1340 q1342 qs60 q159 q1343) rfl yok_X0_x rfl (Nat.le_of_ble_eq_true rfl) ci0 h9 (by decide) rfl dX0_looksInto_54 rfl ?_
      refine P.aload_n 0 (pc' := 58) dX0_looksInto_57 rfl rfl rfl ?_
      refine P.iload_n 1 (pc' := 59) dX0_looksInto_58 rfl rfl rfl ?_
      obtain ⟨u12, h13, hf⟩ := ob hf
      obtain ⟨q10, h11, hf⟩ := ob hf
      refine P.callV (pc' := 62) (As := [.int c1]) 1 (ok_X0_x F c0 c1 μ h11) (Nat.le_of_ble_eq_true rfl) (lw_V q1340 q1342 qs60 q159 q1343) rfl yok_X0_x rfl (Nat.le_of_ble_eq_true rfl) ci0 h13 (Nat.le_of_ble_eq_true rfl) rfl dX0_looksInto_59 rfl ?_
      refine P.isub (pc' := 63) dX0_looksInto_62 rfl ?_
      obtain ⟨x14, e15, hf⟩ := nm_i hf
      refine P.nmi e15 ?_
      refine P.istore (pc' := 65) (lv' := [(5, .int x14), (0, .ref c0), (1, .int c1), (2, .int c2), (3, .int c3), (4, .int v4)]) dX0_looksInto_63 rfl (Nat.le_of_ble_eq_true rfl) rfl ?_
      refine P.iload 0 (pc' := 67) dX0_looksInto_65 rfl rfl ?_
      refine P.iload_n 4 (pc' := 68) dX0_looksInto_67 rfl rfl rfl ?_
      refine P.imul (pc' := 69) dX0_looksInto_68 rfl ?_
      refine P.if_le (tgt := 142) (pc' := 72) dX0_looksInto_69 (by decide) rfl (fun y16 => ?_) (fun y16 => ?_)
      · have hf := (if_pos y16).symm.trans hf
        obtain ⟨x17, e18, hf⟩ := nm_i hf
        refine P.iinc 5 (pc' := 145) (lv' := [(4, .int x17), (5, .int x14), (0, .ref c0), (1, .int c1), (2, .int c2), (3, .int c3)]) dX0_looksInto_142 rfl rfl (by decide) e18 (Nat.le_of_ble_eq_true rfl) rfl ?_
        refine P.goto (tgt := 42) dX0_looksInto_145 (by decide) ?_
        exact PW.sub [2, 3, 4, 5, 0] rfl (ih _ hf)
      · have hf := (if_neg y16).symm.trans hf
        refine P.iload 0 (pc' := 74) dX0_looksInto_72 rfl rfl ?_
        refine P.mabs (pc' := 77) q1137 q1138 q183 q1139 (Nat.le_of_ble_eq_true rfl) (by decide) dX0_looksInto_74 rfl ?_
        refine P.iload_n 4 (pc' := 78) dX0_looksInto_77 rfl rfl rfl ?_
        refine P.mabs (pc' := 81) q1137 q1138 q183 q1139 (Nat.le_of_ble_eq_true rfl) (Nat.le_of_ble_eq_true rfl) dX0_looksInto_78 rfl ?_
        refine P.icmp_lt (tgt := 87) (pc' := 84) dX0_looksInto_81 (by decide) rfl (fun y19 => ?_) (fun y19 => ?_)
        · have hf := (if_pos y19).symm.trans hf
          refine P.aload_n 1 (pc' := 88) dX0_looksInto_87 rfl rfl rfl ?_
          obtain ⟨x20, h21, hf⟩ := ob hf
          refine P.get (pc' := 91) ci0 4 (by decide) (gfR_spec h21) q479 (Or.inl rfl) dX0_looksInto_88 rfl ?_
          obtain ⟨x22, h23, hf⟩ := ob hf
          refine P.getN (pc' := 94) ci6 0 (by decide) (gfR_spec h23) q414 (Or.inl rfl) dX0_looksInto_91 rfl ?_
          refine P.iload 5 (pc' := 96) dX0_looksInto_94 rfl rfl ?_
          obtain ⟨x24, h25, hf⟩ := ob hf
          refine P.iald (t := 0) (pc' := 97) rfl h25 dX0_looksInto_96 rfl ?_
          refine P.aload_n 1 (pc' := 98) dX0_looksInto_97 rfl rfl rfl ?_
          obtain ⟨x26, h27, hf⟩ := ob hf
          refine P.get (pc' := 101) ci0 4 (by decide) (gfR_spec h27) q479 (Or.inl rfl) dX0_looksInto_98 rfl ?_
          obtain ⟨x28, h29, hf⟩ := ob hf
          refine P.getN (pc' := 104) ci6 0 (by decide) (gfR_spec h29) q414 (Or.inl rfl) dX0_looksInto_101 rfl ?_
          refine P.iload_n 2 (pc' := 105) dX0_looksInto_104 rfl rfl rfl ?_
          obtain ⟨x30, h31, hf⟩ := ob hf
          refine P.iald (t := 0) (pc' := 106) rfl h31 dX0_looksInto_105 rfl ?_
          refine P.isub (pc' := 107) dX0_looksInto_106 rfl ?_
          refine P.iload_n 4 (pc' := 108) dX0_looksInto_107 rfl rfl rfl ?_
          refine P.mabs (pc' := 111) q1137 q1138 q183 q1139 (Nat.le_of_ble_eq_true rfl) (Nat.le_of_ble_eq_true rfl) dX0_looksInto_108 rfl ?_
          refine P.imul (pc' := 112) dX0_looksInto_111 rfl ?_
          refine P.aload_n 1 (pc' := 113) dX0_looksInto_112 rfl rfl rfl ?_
          obtain ⟨x32, h33, hf⟩ := ob hf
          refine P.get (pc' := 116) ci0 4 (by decide) (gfR_spec h33) q479 (Or.inl rfl) dX0_looksInto_113 rfl ?_
          obtain ⟨x34, h35, hf⟩ := ob hf
          refine P.getN (pc' := 119) ci6 0 (by decide) (gfR_spec h35) q414 (Or.inl rfl) dX0_looksInto_116 rfl ?_
          refine P.iload_n 3 (pc' := 120) dX0_looksInto_119 rfl rfl rfl ?_
          obtain ⟨x36, h37, hf⟩ := ob hf
          refine P.iald (t := 0) (pc' := 121) rfl h37 dX0_looksInto_120 rfl ?_
          refine P.aload_n 1 (pc' := 122) dX0_looksInto_121 rfl rfl rfl ?_
          obtain ⟨x38, h39, hf⟩ := ob hf
          refine P.get (pc' := 125) ci0 4 (by decide) (gfR_spec h39) q479 (Or.inl rfl) dX0_looksInto_122 rfl ?_
          obtain ⟨x40, h41, hf⟩ := ob hf
          refine P.getN (pc' := 128) ci6 0 (by decide) (gfR_spec h41) q414 (Or.inl rfl) dX0_looksInto_125 rfl ?_
          refine P.iload_n 2 (pc' := 129) dX0_looksInto_128 rfl rfl rfl ?_
          obtain ⟨x42, h43, hf⟩ := ob hf
          refine P.iald (t := 0) (pc' := 130) rfl h43 dX0_looksInto_129 rfl ?_
          refine P.isub (pc' := 131) dX0_looksInto_130 rfl ?_
          refine P.iload 0 (pc' := 133) dX0_looksInto_131 rfl rfl ?_
          refine P.mabs (pc' := 136) q1137 q1138 q183 q1139 (Nat.le_of_ble_eq_true rfl) (Nat.le_of_ble_eq_true rfl) dX0_looksInto_133 rfl ?_
          refine P.imul (pc' := 137) dX0_looksInto_136 rfl ?_
          refine P.icmp_lt (tgt := 142) (pc' := 140) dX0_looksInto_137 (by decide) rfl (fun y44 => ?_) (fun y44 => ?_)
          · have hf := (if_pos y44).symm.trans hf
            obtain ⟨x45, e46, hf⟩ := nm_i hf
            refine P.iinc 5 (pc' := 145) (lv' := [(4, .int x45), (5, .int x14), (0, .ref c0), (1, .int c1), (2, .int c2), (3, .int c3)]) dX0_looksInto_142 rfl rfl (by decide) e46 (Nat.le_of_ble_eq_true rfl) rfl ?_
            refine P.goto (tgt := 42) dX0_looksInto_145 (by decide) ?_
            exact PW.sub [2, 3, 4, 5, 0] rfl (ih _ hf)
          · have hf := (if_neg y44).symm.trans hf
            refine P.iconst (v := 0) (pc' := 141) dX0_looksInto_140 rfl (by decide) ?_
            cases hf; exact P.zret rfl (Or.inl rfl) dX0_looksInto_141
        · have hf := (if_neg y19).symm.trans hf
          refine P.goto (tgt := 142) dX0_looksInto_84 (by decide) ?_
          obtain ⟨x47, e48, hf⟩ := nm_i hf
          refine P.iinc 5 (pc' := 145) (lv' := [(4, .int x47), (5, .int x14), (0, .ref c0), (1, .int c1), (2, .int c2), (3, .int c3)]) dX0_looksInto_142 rfl rfl (by decide) e48 (Nat.le_of_ble_eq_true rfl) rfl ?_
          refine P.goto (tgt := 42) dX0_looksInto_145 (by decide) ?_
          exact PW.sub [2, 3, 4, 5, 0] rfl (ih _ hf)
noncomputable def f_X0_looksInto (F : Nat) (this : Nat) (p1 : Int32) (p2 : Int32) (μ : Sw) : Option Int32 :=
  Option.bind (oc μ this 0) fun u3 =>
  Option.bind (f_X0_x F this p2 μ) fun q1 =>
  Option.bind (oc μ this 0) fun u7 =>
  Option.bind (f_X0_x F this p1 μ) fun q5 =>
  nm (q1 - q5) fun x9 =>
  Option.bind (gfR μ this 0 4) fun x11 =>
  Option.bind (gfR μ x11 6 0) fun x13 =>
  Option.bind (aI μ 0 x13 p1) fun x15 =>
  Option.bind (gfR μ this 0 4) fun x17 =>
  Option.bind (gfR μ x17 6 0) fun x19 =>
  Option.bind (aI μ 0 x19 p2) fun x21 =>
  if x15 ≤ x21 then
    some 0
  else
    if x9 = 0 then
      some 0
    else
      f_X0_looksInto_L42 F this p1 p2 x9 μ F 0
set_option maxHeartbeats 4000000 in
theorem ok_X0_looksInto {g : Gx} (F : Nat) (this : Nat) (p1 : Int32) (p2 : Int32) (μ : Sw) {rv : Int32} (hf : f_X0_looksInto F this p1 p2 μ = some rv) : Cl g 5 yX0_looksInto cX0_looksInto 6 (some Jvm.ClassFile.FieldType.boolean) [.ref this, .int p1, .int p2] μ (some (.int rv)) μ := by
  unfold f_X0_looksInto at hf
  refine Cl.of (own := RX0) (ini := false) (by decide +kernel) rfl (by decide) (Nat.le_of_ble_eq_true rfl) ?_
  show PW g mX0_looksInto 5 μ μ (QN g (some (.int rv)) μ μ) 0 [(0, .ref this), (1, .int p1), (2, .int p2)] [] μ
  refine P.aload_n 0 (pc' := 1) dX0_looksInto_0 rfl rfl rfl ?_
  refine P.iload_n 2 (pc' := 2) dX0_looksInto_1 rfl rfl rfl ?_
  obtain ⟨u3, h4, hf⟩ := ob hf
  obtain ⟨q1, h2, hf⟩ := ob hf
  refine P.callV (pc' := 5) (As := [.int p2]) 1 (ok_X0_x F this p2 μ h2) (Nat.le_of_ble_eq_true rfl) (lw_V q1340 q1342 qs60 q159 q1343) rfl yok_X0_x rfl (Nat.le_of_ble_eq_true rfl) ci0 h4 (by decide) rfl dX0_looksInto_2 rfl ?_
  refine P.aload_n 0 (pc' := 6) dX0_looksInto_5 rfl rfl rfl ?_
  refine P.iload_n 1 (pc' := 7) dX0_looksInto_6 rfl rfl rfl ?_
  obtain ⟨u7, h8, hf⟩ := ob hf
  obtain ⟨q5, h6, hf⟩ := ob hf
  refine P.callV (pc' := 10) (As := [.int p1]) 1 (ok_X0_x F this p1 μ h6) (Nat.le_of_ble_eq_true rfl) (lw_V q1340 q1342 qs60 q159 q1343) rfl yok_X0_x rfl (Nat.le_of_ble_eq_true rfl) ci0 h8 (Nat.le_of_ble_eq_true rfl) rfl dX0_looksInto_7 rfl ?_
  refine P.isub (pc' := 11) dX0_looksInto_10 rfl ?_
  obtain ⟨x9, e10, hf⟩ := nm_i hf
  refine P.nmi e10 ?_
  refine P.istore_n (pc' := 12) (lv' := [(3, .int x9), (0, .ref this), (1, .int p1), (2, .int p2)]) dX0_looksInto_11 rfl rfl (Nat.le_of_ble_eq_true rfl) rfl ?_
  refine P.aload_n 1 (pc' := 13) dX0_looksInto_12 rfl rfl rfl ?_
  obtain ⟨x11, h12, hf⟩ := ob hf
  refine P.get (pc' := 16) ci0 4 (by decide) (gfR_spec h12) q479 (Or.inl rfl) dX0_looksInto_13 rfl ?_
  obtain ⟨x13, h14, hf⟩ := ob hf
  refine P.getN (pc' := 19) ci6 0 (by decide) (gfR_spec h14) q414 (Or.inl rfl) dX0_looksInto_16 rfl ?_
  refine P.iload_n 2 (pc' := 20) dX0_looksInto_19 rfl rfl rfl ?_
  obtain ⟨x15, h16, hf⟩ := ob hf
  refine P.iald (t := 0) (pc' := 21) rfl h16 dX0_looksInto_20 rfl ?_
  refine P.aload_n 1 (pc' := 22) dX0_looksInto_21 rfl rfl rfl ?_
  obtain ⟨x17, h18, hf⟩ := ob hf
  refine P.get (pc' := 25) ci0 4 (by decide) (gfR_spec h18) q479 (Or.inl rfl) dX0_looksInto_22 rfl ?_
  obtain ⟨x19, h20, hf⟩ := ob hf
  refine P.getN (pc' := 28) ci6 0 (by decide) (gfR_spec h20) q414 (Or.inl rfl) dX0_looksInto_25 rfl ?_
  refine P.iload_n 3 (pc' := 29) dX0_looksInto_28 rfl rfl rfl ?_
  obtain ⟨x21, h22, hf⟩ := ob hf
  refine P.iald (t := 0) (pc' := 30) rfl h22 dX0_looksInto_29 rfl ?_
  refine P.icmp_le (tgt := 37) (pc' := 33) dX0_looksInto_30 (by decide) rfl (fun y23 => ?_) (fun y23 => ?_)
  · have hf := (if_pos y23).symm.trans hf
    refine P.iconst (v := 0) (pc' := 38) dX0_looksInto_37 rfl (by decide) ?_
    cases hf; exact P.zret rfl (Or.inl rfl) dX0_looksInto_38
  · have hf := (if_neg y23).symm.trans hf
    refine P.iload_n 0 (pc' := 34) dX0_looksInto_33 rfl rfl rfl ?_
    refine P.if_ne (tgt := 39) (pc' := 37) dX0_looksInto_34 (by decide) rfl (fun y24 => ?_) (fun y24 => ?_)
    · have hf := (if_neg y24).symm.trans hf
      refine P.iconst (v := 0) (pc' := 40) dX0_looksInto_39 rfl (by decide) ?_
      refine P.istore (pc' := 42) (lv' := [(4, .int 0), (3, .int x9), (0, .ref this), (1, .int p1), (2, .int p2)]) dX0_looksInto_40 rfl (Nat.le_of_ble_eq_true rfl) rfl ?_
      exact PW.sub [2, 3, 4, 1, 0] rfl (ok_f_X0_looksInto_L42 F this p1 p2 x9 μ F _ hf)
    · have hf := (if_pos y24).symm.trans hf
      refine P.iconst (v := 0) (pc' := 38) dX0_looksInto_37 rfl (by decide) ?_
      cases hf; exact P.zret rfl (Or.inl rfl) dX0_looksInto_38
theorem yok_X0_looksInto : yOK yX0_looksInto 2 := ⟨by decide +kernel, by decide +kernel, by decide +kernel⟩
abbrev mX0_looks : Ym := (RX0, cX0_looks, 3, (some Jvm.ClassFile.FieldType.int), false, [])
noncomputable def f_X0_looks (F : Nat) (this : Nat) (p1 : Int32) (p2 : Int32) (μ : Sw) : Option Int32 :=
  Option.bind (oc μ this 0) fun u3 =>
  Option.bind (f_X0_isHouse F this p1 μ) fun q1 =>
  if q1 = 0 then
    some (-1)
  else
    Option.bind (oc μ this 0) fun u8 =>
    Option.bind (f_X0_isHouse F this p2 μ) fun q6 =>
    if q6 = 0 then
      some (-1)
    else
      if p1 = p2 then
        some (-1)
      else
        Option.bind (oc μ this 0) fun u14 =>
        Option.bind (f_X0_looksInto F this p1 p2 μ) fun q12 =>
        if q12 = 0 then
          some 0
        else
          some 1
set_option maxHeartbeats 4000000 in
theorem ok_X0_looks {g : Gx} (F : Nat) (this : Nat) (p1 : Int32) (p2 : Int32) (μ : Sw) {rv : Int32} (hf : f_X0_looks F this p1 p2 μ = some rv) : Cl g 6 yX0_looks cX0_looks 3 (some Jvm.ClassFile.FieldType.int) [.ref this, .int p1, .int p2] μ (some (.int rv)) μ := by
  unfold f_X0_looks at hf
  refine Cl.of (own := RX0) (ini := false) (by decide +kernel) rfl (by decide) (Nat.le_of_ble_eq_true rfl) ?_
  show PW g mX0_looks 6 μ μ (QN g (some (.int rv)) μ μ) 0 [(0, .ref this), (1, .int p1), (2, .int p2)] [] μ
  refine P.aload_n 0 (pc' := 1) dX0_looks_0 rfl rfl rfl ?_
  refine P.iload_n 1 (pc' := 2) dX0_looks_1 rfl rfl rfl ?_
  obtain ⟨u3, h4, hf⟩ := ob hf
  obtain ⟨q1, h2, hf⟩ := ob hf
  refine P.callV (pc' := 5) (As := [.int p1]) 1 (ok_X0_isHouse F this p1 μ h2) (Nat.le_of_ble_eq_true rfl) (lw_V q1030 q1032 qs33 q159 q1033) rfl yok_X0_isHouse rfl (Nat.le_of_ble_eq_true rfl) ci0 h4 (by decide) rfl dX0_looks_2 rfl ?_
  refine P.if_eq (tgt := 21) (pc' := 8) dX0_looks_5 (by decide) rfl (fun y5 => ?_) (fun y5 => ?_)
  · have hf := (if_pos y5).symm.trans hf
    refine P.iconst (v := (-1)) (pc' := 22) dX0_looks_21 rfl (by decide) ?_
    refine P.goto (tgt := 39) dX0_looks_22 (by decide) ?_
    cases hf; exact P.iret rfl dX0_looks_39
  · have hf := (if_neg y5).symm.trans hf
    refine P.aload_n 0 (pc' := 9) dX0_looks_8 rfl rfl rfl ?_
    refine P.iload_n 2 (pc' := 10) dX0_looks_9 rfl rfl rfl ?_
    obtain ⟨u8, h9, hf⟩ := ob hf
    obtain ⟨q6, h7, hf⟩ := ob hf
    refine P.callV (pc' := 13) (As := [.int p2]) 1 (ok_X0_isHouse F this p2 μ h7) (Nat.le_of_ble_eq_true rfl) (lw_V q1030 q1032 qs33 q159 q1033) rfl yok_X0_isHouse rfl (Nat.le_of_ble_eq_true rfl) ci0 h9 (by decide) rfl dX0_looks_10 rfl ?_
    refine P.if_eq (tgt := 21) (pc' := 16) dX0_looks_13 (by decide) rfl (fun y10 => ?_) (fun y10 => ?_)
    · have hf := (if_pos y10).symm.trans hf
      refine P.iconst (v := (-1)) (pc' := 22) dX0_looks_21 rfl (by decide) ?_
      refine P.goto (tgt := 39) dX0_looks_22 (by decide) ?_
      cases hf; exact P.iret rfl dX0_looks_39
    · have hf := (if_neg y10).symm.trans hf
      refine P.iload_n 1 (pc' := 17) dX0_looks_16 rfl rfl rfl ?_
      refine P.iload_n 2 (pc' := 18) dX0_looks_17 rfl rfl rfl ?_
      refine P.icmp_ne (tgt := 25) (pc' := 21) dX0_looks_18 (by decide) rfl (fun y11 => ?_) (fun y11 => ?_)
      · have hf := (if_neg y11).symm.trans hf
        refine P.aload_n 0 (pc' := 26) dX0_looks_25 rfl rfl rfl ?_
        refine P.iload_n 1 (pc' := 27) dX0_looks_26 rfl rfl rfl ?_
        refine P.iload_n 2 (pc' := 28) dX0_looks_27 rfl rfl rfl ?_
        obtain ⟨u14, h15, hf⟩ := ob hf
        obtain ⟨q12, h13, hf⟩ := ob hf
        refine P.callV (pc' := 31) (As := [.int p1, .int p2]) 2 (ok_X0_looksInto F this p1 p2 μ h13) (Nat.le_of_ble_eq_true rfl) (lw_V q1336 q1338 qs59 q159 q1339) rfl yok_X0_looksInto rfl (Nat.le_of_ble_eq_true rfl) ci0 h15 (by decide) rfl dX0_looks_28 rfl ?_
        refine P.if_eq (tgt := 38) (pc' := 34) dX0_looks_31 (by decide) rfl (fun y16 => ?_) (fun y16 => ?_)
        · have hf := (if_pos y16).symm.trans hf
          refine P.iconst (v := 0) (pc' := 39) dX0_looks_38 rfl (by decide) ?_
          cases hf; exact P.iret rfl dX0_looks_39
        · have hf := (if_neg y16).symm.trans hf
          refine P.iconst (v := 1) (pc' := 35) dX0_looks_34 rfl (by decide) ?_
          refine P.goto (tgt := 39) dX0_looks_35 (by decide) ?_
          cases hf; exact P.iret rfl dX0_looks_39
      · have hf := (if_pos y11).symm.trans hf
        refine P.iconst (v := (-1)) (pc' := 22) dX0_looks_21 rfl (by decide) ?_
        refine P.goto (tgt := 39) dX0_looks_22 (by decide) ?_
        cases hf; exact P.iret rfl dX0_looks_39
abbrev mX0_light : Ym := (RX0, cX0_light, 5, (some Jvm.ClassFile.FieldType.int), false, [])
noncomputable def f_X0_light_L14_b (F : Nat) (c0 : Nat) (c1 : Int32) (μ : Sw) (self : Int32 → Int32 → Option Int32) (v2 : Int32) (v3 : Int32) : Option Int32 :=
  Option.bind (oc μ c0 0) fun u3 =>
  Option.bind (f_X0_houses F c0 μ) fun q1 =>
  if q1 ≤ v3 then
    some v2
  else
    Option.bind (oc μ c0 0) fun u8 =>
    Option.bind (f_X0_x F c0 v3 μ) fun q6 =>
    Option.bind (oc μ c0 0) fun u12 =>
    Option.bind (f_X0_x F c0 c1 μ) fun q10 =>
    nm (q6 - q10) fun x14 =>
    if x14 = 0 then
      nm (v3 + 1) fun x17 =>
      self v2 x17
    else
      Option.bind (gfR μ c0 0 4) fun x19 =>
      Option.bind (gfR μ x19 6 0) fun x21 =>
      Option.bind (aI μ 0 x21 v3) fun x23 =>
      Option.bind (gfR μ c0 0 4) fun x25 =>
      Option.bind (gfR μ x25 6 0) fun x27 =>
      Option.bind (aI μ 0 x27 c1) fun x29 =>
      if (ab x14) ≤ (x23 - x29) then
        if 0 ≤ x14 then
          nm (v2 &&& (-3)) fun x33 =>
          nm (v3 + 1) fun x35 =>
          self x33 x35
        else
          nm (v2 &&& (-2)) fun x37 =>
          nm (v3 + 1) fun x39 =>
          self x37 x39
      else
        nm (v3 + 1) fun x41 =>
        self v2 x41
noncomputable def f_X0_light_L14 (F : Nat) (c0 : Nat) (c1 : Int32) (μ : Sw) (n : Nat) : Int32 → Int32 → Option Int32 := Nat.rec (motive := fun _ => Int32 → Int32 → Option Int32) (fun _ _ => none) (fun _ self => f_X0_light_L14_b F c0 c1 μ self) n
set_option maxHeartbeats 4000000 in
theorem ok_f_X0_light_L14 {g : Gx} {μ0 : Sw} {rv : Int32} (F : Nat) (c0 : Nat) (c1 : Int32) (μ : Sw) : ∀ (n : Nat) (v2 : Int32) (v3 : Int32), f_X0_light_L14 F c0 c1 μ n v2 v3 = some rv → PW g mX0_light 5 μ0 μ (QN g (some (.int rv)) μ0 μ) 14 [(0, .ref c0), (1, .int c1), (2, .int v2), (3, .int v3)] [] μ := by
  intro n
  induction n with
  | zero =>
    intro v2 v3 hf
    have hf : (none : Option Int32) = some _ := hf
    cases hf
  | succ n ih =>
    intro v2 v3 hf
    have hf : f_X0_light_L14_b F c0 c1 μ (f_X0_light_L14 F c0 c1 μ n) v2 v3 = some rv := hf
    unfold f_X0_light_L14_b at hf
    refine P.iload_n 3 (pc' := 15) dX0_light_14 rfl rfl rfl ?_
    refine P.aload_n 0 (pc' := 16) dX0_light_15 rfl rfl rfl ?_
    obtain ⟨u3, h4, hf⟩ := ob hf
    obtain ⟨q1, h2, hf⟩ := ob hf
    refine P.callV (pc' := 19) (As := []) 0 (ok_X0_houses F c0 μ h2) (Nat.le_of_ble_eq_true rfl) (lw_V q1034 q1036 qs34 q159 q1037) rfl yok_X0_houses rfl (Nat.le_of_ble_eq_true rfl) ci0 h4 (Nat.le_of_ble_eq_true rfl) rfl dX0_light_16 rfl ?_
    refine P.icmp_ge (tgt := 91) (pc' := 22) dX0_light_19 (by decide) rfl (fun y5 => ?_) (fun y5 => ?_)
    · have hf := (if_pos y5).symm.trans hf
      refine P.iload_n 2 (pc' := 92) dX0_light_91 rfl rfl rfl ?_
      cases hf; exact P.iret rfl dX0_light_92
    · have hf := (if_neg y5).symm.trans hf
      refine P.aload_n 0 (pc' := 23) dX0_light_22 rfl rfl rfl ?_
      refine P.iload_n 3 (pc' := 24) dX0_light_23 rfl rfl rfl ?_
      obtain ⟨u8, h9, hf⟩ := ob hf
      obtain ⟨q6, h7, hf⟩ := ob hf
      refine P.callV (pc' := 27) (As := [.int v3]) 1 (ok_X0_x F c0 v3 μ h7) (Nat.le_of_ble_eq_true rfl) (lw_V q1340 q1342 qs60 q159 q1343) rfl yok_X0_x rfl (Nat.le_of_ble_eq_true rfl) ci0 h9 (by decide) rfl dX0_light_24 rfl ?_
      refine P.aload_n 0 (pc' := 28) dX0_light_27 rfl rfl rfl ?_
      refine P.iload_n 1 (pc' := 29) dX0_light_28 rfl rfl rfl ?_
      obtain ⟨u12, h13, hf⟩ := ob hf
      obtain ⟨q10, h11, hf⟩ := ob hf
      refine P.callV (pc' := 32) (As := [.int c1]) 1 (ok_X0_x F c0 c1 μ h11) (Nat.le_of_ble_eq_true rfl) (lw_V q1340 q1342 qs60 q159 q1343) rfl yok_X0_x rfl (Nat.le_of_ble_eq_true rfl) ci0 h13 (Nat.le_of_ble_eq_true rfl) rfl dX0_light_29 rfl ?_
      refine P.isub (pc' := 33) dX0_light_32 rfl ?_
      obtain ⟨x14, e15, hf⟩ := nm_i hf
      refine P.nmi e15 ?_
      refine P.istore (pc' := 35) (lv' := [(4, .int x14), (0, .ref c0), (1, .int c1), (2, .int v2), (3, .int v3)]) dX0_light_33 rfl (Nat.le_of_ble_eq_true rfl) rfl ?_
      refine P.iload 0 (pc' := 37) dX0_light_35 rfl rfl ?_
      refine P.if_eq (tgt := 85) (pc' := 40) dX0_light_37 (by decide) rfl (fun y16 => ?_) (fun y16 => ?_)
      · have hf := (if_pos y16).symm.trans hf
        obtain ⟨x17, e18, hf⟩ := nm_i hf
        refine P.iinc 4 (pc' := 88) (lv' := [(3, .int x17), (4, .int x14), (0, .ref c0), (1, .int c1), (2, .int v2)]) dX0_light_85 rfl rfl (by decide) e18 (Nat.le_of_ble_eq_true rfl) rfl ?_
        refine P.goto (tgt := 14) dX0_light_88 (by decide) ?_
        exact PW.sub [2, 3, 4, 0] rfl (ih _ _ hf)
      · have hf := (if_neg y16).symm.trans hf
        refine P.aload_n 1 (pc' := 41) dX0_light_40 rfl rfl rfl ?_
        obtain ⟨x19, h20, hf⟩ := ob hf
        refine P.get (pc' := 44) ci0 4 (by decide) (gfR_spec h20) q479 (Or.inl rfl) dX0_light_41 rfl ?_
        obtain ⟨x21, h22, hf⟩ := ob hf
        refine P.getN (pc' := 47) ci6 0 (by decide) (gfR_spec h22) q414 (Or.inl rfl) dX0_light_44 rfl ?_
        refine P.iload_n 4 (pc' := 48) dX0_light_47 rfl rfl rfl ?_
        obtain ⟨x23, h24, hf⟩ := ob hf
        refine P.iald (t := 0) (pc' := 49) rfl h24 dX0_light_48 rfl ?_
        refine P.aload_n 1 (pc' := 50) dX0_light_49 rfl rfl rfl ?_
        obtain ⟨x25, h26, hf⟩ := ob hf
        refine P.get (pc' := 53) ci0 4 (by decide) (gfR_spec h26) q479 (Or.inl rfl) dX0_light_50 rfl ?_
        obtain ⟨x27, h28, hf⟩ := ob hf
        refine P.getN (pc' := 56) ci6 0 (by decide) (gfR_spec h28) q414 (Or.inl rfl) dX0_light_53 rfl ?_
        refine P.iload_n 2 (pc' := 57) dX0_light_56 rfl rfl rfl ?_
        obtain ⟨x29, h30, hf⟩ := ob hf
        refine P.iald (t := 0) (pc' := 58) rfl h30 dX0_light_57 rfl ?_
        refine P.isub (pc' := 59) dX0_light_58 rfl ?_
        refine P.iload 0 (pc' := 61) dX0_light_59 rfl rfl ?_
        refine P.mabs (pc' := 64) q1137 q1138 q183 q1139 (Nat.le_of_ble_eq_true rfl) (Nat.le_of_ble_eq_true rfl) dX0_light_61 rfl ?_
        refine P.icmp_ge (tgt := 70) (pc' := 67) dX0_light_64 (by decide) rfl (fun y31 => ?_) (fun y31 => ?_)
        · have hf := (if_pos y31).symm.trans hf
          refine P.iload_n 3 (pc' := 71) dX0_light_70 rfl rfl rfl ?_
          refine P.iload 0 (pc' := 73) dX0_light_71 rfl rfl ?_
          refine P.if_ge (tgt := 81) (pc' := 76) dX0_light_73 (by decide) rfl (fun y32 => ?_) (fun y32 => ?_)
          · have hf := (if_pos y32).symm.trans hf
            refine P.bipush (v := (-3)) (pc' := 83) dX0_light_81 rfl (by decide) ?_
            refine P.iand (pc' := 84) dX0_light_83 rfl ?_
            obtain ⟨x33, e34, hf⟩ := nm_i hf
            refine P.nmi e34 ?_
            refine P.istore_n (pc' := 85) (lv' := [(2, .int x33), (4, .int x14), (0, .ref c0), (1, .int c1), (3, .int v3)]) dX0_light_84 rfl rfl (Nat.le_of_ble_eq_true rfl) rfl ?_
            obtain ⟨x35, e36, hf⟩ := nm_i hf
            refine P.iinc 4 (pc' := 88) (lv' := [(3, .int x35), (2, .int x33), (4, .int x14), (0, .ref c0), (1, .int c1)]) dX0_light_85 rfl rfl (by decide) e36 (Nat.le_of_ble_eq_true rfl) rfl ?_
            refine P.goto (tgt := 14) dX0_light_88 (by decide) ?_
            exact PW.sub [3, 4, 1, 0] rfl (ih _ _ hf)
          · have hf := (if_neg y32).symm.trans hf
            refine P.bipush (v := (-2)) (pc' := 78) dX0_light_76 rfl (by decide) ?_
            refine P.goto (tgt := 83) dX0_light_78 (by decide) ?_
            refine P.iand (pc' := 84) dX0_light_83 rfl ?_
            obtain ⟨x37, e38, hf⟩ := nm_i hf
            refine P.nmi e38 ?_
            refine P.istore_n (pc' := 85) (lv' := [(2, .int x37), (4, .int x14), (0, .ref c0), (1, .int c1), (3, .int v3)]) dX0_light_84 rfl rfl (Nat.le_of_ble_eq_true rfl) rfl ?_
            obtain ⟨x39, e40, hf⟩ := nm_i hf
            refine P.iinc 4 (pc' := 88) (lv' := [(3, .int x39), (2, .int x37), (4, .int x14), (0, .ref c0), (1, .int c1)]) dX0_light_85 rfl rfl (by decide) e40 (Nat.le_of_ble_eq_true rfl) rfl ?_
            refine P.goto (tgt := 14) dX0_light_88 (by decide) ?_
            exact PW.sub [3, 4, 1, 0] rfl (ih _ _ hf)
        · have hf := (if_neg y31).symm.trans hf
          refine P.goto (tgt := 85) dX0_light_67 (by decide) ?_
          obtain ⟨x41, e42, hf⟩ := nm_i hf
          refine P.iinc 4 (pc' := 88) (lv' := [(3, .int x41), (4, .int x14), (0, .ref c0), (1, .int c1), (2, .int v2)]) dX0_light_85 rfl rfl (by decide) e42 (Nat.le_of_ble_eq_true rfl) rfl ?_
          refine P.goto (tgt := 14) dX0_light_88 (by decide) ?_
          exact PW.sub [2, 3, 4, 0] rfl (ih _ _ hf)
noncomputable def f_X0_light (F : Nat) (this : Nat) (p1 : Int32) (μ : Sw) : Option Int32 :=
  Option.bind (oc μ this 0) fun u3 =>
  Option.bind (f_X0_isHouse F this p1 μ) fun q1 =>
  if q1 = 0 then
    some (-1)
  else
    f_X0_light_L14 F this p1 μ F 3 0
set_option maxHeartbeats 4000000 in
theorem ok_X0_light {g : Gx} (F : Nat) (this : Nat) (p1 : Int32) (μ : Sw) {rv : Int32} (hf : f_X0_light F this p1 μ = some rv) : Cl g 5 yX0_light cX0_light 5 (some Jvm.ClassFile.FieldType.int) [.ref this, .int p1] μ (some (.int rv)) μ := by
  unfold f_X0_light at hf
  refine Cl.of (own := RX0) (ini := false) (by decide +kernel) rfl (by decide) (Nat.le_of_ble_eq_true rfl) ?_
  show PW g mX0_light 5 μ μ (QN g (some (.int rv)) μ μ) 0 [(0, .ref this), (1, .int p1)] [] μ
  refine P.aload_n 0 (pc' := 1) dX0_light_0 rfl rfl rfl ?_
  refine P.iload_n 1 (pc' := 2) dX0_light_1 rfl rfl rfl ?_
  obtain ⟨u3, h4, hf⟩ := ob hf
  obtain ⟨q1, h2, hf⟩ := ob hf
  refine P.callV (pc' := 5) (As := [.int p1]) 1 (ok_X0_isHouse F this p1 μ h2) (Nat.le_of_ble_eq_true rfl) (lw_V q1030 q1032 qs33 q159 q1033) rfl yok_X0_isHouse rfl (Nat.le_of_ble_eq_true rfl) ci0 h4 (by decide) rfl dX0_light_2 rfl ?_
  refine P.if_ne (tgt := 10) (pc' := 8) dX0_light_5 (by decide) rfl (fun y5 => ?_) (fun y5 => ?_)
  · have hf := (if_neg y5).symm.trans hf
    refine P.iconst (v := 3) (pc' := 11) dX0_light_10 rfl (by decide) ?_
    refine P.istore_n (pc' := 12) (lv' := [(2, .int 3), (0, .ref this), (1, .int p1)]) dX0_light_11 rfl rfl (Nat.le_of_ble_eq_true rfl) rfl ?_
    refine P.iconst (v := 0) (pc' := 13) dX0_light_12 rfl (by decide) ?_
    refine P.istore_n (pc' := 14) (lv' := [(3, .int 0), (2, .int 3), (0, .ref this), (1, .int p1)]) dX0_light_13 rfl rfl (Nat.le_of_ble_eq_true rfl) rfl ?_
    exact PW.sub [2, 3, 1, 0] rfl (ok_f_X0_light_L14 F this p1 μ F _ _ hf)
  · have hf := (if_pos y5).symm.trans hf
    refine P.iconst (v := (-1)) (pc' := 9) dX0_light_8 rfl (by decide) ?_
    cases hf; exact P.iret rfl dX0_light_9
theorem yok_X0_isWind : yOK yX0_isWind 1 := ⟨by decide +kernel, by decide +kernel, by decide +kernel⟩
abbrev mX0_sway : Ym := (RX0, cX0_sway, 3, (some Jvm.ClassFile.FieldType.int), false, [])
noncomputable def f_X0_sway (F : Nat) (this : Nat) (p1 : Int32) (p2 : Int32) (μ : Sw) : Option (Int32 × Sw) :=
  Option.bind (oc μ this 0) fun u3 =>
  Option.bind (f_X0_isHouse F this p1 μ) fun q1 =>
  if q1 = 0 then
    some ((-1), μ)
  else
    Option.bind (p_X0_isWind F p2) fun q6 =>
    if q6 = 0 then
      some ((-1), μ)
    else
      Option.bind (oc μ this 0) fun u11 =>
      Option.bind (f_X0_swayOf F this p1 p2 μ) fun q9 =>
      some (q9.1, q9.2)
set_option maxHeartbeats 4000000 in
theorem ok_X0_sway {g : Gx} (F : Nat) (this : Nat) (p1 : Int32) (p2 : Int32) (μ : Sw) {rv : Int32} {μF : Sw} (hf : f_X0_sway F this p1 p2 μ = some (rv, μF)) : Cl g 413 yX0_sway cX0_sway 3 (some Jvm.ClassFile.FieldType.int) [.ref this, .int p1, .int p2] μ (some (.int rv)) μF := by
  unfold f_X0_sway at hf
  refine Cl.of (own := RX0) (ini := false) (by decide +kernel) rfl (by decide) (Nat.le_of_ble_eq_true rfl) ?_
  show PW g mX0_sway 413 μ μF (QN g (some (.int rv)) μ μF) 0 [(0, .ref this), (1, .int p1), (2, .int p2)] [] μ
  refine P.aload_n 0 (pc' := 1) dX0_sway_0 rfl rfl rfl ?_
  refine P.iload_n 1 (pc' := 2) dX0_sway_1 rfl rfl rfl ?_
  obtain ⟨u3, h4, hf⟩ := ob hf
  obtain ⟨q1, h2, hf⟩ := ob hf
  refine P.callV (pc' := 5) (As := [.int p1]) 1 (ok_X0_isHouse F this p1 μ h2) (Nat.le_of_ble_eq_true rfl) (lw_V q1030 q1032 qs33 q159 q1033) rfl yok_X0_isHouse rfl (Nat.le_of_ble_eq_true rfl) ci0 h4 (by decide) rfl dX0_sway_2 rfl ?_
  refine P.if_eq (tgt := 24) (pc' := 8) dX0_sway_5 (by decide) rfl (fun y5 => ?_) (fun y5 => ?_)
  · have hf := (if_pos y5).symm.trans hf
    refine P.iconst (v := (-1)) (pc' := 25) dX0_sway_24 rfl (by decide) ?_
    cases hf; exact P.iret rfl dX0_sway_25
  · have hf := (if_neg y5).symm.trans hf
    refine P.iload_n 2 (pc' := 9) dX0_sway_8 rfl rfl rfl ?_
    obtain ⟨q6, h7, hf⟩ := ob hf
    refine P.callS (pc' := 12) (As := [.int p2]) 1 (ok_X0_isWind F p2 μ h7) (Nat.le_of_ble_eq_true rfl) (lw_S q1352 q1353 q159 q1354) yok_X0_isWind rfl (Nat.le_of_ble_eq_true rfl) (by decide) rfl dX0_sway_9 rfl ?_
    refine P.if_eq (tgt := 24) (pc' := 15) dX0_sway_12 (by decide) rfl (fun y8 => ?_) (fun y8 => ?_)
    · have hf := (if_pos y8).symm.trans hf
      refine P.iconst (v := (-1)) (pc' := 25) dX0_sway_24 rfl (by decide) ?_
      cases hf; exact P.iret rfl dX0_sway_25
    · have hf := (if_neg y8).symm.trans hf
      refine P.aload_n 0 (pc' := 16) dX0_sway_15 rfl rfl rfl ?_
      refine P.iload_n 1 (pc' := 17) dX0_sway_16 rfl rfl rfl ?_
      refine P.iload_n 2 (pc' := 18) dX0_sway_17 rfl rfl rfl ?_
      obtain ⟨u11, h12, hf⟩ := ob hf
      obtain ⟨q9, h10, hf⟩ := ob hf
      refine P.callV (pc' := 21) (As := [.int p1, .int p2]) 2 (ok_X0_swayOf F this p1 p2 μ h10) (Nat.le_of_ble_eq_true rfl) (lw_V q1198 q1200 qs51 q159 q1201) rfl yok_X0_swayOf rfl (Nat.le_of_ble_eq_true rfl) ci0 h12 (by decide) rfl dX0_sway_18 rfl ?_
      refine P.goto (tgt := 25) dX0_sway_21 (by decide) ?_
      cases hf; exact P.iret rfl dX0_sway_25
abbrev mX12_isOf : Ym := (RX12, cX12_isOf, 2, (some Jvm.ClassFile.FieldType.boolean), false, [])
noncomputable def f_X12_isOf (F : Nat) (this : Nat) (p1 : Int32) (μ : Sw) : Option Int32 :=
  Option.bind (gfI μ this 12 0) fun x1 =>
  if x1 = p1 then
    some 1
  else
    Option.bind (gfI μ this 12 1) fun x4 =>
    if x4 = p1 then
      some 1
    else
      some 0
set_option maxHeartbeats 4000000 in
theorem ok_X12_isOf {g : Gx} (F : Nat) (this : Nat) (p1 : Int32) (μ : Sw) {rv : Int32} (hf : f_X12_isOf F this p1 μ = some rv) : Cl g 1 yX12_isOf cX12_isOf 2 (some Jvm.ClassFile.FieldType.boolean) [.ref this, .int p1] μ (some (.int rv)) μ := by
  unfold f_X12_isOf at hf
  refine Cl.of (own := RX12) (ini := false) (by decide +kernel) rfl (by decide) (Nat.le_of_ble_eq_true rfl) ?_
  show PW g mX12_isOf 1 μ μ (QN g (some (.int rv)) μ μ) 0 [(0, .ref this), (1, .int p1)] [] μ
  refine P.aload_n 0 (pc' := 1) dX12_isOf_0 rfl rfl rfl ?_
  obtain ⟨x1, h2, hf⟩ := ob hf
  refine P.get (pc' := 4) ci12 0 (by decide) (gfI_spec h2) q881 (Or.inl rfl) dX12_isOf_1 rfl ?_
  refine P.iload_n 1 (pc' := 5) dX12_isOf_4 rfl rfl rfl ?_
  refine P.icmp_eq (tgt := 16) (pc' := 8) dX12_isOf_5 (by decide) rfl (fun y3 => ?_) (fun y3 => ?_)
  · have hf := (if_pos y3).symm.trans hf
    refine P.iconst (v := 1) (pc' := 17) dX12_isOf_16 rfl (by decide) ?_
    refine P.goto (tgt := 21) dX12_isOf_17 (by decide) ?_
    cases hf; exact P.zret rfl (Or.inr rfl) dX12_isOf_21
  · have hf := (if_neg y3).symm.trans hf
    refine P.aload_n 0 (pc' := 9) dX12_isOf_8 rfl rfl rfl ?_
    obtain ⟨x4, h5, hf⟩ := ob hf
    refine P.get (pc' := 12) ci12 1 (by decide) (gfI_spec h5) q883 (Or.inl rfl) dX12_isOf_9 rfl ?_
    refine P.iload_n 1 (pc' := 13) dX12_isOf_12 rfl rfl rfl ?_
    refine P.icmp_ne (tgt := 20) (pc' := 16) dX12_isOf_13 (by decide) rfl (fun y6 => ?_) (fun y6 => ?_)
    · have hf := (if_neg y6).symm.trans hf
      refine P.iconst (v := 0) (pc' := 21) dX12_isOf_20 rfl (by decide) ?_
      cases hf; exact P.zret rfl (Or.inl rfl) dX12_isOf_21
    · have hf := (if_pos y6).symm.trans hf
      refine P.iconst (v := 1) (pc' := 17) dX12_isOf_16 rfl (by decide) ?_
      refine P.goto (tgt := 21) dX12_isOf_17 (by decide) ?_
      cases hf; exact P.zret rfl (Or.inr rfl) dX12_isOf_21
abbrev mX12_other : Ym := (RX12, cX12_other, 2, (some Jvm.ClassFile.FieldType.int), false, [])
noncomputable def f_X12_other (F : Nat) (this : Nat) (p1 : Int32) (μ : Sw) : Option Int32 :=
  Option.bind (gfI μ this 12 0) fun x1 =>
  if x1 = p1 then
    Option.bind (gfI μ this 12 1) fun x6 =>
    some x6
  else
    Option.bind (gfI μ this 12 0) fun x4 =>
    some x4
set_option maxHeartbeats 4000000 in
theorem ok_X12_other {g : Gx} (F : Nat) (this : Nat) (p1 : Int32) (μ : Sw) {rv : Int32} (hf : f_X12_other F this p1 μ = some rv) : Cl g 1 yX12_other cX12_other 2 (some Jvm.ClassFile.FieldType.int) [.ref this, .int p1] μ (some (.int rv)) μ := by
  unfold f_X12_other at hf
  refine Cl.of (own := RX12) (ini := false) (by decide +kernel) rfl (by decide) (Nat.le_of_ble_eq_true rfl) ?_
  show PW g mX12_other 1 μ μ (QN g (some (.int rv)) μ μ) 0 [(0, .ref this), (1, .int p1)] [] μ
  refine P.aload_n 0 (pc' := 1) dX12_other_0 rfl rfl rfl ?_
  obtain ⟨x1, h2, hf⟩ := ob hf
  refine P.get (pc' := 4) ci12 0 (by decide) (gfI_spec h2) q881 (Or.inl rfl) dX12_other_1 rfl ?_
  refine P.iload_n 1 (pc' := 5) dX12_other_4 rfl rfl rfl ?_
  refine P.icmp_ne (tgt := 15) (pc' := 8) dX12_other_5 (by decide) rfl (fun y3 => ?_) (fun y3 => ?_)
  · have hf := (if_neg y3).symm.trans hf
    refine P.aload_n 0 (pc' := 16) dX12_other_15 rfl rfl rfl ?_
    obtain ⟨x4, h5, hf⟩ := ob hf
    refine P.get (pc' := 19) ci12 0 (by decide) (gfI_spec h5) q881 (Or.inl rfl) dX12_other_16 rfl ?_
    cases hf; exact P.iret rfl dX12_other_19
  · have hf := (if_pos y3).symm.trans hf
    refine P.aload_n 0 (pc' := 9) dX12_other_8 rfl rfl rfl ?_
    obtain ⟨x6, h7, hf⟩ := ob hf
    refine P.get (pc' := 12) ci12 1 (by decide) (gfI_spec h7) q883 (Or.inl rfl) dX12_other_9 rfl ?_
    refine P.goto (tgt := 19) dX12_other_12 (by decide) ?_
    cases hf; exact P.iret rfl dX12_other_19
theorem yok_X12_isOf : yOK yX12_isOf 1 := ⟨by decide +kernel, by decide +kernel, by decide +kernel⟩
theorem yok_X12_other : yOK yX12_other 1 := ⟨by decide +kernel, by decide +kernel, by decide +kernel⟩
abbrev mX0_goneBeside : Ym := (RX0, cX0_goneBeside, 6, (some Jvm.ClassFile.FieldType.int), false, [])
noncomputable def f_X0_goneBeside_L5_b (F : Nat) (c0 : Nat) (c1 : Int32) (c2 : Int32) (μ : Sw) (self : Int32 → Int32 → Option Int32) (v3 : Int32) (v4 : Int32) : Option Int32 :=
  Option.bind (gfR μ c0 0 3) fun x1 =>
  Option.bind (gfR μ x1 3 1) fun x3 =>
  Option.bind (oc μ x3 20) fun u7 =>
  Option.bind (f_J2_size F x3 μ) fun q5 =>
  if q5 ≤ v4 then
    Option.bind (p_J15_bitCount F (v3 &&& c2)) fun q10 =>
    some q10
  else
    Option.bind (gfR μ c0 0 3) fun x12 =>
    Option.bind (gfR μ x12 3 1) fun x14 =>
    Option.bind (oc μ x14 20) fun u18 =>
    Option.bind (f_J2_get F x14 v4 μ) fun q16 =>
    Option.bind (oc μ q16 12) fun u20 =>
    Option.bind (gfI μ q16 12 1) fun x22 =>
    if x22 = (-1) then
      nm (v4 + 1) fun x25 =>
      self v3 x25
    else
      Option.bind (oc μ q16 12) fun u29 =>
      Option.bind (f_X12_isOf F q16 c1 μ) fun q27 =>
      if q27 = 0 then
        nm (v4 + 1) fun x32 =>
        self v3 x32
      else
        Option.bind (oc μ q16 12) fun u36 =>
        Option.bind (f_X12_other F q16 c1 μ) fun q34 =>
        nm (v3 ||| ((1 : Int32) <<< (q34 &&& 31))) fun x38 =>
        nm (v4 + 1) fun x40 =>
        self x38 x40
noncomputable def f_X0_goneBeside_L5 (F : Nat) (c0 : Nat) (c1 : Int32) (c2 : Int32) (μ : Sw) (n : Nat) : Int32 → Int32 → Option Int32 := Nat.rec (motive := fun _ => Int32 → Int32 → Option Int32) (fun _ _ => none) (fun _ self => f_X0_goneBeside_L5_b F c0 c1 c2 μ self) n
set_option maxHeartbeats 4000000 in
theorem ok_f_X0_goneBeside_L5 {g : Gx} {μ0 : Sw} {rv : Int32} (F : Nat) (c0 : Nat) (c1 : Int32) (c2 : Int32) (μ : Sw) : ∀ (n : Nat) (v3 : Int32) (v4 : Int32), f_X0_goneBeside_L5 F c0 c1 c2 μ n v3 v4 = some rv → PW g mX0_goneBeside 4 μ0 μ (QN g (some (.int rv)) μ0 μ) 5 [(0, .ref c0), (1, .int c1), (2, .int c2), (3, .int v3), (4, .int v4)] [] μ := by
  intro n
  induction n with
  | zero =>
    intro v3 v4 hf
    have hf : (none : Option Int32) = some _ := hf
    cases hf
  | succ n ih =>
    intro v3 v4 hf
    have hf : f_X0_goneBeside_L5_b F c0 c1 c2 μ (f_X0_goneBeside_L5 F c0 c1 c2 μ n) v3 v4 = some rv := hf
    unfold f_X0_goneBeside_L5_b at hf
    refine P.iload 4 (pc' := 7) dX0_goneBeside_5 rfl rfl ?_
    refine P.aload_n 0 (pc' := 8) dX0_goneBeside_7 rfl rfl rfl ?_
    obtain ⟨x1, h2, hf⟩ := ob hf
    refine P.get (pc' := 11) ci0 3 (by decide) (gfR_spec h2) q478 (Or.inl rfl) dX0_goneBeside_8 rfl ?_
    obtain ⟨x3, h4, hf⟩ := ob hf
    refine P.getN (pc' := 14) ci3 1 (by decide) (gfR_spec h4) q332 (Or.inl rfl) dX0_goneBeside_11 rfl ?_
    obtain ⟨u7, h8, hf⟩ := ob hf
    obtain ⟨q5, h6, hf⟩ := ob hf
    refine P.callV (pc' := 17) (As := []) 0 (ok_J2_size F x3 μ h6) (Nat.le_of_ble_eq_true rfl) (lw_V q1006 q669 q670 q165 q671) rfl yok_J2_size rfl (Nat.le_of_ble_eq_true rfl) ci20 h8 (Nat.le_of_ble_eq_true rfl) rfl dX0_goneBeside_14 rfl ?_
    refine P.icmp_ge (tgt := 72) (pc' := 20) dX0_goneBeside_17 (by decide) rfl (fun y9 => ?_) (fun y9 => ?_)
    · have hf := (if_pos y9).symm.trans hf
      refine P.iload_n 3 (pc' := 73) dX0_goneBeside_72 rfl rfl rfl ?_
      refine P.iload_n 2 (pc' := 74) dX0_goneBeside_73 rfl rfl rfl ?_
      refine P.iand (pc' := 75) dX0_goneBeside_74 rfl ?_
      obtain ⟨q10, h11, hf⟩ := ob hf
      refine P.callS (pc' := 78) (As := [.int (v3 &&& c2)]) 1 (ok_J15_bitCount F (v3 &&& c2) μ h11) (Nat.le_of_ble_eq_true rfl) (lw_S q1168 q1169 q193 q1170) yok_J15_bitCount rfl (Nat.le_of_ble_eq_true rfl) (by decide) rfl dX0_goneBeside_75 rfl ?_
      cases hf; exact P.iret rfl dX0_goneBeside_78
    · have hf := (if_neg y9).symm.trans hf
      refine P.aload_n 0 (pc' := 21) dX0_goneBeside_20 rfl rfl rfl ?_
      obtain ⟨x12, h13, hf⟩ := ob hf
      refine P.get (pc' := 24) ci0 3 (by decide) (gfR_spec h13) q478 (Or.inl rfl) dX0_goneBeside_21 rfl ?_
      obtain ⟨x14, h15, hf⟩ := ob hf
      refine P.getN (pc' := 27) ci3 1 (by decide) (gfR_spec h15) q332 (Or.inl rfl) dX0_goneBeside_24 rfl ?_
      refine P.iload 4 (pc' := 29) dX0_goneBeside_27 rfl rfl ?_
      obtain ⟨u18, h19, hf⟩ := ob hf
      obtain ⟨q16, h17, hf⟩ := ob hf
      refine P.callV (pc' := 32) (As := [.int v4]) 1 (ok_J2_get F x14 v4 μ h17) (Nat.le_of_ble_eq_true rfl) (lw_V q1007 q1008 q1009 q165 q1010) rfl yok_J2_get rfl (Nat.le_of_ble_eq_true rfl) ci20 h19 (by decide) rfl dX0_goneBeside_29 rfl ?_
      obtain ⟨u20, h21, hf⟩ := ob hf
      refine P.castS (u := u20) (pc' := 35) ci12 q1132 h21 dX0_goneBeside_32 rfl ?_
      refine P.astore (pc' := 37) (lv' := [(5, .ref q16), (0, .ref c0), (1, .int c1), (2, .int c2), (3, .int v3), (4, .int v4)]) dX0_goneBeside_35 rfl (Nat.le_of_ble_eq_true rfl) rfl ?_
      refine P.aload 0 (pc' := 39) dX0_goneBeside_37 rfl rfl ?_
      obtain ⟨x22, h23, hf⟩ := ob hf
      refine P.getN (pc' := 42) ci12 1 (by decide) (gfI_spec h23) q884 (Or.inl rfl) dX0_goneBeside_39 rfl ?_
      refine P.iconst (v := (-1)) (pc' := 43) dX0_goneBeside_42 rfl (by decide) ?_
      refine P.icmp_eq (tgt := 66) (pc' := 46) dX0_goneBeside_43 (by decide) rfl (fun y24 => ?_) (fun y24 => ?_)
      · have hf := (if_pos y24).symm.trans hf
        obtain ⟨x25, e26, hf⟩ := nm_i hf
        refine P.iinc 5 (pc' := 69) (lv' := [(4, .int x25), (5, .ref q16), (0, .ref c0), (1, .int c1), (2, .int c2), (3, .int v3)]) dX0_goneBeside_66 rfl rfl (by decide) e26 (Nat.le_of_ble_eq_true rfl) rfl ?_
        refine P.goto (tgt := 5) dX0_goneBeside_69 (by decide) ?_
        exact PW.sub [2, 3, 4, 5, 0] rfl (ih _ _ hf)
      · have hf := (if_neg y24).symm.trans hf
        refine P.aload 0 (pc' := 48) dX0_goneBeside_46 rfl rfl ?_
        refine P.iload_n 2 (pc' := 49) dX0_goneBeside_48 rfl rfl rfl ?_
        obtain ⟨u29, h30, hf⟩ := ob hf
        obtain ⟨q27, h28, hf⟩ := ob hf
        refine P.callV (pc' := 52) (As := [.int c1]) 1 (ok_X12_isOf F q16 c1 μ h28) (Nat.le_of_ble_eq_true rfl) (lw_V q1371 q1372 q1373 q186 q1374) rfl yok_X12_isOf rfl (Nat.le_of_ble_eq_true rfl) ci12 h30 (by decide) rfl dX0_goneBeside_49 rfl ?_
        refine P.if_eq (tgt := 66) (pc' := 55) dX0_goneBeside_52 (by decide) rfl (fun y31 => ?_) (fun y31 => ?_)
        · have hf := (if_pos y31).symm.trans hf
          obtain ⟨x32, e33, hf⟩ := nm_i hf
          refine P.iinc 5 (pc' := 69) (lv' := [(4, .int x32), (5, .ref q16), (0, .ref c0), (1, .int c1), (2, .int c2), (3, .int v3)]) dX0_goneBeside_66 rfl rfl (by decide) e33 (Nat.le_of_ble_eq_true rfl) rfl ?_
          refine P.goto (tgt := 5) dX0_goneBeside_69 (by decide) ?_
          exact PW.sub [2, 3, 4, 5, 0] rfl (ih _ _ hf)
        · have hf := (if_neg y31).symm.trans hf
          refine P.iload_n 4 (pc' := 56) dX0_goneBeside_55 rfl rfl rfl ?_
          refine P.iconst (v := 1) (pc' := 57) dX0_goneBeside_56 rfl (by decide) ?_
          refine P.aload 0 (pc' := 59) dX0_goneBeside_57 rfl rfl ?_
          refine P.iload_n 2 (pc' := 60) dX0_goneBeside_59 rfl rfl rfl ?_
          obtain ⟨u36, h37, hf⟩ := ob hf
          obtain ⟨q34, h35, hf⟩ := ob hf
          refine P.callV (pc' := 63) (As := [.int c1]) 1 (ok_X12_other F q16 c1 μ h35) (Nat.le_of_ble_eq_true rfl) (lw_V q1375 q1376 q1377 q186 q1378) rfl yok_X12_other rfl (Nat.le_of_ble_eq_true rfl) ci12 h37 (Nat.le_of_ble_eq_true rfl) rfl dX0_goneBeside_60 rfl ?_
          refine P.ishl (pc' := 64) dX0_goneBeside_63 rfl ?_
          refine P.ior (pc' := 65) dX0_goneBeside_64 rfl ?_
          obtain ⟨x38, e39, hf⟩ := nm_i hf
          refine P.nmi e39 ?_
          refine P.istore_n (pc' := 66) (lv' := [(3, .int x38), (5, .ref q16), (0, .ref c0), (1, .int c1), (2, .int c2), (4, .int v4)]) dX0_goneBeside_65 rfl rfl (Nat.le_of_ble_eq_true rfl) rfl ?_
          obtain ⟨x40, e41, hf⟩ := nm_i hf
          refine P.iinc 5 (pc' := 69) (lv' := [(4, .int x40), (3, .int x38), (5, .ref q16), (0, .ref c0), (1, .int c1), (2, .int c2)]) dX0_goneBeside_66 rfl rfl (by decide) e41 (Nat.le_of_ble_eq_true rfl) rfl ?_
          refine P.goto (tgt := 5) dX0_goneBeside_69 (by decide) ?_
          exact PW.sub [3, 4, 5, 1, 0] rfl (ih _ _ hf)
noncomputable def f_X0_goneBeside (F : Nat) (this : Nat) (p1 : Int32) (p2 : Int32) (μ : Sw) : Option Int32 :=
  f_X0_goneBeside_L5 F this p1 p2 μ F 0 0
set_option maxHeartbeats 4000000 in
theorem ok_X0_goneBeside {g : Gx} (F : Nat) (this : Nat) (p1 : Int32) (p2 : Int32) (μ : Sw) {rv : Int32} (hf : f_X0_goneBeside F this p1 p2 μ = some rv) : Cl g 4 yX0_goneBeside cX0_goneBeside 6 (some Jvm.ClassFile.FieldType.int) [.ref this, .int p1, .int p2] μ (some (.int rv)) μ := by
  unfold f_X0_goneBeside at hf
  refine Cl.of (own := RX0) (ini := false) (by decide +kernel) rfl (by decide) (Nat.le_of_ble_eq_true rfl) ?_
  show PW g mX0_goneBeside 4 μ μ (QN g (some (.int rv)) μ μ) 0 [(0, .ref this), (1, .int p1), (2, .int p2)] [] μ
  refine P.iconst (v := 0) (pc' := 1) dX0_goneBeside_0 rfl (by decide) ?_
  refine P.istore_n (pc' := 2) (lv' := [(3, .int 0), (0, .ref this), (1, .int p1), (2, .int p2)]) dX0_goneBeside_1 rfl rfl (Nat.le_of_ble_eq_true rfl) rfl ?_
  refine P.iconst (v := 0) (pc' := 3) dX0_goneBeside_2 rfl (by decide) ?_
  refine P.istore (pc' := 5) (lv' := [(4, .int 0), (3, .int 0), (0, .ref this), (1, .int p1), (2, .int p2)]) dX0_goneBeside_3 rfl (Nat.le_of_ble_eq_true rfl) rfl ?_
  exact PW.sub [2, 3, 4, 1, 0] rfl (ok_f_X0_goneBeside_L5 F this p1 p2 μ F _ _ hf)
theorem yok_X0_goneBeside : yOK yX0_goneBeside 2 := ⟨by decide +kernel, by decide +kernel, by decide +kernel⟩
abbrev mX0_falls : Ym := (RX0, cX0_falls, 6, (some Jvm.ClassFile.FieldType.boolean), false, [])
noncomputable def f_X0_falls_L39_b (F : Nat) (c0 : Nat) (self : Int32 → Sw → Option (Int32 × Sw)) (v5 : Int32) (μ : Sw) : Option (Int32 × Sw) :=
  Option.bind (gfR μ c0 0 3) fun x1 =>
  Option.bind (gfR μ x1 3 3) fun x3 =>
  Option.bind (oc μ x3 20) fun u7 =>
  Option.bind (f_J2_size F x3 μ) fun q5 =>
  if q5 ≤ v5 then
    some (0, μ)
  else
    Option.bind (gfR μ c0 0 3) fun x10 =>
    Option.bind (gfR μ x10 3 3) fun x12 =>
    Option.bind (oc μ x12 20) fun u16 =>
    Option.bind (f_J2_get F x12 v5 μ) fun q14 =>
    Option.bind (oTest μ q14) fun u18 =>
    Option.bind (gfR μ c0 0 6) fun x20 =>
    Option.bind (f_holds F 8 q14 x20 μ) fun q22 =>
    if q22.1 = 0 then
      nm (v5 + 1) fun x25 =>
      self x25 q22.2
    else
      some (1, q22.2)
noncomputable def f_X0_falls_L39 (F : Nat) (c0 : Nat) (n : Nat) : Int32 → Sw → Option (Int32 × Sw) := Nat.rec (motive := fun _ => Int32 → Sw → Option (Int32 × Sw)) (fun _ _ => none) (fun _ self => f_X0_falls_L39_b F c0 self) n
set_option maxHeartbeats 4000000 in
theorem ok_f_X0_falls_L39 {g : Gx} {μ0 : Sw} {rv : Int32} {μF : Sw} (F : Nat) (c0 : Nat) : ∀ (n : Nat) (v5 : Int32) (μ : Sw), f_X0_falls_L39 F c0 n v5 μ = some (rv, μF) → PW g mX0_falls 421 μ0 μF (QN g (some (.int rv)) μ0 μF) 39 [(0, .ref c0), (5, .int v5)] [] μ := by
  intro n
  induction n with
  | zero =>
    intro v5 μ hf
    have hf : (none : Option (Int32 × Sw)) = some _ := hf
    cases hf
  | succ n ih =>
    intro v5 μ hf
    have hf : f_X0_falls_L39_b F c0 (f_X0_falls_L39 F c0 n) v5 μ = some (rv, μF) := hf
    unfold f_X0_falls_L39_b at hf
    refine P.iload 1 (pc' := 41) dX0_falls_39 rfl rfl ?_
    refine P.aload_n 0 (pc' := 42) dX0_falls_41 rfl rfl rfl ?_
    obtain ⟨x1, h2, hf⟩ := ob hf
    refine P.get (pc' := 45) ci0 3 (by decide) (gfR_spec h2) q478 (Or.inl rfl) dX0_falls_42 rfl ?_
    obtain ⟨x3, h4, hf⟩ := ob hf
    refine P.getN (pc' := 48) ci3 3 (by decide) (gfR_spec h4) q338 (Or.inl rfl) dX0_falls_45 rfl ?_
    obtain ⟨u7, h8, hf⟩ := ob hf
    obtain ⟨q5, h6, hf⟩ := ob hf
    refine P.callV (pc' := 51) (As := []) 0 (ok_J2_size F x3 μ h6) (Nat.le_of_ble_eq_true rfl) (lw_V q1006 q669 q670 q165 q671) rfl yok_J2_size rfl (Nat.le_of_ble_eq_true rfl) ci20 h8 (Nat.le_of_ble_eq_true rfl) rfl dX0_falls_48 rfl ?_
    refine P.icmp_ge (tgt := 89) (pc' := 54) dX0_falls_51 (by decide) rfl (fun y9 => ?_) (fun y9 => ?_)
    · have hf := (if_pos y9).symm.trans hf
      refine P.iconst (v := 0) (pc' := 90) dX0_falls_89 rfl (by decide) ?_
      cases hf; exact P.zret rfl (Or.inl rfl) dX0_falls_90
    · have hf := (if_neg y9).symm.trans hf
      refine P.aload_n 0 (pc' := 55) dX0_falls_54 rfl rfl rfl ?_
      obtain ⟨x10, h11, hf⟩ := ob hf
      refine P.get (pc' := 58) ci0 3 (by decide) (gfR_spec h11) q478 (Or.inl rfl) dX0_falls_55 rfl ?_
      obtain ⟨x12, h13, hf⟩ := ob hf
      refine P.getN (pc' := 61) ci3 3 (by decide) (gfR_spec h13) q338 (Or.inl rfl) dX0_falls_58 rfl ?_
      refine P.iload 1 (pc' := 63) dX0_falls_61 rfl rfl ?_
      obtain ⟨u16, h17, hf⟩ := ob hf
      obtain ⟨q14, h15, hf⟩ := ob hf
      refine P.callV (pc' := 66) (As := [.int v5]) 1 (ok_J2_get F x12 v5 μ h15) (Nat.le_of_ble_eq_true rfl) (lw_V q1007 q1008 q1009 q165 q1010) rfl yok_J2_get rfl (Nat.le_of_ble_eq_true rfl) ci20 h17 (by decide) rfl dX0_falls_63 rfl ?_
      obtain ⟨u18, h19, hf⟩ := ob hf
      refine P.castTest (pc' := 69) q1202 h19 dX0_falls_66 rfl ?_
      refine P.aload_n 0 (pc' := 70) dX0_falls_69 rfl rfl rfl ?_
      obtain ⟨x20, h21, hf⟩ := ob hf
      refine P.get (pc' := 73) ci0 6 (by decide) (gfR_spec h21) q481 (Or.inl rfl) dX0_falls_70 rfl ?_
      obtain ⟨q22, h23, hf⟩ := ob hf
      refine P.callTest (pc' := 78) (ok_holds F 8 _ _ _ _ _ h23) (Nat.le_of_ble_eq_true rfl) q1204 (by decide) dX0_falls_73 rfl ?_
      refine P.if_eq (tgt := 83) (pc' := 81) dX0_falls_78 (by decide) rfl (fun y24 => ?_) (fun y24 => ?_)
      · have hf := (if_pos y24).symm.trans hf
        obtain ⟨x25, e26, hf⟩ := nm_i hf
        refine P.iinc 1 (pc' := 86) (lv' := [(5, .int x25), (0, .ref c0)]) dX0_falls_83 rfl rfl (by decide) e26 (Nat.le_of_ble_eq_true rfl) rfl ?_
        refine P.goto (tgt := 39) dX0_falls_86 (by decide) ?_
        exact PW.sub [1, 0] rfl (ih _ _ hf)
      · have hf := (if_neg y24).symm.trans hf
        refine P.iconst (v := 1) (pc' := 82) dX0_falls_81 rfl (by decide) ?_
        cases hf; exact P.zret rfl (Or.inr rfl) dX0_falls_82
noncomputable def f_X0_falls (F : Nat) (this : Nat) (p1 : Int32) (p2 : Int32) (p3 : Int32) (μ : Sw) : Option (Int32 × Sw) :=
  Option.bind (oc μ this 0) fun u3 =>
  Option.bind (f_X0_swayOf F this p1 p2 μ) fun q1 =>
  Option.bind (gfR q1.2 this 0 6) fun x5 =>
  Option.bind (gfR q1.2 x5 7 0) fun x7 =>
  Option.bind (sI q1.2 0 x7 8 q1.1) fun μ10 =>
  Option.bind (gfR μ10 this 0 6) fun x11 =>
  Option.bind (gfR μ10 x11 7 0) fun x13 =>
  Option.bind (oc μ10 this 0) fun u17 =>
  Option.bind (f_X0_goneBeside F this p1 p3 μ10) fun q15 =>
  Option.bind (sI μ10 0 x13 7 q15) fun μ20 =>
  f_X0_falls_L39 F this F 0 μ20
set_option maxHeartbeats 4000000 in
theorem ok_X0_falls {g : Gx} (F : Nat) (this : Nat) (p1 : Int32) (p2 : Int32) (p3 : Int32) (μ : Sw) {rv : Int32} {μF : Sw} (hf : f_X0_falls F this p1 p2 p3 μ = some (rv, μF)) : Cl g 421 yX0_falls cX0_falls 6 (some Jvm.ClassFile.FieldType.boolean) [.ref this, .int p1, .int p2, .int p3] μ (some (.int rv)) μF := by
  unfold f_X0_falls at hf
  refine Cl.of (own := RX0) (ini := false) (by decide +kernel) rfl (by decide) (Nat.le_of_ble_eq_true rfl) ?_
  show PW g mX0_falls 421 μ μF (QN g (some (.int rv)) μ μF) 0 [(0, .ref this), (1, .int p1), (2, .int p2), (3, .int p3)] [] μ
  refine P.aload_n 0 (pc' := 1) dX0_falls_0 rfl rfl rfl ?_
  refine P.iload_n 1 (pc' := 2) dX0_falls_1 rfl rfl rfl ?_
  refine P.iload_n 2 (pc' := 3) dX0_falls_2 rfl rfl rfl ?_
  obtain ⟨u3, h4, hf⟩ := ob hf
  obtain ⟨q1, h2, hf⟩ := ob hf
  refine P.callV (pc' := 6) (As := [.int p1, .int p2]) 2 (ok_X0_swayOf F this p1 p2 μ h2) (Nat.le_of_ble_eq_true rfl) (lw_V q1198 q1200 qs51 q159 q1201) rfl yok_X0_swayOf rfl (Nat.le_of_ble_eq_true rfl) ci0 h4 (by decide) rfl dX0_falls_3 rfl ?_
  refine P.istore (pc' := 8) (lv' := [(4, .int q1.1), (0, .ref this), (1, .int p1), (2, .int p2), (3, .int p3)]) dX0_falls_6 rfl (Nat.le_of_ble_eq_true rfl) rfl ?_
  refine P.aload_n 1 (pc' := 9) dX0_falls_8 rfl rfl rfl ?_
  obtain ⟨x5, h6, hf⟩ := ob hf
  refine P.get (pc' := 12) ci0 6 (by decide) (gfR_spec h6) q481 (Or.inl rfl) dX0_falls_9 rfl ?_
  obtain ⟨x7, h8, hf⟩ := ob hf
  refine P.getN (pc' := 15) ci7 0 (by decide) (gfR_spec h8) q448 (Or.inl rfl) dX0_falls_12 rfl ?_
  refine P.bipush (v := 8) (pc' := 17) dX0_falls_15 rfl (by decide) ?_
  refine P.iload 0 (pc' := 19) dX0_falls_17 rfl rfl ?_
  obtain ⟨μ10, h9, hf⟩ := ob hf
  refine P.iast (pc' := 20) h9 dX0_falls_19 rfl ?_
  refine P.aload_n 1 (pc' := 21) dX0_falls_20 rfl rfl rfl ?_
  obtain ⟨x11, h12, hf⟩ := ob hf
  refine P.get (pc' := 24) ci0 6 (by decide) (gfR_spec h12) q481 (Or.inl rfl) dX0_falls_21 rfl ?_
  obtain ⟨x13, h14, hf⟩ := ob hf
  refine P.getN (pc' := 27) ci7 0 (by decide) (gfR_spec h14) q448 (Or.inl rfl) dX0_falls_24 rfl ?_
  refine P.bipush (v := 7) (pc' := 29) dX0_falls_27 rfl (by decide) ?_
  refine P.aload_n 1 (pc' := 30) dX0_falls_29 rfl rfl rfl ?_
  refine P.iload_n 2 (pc' := 31) dX0_falls_30 rfl rfl rfl ?_
  refine P.iload_n 4 (pc' := 32) dX0_falls_31 rfl rfl rfl ?_
  obtain ⟨u17, h18, hf⟩ := ob hf
  obtain ⟨q15, h16, hf⟩ := ob hf
  refine P.callV (pc' := 35) (As := [.int p1, .int p3]) 2 (ok_X0_goneBeside F this p1 p3 μ10 h16) (Nat.le_of_ble_eq_true rfl) (lw_V q1367 q1369 qs63 q159 q1370) rfl yok_X0_goneBeside rfl (Nat.le_of_ble_eq_true rfl) ci0 h18 (Nat.le_of_ble_eq_true rfl) rfl dX0_falls_32 rfl ?_
  obtain ⟨μ20, h19, hf⟩ := ob hf
  refine P.iast (pc' := 36) h19 dX0_falls_35 rfl ?_
  refine P.iconst (v := 0) (pc' := 37) dX0_falls_36 rfl (by decide) ?_
  refine P.istore (pc' := 39) (lv' := [(5, .int 0), (4, .int q1.1), (0, .ref this), (1, .int p1), (2, .int p2), (3, .int p3)]) dX0_falls_37 rfl (Nat.le_of_ble_eq_true rfl) rfl ?_
  exact PW.sub [2, 0] rfl (ok_f_X0_falls_L39 F this F _ _ hf)
