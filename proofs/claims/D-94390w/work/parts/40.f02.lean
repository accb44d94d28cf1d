set_option maxRecDepth 100000
theorem yok_X17_init : yOK yX17_init 2 := ⟨by decide +kernel, by decide +kernel, by decide +kernel⟩
theorem yok_X2_literal : yOK yX2_literal 0 := ⟨by decide +kernel, by decide +kernel, by decide +kernel⟩
abbrev mX2_all : Ym := (RX2, cX2_all, 2, (some (Jvm.ClassFile.FieldType.object "StiltTown$Test")), false, [])
noncomputable def f_X2_all_L17_b (F : Nat) (c0 : Nat) (c1 : Nat) (self : Sw → Option ((Nat ⊕ Nat) × Sw)) (μ : Sw) : Option ((Nat ⊕ Nat) × Sw) :=
  Option.bind (oc μ c0 2) fun u3 =>
  Option.bind (f_X2_is F c0 216 μ) fun q1 =>
  if q1 = 0 then
    nm (nw μ (.inr (17, dfX17)) 2) fun μ6 =>
    Option.bind (f_X17_init F μ.2.1 1 c1 μ6) fun q8 =>
    some (.inl μ.2.1, q8)
  else
    Option.bind (oc μ c0 2) fun u12 =>
    Option.bind (f_X2_go F c0 μ) fun q10 =>
    thr q10.1 q10.2 fun x15 =>
    Option.bind (oc q10.2 c0 2) fun u19 =>
    Option.bind (f_X2_literal F c0 q10.2) fun q17 =>
    thr q17.1 q17.2 fun x22 =>
    Option.bind (oc q17.2 c1 20) fun u26 =>
    Option.bind (f_J2_add F c1 x22 q17.2) fun q24 =>
    self q24.2
noncomputable def f_X2_all_L17 (F : Nat) (c0 : Nat) (c1 : Nat) (n : Nat) : Sw → Option ((Nat ⊕ Nat) × Sw) := Nat.rec (motive := fun _ => Sw → Option ((Nat ⊕ Nat) × Sw)) (fun _ => none) (fun _ self => f_X2_all_L17_b F c0 c1 self) n
set_option maxHeartbeats 4000000 in
theorem ok_f_X2_all_L17 {g : Gx} {μ0 : Sw} {res : Nat ⊕ Nat} {μF : Sw} (F : Nat) (c0 : Nat) (c1 : Nat) : ∀ (n : Nat) (μ : Sw), f_X2_all_L17 F c0 c1 n μ = some (res, μF) → PW g mX2_all 42 μ0 μF (QX g (rvA res) μ0 μF) 17 [(0, .ref c0), (1, .ref c1)] [] μ := by
  intro n
  induction n with
  | zero =>
    intro μ hf
    have hf : (none : Option ((Nat ⊕ Nat) × Sw)) = some _ := hf
    cases hf
  | succ n ih =>
    intro μ hf
    have hf : f_X2_all_L17_b F c0 c1 (f_X2_all_L17 F c0 c1 n) μ = some (res, μF) := hf
    unfold f_X2_all_L17_b at hf
    refine P.aload_n 0 (pc' := 18) dX2_all_17 rfl rfl rfl ?_
    refine P.sipush (v := 216) (pc' := 21) dX2_all_18 rfl (by decide) ?_
    obtain ⟨u3, h4, hf⟩ := ob hf
    obtain ⟨q1, h2, hf⟩ := ob hf
    refine P.callV (pc' := 24) (As := [.int 216]) 1 (ok_X2_is F c0 216 μ h2) (Nat.le_of_ble_eq_true rfl) (lw_V q656 q658 qs7 q161 q659) rfl yok_X2_is rfl (Nat.le_of_ble_eq_true rfl) ci2 h4 (by decide) rfl dX2_all_21 rfl ?_
    refine P.if_eq (tgt := 44) (pc' := 27) dX2_all_24 (by decide) rfl (fun y5 => ?_) (fun y5 => ?_)
    · have hf := (if_pos y5).symm.trans hf
      obtain ⟨μ6, e7, hf⟩ := nm_i hf
      refine P.newE (pc' := 47) ci17 q993 q994 q191 dfX17_ok e7 dX2_all_44 rfl ?_
      refine P.dup (pc' := 48) dX2_all_47 rfl rfl ?_
      refine P.iconst (v := 1) (pc' := 49) dX2_all_48 rfl (by decide) ?_
      refine P.aload_n 1 (pc' := 50) dX2_all_49 rfl rfl rfl ?_
      obtain ⟨q8, h9, hf⟩ := ob hf
      refine P.callIN (pc' := 53) (As := [.int 1, .ref c1]) 2 (ok_X17_init F μ.2.1 1 c1 μ6 h9) (Nat.le_of_ble_eq_true rfl) q997 q191 q995 q996 rfl yok_X17_init rfl (Nat.le_of_ble_eq_true rfl) (Nat.le_of_ble_eq_true rfl) rfl dX2_all_50 rfl ?_
      cases hf; exact P.aretX rfl (Or.inl ⟨_, rfl⟩) dX2_all_53
    · have hf := (if_neg y5).symm.trans hf
      refine P.aload_n 0 (pc' := 28) dX2_all_27 rfl rfl rfl ?_
      obtain ⟨u12, h13, hf⟩ := ob hf
      obtain ⟨q10, h11, hf⟩ := ob hf
      rcases e14 : q10.1 with x15 | x16
      rotate_left
      · have h11 := h11.trans (congrArg some (Prod.ext e14 rfl : q10 = (.inr x16, q10.2)))
        rw [e14] at hf
        have hf := thr_r hf
        cases hf
        exact P.callVXt (As := []) 0 (ok_X2_go F c0 μ h11) rfl (Nat.le_of_ble_eq_true rfl) (lw_V q752 q754 qs13 q161 q755) rfl yok_X2_go rfl (Nat.le_of_ble_eq_true rfl) ci2 h13 (by decide) rfl dX2_all_28
      have h11 := h11.trans (congrArg some (Prod.ext e14 rfl : q10 = (.inl x15, q10.2)))
      rw [e14] at hf
      have hf := thr_l hf
      refine P.callVX (pc' := 31) (As := []) 0 (ok_X2_go F c0 μ h11) (Nat.le_of_ble_eq_true rfl) (lw_V q752 q754 qs13 q161 q755) rfl yok_X2_go rfl (Nat.le_of_ble_eq_true rfl) ci2 h13 (by decide) rfl dX2_all_28 rfl ?_
      refine P.pop (pc' := 32) dX2_all_31 rfl rfl ?_
      refine P.aload_n 1 (pc' := 33) dX2_all_32 rfl rfl rfl ?_
      refine P.aload_n 0 (pc' := 34) dX2_all_33 rfl rfl rfl ?_
      obtain ⟨u19, h20, hf⟩ := ob hf
      obtain ⟨q17, h18, hf⟩ := ob hf
      rcases e21 : q17.1 with x22 | x23
      rotate_left
      · have h18 := h18.trans (congrArg some (Prod.ext e21 rfl : q17 = (.inr x23, q17.2)))
        rw [e21] at hf
        have hf := thr_r hf
        cases hf
        exact P.callVXt (As := []) 0 (ok_X2_literal F c0 q10.2 h18) rfl (Nat.le_of_ble_eq_true rfl) (lw_V q963 q965 qs32 q161 q966) rfl yok_X2_literal rfl (Nat.le_of_ble_eq_true rfl) ci2 h20 (Nat.le_of_ble_eq_true rfl) rfl dX2_all_34
      have h18 := h18.trans (congrArg some (Prod.ext e21 rfl : q17 = (.inl x22, q17.2)))
      rw [e21] at hf
      have hf := thr_l hf
      refine P.callVX (pc' := 37) (As := []) 0 (ok_X2_literal F c0 q10.2 h18) (Nat.le_of_ble_eq_true rfl) (lw_V q963 q965 qs32 q161 q966) rfl yok_X2_literal rfl (Nat.le_of_ble_eq_true rfl) ci2 h20 (Nat.le_of_ble_eq_true rfl) rfl dX2_all_34 rfl ?_
      obtain ⟨u26, h27, hf⟩ := ob hf
      obtain ⟨q24, h25, hf⟩ := ob hf
      refine P.callV (pc' := 40) (As := [.ref x22]) 1 (ok_J2_add F c1 x22 q17.2 h25) (Nat.le_of_ble_eq_true rfl) (lw_V q796 q797 q798 q165 q799) rfl yok_J2_add rfl (Nat.le_of_ble_eq_true rfl) ci20 h27 (by decide) rfl dX2_all_37 rfl ?_
      refine P.pop (pc' := 41) dX2_all_40 rfl rfl ?_
      refine P.goto (tgt := 17) dX2_all_41 (by decide) ?_
      exact PW.sub [0, 1] rfl (ih _ hf)
noncomputable def f_X2_all (F : Nat) (this : Nat) (μ : Sw) : Option ((Nat ⊕ Nat) × Sw) :=
  nm (nw μ (.inr (20, dfJ2)) 3) fun μ1 =>
  Option.bind (f_J2_init F μ.2.1 μ1) fun q3 =>
  Option.bind (oc q3 this 2) fun u7 =>
  Option.bind (f_X2_literal F this q3) fun q5 =>
  thr q5.1 q5.2 fun x10 =>
  Option.bind (oc q5.2 μ.2.1 20) fun u14 =>
  Option.bind (f_J2_add F μ.2.1 x10 q5.2) fun q12 =>
  f_X2_all_L17 F this μ.2.1 F q12.2
set_option maxHeartbeats 4000000 in
theorem ok_X2_all {g : Gx} (F : Nat) (this : Nat) (μ : Sw) {res : Nat ⊕ Nat} {μF : Sw} (hf : f_X2_all F this μ = some (res, μF)) : ClX g 42 yX2_all cX2_all 2 (some (Jvm.ClassFile.FieldType.object "StiltTown$Test")) [.ref this] μ (rvA res) μF := by
  unfold f_X2_all at hf
  refine ClX.of (own := RX2) (ini := false) (by decide +kernel) rfl (by decide) (Nat.le_of_ble_eq_true rfl) ?_
  show PW g mX2_all 42 μ μF (QX g (rvA res) μ μF) 0 [(0, .ref this)] [] μ
  obtain ⟨μ1, e2, hf⟩ := nm_i hf
  refine P.newE (pc' := 3) ci20 q957 q278 q165 dfJ2_ok e2 dX2_all_0 rfl ?_
  refine P.dup (pc' := 4) dX2_all_3 rfl rfl ?_
  obtain ⟨q3, h4, hf⟩ := ob hf
  refine P.callI (pc' := 7) (As := []) 0 (ok_J2_init F μ.2.1 μ1 h4) (Nat.le_of_ble_eq_true rfl) q281 q165 q958 q280 rfl yok_J2_init rfl (Nat.le_of_ble_eq_true rfl) (Nat.le_of_ble_eq_true rfl) rfl dX2_all_4 rfl ?_
  refine P.astore_n (pc' := 8) (lv' := [(1, .ref μ.2.1), (0, .ref this)]) dX2_all_7 rfl rfl (Nat.le_of_ble_eq_true rfl) rfl ?_
  refine P.aload_n 0 (pc' := 9) dX2_all_8 rfl rfl rfl ?_
  refine P.aload_n 1 (pc' := 10) dX2_all_9 rfl rfl rfl ?_
  obtain ⟨u7, h8, hf⟩ := ob hf
  obtain ⟨q5, h6, hf⟩ := ob hf
  rcases e9 : q5.1 with x10 | x11
  rotate_left
  · have h6 := h6.trans (congrArg some (Prod.ext e9 rfl : q5 = (.inr x11, q5.2)))
    rw [e9] at hf
    have hf := thr_r hf
    cases hf
    exact P.callVXt (As := []) 0 (ok_X2_literal F this q3 h6) rfl (Nat.le_of_ble_eq_true rfl) (lw_V q963 q965 qs32 q161 q966) rfl yok_X2_literal rfl (Nat.le_of_ble_eq_true rfl) ci2 h8 (Nat.le_of_ble_eq_true rfl) rfl dX2_all_10
  have h6 := h6.trans (congrArg some (Prod.ext e9 rfl : q5 = (.inl x10, q5.2)))
  rw [e9] at hf
  have hf := thr_l hf
  refine P.callVX (pc' := 13) (As := []) 0 (ok_X2_literal F this q3 h6) (Nat.le_of_ble_eq_true rfl) (lw_V q963 q965 qs32 q161 q966) rfl yok_X2_literal rfl (Nat.le_of_ble_eq_true rfl) ci2 h8 (Nat.le_of_ble_eq_true rfl) rfl dX2_all_10 rfl ?_
  obtain ⟨u14, h15, hf⟩ := ob hf
  obtain ⟨q12, h13, hf⟩ := ob hf
  refine P.callV (pc' := 16) (As := [.ref x10]) 1 (ok_J2_add F μ.2.1 x10 q5.2 h13) (Nat.le_of_ble_eq_true rfl) (lw_V q796 q797 q798 q165 q799) rfl yok_J2_add rfl (Nat.le_of_ble_eq_true rfl) ci20 h15 (by decide) rfl dX2_all_13 rfl ?_
  refine P.pop (pc' := 17) dX2_all_16 rfl rfl ?_
  exact PW.sub [1, 0] rfl (ok_f_X2_all_L17 F this μ.2.1 F _ hf)
theorem yok_X2_all : yOK yX2_all 0 := ⟨by decide +kernel, by decide +kernel, by decide +kernel⟩
abbrev mX2_condition : Ym := (RX2, cX2_condition, 2, (some (Jvm.ClassFile.FieldType.object "StiltTown$Test")), false, [])
noncomputable def f_X2_condition_L17_b (F : Nat) (c0 : Nat) (c1 : Nat) (self : Sw → Option ((Nat ⊕ Nat) × Sw)) (μ : Sw) : Option ((Nat ⊕ Nat) × Sw) :=
  Option.bind (oc μ c0 2) fun u3 =>
  Option.bind (f_X2_is F c0 215 μ) fun q1 =>
  if q1 = 0 then
    nm (nw μ (.inr (17, dfX17)) 2) fun μ6 =>
    Option.bind (f_X17_init F μ.2.1 0 c1 μ6) fun q8 =>
    some (.inl μ.2.1, q8)
  else
    Option.bind (oc μ c0 2) fun u12 =>
    Option.bind (f_X2_go F c0 μ) fun q10 =>
    thr q10.1 q10.2 fun x15 =>
    Option.bind (oc q10.2 c0 2) fun u19 =>
    Option.bind (f_X2_all F c0 q10.2) fun q17 =>
    thr q17.1 q17.2 fun x22 =>
    Option.bind (oc q17.2 c1 20) fun u26 =>
    Option.bind (f_J2_add F c1 x22 q17.2) fun q24 =>
    self q24.2
noncomputable def f_X2_condition_L17 (F : Nat) (c0 : Nat) (c1 : Nat) (n : Nat) : Sw → Option ((Nat ⊕ Nat) × Sw) := Nat.rec (motive := fun _ => Sw → Option ((Nat ⊕ Nat) × Sw)) (fun _ => none) (fun _ self => f_X2_condition_L17_b F c0 c1 self) n
set_option maxHeartbeats 4000000 in
theorem ok_f_X2_condition_L17 {g : Gx} {μ0 : Sw} {res : Nat ⊕ Nat} {μF : Sw} (F : Nat) (c0 : Nat) (c1 : Nat) : ∀ (n : Nat) (μ : Sw), f_X2_condition_L17 F c0 c1 n μ = some (res, μF) → PW g mX2_condition 43 μ0 μF (QX g (rvA res) μ0 μF) 17 [(0, .ref c0), (1, .ref c1)] [] μ := by
  intro n
  induction n with
  | zero =>
    intro μ hf
    have hf : (none : Option ((Nat ⊕ Nat) × Sw)) = some _ := hf
    cases hf
  | succ n ih =>
    intro μ hf
    have hf : f_X2_condition_L17_b F c0 c1 (f_X2_condition_L17 F c0 c1 n) μ = some (res, μF) := hf
    unfold f_X2_condition_L17_b at hf
    refine P.aload_n 0 (pc' := 18) dX2_condition_17 rfl rfl rfl ?_
    refine P.sipush (v := 215) (pc' := 21) dX2_condition_18 rfl (by decide) ?_
    obtain ⟨u3, h4, hf⟩ := ob hf
    obtain ⟨q1, h2, hf⟩ := ob hf
    refine P.callV (pc' := 24) (As := [.int 215]) 1 (ok_X2_is F c0 215 μ h2) (Nat.le_of_ble_eq_true rfl) (lw_V q656 q658 qs7 q161 q659) rfl yok_X2_is rfl (Nat.le_of_ble_eq_true rfl) ci2 h4 (by decide) rfl dX2_condition_21 rfl ?_
    refine P.if_eq (tgt := 44) (pc' := 27) dX2_condition_24 (by decide) rfl (fun y5 => ?_) (fun y5 => ?_)
    · have hf := (if_pos y5).symm.trans hf
      obtain ⟨μ6, e7, hf⟩ := nm_i hf
      refine P.newE (pc' := 47) ci17 q993 q994 q191 dfX17_ok e7 dX2_condition_44 rfl ?_
      refine P.dup (pc' := 48) dX2_condition_47 rfl rfl ?_
      refine P.iconst (v := 0) (pc' := 49) dX2_condition_48 rfl (by decide) ?_
      refine P.aload_n 1 (pc' := 50) dX2_condition_49 rfl rfl rfl ?_
      obtain ⟨q8, h9, hf⟩ := ob hf
      refine P.callIN (pc' := 53) (As := [.int 0, .ref c1]) 2 (ok_X17_init F μ.2.1 0 c1 μ6 h9) (Nat.le_of_ble_eq_true rfl) q997 q191 q995 q996 rfl yok_X17_init rfl (Nat.le_of_ble_eq_true rfl) (Nat.le_of_ble_eq_true rfl) rfl dX2_condition_50 rfl ?_
      cases hf; exact P.aretX rfl (Or.inl ⟨_, rfl⟩) dX2_condition_53
    · have hf := (if_neg y5).symm.trans hf
      refine P.aload_n 0 (pc' := 28) dX2_condition_27 rfl rfl rfl ?_
      obtain ⟨u12, h13, hf⟩ := ob hf
      obtain ⟨q10, h11, hf⟩ := ob hf
      rcases e14 : q10.1 with x15 | x16
      rotate_left
      · have h11 := h11.trans (congrArg some (Prod.ext e14 rfl : q10 = (.inr x16, q10.2)))
        rw [e14] at hf
        have hf := thr_r hf
        cases hf
        exact P.callVXt (As := []) 0 (ok_X2_go F c0 μ h11) rfl (Nat.le_of_ble_eq_true rfl) (lw_V q752 q754 qs13 q161 q755) rfl yok_X2_go rfl (Nat.le_of_ble_eq_true rfl) ci2 h13 (by decide) rfl dX2_condition_28
      have h11 := h11.trans (congrArg some (Prod.ext e14 rfl : q10 = (.inl x15, q10.2)))
      rw [e14] at hf
      have hf := thr_l hf
      refine P.callVX (pc' := 31) (As := []) 0 (ok_X2_go F c0 μ h11) (Nat.le_of_ble_eq_true rfl) (lw_V q752 q754 qs13 q161 q755) rfl yok_X2_go rfl (Nat.le_of_ble_eq_true rfl) ci2 h13 (by decide) rfl dX2_condition_28 rfl ?_
      refine P.pop (pc' := 32) dX2_condition_31 rfl rfl ?_
      refine P.aload_n 1 (pc' := 33) dX2_condition_32 rfl rfl rfl ?_
      refine P.aload_n 0 (pc' := 34) dX2_condition_33 rfl rfl rfl ?_
      obtain ⟨u19, h20, hf⟩ := ob hf
      obtain ⟨q17, h18, hf⟩ := ob hf
      rcases e21 : q17.1 with x22 | x23
      rotate_left
      · have h18 := h18.trans (congrArg some (Prod.ext e21 rfl : q17 = (.inr x23, q17.2)))
        rw [e21] at hf
        have hf := thr_r hf
        cases hf
        exact P.callVXt (As := []) 0 (ok_X2_all F c0 q10.2 h18) rfl (Nat.le_of_ble_eq_true rfl) (lw_V q959 q961 qs31 q161 q962) rfl yok_X2_all rfl (Nat.le_of_ble_eq_true rfl) ci2 h20 (Nat.le_of_ble_eq_true rfl) rfl dX2_condition_34
      have h18 := h18.trans (congrArg some (Prod.ext e21 rfl : q17 = (.inl x22, q17.2)))
      rw [e21] at hf
      have hf := thr_l hf
      refine P.callVX (pc' := 37) (As := []) 0 (ok_X2_all F c0 q10.2 h18) (Nat.le_of_ble_eq_true rfl) (lw_V q959 q961 qs31 q161 q962) rfl yok_X2_all rfl (Nat.le_of_ble_eq_true rfl) ci2 h20 (Nat.le_of_ble_eq_true rfl) rfl dX2_condition_34 rfl ?_
      obtain ⟨u26, h27, hf⟩ := ob hf
      obtain ⟨q24, h25, hf⟩ := ob hf
      refine P.callV (pc' := 40) (As := [.ref x22]) 1 (ok_J2_add F c1 x22 q17.2 h25) (Nat.le_of_ble_eq_true rfl) (lw_V q796 q797 q798 q165 q799) rfl yok_J2_add rfl (Nat.le_of_ble_eq_true rfl) ci20 h27 (by decide) rfl dX2_condition_37 rfl ?_
      refine P.pop (pc' := 41) dX2_condition_40 rfl rfl ?_
      refine P.goto (tgt := 17) dX2_condition_41 (by decide) ?_
      exact PW.sub [0, 1] rfl (ih _ hf)
noncomputable def f_X2_condition (F : Nat) (this : Nat) (μ : Sw) : Option ((Nat ⊕ Nat) × Sw) :=
  nm (nw μ (.inr (20, dfJ2)) 3) fun μ1 =>
  Option.bind (f_J2_init F μ.2.1 μ1) fun q3 =>
  Option.bind (oc q3 this 2) fun u7 =>
  Option.bind (f_X2_all F this q3) fun q5 =>
  thr q5.1 q5.2 fun x10 =>
  Option.bind (oc q5.2 μ.2.1 20) fun u14 =>
  Option.bind (f_J2_add F μ.2.1 x10 q5.2) fun q12 =>
  f_X2_condition_L17 F this μ.2.1 F q12.2
set_option maxHeartbeats 4000000 in
theorem ok_X2_condition {g : Gx} (F : Nat) (this : Nat) (μ : Sw) {res : Nat ⊕ Nat} {μF : Sw} (hf : f_X2_condition F this μ = some (res, μF)) : ClX g 43 yX2_condition cX2_condition 2 (some (Jvm.ClassFile.FieldType.object "StiltTown$Test")) [.ref this] μ (rvA res) μF := by
  unfold f_X2_condition at hf
  refine ClX.of (own := RX2) (ini := false) (by decide +kernel) rfl (by decide) (Nat.le_of_ble_eq_true rfl) ?_
  show PW g mX2_condition 43 μ μF (QX g (rvA res) μ μF) 0 [(0, .ref this)] [] μ
  obtain ⟨μ1, e2, hf⟩ := nm_i hf
  refine P.newE (pc' := 3) ci20 q957 q278 q165 dfJ2_ok e2 dX2_condition_0 rfl ?_
  refine P.dup (pc' := 4) dX2_condition_3 rfl rfl ?_
  obtain ⟨q3, h4, hf⟩ := ob hf
  refine P.callI (pc' := 7) (As := []) 0 (ok_J2_init F μ.2.1 μ1 h4) (Nat.le_of_ble_eq_true rfl) q281 q165 q958 q280 rfl yok_J2_init rfl (Nat.le_of_ble_eq_true rfl) (Nat.le_of_ble_eq_true rfl) rfl dX2_condition_4 rfl ?_
  refine P.astore_n (pc' := 8) (lv' := [(1, .ref μ.2.1), (0, .ref this)]) dX2_condition_7 rfl rfl (Nat.le_of_ble_eq_true rfl) rfl ?_
  refine P.aload_n 0 (pc' := 9) dX2_condition_8 rfl rfl rfl ?_
  refine P.aload_n 1 (pc' := 10) dX2_condition_9 rfl rfl rfl ?_
  obtain ⟨u7, h8, hf⟩ := ob hf
  obtain ⟨q5, h6, hf⟩ := ob hf
  rcases e9 : q5.1 with x10 | x11
  rotate_left
  · have h6 := h6.trans (congrArg some (Prod.ext e9 rfl : q5 = (.inr x11, q5.2)))
    rw [e9] at hf
    have hf := thr_r hf
    cases hf
    exact P.callVXt (As := []) 0 (ok_X2_all F this q3 h6) rfl (Nat.le_of_ble_eq_true rfl) (lw_V q959 q961 qs31 q161 q962) rfl yok_X2_all rfl (Nat.le_of_ble_eq_true rfl) ci2 h8 (Nat.le_of_ble_eq_true rfl) rfl dX2_condition_10
  have h6 := h6.trans (congrArg some (Prod.ext e9 rfl : q5 = (.inl x10, q5.2)))
  rw [e9] at hf
  have hf := thr_l hf
  refine P.callVX (pc' := 13) (As := []) 0 (ok_X2_all F this q3 h6) (Nat.le_of_ble_eq_true rfl) (lw_V q959 q961 qs31 q161 q962) rfl yok_X2_all rfl (Nat.le_of_ble_eq_true rfl) ci2 h8 (Nat.le_of_ble_eq_true rfl) rfl dX2_condition_10 rfl ?_
  obtain ⟨u14, h15, hf⟩ := ob hf
  obtain ⟨q12, h13, hf⟩ := ob hf
  refine P.callV (pc' := 16) (As := [.ref x10]) 1 (ok_J2_add F μ.2.1 x10 q5.2 h13) (Nat.le_of_ble_eq_true rfl) (lw_V q796 q797 q798 q165 q799) rfl yok_J2_add rfl (Nat.le_of_ble_eq_true rfl) ci20 h15 (by decide) rfl dX2_condition_13 rfl ?_
  refine P.pop (pc' := 17) dX2_condition_16 rfl rfl ?_
  exact PW.sub [1, 0] rfl (ok_f_X2_condition_L17 F this μ.2.1 F _ hf)
theorem yok_J2_size : yOK yJ2_size 0 := ⟨by decide +kernel, by decide +kernel, by decide +kernel⟩
theorem yok_X2_condition : yOK yX2_condition 0 := ⟨by decide +kernel, by decide +kernel, by decide +kernel⟩
theorem yok_X2_room : yOK yX2_room 2 := ⟨by decide +kernel, by decide +kernel, by decide +kernel⟩
abbrev mX2_tellRule : Ym := (RX2, cX2_tellRule, 2, none, false, [])
noncomputable def f_X2_tellRule (F : Nat) (this : Nat) (p1 : Nat) (μ : Sw) : Option ((Unit ⊕ Nat) × Sw) :=
  Option.bind (oc μ p1 20) fun u3 =>
  Option.bind (f_J2_size F p1 μ) fun q1 =>
  Option.bind (oc μ this 2) fun u7 =>
  Option.bind (f_X2_room F this q1 4 μ) fun q5 =>
  thr q5.1 q5.2 fun x10 =>
  Option.bind (oc q5.2 this 2) fun u14 =>
  Option.bind (f_X2_must F this 214 q5.2) fun q12 =>
  thr q12.1 q12.2 fun x17 =>
  Option.bind (oc q12.2 this 2) fun u21 =>
  Option.bind (f_X2_condition F this q12.2) fun q19 =>
  thr q19.1 q19.2 fun x24 =>
  Option.bind (oc q19.2 p1 20) fun u28 =>
  Option.bind (f_J2_add F p1 x24 q19.2) fun q26 =>
  some (.inl (), q26.2)
set_option maxHeartbeats 4000000 in
theorem ok_X2_tellRule {g : Gx} (F : Nat) (this : Nat) (p1 : Nat) (μ : Sw) {res : Unit ⊕ Nat} {μF : Sw} (hf : f_X2_tellRule F this p1 μ = some (res, μF)) : ClX g 44 yX2_tellRule cX2_tellRule 2 none [.ref this, .ref p1] μ (rvU res) μF := by
  unfold f_X2_tellRule at hf
  refine ClX.of (own := RX2) (ini := false) (by decide +kernel) rfl (by decide) (Nat.le_of_ble_eq_true rfl) ?_
  show PW g mX2_tellRule 44 μ μF (QX g (rvU res) μ μF) 0 [(0, .ref this), (1, .ref p1)] [] μ
  refine P.aload_n 0 (pc' := 1) dX2_tellRule_0 rfl rfl rfl ?_
  refine P.aload_n 1 (pc' := 2) dX2_tellRule_1 rfl rfl rfl ?_
  obtain ⟨u3, h4, hf⟩ := ob hf
  obtain ⟨q1, h2, hf⟩ := ob hf
  refine P.callV (pc' := 5) (As := []) 0 (ok_J2_size F p1 μ h2) (Nat.le_of_ble_eq_true rfl) (lw_V q668 q669 q670 q165 q671) rfl yok_J2_size rfl (Nat.le_of_ble_eq_true rfl) ci20 h4 (Nat.le_of_ble_eq_true rfl) rfl dX2_tellRule_2 rfl ?_
  refine P.iconst (v := 4) (pc' := 6) dX2_tellRule_5 rfl (by decide) ?_
  obtain ⟨u7, h8, hf⟩ := ob hf
  obtain ⟨q5, h6, hf⟩ := ob hf
  rcases e9 : q5.1 with x10 | x11
  rotate_left
  · have h6 := h6.trans (congrArg some (Prod.ext e9 rfl : q5 = (.inr x11, q5.2)))
    rw [e9] at hf
    have hf := thr_r hf
    cases hf
    exact P.callVXt (As := [.int q1, .int 4]) 2 (ok_X2_room F this q1 4 μ h6) rfl (Nat.le_of_ble_eq_true rfl) (lw_V q672 q674 qs10 q161 q675) rfl yok_X2_room rfl (Nat.le_of_ble_eq_true rfl) ci2 h8 (by decide) rfl dX2_tellRule_6
  have h6 := h6.trans (congrArg some (Prod.ext e9 rfl : q5 = (.inl x10, q5.2)))
  rw [e9] at hf
  have hf := thr_l hf
  refine P.callVX (pc' := 9) (As := [.int q1, .int 4]) 2 (ok_X2_room F this q1 4 μ h6) (Nat.le_of_ble_eq_true rfl) (lw_V q672 q674 qs10 q161 q675) rfl yok_X2_room rfl (Nat.le_of_ble_eq_true rfl) ci2 h8 (by decide) rfl dX2_tellRule_6 rfl ?_
  refine P.aload_n 0 (pc' := 10) dX2_tellRule_9 rfl rfl rfl ?_
  refine P.sipush (v := 214) (pc' := 13) dX2_tellRule_10 rfl (by decide) ?_
  obtain ⟨u14, h15, hf⟩ := ob hf
  obtain ⟨q12, h13, hf⟩ := ob hf
  rcases e16 : q12.1 with x17 | x18
  rotate_left
  · have h13 := h13.trans (congrArg some (Prod.ext e16 rfl : q12 = (.inr x18, q12.2)))
    rw [e16] at hf
    have hf := thr_r hf
    cases hf
    exact P.callVXt (As := [.int 214]) 1 (ok_X2_must F this 214 q5.2 h13) rfl (Nat.le_of_ble_eq_true rfl) (lw_V q760 q762 qs15 q161 q763) rfl yok_X2_must rfl (Nat.le_of_ble_eq_true rfl) ci2 h15 (by decide) rfl dX2_tellRule_13
  have h13 := h13.trans (congrArg some (Prod.ext e16 rfl : q12 = (.inl x17, q12.2)))
  rw [e16] at hf
  have hf := thr_l hf
  refine P.callVX (pc' := 16) (As := [.int 214]) 1 (ok_X2_must F this 214 q5.2 h13) (Nat.le_of_ble_eq_true rfl) (lw_V q760 q762 qs15 q161 q763) rfl yok_X2_must rfl (Nat.le_of_ble_eq_true rfl) ci2 h15 (by decide) rfl dX2_tellRule_13 rfl ?_
  refine P.pop (pc' := 17) dX2_tellRule_16 rfl rfl ?_
  refine P.aload_n 1 (pc' := 18) dX2_tellRule_17 rfl rfl rfl ?_
  refine P.aload_n 0 (pc' := 19) dX2_tellRule_18 rfl rfl rfl ?_
  obtain ⟨u21, h22, hf⟩ := ob hf
  obtain ⟨q19, h20, hf⟩ := ob hf
  rcases e23 : q19.1 with x24 | x25
  rotate_left
  · have h20 := h20.trans (congrArg some (Prod.ext e23 rfl : q19 = (.inr x25, q19.2)))
    rw [e23] at hf
    have hf := thr_r hf
    cases hf
    exact P.callVXt (As := []) 0 (ok_X2_condition F this q12.2 h20) rfl (Nat.le_of_ble_eq_true rfl) (lw_V q953 q955 qs30 q161 q956) rfl yok_X2_condition rfl (Nat.le_of_ble_eq_true rfl) ci2 h22 (Nat.le_of_ble_eq_true rfl) rfl dX2_tellRule_19
  have h20 := h20.trans (congrArg some (Prod.ext e23 rfl : q19 = (.inl x24, q19.2)))
  rw [e23] at hf
  have hf := thr_l hf
  refine P.callVX (pc' := 22) (As := []) 0 (ok_X2_condition F this q12.2 h20) (Nat.le_of_ble_eq_true rfl) (lw_V q953 q955 qs30 q161 q956) rfl yok_X2_condition rfl (Nat.le_of_ble_eq_true rfl) ci2 h22 (Nat.le_of_ble_eq_true rfl) rfl dX2_tellRule_19 rfl ?_
  obtain ⟨u28, h29, hf⟩ := ob hf
  obtain ⟨q26, h27, hf⟩ := ob hf
  refine P.callV (pc' := 25) (As := [.ref x24]) 1 (ok_J2_add F p1 x24 q19.2 h27) (Nat.le_of_ble_eq_true rfl) (lw_V q796 q797 q798 q165 q799) rfl yok_J2_add rfl (Nat.le_of_ble_eq_true rfl) ci20 h29 (by decide) rfl dX2_tellRule_22 rfl ?_
  refine P.pop (pc' := 26) dX2_tellRule_25 rfl rfl ?_
  cases hf; exact P.vretX rfl dX2_tellRule_26
abbrev mX2_term : Ym := (RX2, cX2_term, 1, (some (Jvm.ClassFile.FieldType.object "StiltTown$Term")), false, [])
noncomputable def f_X2_term (F : Nat) (this : Nat) (μ : Sw) : Option ((Nat ⊕ Nat) × Sw) :=
  Option.bind (oc μ this 2) fun u3 =>
  Option.bind (f_X2_go F this μ) fun q1 =>
  thr q1.1 q1.2 fun x6 =>
  Option.bind (oc q1.2 this 2) fun u10 =>
  Option.bind (f_X2_must F this 61 q1.2) fun q8 =>
  thr q8.1 q8.2 fun x13 =>
  Option.bind (oc q8.2 this 2) fun u17 =>
  Option.bind (f_sum F 9 this q8.2) fun q15 =>
  thr q15.1 q15.2 fun x20 =>
  some (.inl x20, q15.2)
set_option maxHeartbeats 4000000 in
theorem ok_X2_term {g : Gx} (F : Nat) (this : Nat) (μ : Sw) {res : Nat ⊕ Nat} {μF : Sw} (hf : f_X2_term F this μ = some (res, μF)) : ClX g 41 yX2_term cX2_term 1 (some (Jvm.ClassFile.FieldType.object "StiltTown$Term")) [.ref this] μ (rvA res) μF := by
  unfold f_X2_term at hf
  refine ClX.of (own := RX2) (ini := false) (by decide +kernel) rfl (by decide) (Nat.le_of_ble_eq_true rfl) ?_
  show PW g mX2_term 41 μ μF (QX g (rvA res) μ μF) 0 [(0, .ref this)] [] μ
  refine P.aload_n 0 (pc' := 1) dX2_term_0 rfl rfl rfl ?_
  obtain ⟨u3, h4, hf⟩ := ob hf
  obtain ⟨q1, h2, hf⟩ := ob hf
  rcases e5 : q1.1 with x6 | x7
  rotate_left
  · have h2 := h2.trans (congrArg some (Prod.ext e5 rfl : q1 = (.inr x7, q1.2)))
    rw [e5] at hf
    have hf := thr_r hf
    cases hf
    exact P.callVXt (As := []) 0 (ok_X2_go F this μ h2) rfl (Nat.le_of_ble_eq_true rfl) (lw_V q752 q754 qs13 q161 q755) rfl yok_X2_go rfl (Nat.le_of_ble_eq_true rfl) ci2 h4 (by decide) rfl dX2_term_1
  have h2 := h2.trans (congrArg some (Prod.ext e5 rfl : q1 = (.inl x6, q1.2)))
  rw [e5] at hf
  have hf := thr_l hf
  refine P.callVX (pc' := 4) (As := []) 0 (ok_X2_go F this μ h2) (Nat.le_of_ble_eq_true rfl) (lw_V q752 q754 qs13 q161 q755) rfl yok_X2_go rfl (Nat.le_of_ble_eq_true rfl) ci2 h4 (by decide) rfl dX2_term_1 rfl ?_
  refine P.pop (pc' := 5) dX2_term_4 rfl rfl ?_
  refine P.aload_n 0 (pc' := 6) dX2_term_5 rfl rfl rfl ?_
  refine P.bipush (v := 61) (pc' := 8) dX2_term_6 rfl (by decide) ?_
  obtain ⟨u10, h11, hf⟩ := ob hf
  obtain ⟨q8, h9, hf⟩ := ob hf
  rcases e12 : q8.1 with x13 | x14
  rotate_left
  · have h9 := h9.trans (congrArg some (Prod.ext e12 rfl : q8 = (.inr x14, q8.2)))
    rw [e12] at hf
    have hf := thr_r hf
    cases hf
    exact P.callVXt (As := [.int 61]) 1 (ok_X2_must F this 61 q1.2 h9) rfl (Nat.le_of_ble_eq_true rfl) (lw_V q760 q762 qs15 q161 q763) rfl yok_X2_must rfl (Nat.le_of_ble_eq_true rfl) ci2 h11 (by decide) rfl dX2_term_8
  have h9 := h9.trans (congrArg some (Prod.ext e12 rfl : q8 = (.inl x13, q8.2)))
  rw [e12] at hf
  have hf := thr_l hf
  refine P.callVX (pc' := 11) (As := [.int 61]) 1 (ok_X2_must F this 61 q1.2 h9) (Nat.le_of_ble_eq_true rfl) (lw_V q760 q762 qs15 q161 q763) rfl yok_X2_must rfl (Nat.le_of_ble_eq_true rfl) ci2 h11 (by decide) rfl dX2_term_8 rfl ?_
  refine P.pop (pc' := 12) dX2_term_11 rfl rfl ?_
  refine P.aload_n 0 (pc' := 13) dX2_term_12 rfl rfl rfl ?_
  obtain ⟨u17, h18, hf⟩ := ob hf
  obtain ⟨q15, h16, hf⟩ := ob hf
  rcases e19 : q15.1 with x20 | x21
  rotate_left
  · have h16 := h16.trans (congrArg some (Prod.ext e19 rfl : q15 = (.inr x21, q15.2)))
    rw [e19] at hf
    have hf := thr_r hf
    cases hf
    exact P.callVXt (As := []) 0 (ok_sum9 F this q8.2 h16) rfl (Nat.le_of_ble_eq_true rfl) (lw_V q917 q919 qs26 q161 q920) rfl yok_X2_sum rfl (Nat.le_of_ble_eq_true rfl) ci2 h18 (by decide) rfl dX2_term_13
  have h16 := h16.trans (congrArg some (Prod.ext e19 rfl : q15 = (.inl x20, q15.2)))
  rw [e19] at hf
  have hf := thr_l hf
  refine P.callVX (pc' := 16) (As := []) 0 (ok_sum9 F this q8.2 h16) (Nat.le_of_ble_eq_true rfl) (lw_V q917 q919 qs26 q161 q920) rfl yok_X2_sum rfl (Nat.le_of_ble_eq_true rfl) ci2 h18 (by decide) rfl dX2_term_13 rfl ?_
  cases hf; exact P.aretX rfl (Or.inl ⟨_, rfl⟩) dX2_term_16
theorem yok_X2_tellRule : yOK yX2_tellRule 1 := ⟨by decide +kernel, by decide +kernel, by decide +kernel⟩
theorem yok_X2_term : yOK yX2_term 0 := ⟨by decide +kernel, by decide +kernel, by decide +kernel⟩
abbrev mX2_tellLaw : Ym := (RX2, cX2_tellLaw, 1, none, false, [])
noncomputable def f_X2_tellLaw (F : Nat) (this : Nat) (μ : Sw) : Option ((Unit ⊕ Nat) × Sw) :=
  Option.bind (oc μ this 2) fun u3 =>
  Option.bind (f_X2_kind F this μ) fun q1 =>
  if q1 = 209 then
    Option.bind (gfR μ this 2 5) fun x6 =>
    Option.bind (oc μ this 2) fun u10 =>
    Option.bind (f_X2_term F this μ) fun q8 =>
    thr q8.1 q8.2 fun x13 =>
    Option.bind (pf q8.2 x6 3 13 (.ref x13)) fun μ15 =>
    some (.inl (), μ15)
  else
    if q1 = 210 then
      Option.bind (gfR μ this 2 5) fun x18 =>
      Option.bind (oc μ this 2) fun u22 =>
      Option.bind (f_X2_term F this μ) fun q20 =>
      thr q20.1 q20.2 fun x25 =>
      Option.bind (pf q20.2 x18 3 14 (.ref x25)) fun μ27 =>
      some (.inl (), μ27)
    else
      if q1 = 211 then
        Option.bind (gfR μ this 2 5) fun x30 =>
        Option.bind (oc μ this 2) fun u34 =>
        Option.bind (f_X2_term F this μ) fun q32 =>
        thr q32.1 q32.2 fun x37 =>
        Option.bind (pf q32.2 x30 3 15 (.ref x37)) fun μ39 =>
        some (.inl (), μ39)
      else
        if q1 = 212 then
          Option.bind (gfR μ this 2 5) fun x42 =>
          Option.bind (gfR μ x42 3 3) fun x44 =>
          Option.bind (oc μ this 2) fun u48 =>
          Option.bind (f_X2_tellRule F this x44 μ) fun q46 =>
          thr q46.1 q46.2 fun x51 =>
          some (.inl (), q46.2)
        else
          if q1 = 213 then
            Option.bind (gfR μ this 2 5) fun x54 =>
            Option.bind (gfR μ x54 3 4) fun x56 =>
            Option.bind (oc μ this 2) fun u60 =>
            Option.bind (f_X2_tellRule F this x56 μ) fun q58 =>
            thr q58.1 q58.2 fun x63 =>
            some (.inl (), q58.2)
          else
            Option.bind (oc μ this 2) fun u67 =>
            Option.bind (f_X2_fault F this 1 μ) fun q65 =>
            Option.bind (oc q65.2 q65.1 10) fun u69 =>
            some (.inr q65.1, q65.2)
set_option maxHeartbeats 4000000 in
theorem ok_X2_tellLaw {g : Gx} (F : Nat) (this : Nat) (μ : Sw) {res : Unit ⊕ Nat} {μF : Sw} (hf : f_X2_tellLaw F this μ = some (res, μF)) : ClX g 45 yX2_tellLaw cX2_tellLaw 1 none [.ref this] μ (rvU res) μF := by
  unfold f_X2_tellLaw at hf
  refine ClX.of (own := RX2) (ini := false) (by decide +kernel) rfl (by decide) (Nat.le_of_ble_eq_true rfl) ?_
  show PW g mX2_tellLaw 45 μ μF (QX g (rvU res) μ μF) 0 [(0, .ref this)] [] μ
  refine P.aload_n 0 (pc' := 1) dX2_tellLaw_0 rfl rfl rfl ?_
  obtain ⟨u3, h4, hf⟩ := ob hf
  obtain ⟨q1, h2, hf⟩ := ob hf
  refine P.callV (pc' := 4) (As := []) 0 (ok_X2_kind F this μ h2) (Nat.le_of_ble_eq_true rfl) (lw_V q664 q666 qs9 q161 q667) rfl yok_X2_kind rfl (Nat.le_of_ble_eq_true rfl) ci2 h4 (by decide) rfl dX2_tellLaw_1 rfl ?_
  by_cases y5 : q1 = 209
  · have hf := (if_pos y5).symm.trans hf
    refine P.tsIn (tgt := 40) dX2_tellLaw_4 (by rw [y5]; decide) (by rw [y5]; decide) (by rw [y5]; rfl) (by decide) ?_
    refine P.aload_n 0 (pc' := 41) dX2_tellLaw_40 rfl rfl rfl ?_
    obtain ⟨x6, h7, hf⟩ := ob hf
    refine P.get (pc' := 44) ci2 5 (by decide) (gfR_spec h7) q247 (Or.inl rfl) dX2_tellLaw_41 rfl ?_
    refine P.aload_n 0 (pc' := 45) dX2_tellLaw_44 rfl rfl rfl ?_
    obtain ⟨u10, h11, hf⟩ := ob hf
    obtain ⟨q8, h9, hf⟩ := ob hf
    rcases e12 : q8.1 with x13 | x14
    rotate_left
    · have h9 := h9.trans (congrArg some (Prod.ext e12 rfl : q8 = (.inr x14, q8.2)))
      rw [e12] at hf
      have hf := thr_r hf
      cases hf
      exact P.callVXt (As := []) 0 (ok_X2_term F this μ h9) rfl (Nat.le_of_ble_eq_true rfl) (lw_V q913 q915 qs25 q161 q916) rfl yok_X2_term rfl (Nat.le_of_ble_eq_true rfl) ci2 h11 (Nat.le_of_ble_eq_true rfl) rfl dX2_tellLaw_45
    have h9 := h9.trans (congrArg some (Prod.ext e12 rfl : q8 = (.inl x13, q8.2)))
    rw [e12] at hf
    have hf := thr_l hf
    refine P.callVX (pc' := 48) (As := []) 0 (ok_X2_term F this μ h9) (Nat.le_of_ble_eq_true rfl) (lw_V q913 q915 qs25 q161 q916) rfl yok_X2_term rfl (Nat.le_of_ble_eq_true rfl) ci2 h11 (Nat.le_of_ble_eq_true rfl) rfl dX2_tellLaw_45 rfl ?_
    obtain ⟨μ15, h16, hf⟩ := ob hf
    refine P.putN (v := .ref x13) (pc' := 51) ci3 13 (by decide) h16 q363 (Or.inl rfl) rfl rfl rfl dX2_tellLaw_48 rfl ?_
    refine P.goto (tgt := 116) dX2_tellLaw_51 (by decide) ?_
    cases hf; exact P.vretX rfl dX2_tellLaw_116
  · have hf := (if_neg y5).symm.trans hf
    by_cases y17 : q1 = 210
    · have hf := (if_pos y17).symm.trans hf
      refine P.tsIn (tgt := 54) dX2_tellLaw_4 (by rw [y17]; decide) (by rw [y17]; decide) (by rw [y17]; rfl) (by decide) ?_
      refine P.aload_n 0 (pc' := 55) dX2_tellLaw_54 rfl rfl rfl ?_
      obtain ⟨x18, h19, hf⟩ := ob hf
      refine P.get (pc' := 58) ci2 5 (by decide) (gfR_spec h19) q247 (Or.inl rfl) dX2_tellLaw_55 rfl ?_
      refine P.aload_n 0 (pc' := 59) dX2_tellLaw_58 rfl rfl rfl ?_
      obtain ⟨u22, h23, hf⟩ := ob hf
      obtain ⟨q20, h21, hf⟩ := ob hf
      rcases e24 : q20.1 with x25 | x26
      rotate_left
      · have h21 := h21.trans (congrArg some (Prod.ext e24 rfl : q20 = (.inr x26, q20.2)))
        rw [e24] at hf
        have hf := thr_r hf
        cases hf
        exact P.callVXt (As := []) 0 (ok_X2_term F this μ h21) rfl (Nat.le_of_ble_eq_true rfl) (lw_V q913 q915 qs25 q161 q916) rfl yok_X2_term rfl (Nat.le_of_ble_eq_true rfl) ci2 h23 (Nat.le_of_ble_eq_true rfl) rfl dX2_tellLaw_59
      have h21 := h21.trans (congrArg some (Prod.ext e24 rfl : q20 = (.inl x25, q20.2)))
      rw [e24] at hf
      have hf := thr_l hf
      refine P.callVX (pc' := 62) (As := []) 0 (ok_X2_term F this μ h21) (Nat.le_of_ble_eq_true rfl) (lw_V q913 q915 qs25 q161 q916) rfl yok_X2_term rfl (Nat.le_of_ble_eq_true rfl) ci2 h23 (Nat.le_of_ble_eq_true rfl) rfl dX2_tellLaw_59 rfl ?_
      obtain ⟨μ27, h28, hf⟩ := ob hf
      refine P.putN (v := .ref x25) (pc' := 65) ci3 14 (by decide) h28 q367 (Or.inl rfl) rfl rfl rfl dX2_tellLaw_62 rfl ?_
      refine P.goto (tgt := 116) dX2_tellLaw_65 (by decide) ?_
      cases hf; exact P.vretX rfl dX2_tellLaw_116
    · have hf := (if_neg y17).symm.trans hf
      by_cases y29 : q1 = 211
      · have hf := (if_pos y29).symm.trans hf
        refine P.tsIn (tgt := 68) dX2_tellLaw_4 (by rw [y29]; decide) (by rw [y29]; decide) (by rw [y29]; rfl) (by decide) ?_
        refine P.aload_n 0 (pc' := 69) dX2_tellLaw_68 rfl rfl rfl ?_
        obtain ⟨x30, h31, hf⟩ := ob hf
        refine P.get (pc' := 72) ci2 5 (by decide) (gfR_spec h31) q247 (Or.inl rfl) dX2_tellLaw_69 rfl ?_
        refine P.aload_n 0 (pc' := 73) dX2_tellLaw_72 rfl rfl rfl ?_
        obtain ⟨u34, h35, hf⟩ := ob hf
        obtain ⟨q32, h33, hf⟩ := ob hf
        rcases e36 : q32.1 with x37 | x38
        rotate_left
        · have h33 := h33.trans (congrArg some (Prod.ext e36 rfl : q32 = (.inr x38, q32.2)))
          rw [e36] at hf
          have hf := thr_r hf
          cases hf
          exact P.callVXt (As := []) 0 (ok_X2_term F this μ h33) rfl (Nat.le_of_ble_eq_true rfl) (lw_V q913 q915 qs25 q161 q916) rfl yok_X2_term rfl (Nat.le_of_ble_eq_true rfl) ci2 h35 (Nat.le_of_ble_eq_true rfl) rfl dX2_tellLaw_73
        have h33 := h33.trans (congrArg some (Prod.ext e36 rfl : q32 = (.inl x37, q32.2)))
        rw [e36] at hf
        have hf := thr_l hf
        refine P.callVX (pc' := 76) (As := []) 0 (ok_X2_term F this μ h33) (Nat.le_of_ble_eq_true rfl) (lw_V q913 q915 qs25 q161 q916) rfl yok_X2_term rfl (Nat.le_of_ble_eq_true rfl) ci2 h35 (Nat.le_of_ble_eq_true rfl) rfl dX2_tellLaw_73 rfl ?_
        obtain ⟨μ39, h40, hf⟩ := ob hf
        refine P.putN (v := .ref x37) (pc' := 79) ci3 15 (by decide) h40 q369 (Or.inl rfl) rfl rfl rfl dX2_tellLaw_76 rfl ?_
        refine P.goto (tgt := 116) dX2_tellLaw_79 (by decide) ?_
        cases hf; exact P.vretX rfl dX2_tellLaw_116
      · have hf := (if_neg y29).symm.trans hf
        by_cases y41 : q1 = 212
        · have hf := (if_pos y41).symm.trans hf
          refine P.tsIn (tgt := 82) dX2_tellLaw_4 (by rw [y41]; decide) (by rw [y41]; decide) (by rw [y41]; rfl) (by decide) ?_
          refine P.aload_n 0 (pc' := 83) dX2_tellLaw_82 rfl rfl rfl ?_
          refine P.aload_n 0 (pc' := 84) dX2_tellLaw_83 rfl rfl rfl ?_
          obtain ⟨x42, h43, hf⟩ := ob hf
          refine P.get (pc' := 87) ci2 5 (by decide) (gfR_spec h43) q247 (Or.inl rfl) dX2_tellLaw_84 rfl ?_
          obtain ⟨x44, h45, hf⟩ := ob hf
          refine P.getN (pc' := 90) ci3 3 (by decide) (gfR_spec h45) q337 (Or.inl rfl) dX2_tellLaw_87 rfl ?_
          obtain ⟨u48, h49, hf⟩ := ob hf
          obtain ⟨q46, h47, hf⟩ := ob hf
          rcases e50 : q46.1 with x51 | x52
          rotate_left
          · have h47 := h47.trans (congrArg some (Prod.ext e50 rfl : q46 = (.inr x52, q46.2)))
            rw [e50] at hf
            have hf := thr_r hf
            cases hf
            exact P.callVXt (As := [.ref x44]) 1 (ok_X2_tellRule F this x44 μ h47) rfl (Nat.le_of_ble_eq_true rfl) (lw_V q949 q951 qs29 q161 q952) rfl yok_X2_tellRule rfl (Nat.le_of_ble_eq_true rfl) ci2 h49 (by decide) rfl dX2_tellLaw_90
          have h47 := h47.trans (congrArg some (Prod.ext e50 rfl : q46 = (.inl x51, q46.2)))
          rw [e50] at hf
          have hf := thr_l hf
          refine P.callVX (pc' := 93) (As := [.ref x44]) 1 (ok_X2_tellRule F this x44 μ h47) (Nat.le_of_ble_eq_true rfl) (lw_V q949 q951 qs29 q161 q952) rfl yok_X2_tellRule rfl (Nat.le_of_ble_eq_true rfl) ci2 h49 (by decide) rfl dX2_tellLaw_90 rfl ?_
          refine P.goto (tgt := 116) dX2_tellLaw_93 (by decide) ?_
          cases hf; exact P.vretX rfl dX2_tellLaw_116
        · have hf := (if_neg y41).symm.trans hf
          by_cases y53 : q1 = 213
          · have hf := (if_pos y53).symm.trans hf
            refine P.tsIn (tgt := 96) dX2_tellLaw_4 (by rw [y53]; decide) (by rw [y53]; decide) (by rw [y53]; rfl) (by decide) ?_
            refine P.aload_n 0 (pc' := 97) dX2_tellLaw_96 rfl rfl rfl ?_
            refine P.aload_n 0 (pc' := 98) dX2_tellLaw_97 rfl rfl rfl ?_
            obtain ⟨x54, h55, hf⟩ := ob hf
            refine P.get (pc' := 101) ci2 5 (by decide) (gfR_spec h55) q247 (Or.inl rfl) dX2_tellLaw_98 rfl ?_
            obtain ⟨x56, h57, hf⟩ := ob hf
            refine P.getN (pc' := 104) ci3 4 (by decide) (gfR_spec h57) q340 (Or.inl rfl) dX2_tellLaw_101 rfl ?_
            obtain ⟨u60, h61, hf⟩ := ob hf
            obtain ⟨q58, h59, hf⟩ := ob hf
            rcases e62 : q58.1 with x63 | x64
            rotate_left
            · have h59 := h59.trans (congrArg some (Prod.ext e62 rfl : q58 = (.inr x64, q58.2)))
              rw [e62] at hf
              have hf := thr_r hf
              cases hf
              exact P.callVXt (As := [.ref x56]) 1 (ok_X2_tellRule F this x56 μ h59) rfl (Nat.le_of_ble_eq_true rfl) (lw_V q949 q951 qs29 q161 q952) rfl yok_X2_tellRule rfl (Nat.le_of_ble_eq_true rfl) ci2 h61 (by decide) rfl dX2_tellLaw_104
            have h59 := h59.trans (congrArg some (Prod.ext e62 rfl : q58 = (.inl x63, q58.2)))
            rw [e62] at hf
            have hf := thr_l hf
            refine P.callVX (pc' := 107) (As := [.ref x56]) 1 (ok_X2_tellRule F this x56 μ h59) (Nat.le_of_ble_eq_true rfl) (lw_V q949 q951 qs29 q161 q952) rfl yok_X2_tellRule rfl (Nat.le_of_ble_eq_true rfl) ci2 h61 (by decide) rfl dX2_tellLaw_104 rfl ?_
            refine P.goto (tgt := 116) dX2_tellLaw_107 (by decide) ?_
            cases hf; exact P.vretX rfl dX2_tellLaw_116
          · have hf := (if_neg y53).symm.trans hf
            refine P.tsOut (tgt := 110) dX2_tellLaw_4 (by have z0 := lv_neT y5 (a := 209) (by decide); have z1 := lv_neT y17 (a := 210) (by decide); have z2 := lv_neT y29 (a := 211) (by decide); have z3 := lv_neT y41 (a := 212) (by decide); have z4 := lv_neT y53 (a := 213) (by decide); omega) (by decide) ?_
            refine P.aload_n 0 (pc' := 111) dX2_tellLaw_110 rfl rfl rfl ?_
            refine P.iconst (v := 1) (pc' := 112) dX2_tellLaw_111 rfl (by decide) ?_
            obtain ⟨u67, h68, hf⟩ := ob hf
            obtain ⟨q65, h66, hf⟩ := ob hf
            refine P.callV (pc' := 115) (As := [.int 1]) 1 (ok_X2_fault F this 1 μ h66) (Nat.le_of_ble_eq_true rfl) (lw_V q676 q678 qs11 q161 q679) rfl yok_X2_fault rfl (Nat.le_of_ble_eq_true rfl) ci2 h68 (by decide) rfl dX2_tellLaw_112 rfl ?_
            obtain ⟨u69, h70, hf⟩ := ob hf
            cases hf; exact P.athrow rfl h70 dX2_tellLaw_115
theorem yok_X0_gives : yOK yX0_gives 3 := ⟨by decide +kernel, by decide +kernel, by decide +kernel⟩
theorem yok_X11_init : yOK yX11_init 3 := ⟨by decide +kernel, by decide +kernel, by decide +kernel⟩
theorem yok_X13_init : yOK yX13_init 2 := ⟨by decide +kernel, by decide +kernel, by decide +kernel⟩
theorem yok_X2_tellLaw : yOK yX2_tellLaw 0 := ⟨by decide +kernel, by decide +kernel, by decide +kernel⟩
theorem yok_X2_tellName : yOK yX2_tellName 1 := ⟨by decide +kernel, by decide +kernel, by decide +kernel⟩
theorem yok_X2_tellStair : yOK yX2_tellStair 0 := ⟨by decide +kernel, by decide +kernel, by decide +kernel⟩
abbrev mX2_tell : Ym := (RX2, cX2_tell, 3, none, false, [])
noncomputable def f_X2_tell_j245 (F : Nat) (v0 : Nat) (μ : Sw) : Option ((Unit ⊕ Nat) × Sw) :=
  Option.bind (gfR μ v0 2 5) fun x1 =>
  Option.bind (gfI μ x1 3 8) fun x3 =>
  Option.bind (pf μ x1 3 8 (.int (x3 + 1))) fun μ5 =>
  Option.bind (oc μ5 v0 2) fun u9 =>
  Option.bind (f_X2_must F v0 59 μ5) fun q7 =>
  thr q7.1 q7.2 fun x12 =>
  some (.inl (), q7.2)
set_option maxHeartbeats 4000000 in
theorem ok_f_X2_tell_j245 {g : Gx} {μ0 : Sw} {res : Unit ⊕ Nat} {μF : Sw} (F : Nat) (v0 : Nat) (μ : Sw) (hf : f_X2_tell_j245 F v0 μ = some (res, μF)) : PW g mX2_tell 46 μ0 μF (QX g (rvU res) μ0 μF) 245 [(0, .ref v0)] [] μ := by
  unfold f_X2_tell_j245 at hf
  refine P.aload_n 0 (pc' := 246) dX2_tell_245 rfl rfl rfl ?_
  obtain ⟨x1, h2, hf⟩ := ob hf
  refine P.get (pc' := 249) ci2 5 (by decide) (gfR_spec h2) q247 (Or.inl rfl) dX2_tell_246 rfl ?_
  refine P.dup (pc' := 250) dX2_tell_249 rfl rfl ?_
  obtain ⟨x3, h4, hf⟩ := ob hf
  refine P.getN (pc' := 253) ci3 8 (by decide) (gfI_spec h4) q350 (Or.inl rfl) dX2_tell_250 rfl ?_
  refine P.iconst (v := 1) (pc' := 254) dX2_tell_253 rfl (by decide) ?_
  refine P.iadd (pc' := 255) dX2_tell_254 rfl ?_
  obtain ⟨μ5, h6, hf⟩ := ob hf
  refine P.putN (v := .int (x3 + 1)) (pc' := 258) ci3 8 (by decide) h6 q350 (Or.inl rfl) rfl rfl rfl dX2_tell_255 rfl ?_
  refine P.goto (tgt := 434) dX2_tell_258 (by decide) ?_
  refine P.aload_n 0 (pc' := 435) dX2_tell_434 rfl rfl rfl ?_
  refine P.bipush (v := 59) (pc' := 437) dX2_tell_435 rfl (by decide) ?_
  obtain ⟨u9, h10, hf⟩ := ob hf
  obtain ⟨q7, h8, hf⟩ := ob hf
  rcases e11 : q7.1 with x12 | x13
  rotate_left
  · have h8 := h8.trans (congrArg some (Prod.ext e11 rfl : q7 = (.inr x13, q7.2)))
    rw [e11] at hf
    have hf := thr_r hf
    cases hf
    exact P.callVXt (As := [.int 59]) 1 (ok_X2_must F v0 59 μ5 h8) rfl (Nat.le_of_ble_eq_true rfl) (lw_V q760 q762 qs15 q161 q763) rfl yok_X2_must rfl (Nat.le_of_ble_eq_true rfl) ci2 h10 (by decide) rfl dX2_tell_437
  have h8 := h8.trans (congrArg some (Prod.ext e11 rfl : q7 = (.inl x12, q7.2)))
  rw [e11] at hf
  have hf := thr_l hf
  refine P.callVX (pc' := 440) (As := [.int 59]) 1 (ok_X2_must F v0 59 μ5 h8) (Nat.le_of_ble_eq_true rfl) (lw_V q760 q762 qs15 q161 q763) rfl yok_X2_must rfl (Nat.le_of_ble_eq_true rfl) ci2 h10 (by decide) rfl dX2_tell_437 rfl ?_
  refine P.pop (pc' := 441) dX2_tell_440 rfl rfl ?_
  cases hf; exact P.vretX rfl dX2_tell_441
noncomputable def f_X2_tell_j317 (F : Nat) (v0 : Nat) (μ : Sw) : Option ((Unit ⊕ Nat) × Sw) :=
  Option.bind (gfR μ v0 2 5) fun x1 =>
  Option.bind (gfI μ x1 3 10) fun x3 =>
  Option.bind (pf μ x1 3 10 (.int (x3 + 1))) fun μ5 =>
  Option.bind (oc μ5 v0 2) fun u9 =>
  Option.bind (f_X2_must F v0 59 μ5) fun q7 =>
  thr q7.1 q7.2 fun x12 =>
  some (.inl (), q7.2)
set_option maxHeartbeats 4000000 in
theorem ok_f_X2_tell_j317 {g : Gx} {μ0 : Sw} {res : Unit ⊕ Nat} {μF : Sw} (F : Nat) (v0 : Nat) (μ : Sw) (hf : f_X2_tell_j317 F v0 μ = some (res, μF)) : PW g mX2_tell 46 μ0 μF (QX g (rvU res) μ0 μF) 317 [(0, .ref v0)] [] μ := by
  unfold f_X2_tell_j317 at hf
  refine P.aload_n 0 (pc' := 318) dX2_tell_317 rfl rfl rfl ?_
  obtain ⟨x1, h2, hf⟩ := ob hf
  refine P.get (pc' := 321) ci2 5 (by decide) (gfR_spec h2) q247 (Or.inl rfl) dX2_tell_318 rfl ?_
  refine P.dup (pc' := 322) dX2_tell_321 rfl rfl ?_
  obtain ⟨x3, h4, hf⟩ := ob hf
  refine P.getN (pc' := 325) ci3 10 (by decide) (gfI_spec h4) q354 (Or.inl rfl) dX2_tell_322 rfl ?_
  refine P.iconst (v := 1) (pc' := 326) dX2_tell_325 rfl (by decide) ?_
  refine P.iadd (pc' := 327) dX2_tell_326 rfl ?_
  obtain ⟨μ5, h6, hf⟩ := ob hf
  refine P.putN (v := .int (x3 + 1)) (pc' := 330) ci3 10 (by decide) h6 q354 (Or.inl rfl) rfl rfl rfl dX2_tell_327 rfl ?_
  refine P.goto (tgt := 434) dX2_tell_330 (by decide) ?_
  refine P.aload_n 0 (pc' := 435) dX2_tell_434 rfl rfl rfl ?_
  refine P.bipush (v := 59) (pc' := 437) dX2_tell_435 rfl (by decide) ?_
  obtain ⟨u9, h10, hf⟩ := ob hf
  obtain ⟨q7, h8, hf⟩ := ob hf
  rcases e11 : q7.1 with x12 | x13
  rotate_left
  · have h8 := h8.trans (congrArg some (Prod.ext e11 rfl : q7 = (.inr x13, q7.2)))
    rw [e11] at hf
    have hf := thr_r hf
    cases hf
    exact P.callVXt (As := [.int 59]) 1 (ok_X2_must F v0 59 μ5 h8) rfl (Nat.le_of_ble_eq_true rfl) (lw_V q760 q762 qs15 q161 q763) rfl yok_X2_must rfl (Nat.le_of_ble_eq_true rfl) ci2 h10 (by decide) rfl dX2_tell_437
  have h8 := h8.trans (congrArg some (Prod.ext e11 rfl : q7 = (.inl x12, q7.2)))
  rw [e11] at hf
  have hf := thr_l hf
  refine P.callVX (pc' := 440) (As := [.int 59]) 1 (ok_X2_must F v0 59 μ5 h8) (Nat.le_of_ble_eq_true rfl) (lw_V q760 q762 qs15 q161 q763) rfl yok_X2_must rfl (Nat.le_of_ble_eq_true rfl) ci2 h10 (by decide) rfl dX2_tell_437 rfl ?_
  refine P.pop (pc' := 441) dX2_tell_440 rfl rfl ?_
  cases hf; exact P.vretX rfl dX2_tell_441
noncomputable def f_X2_tell (F : Nat) (this : Nat) (μ : Sw) : Option ((Unit ⊕ Nat) × Sw) :=
  Option.bind (oc μ this 2) fun u3 =>
  Option.bind (f_X2_kind F this μ) fun q1 =>
  if q1 = 200 then
    Option.bind (gfR μ this 2 5) fun x6 =>
    Option.bind (gfR μ x6 3 0) fun x8 =>
    Option.bind (oc μ x8 20) fun u12 =>
    Option.bind (f_J2_size F x8 μ) fun q10 =>
    Option.bind (oc μ this 2) fun u16 =>
    Option.bind (f_X2_room F this q10 16 μ) fun q14 =>
    thr q14.1 q14.2 fun x19 =>
    Option.bind (gfR q14.2 this 2 5) fun x21 =>
    Option.bind (gfR q14.2 x21 3 0) fun x23 =>
    Option.bind (oc q14.2 x23 20) fun u27 =>
    Option.bind (f_J2_size F x23 q14.2) fun q25 =>
    Option.bind (oc q14.2 this 2) fun u31 =>
    Option.bind (f_X2_tellName F this q25 q14.2) fun q29 =>
    thr q29.1 q29.2 fun x34 =>
    Option.bind (oc q29.2 this 2) fun u38 =>
    Option.bind (f_X2_bounded F this 0 40 q29.2) fun q36 =>
    thr q36.1 q36.2 fun x41 =>
    Option.bind (oc q36.2 this 2) fun u45 =>
    Option.bind (f_X2_bounded F this 0 99 q36.2) fun q43 =>
    thr q43.1 q43.2 fun x48 =>
    Option.bind (gfR q43.2 this 2 5) fun x50 =>
    Option.bind (gfR q43.2 x50 3 0) fun x52 =>
    nm (nw q43.2 (.inr (11, dfX11)) 3) fun μ54 =>
    Option.bind (oc μ54 this 2) fun u58 =>
    Option.bind (f_X2_bounded F this 1 9 μ54) fun q56 =>
    thr q56.1 q56.2 fun x61 =>
    Option.bind (f_X11_init F q43.2.2.1 x41 x48 x61 q56.2) fun q63 =>
    Option.bind (oc q63 x52 20) fun u67 =>
    Option.bind (f_J2_add F x52 q43.2.2.1 q63) fun q65 =>
    Option.bind (oc q65.2 this 2) fun u71 =>
    Option.bind (f_X2_must F this 59 q65.2) fun q69 =>
    thr q69.1 q69.2 fun x74 =>
    some (.inl (), q69.2)
  else
    if q1 = 201 then
      Option.bind (gfR μ this 2 5) fun x77 =>
      Option.bind (gfI μ x77 3 6) fun x79 =>
      Option.bind (oc μ this 2) fun u83 =>
      Option.bind (f_X2_room F this x79 12 μ) fun q81 =>
      thr q81.1 q81.2 fun x86 =>
      Option.bind (gfR q81.2 this 2 5) fun x88 =>
      Option.bind (gfI q81.2 x88 3 6) fun x90 =>
      Option.bind (oc q81.2 this 2) fun u94 =>
      Option.bind (f_X2_tellName F this (100 + x90) q81.2) fun q92 =>
      thr q92.1 q92.2 fun x97 =>
      Option.bind (gfR q92.2 this 2 5) fun x99 =>
      Option.bind (gfR q92.2 x99 3 5) fun x101 =>
      Option.bind (gfR q92.2 this 2 5) fun x103 =>
      Option.bind (gfI q92.2 x103 3 6) fun x105 =>
      Option.bind (oc q92.2 this 2) fun u109 =>
      Option.bind (f_X2_bounded F this 0 99 q92.2) fun q107 =>
      thr q107.1 q107.2 fun x112 =>
      Option.bind (sI q107.2 0 x101 x105 x112) fun μ115 =>
      Option.bind (gfR μ115 this 2 5) fun x116 =>
      Option.bind (gfI μ115 x116 3 6) fun x118 =>
      Option.bind (pf μ115 x116 3 6 (.int (x118 + 1))) fun μ120 =>
      Option.bind (oc μ120 this 2) fun u124 =>
      Option.bind (f_X2_must F this 59 μ120) fun q122 =>
      thr q122.1 q122.2 fun x127 =>
      some (.inl (), q122.2)
    else
      if q1 = 202 then
        Option.bind (gfR μ this 2 5) fun x130 =>
        Option.bind (gfI μ x130 3 8) fun x132 =>
        Option.bind (oc μ this 2) fun u136 =>
        Option.bind (f_X2_room F this x132 12 μ) fun q134 =>
        thr q134.1 q134.2 fun x139 =>
        Option.bind (oc q134.2 this 2) fun u143 =>
        Option.bind (f_X2_known F this 0 q134.2) fun q141 =>
        thr q141.1 q141.2 fun x146 =>
        Option.bind (oc q141.2 this 2) fun u150 =>
        Option.bind (f_X2_known F this 100 q141.2) fun q148 =>
        thr q148.1 q148.2 fun x153 =>
        if x146 = (-1) then
          f_X2_tell_j245 F this q148.2
        else
          if x153 = (-1) then
            f_X2_tell_j245 F this q148.2
          else
            Option.bind (gfR q148.2 this 2 5) fun x157 =>
            Option.bind (gfR q148.2 x157 3 7) fun x159 =>
            Option.bind (f_X0_gives F x159 x146 x153 q148.2) fun q161 =>
            f_X2_tell_j245 F this q161
      else
        if q1 = 203 then
          Option.bind (gfR μ this 2 5) fun x164 =>
          Option.bind (gfR μ x164 3 1) fun x166 =>
          Option.bind (oc μ x166 20) fun u170 =>
          Option.bind (f_J2_size F x166 μ) fun q168 =>
          Option.bind (oc μ this 2) fun u174 =>
          Option.bind (f_X2_room F this q168 12 μ) fun q172 =>
          thr q172.1 q172.2 fun x177 =>
          Option.bind (oc q172.2 this 2) fun u181 =>
          Option.bind (f_X2_tellStair F this q172.2) fun q179 =>
          thr q179.1 q179.2 fun x184 =>
          Option.bind (oc q179.2 this 2) fun u188 =>
          Option.bind (f_X2_must F this 59 q179.2) fun q186 =>
          thr q186.1 q186.2 fun x191 =>
          some (.inl (), q186.2)
        else
          if q1 = 205 then
            Option.bind (gfR μ this 2 5) fun x194 =>
            Option.bind (gfI μ x194 3 10) fun x196 =>
            Option.bind (oc μ this 2) fun u200 =>
            Option.bind (f_X2_room F this x196 4 μ) fun q198 =>
            thr q198.1 q198.2 fun x203 =>
            Option.bind (oc q198.2 this 2) fun u207 =>
            Option.bind (f_X2_known F this 0 q198.2) fun q205 =>
            thr q205.1 q205.2 fun x210 =>
            if x210 = (-1) then
              f_X2_tell_j317 F this q205.2
            else
              Option.bind (gfR q205.2 this 2 5) fun x213 =>
              Option.bind (gfR q205.2 x213 3 9) fun x215 =>
              Option.bind (sI q205.2 4 x215 x210 1) fun μ218 =>
              f_X2_tell_j317 F this μ218
          else
            if q1 = 206 then
              Option.bind (gfR μ this 2 5) fun x220 =>
              Option.bind (gfR μ x220 3 2) fun x222 =>
              Option.bind (oc μ x222 20) fun u226 =>
              Option.bind (f_J2_size F x222 μ) fun q224 =>
              Option.bind (oc μ this 2) fun u230 =>
              Option.bind (f_X2_room F this q224 8 μ) fun q228 =>
              thr q228.1 q228.2 fun x233 =>
              Option.bind (oc q228.2 this 2) fun u237 =>
              Option.bind (f_X2_bounded F this 1 60 q228.2) fun q235 =>
              thr q235.1 q235.2 fun x240 =>
              Option.bind (gfR q235.2 this 2 5) fun x242 =>
              Option.bind (gfR q235.2 x242 3 2) fun x244 =>
              nm (nw q235.2 (.inr (13, dfX13)) 2) fun μ246 =>
              Option.bind (oc μ246 this 2) fun u250 =>
              Option.bind (f_X2_bounded F this 0 99 μ246) fun q248 =>
              thr q248.1 q248.2 fun x253 =>
              Option.bind (f_X13_init F q235.2.2.1 x240 x253 q248.2) fun q255 =>
              Option.bind (oc q255 x244 20) fun u259 =>
              Option.bind (f_J2_add F x244 q235.2.2.1 q255) fun q257 =>
              Option.bind (oc q257.2 this 2) fun u263 =>
              Option.bind (f_X2_must F this 59 q257.2) fun q261 =>
              thr q261.1 q261.2 fun x266 =>
              some (.inl (), q261.2)
            else
              if q1 = 207 then
                Option.bind (oc μ this 2) fun u271 =>
                Option.bind (f_X2_go F this μ) fun q269 =>
                thr q269.1 q269.2 fun x274 =>
                Option.bind (gfR q269.2 this 2 5) fun x276 =>
                Option.bind (oc q269.2 this 2) fun u280 =>
                Option.bind (f_X2_bounded F this 1 9 q269.2) fun q278 =>
                thr q278.1 q278.2 fun x283 =>
                Option.bind (pf q278.2 x276 3 11 (.int x283)) fun μ285 =>
                Option.bind (oc μ285 this 2) fun u289 =>
                Option.bind (f_X2_must F this 59 μ285) fun q287 =>
                thr q287.1 q287.2 fun x292 =>
                some (.inl (), q287.2)
              else
                if q1 = 208 then
                  Option.bind (oc μ this 2) fun u297 =>
                  Option.bind (f_X2_go F this μ) fun q295 =>
                  thr q295.1 q295.2 fun x300 =>
                  Option.bind (gfR q295.2 this 2 5) fun x302 =>
                  Option.bind (oc q295.2 this 2) fun u306 =>
                  Option.bind (f_X2_bounded F this 1 99 q295.2) fun q304 =>
                  thr q304.1 q304.2 fun x309 =>
                  Option.bind (pf q304.2 x302 3 12 (.int x309)) fun μ311 =>
                  Option.bind (oc μ311 this 2) fun u315 =>
                  Option.bind (f_X2_must F this 59 μ311) fun q313 =>
                  thr q313.1 q313.2 fun x318 =>
                  some (.inl (), q313.2)
                else
                  if q1 = 204 then
                    Option.bind (oc μ this 2) fun u323 =>
                    Option.bind (f_X2_tellLaw F this μ) fun q321 =>
                    thr q321.1 q321.2 fun x326 =>
                    Option.bind (oc q321.2 this 2) fun u330 =>
                    Option.bind (f_X2_must F this 59 q321.2) fun q328 =>
                    thr q328.1 q328.2 fun x333 =>
                    some (.inl (), q328.2)
                  else
                    Option.bind (oc μ this 2) fun u337 =>
                    Option.bind (f_X2_tellLaw F this μ) fun q335 =>
                    thr q335.1 q335.2 fun x340 =>
                    Option.bind (oc q335.2 this 2) fun u344 =>
                    Option.bind (f_X2_must F this 59 q335.2) fun q342 =>
                    thr q342.1 q342.2 fun x347 =>
                    some (.inl (), q342.2)
set_option maxHeartbeats 4000000 in
theorem ok_X2_tell {g : Gx} (F : Nat) (this : Nat) (μ : Sw) {res : Unit ⊕ Nat} {μF : Sw} (hf : f_X2_tell F this μ = some (res, μF)) : ClX g 46 yX2_tell cX2_tell 3 none [.ref this] μ (rvU res) μF := by
  unfold f_X2_tell at hf
  refine ClX.of (own := RX2) (ini := false) (by decide +kernel) rfl (by decide) (Nat.le_of_ble_eq_true rfl) ?_
  show PW g mX2_tell 46 μ μF (QX g (rvU res) μ μF) 0 [(0, .ref this)] [] μ
  refine P.aload_n 0 (pc' := 1) dX2_tell_0 rfl rfl rfl ?_
  obtain ⟨u3, h4, hf⟩ := ob hf
  obtain ⟨q1, h2, hf⟩ := ob hf
  refine P.callV (pc' := 4) (As := []) 0 (ok_X2_kind F this μ h2) (Nat.le_of_ble_eq_true rfl) (lw_V q664 q666 qs9 q161 q667) rfl yok_X2_kind rfl (Nat.le_of_ble_eq_true rfl) ci2 h4 (by decide) rfl dX2_tell_1 rfl ?_
  by_cases y5 : q1 = 200
  · have hf := (if_pos y5).symm.trans hf
    refine P.tsIn (tgt := 56) dX2_tell_4 (by rw [y5]; decide) (by rw [y5]; decide) (by rw [y5]; rfl) (by decide) ?_
    refine P.aload_n 0 (pc' := 57) dX2_tell_56 rfl rfl rfl ?_
    refine P.aload_n 0 (pc' := 58) dX2_tell_57 rfl rfl rfl ?_
    obtain ⟨x6, h7, hf⟩ := ob hf
    refine P.get (pc' := 61) ci2 5 (by decide) (gfR_spec h7) q247 (Or.inl rfl) dX2_tell_58 rfl ?_
    obtain ⟨x8, h9, hf⟩ := ob hf
    refine P.getN (pc' := 64) ci3 0 (by decide) (gfR_spec h9) q329 (Or.inl rfl) dX2_tell_61 rfl ?_
    obtain ⟨u12, h13, hf⟩ := ob hf
    obtain ⟨q10, h11, hf⟩ := ob hf
    refine P.callV (pc' := 67) (As := []) 0 (ok_J2_size F x8 μ h11) (Nat.le_of_ble_eq_true rfl) (lw_V q668 q669 q670 q165 q671) rfl yok_J2_size rfl (Nat.le_of_ble_eq_true rfl) ci20 h13 (Nat.le_of_ble_eq_true rfl) rfl dX2_tell_64 rfl ?_
    refine P.bipush (v := 16) (pc' := 69) dX2_tell_67 rfl (by decide) ?_
    obtain ⟨u16, h17, hf⟩ := ob hf
    obtain ⟨q14, h15, hf⟩ := ob hf
    rcases e18 : q14.1 with x19 | x20
    rotate_left
    · have h15 := h15.trans (congrArg some (Prod.ext e18 rfl : q14 = (.inr x20, q14.2)))
      rw [e18] at hf
      have hf := thr_r hf
      cases hf
      exact P.callVXt (As := [.int q10, .int 16]) 2 (ok_X2_room F this q10 16 μ h15) rfl (Nat.le_of_ble_eq_true rfl) (lw_V q672 q674 qs10 q161 q675) rfl yok_X2_room rfl (Nat.le_of_ble_eq_true rfl) ci2 h17 (by decide) rfl dX2_tell_69
    have h15 := h15.trans (congrArg some (Prod.ext e18 rfl : q14 = (.inl x19, q14.2)))
    rw [e18] at hf
    have hf := thr_l hf
    refine P.callVX (pc' := 72) (As := [.int q10, .int 16]) 2 (ok_X2_room F this q10 16 μ h15) (Nat.le_of_ble_eq_true rfl) (lw_V q672 q674 qs10 q161 q675) rfl yok_X2_room rfl (Nat.le_of_ble_eq_true rfl) ci2 h17 (by decide) rfl dX2_tell_69 rfl ?_
    refine P.aload_n 0 (pc' := 73) dX2_tell_72 rfl rfl rfl ?_
    refine P.aload_n 0 (pc' := 74) dX2_tell_73 rfl rfl rfl ?_
    obtain ⟨x21, h22, hf⟩ := ob hf
    refine P.get (pc' := 77) ci2 5 (by decide) (gfR_spec h22) q247 (Or.inl rfl) dX2_tell_74 rfl ?_
    obtain ⟨x23, h24, hf⟩ := ob hf
    refine P.getN (pc' := 80) ci3 0 (by decide) (gfR_spec h24) q329 (Or.inl rfl) dX2_tell_77 rfl ?_
    obtain ⟨u27, h28, hf⟩ := ob hf
    obtain ⟨q25, h26, hf⟩ := ob hf
    refine P.callV (pc' := 83) (As := []) 0 (ok_J2_size F x23 q14.2 h26) (Nat.le_of_ble_eq_true rfl) (lw_V q668 q669 q670 q165 q671) rfl yok_J2_size rfl (Nat.le_of_ble_eq_true rfl) ci20 h28 (Nat.le_of_ble_eq_true rfl) rfl dX2_tell_80 rfl ?_
    obtain ⟨u31, h32, hf⟩ := ob hf
    obtain ⟨q29, h30, hf⟩ := ob hf
    rcases e33 : q29.1 with x34 | x35
    rotate_left
    · have h30 := h30.trans (congrArg some (Prod.ext e33 rfl : q29 = (.inr x35, q29.2)))
      rw [e33] at hf
      have hf := thr_r hf
      cases hf
      exact P.callVXt (As := [.int q25]) 1 (ok_X2_tellName F this q25 q14.2 h30) rfl (Nat.le_of_ble_eq_true rfl) (lw_V q756 q758 qs14 q161 q759) rfl yok_X2_tellName rfl (Nat.le_of_ble_eq_true rfl) ci2 h32 (by decide) rfl dX2_tell_83
    have h30 := h30.trans (congrArg some (Prod.ext e33 rfl : q29 = (.inl x34, q29.2)))
    rw [e33] at hf
    have hf := thr_l hf
    refine P.callVX (pc' := 86) (As := [.int q25]) 1 (ok_X2_tellName F this q25 q14.2 h30) (Nat.le_of_ble_eq_true rfl) (lw_V q756 q758 qs14 q161 q759) rfl yok_X2_tellName rfl (Nat.le_of_ble_eq_true rfl) ci2 h32 (by decide) rfl dX2_tell_83 rfl ?_
    refine P.aload_n 0 (pc' := 87) dX2_tell_86 rfl rfl rfl ?_
    refine P.iconst (v := 0) (pc' := 88) dX2_tell_87 rfl (by decide) ?_
    refine P.bipush (v := 40) (pc' := 90) dX2_tell_88 rfl (by decide) ?_
    obtain ⟨u38, h39, hf⟩ := ob hf
    obtain ⟨q36, h37, hf⟩ := ob hf
    rcases e40 : q36.1 with x41 | x42
    rotate_left
    · have h37 := h37.trans (congrArg some (Prod.ext e40 rfl : q36 = (.inr x42, q36.2)))
      rw [e40] at hf
      have hf := thr_r hf
      cases hf
      exact P.callVXt (As := [.int 0, .int 40]) 2 (ok_X2_bounded F this 0 40 q29.2 h37) rfl (Nat.le_of_ble_eq_true rfl) (lw_V q772 q774 qs18 q161 q775) rfl yok_X2_bounded rfl (Nat.le_of_ble_eq_true rfl) ci2 h39 (by decide) rfl dX2_tell_90
    have h37 := h37.trans (congrArg some (Prod.ext e40 rfl : q36 = (.inl x41, q36.2)))
    rw [e40] at hf
    have hf := thr_l hf
    refine P.callVX (pc' := 93) (As := [.int 0, .int 40]) 2 (ok_X2_bounded F this 0 40 q29.2 h37) (Nat.le_of_ble_eq_true rfl) (lw_V q772 q774 qs18 q161 q775) rfl yok_X2_bounded rfl (Nat.le_of_ble_eq_true rfl) ci2 h39 (by decide) rfl dX2_tell_90 rfl ?_
    refine P.istore_n (pc' := 94) (lv' := [(1, .int x41), (0, .ref this)]) dX2_tell_93 rfl rfl (Nat.le_of_ble_eq_true rfl) rfl ?_
    refine P.aload_n 1 (pc' := 95) dX2_tell_94 rfl rfl rfl ?_
    refine P.iconst (v := 0) (pc' := 96) dX2_tell_95 rfl (by decide) ?_
    refine P.bipush (v := 99) (pc' := 98) dX2_tell_96 rfl (by decide) ?_
    obtain ⟨u45, h46, hf⟩ := ob hf
    obtain ⟨q43, h44, hf⟩ := ob hf
    rcases e47 : q43.1 with x48 | x49
    rotate_left
    · have h44 := h44.trans (congrArg some (Prod.ext e47 rfl : q43 = (.inr x49, q43.2)))
      rw [e47] at hf
      have hf := thr_r hf
      cases hf
      exact P.callVXt (As := [.int 0, .int 99]) 2 (ok_X2_bounded F this 0 99 q36.2 h44) rfl (Nat.le_of_ble_eq_true rfl) (lw_V q772 q774 qs18 q161 q775) rfl yok_X2_bounded rfl (Nat.le_of_ble_eq_true rfl) ci2 h46 (by decide) rfl dX2_tell_98
    have h44 := h44.trans (congrArg some (Prod.ext e47 rfl : q43 = (.inl x48, q43.2)))
    rw [e47] at hf
    have hf := thr_l hf
    refine P.callVX (pc' := 101) (As := [.int 0, .int 99]) 2 (ok_X2_bounded F this 0 99 q36.2 h44) (Nat.le_of_ble_eq_true rfl) (lw_V q772 q774 qs18 q161 q775) rfl yok_X2_bounded rfl (Nat.le_of_ble_eq_true rfl) ci2 h46 (by decide) rfl dX2_tell_98 rfl ?_
    refine P.istore_n (pc' := 102) (lv' := [(2, .int x48), (1, .int x41), (0, .ref this)]) dX2_tell_101 rfl rfl (Nat.le_of_ble_eq_true rfl) rfl ?_
    refine P.aload_n 2 (pc' := 103) dX2_tell_102 rfl rfl rfl ?_
    obtain ⟨x50, h51, hf⟩ := ob hf
    refine P.get (pc' := 106) ci2 5 (by decide) (gfR_spec h51) q247 (Or.inl rfl) dX2_tell_103 rfl ?_
    obtain ⟨x52, h53, hf⟩ := ob hf
    refine P.getN (pc' := 109) ci3 0 (by decide) (gfR_spec h53) q329 (Or.inl rfl) dX2_tell_106 rfl ?_
    obtain ⟨μ54, e55, hf⟩ := nm_i hf
    refine P.newE (pc' := 112) ci11 q777 q778 q181 dfX11_ok e55 dX2_tell_109 rfl ?_
    refine P.dup (pc' := 113) dX2_tell_112 rfl rfl ?_
    refine P.iload_n 1 (pc' := 114) dX2_tell_113 rfl rfl rfl ?_
    refine P.iload_n 0 (pc' := 115) dX2_tell_114 rfl rfl rfl ?_
    refine P.aload_n 2 (pc' := 116) dX2_tell_115 rfl rfl rfl ?_
    refine P.iconst (v := 1) (pc' := 117) dX2_tell_116 rfl (by decide) ?_
    refine P.bipush (v := 9) (pc' := 119) dX2_tell_117 rfl (by decide) ?_
    obtain ⟨u58, h59, hf⟩ := ob hf
    obtain ⟨q56, h57, hf⟩ := ob hf
    rcases e60 : q56.1 with x61 | x62
    rotate_left
    · have h57 := h57.trans (congrArg some (Prod.ext e60 rfl : q56 = (.inr x62, q56.2)))
      rw [e60] at hf
      have hf := thr_r hf
      cases hf
      exact P.callVXt (As := [.int 1, .int 9]) 2 (ok_X2_bounded F this 1 9 μ54 h57) rfl (Nat.le_of_ble_eq_true rfl) (lw_V q772 q774 qs18 q161 q775) rfl yok_X2_bounded rfl (Nat.le_of_ble_eq_true rfl) ci2 h59 (Nat.le_of_ble_eq_true rfl) rfl dX2_tell_119
    have h57 := h57.trans (congrArg some (Prod.ext e60 rfl : q56 = (.inl x61, q56.2)))
    rw [e60] at hf
    have hf := thr_l hf
    refine P.callVX (pc' := 122) (As := [.int 1, .int 9]) 2 (ok_X2_bounded F this 1 9 μ54 h57) (Nat.le_of_ble_eq_true rfl) (lw_V q772 q774 qs18 q161 q775) rfl yok_X2_bounded rfl (Nat.le_of_ble_eq_true rfl) ci2 h59 (Nat.le_of_ble_eq_true rfl) rfl dX2_tell_119 rfl ?_
    obtain ⟨q63, h64, hf⟩ := ob hf
    refine P.callIN (pc' := 125) (As := [.int x41, .int x48, .int x61]) 3 (ok_X11_init F q43.2.2.1 x41 x48 x61 q56.2 h64) (Nat.le_of_ble_eq_true rfl) q781 q181 q779 q780 rfl yok_X11_init rfl (Nat.le_of_ble_eq_true rfl) (Nat.le_of_ble_eq_true rfl) rfl dX2_tell_122 rfl ?_
    obtain ⟨u67, h68, hf⟩ := ob hf
    obtain ⟨q65, h66, hf⟩ := ob hf
    refine P.callV (pc' := 128) (As := [.ref q43.2.2.1]) 1 (ok_J2_add F x52 q43.2.2.1 q63 h66) (Nat.le_of_ble_eq_true rfl) (lw_V q796 q797 q798 q165 q799) rfl yok_J2_add rfl (Nat.le_of_ble_eq_true rfl) ci20 h68 (by decide) rfl dX2_tell_125 rfl ?_
    refine P.pop (pc' := 129) dX2_tell_128 rfl rfl ?_
    refine P.goto (tgt := 434) dX2_tell_129 (by decide) ?_
    refine P.aload_n 2 (pc' := 435) dX2_tell_434 rfl rfl rfl ?_
    refine P.bipush (v := 59) (pc' := 437) dX2_tell_435 rfl (by decide) ?_
    obtain ⟨u71, h72, hf⟩ := ob hf
    obtain ⟨q69, h70, hf⟩ := ob hf
    rcases e73 : q69.1 with x74 | x75
    rotate_left
    · have h70 := h70.trans (congrArg some (Prod.ext e73 rfl : q69 = (.inr x75, q69.2)))
      rw [e73] at hf
      have hf := thr_r hf
      cases hf
      exact P.callVXt (As := [.int 59]) 1 (ok_X2_must F this 59 q65.2 h70) rfl (Nat.le_of_ble_eq_true rfl) (lw_V q760 q762 qs15 q161 q763) rfl yok_X2_must rfl (Nat.le_of_ble_eq_true rfl) ci2 h72 (by decide) rfl dX2_tell_437
    have h70 := h70.trans (congrArg some (Prod.ext e73 rfl : q69 = (.inl x74, q69.2)))
    rw [e73] at hf
    have hf := thr_l hf
    refine P.callVX (pc' := 440) (As := [.int 59]) 1 (ok_X2_must F this 59 q65.2 h70) (Nat.le_of_ble_eq_true rfl) (lw_V q760 q762 qs15 q161 q763) rfl yok_X2_must rfl (Nat.le_of_ble_eq_true rfl) ci2 h72 (by decide) rfl dX2_tell_437 rfl ?_
    refine P.pop (pc' := 441) dX2_tell_440 rfl rfl ?_
    cases hf; exact P.vretX rfl dX2_tell_441
  · have hf := (if_neg y5).symm.trans hf
    by_cases y76 : q1 = 201
    · have hf := (if_pos y76).symm.trans hf
      refine P.tsIn (tgt := 132) dX2_tell_4 (by rw [y76]; decide) (by rw [y76]; decide) (by rw [y76]; rfl) (by decide) ?_
      refine P.aload_n 0 (pc' := 133) dX2_tell_132 rfl rfl rfl ?_
      refine P.aload_n 0 (pc' := 134) dX2_tell_133 rfl rfl rfl ?_
      obtain ⟨x77, h78, hf⟩ := ob hf
      refine P.get (pc' := 137) ci2 5 (by decide) (gfR_spec h78) q247 (Or.inl rfl) dX2_tell_134 rfl ?_
      obtain ⟨x79, h80, hf⟩ := ob hf
      refine P.getN (pc' := 140) ci3 6 (by decide) (gfI_spec h80) q346 (Or.inl rfl) dX2_tell_137 rfl ?_
      refine P.bipush (v := 12) (pc' := 142) dX2_tell_140 rfl (by decide) ?_
      obtain ⟨u83, h84, hf⟩ := ob hf
      obtain ⟨q81, h82, hf⟩ := ob hf
      rcases e85 : q81.1 with x86 | x87
      rotate_left
      · have h82 := h82.trans (congrArg some (Prod.ext e85 rfl : q81 = (.inr x87, q81.2)))
        rw [e85] at hf
        have hf := thr_r hf
        cases hf
        exact P.callVXt (As := [.int x79, .int 12]) 2 (ok_X2_room F this x79 12 μ h82) rfl (Nat.le_of_ble_eq_true rfl) (lw_V q672 q674 qs10 q161 q675) rfl yok_X2_room rfl (Nat.le_of_ble_eq_true rfl) ci2 h84 (by decide) rfl dX2_tell_142
      have h82 := h82.trans (congrArg some (Prod.ext e85 rfl : q81 = (.inl x86, q81.2)))
      rw [e85] at hf
      have hf := thr_l hf
      refine P.callVX (pc' := 145) (As := [.int x79, .int 12]) 2 (ok_X2_room F this x79 12 μ h82) (Nat.le_of_ble_eq_true rfl) (lw_V q672 q674 qs10 q161 q675) rfl yok_X2_room rfl (Nat.le_of_ble_eq_true rfl) ci2 h84 (by decide) rfl dX2_tell_142 rfl ?_
      refine P.aload_n 0 (pc' := 146) dX2_tell_145 rfl rfl rfl ?_
      refine P.bipush (v := 100) (pc' := 148) dX2_tell_146 rfl (by decide) ?_
      refine P.aload_n 0 (pc' := 149) dX2_tell_148 rfl rfl rfl ?_
      obtain ⟨x88, h89, hf⟩ := ob hf
      refine P.get (pc' := 152) ci2 5 (by decide) (gfR_spec h89) q247 (Or.inl rfl) dX2_tell_149 rfl ?_
      obtain ⟨x90, h91, hf⟩ := ob hf
      refine P.getN (pc' := 155) ci3 6 (by decide) (gfI_spec h91) q346 (Or.inl rfl) dX2_tell_152 rfl ?_
      refine P.iadd (pc' := 156) dX2_tell_155 rfl ?_
      obtain ⟨u94, h95, hf⟩ := ob hf
      obtain ⟨q92, h93, hf⟩ := ob hf
      rcases e96 : q92.1 with x97 | x98
      rotate_left
      · have h93 := h93.trans (congrArg some (Prod.ext e96 rfl : q92 = (.inr x98, q92.2)))
        rw [e96] at hf
        have hf := thr_r hf
        cases hf
        exact P.callVXt (As := [.int (100 + x90)]) 1 (ok_X2_tellName F this (100 + x90) q81.2 h93) rfl (Nat.le_of_ble_eq_true rfl) (lw_V q756 q758 qs14 q161 q759) rfl yok_X2_tellName rfl (Nat.le_of_ble_eq_true rfl) ci2 h95 (by decide) rfl dX2_tell_156
      have h93 := h93.trans (congrArg some (Prod.ext e96 rfl : q92 = (.inl x97, q92.2)))
      rw [e96] at hf
      have hf := thr_l hf
      refine P.callVX (pc' := 159) (As := [.int (100 + x90)]) 1 (ok_X2_tellName F this (100 + x90) q81.2 h93) (Nat.le_of_ble_eq_true rfl) (lw_V q756 q758 qs14 q161 q759) rfl yok_X2_tellName rfl (Nat.le_of_ble_eq_true rfl) ci2 h95 (by decide) rfl dX2_tell_156 rfl ?_
      refine P.aload_n 0 (pc' := 160) dX2_tell_159 rfl rfl rfl ?_
      obtain ⟨x99, h100, hf⟩ := ob hf
      refine P.get (pc' := 163) ci2 5 (by decide) (gfR_spec h100) q247 (Or.inl rfl) dX2_tell_160 rfl ?_
      obtain ⟨x101, h102, hf⟩ := ob hf
      refine P.getN (pc' := 166) ci3 5 (by decide) (gfR_spec h102) q344 (Or.inl rfl) dX2_tell_163 rfl ?_
      refine P.aload_n 0 (pc' := 167) dX2_tell_166 rfl rfl rfl ?_
      obtain ⟨x103, h104, hf⟩ := ob hf
      refine P.get (pc' := 170) ci2 5 (by decide) (gfR_spec h104) q247 (Or.inl rfl) dX2_tell_167 rfl ?_
      obtain ⟨x105, h106, hf⟩ := ob hf
      refine P.getN (pc' := 173) ci3 6 (by decide) (gfI_spec h106) q346 (Or.inl rfl) dX2_tell_170 rfl ?_
      refine P.aload_n 0 (pc' := 174) dX2_tell_173 rfl rfl rfl ?_
      refine P.iconst (v := 0) (pc' := 175) dX2_tell_174 rfl (by decide) ?_
      refine P.bipush (v := 99) (pc' := 177) dX2_tell_175 rfl (by decide) ?_
      obtain ⟨u109, h110, hf⟩ := ob hf
      obtain ⟨q107, h108, hf⟩ := ob hf
      rcases e111 : q107.1 with x112 | x113
      rotate_left
      · have h108 := h108.trans (congrArg some (Prod.ext e111 rfl : q107 = (.inr x113, q107.2)))
        rw [e111] at hf
        have hf := thr_r hf
        cases hf
        exact P.callVXt (As := [.int 0, .int 99]) 2 (ok_X2_bounded F this 0 99 q92.2 h108) rfl (Nat.le_of_ble_eq_true rfl) (lw_V q772 q774 qs18 q161 q775) rfl yok_X2_bounded rfl (Nat.le_of_ble_eq_true rfl) ci2 h110 (Nat.le_of_ble_eq_true rfl) rfl dX2_tell_177
      have h108 := h108.trans (congrArg some (Prod.ext e111 rfl : q107 = (.inl x112, q107.2)))
      rw [e111] at hf
      have hf := thr_l hf
      refine P.callVX (pc' := 180) (As := [.int 0, .int 99]) 2 (ok_X2_bounded F this 0 99 q92.2 h108) (Nat.le_of_ble_eq_true rfl) (lw_V q772 q774 qs18 q161 q775) rfl yok_X2_bounded rfl (Nat.le_of_ble_eq_true rfl) ci2 h110 (Nat.le_of_ble_eq_true rfl) rfl dX2_tell_177 rfl ?_
      obtain ⟨μ115, h114, hf⟩ := ob hf
      refine P.iast (pc' := 181) h114 dX2_tell_180 rfl ?_
      refine P.aload_n 0 (pc' := 182) dX2_tell_181 rfl rfl rfl ?_
      obtain ⟨x116, h117, hf⟩ := ob hf
      refine P.get (pc' := 185) ci2 5 (by decide) (gfR_spec h117) q247 (Or.inl rfl) dX2_tell_182 rfl ?_
      refine P.dup (pc' := 186) dX2_tell_185 rfl rfl ?_
      obtain ⟨x118, h119, hf⟩ := ob hf
      refine P.getN (pc' := 189) ci3 6 (by decide) (gfI_spec h119) q346 (Or.inl rfl) dX2_tell_186 rfl ?_
      refine P.iconst (v := 1) (pc' := 190) dX2_tell_189 rfl (by decide) ?_
      refine P.iadd (pc' := 191) dX2_tell_190 rfl ?_
      obtain ⟨μ120, h121, hf⟩ := ob hf
      refine P.putN (v := .int (x118 + 1)) (pc' := 194) ci3 6 (by decide) h121 q346 (Or.inl rfl) rfl rfl rfl dX2_tell_191 rfl ?_
      refine P.goto (tgt := 434) dX2_tell_194 (by decide) ?_
      refine P.aload_n 0 (pc' := 435) dX2_tell_434 rfl rfl rfl ?_
      refine P.bipush (v := 59) (pc' := 437) dX2_tell_435 rfl (by decide) ?_
      obtain ⟨u124, h125, hf⟩ := ob hf
      obtain ⟨q122, h123, hf⟩ := ob hf
      rcases e126 : q122.1 with x127 | x128
      rotate_left
      · have h123 := h123.trans (congrArg some (Prod.ext e126 rfl : q122 = (.inr x128, q122.2)))
        rw [e126] at hf
        have hf := thr_r hf
        cases hf
        exact P.callVXt (As := [.int 59]) 1 (ok_X2_must F this 59 μ120 h123) rfl (Nat.le_of_ble_eq_true rfl) (lw_V q760 q762 qs15 q161 q763) rfl yok_X2_must rfl (Nat.le_of_ble_eq_true rfl) ci2 h125 (by decide) rfl dX2_tell_437
      have h123 := h123.trans (congrArg some (Prod.ext e126 rfl : q122 = (.inl x127, q122.2)))
      rw [e126] at hf
      have hf := thr_l hf
      refine P.callVX (pc' := 440) (As := [.int 59]) 1 (ok_X2_must F this 59 μ120 h123) (Nat.le_of_ble_eq_true rfl) (lw_V q760 q762 qs15 q161 q763) rfl yok_X2_must rfl (Nat.le_of_ble_eq_true rfl) ci2 h125 (by decide) rfl dX2_tell_437 rfl ?_
      refine P.pop (pc' := 441) dX2_tell_440 rfl rfl ?_
      cases hf; exact P.vretX rfl dX2_tell_441
    · have hf := (if_neg y76).symm.trans hf
      by_cases y129 : q1 = 202
      · have hf := (if_pos y129).symm.trans hf
        refine P.tsIn (tgt := 197) dX2_tell_4 (by rw [y129]; decide) (by rw [y129]; decide) (by rw [y129]; rfl) (by decide) ?_
        refine P.aload_n 0 (pc' := 198) dX2_tell_197 rfl rfl rfl ?_
        refine P.aload_n 0 (pc' := 199) dX2_tell_198 rfl rfl rfl ?_
        obtain ⟨x130, h131, hf⟩ := ob hf
        refine P.get (pc' := 202) ci2 5 (by decide) (gfR_spec h131) q247 (Or.inl rfl) dX2_tell_199 rfl ?_
        obtain ⟨x132, h133, hf⟩ := ob hf
        refine P.getN (pc' := 205) ci3 8 (by decide) (gfI_spec h133) q350 (Or.inl rfl) dX2_tell_202 rfl ?_
        refine P.bipush (v := 12) (pc' := 207) dX2_tell_205 rfl (by decide) ?_
        obtain ⟨u136, h137, hf⟩ := ob hf
        obtain ⟨q134, h135, hf⟩ := ob hf
        rcases e138 : q134.1 with x139 | x140
        rotate_left
        · have h135 := h135.trans (congrArg some (Prod.ext e138 rfl : q134 = (.inr x140, q134.2)))
          rw [e138] at hf
          have hf := thr_r hf
          cases hf
          exact P.callVXt (As := [.int x132, .int 12]) 2 (ok_X2_room F this x132 12 μ h135) rfl (Nat.le_of_ble_eq_true rfl) (lw_V q672 q674 qs10 q161 q675) rfl yok_X2_room rfl (Nat.le_of_ble_eq_true rfl) ci2 h137 (by decide) rfl dX2_tell_207
        have h135 := h135.trans (congrArg some (Prod.ext e138 rfl : q134 = (.inl x139, q134.2)))
        rw [e138] at hf
        have hf := thr_l hf
        refine P.callVX (pc' := 210) (As := [.int x132, .int 12]) 2 (ok_X2_room F this x132 12 μ h135) (Nat.le_of_ble_eq_true rfl) (lw_V q672 q674 qs10 q161 q675) rfl yok_X2_room rfl (Nat.le_of_ble_eq_true rfl) ci2 h137 (by decide) rfl dX2_tell_207 rfl ?_
        refine P.aload_n 0 (pc' := 211) dX2_tell_210 rfl rfl rfl ?_
        refine P.iconst (v := 0) (pc' := 212) dX2_tell_211 rfl (by decide) ?_
        obtain ⟨u143, h144, hf⟩ := ob hf
        obtain ⟨q141, h142, hf⟩ := ob hf
        rcases e145 : q141.1 with x146 | x147
        rotate_left
        · have h142 := h142.trans (congrArg some (Prod.ext e145 rfl : q141 = (.inr x147, q141.2)))
          rw [e145] at hf
          have hf := thr_r hf
          cases hf
          exact P.callVXt (As := [.int 0]) 1 (ok_X2_known F this 0 q134.2 h142) rfl (Nat.le_of_ble_eq_true rfl) (lw_V q864 q866 qs22 q161 q867) rfl yok_X2_known rfl (Nat.le_of_ble_eq_true rfl) ci2 h144 (by decide) rfl dX2_tell_212
        have h142 := h142.trans (congrArg some (Prod.ext e145 rfl : q141 = (.inl x146, q141.2)))
        rw [e145] at hf
        have hf := thr_l hf
        refine P.callVX (pc' := 215) (As := [.int 0]) 1 (ok_X2_known F this 0 q134.2 h142) (Nat.le_of_ble_eq_true rfl) (lw_V q864 q866 qs22 q161 q867) rfl yok_X2_known rfl (Nat.le_of_ble_eq_true rfl) ci2 h144 (by decide) rfl dX2_tell_212 rfl ?_
        refine P.istore_n (pc' := 216) (lv' := [(1, .int x146), (0, .ref this)]) dX2_tell_215 rfl rfl (Nat.le_of_ble_eq_true rfl) rfl ?_
        refine P.aload_n 1 (pc' := 217) dX2_tell_216 rfl rfl rfl ?_
        refine P.bipush (v := 100) (pc' := 219) dX2_tell_217 rfl (by decide) ?_
        obtain ⟨u150, h151, hf⟩ := ob hf
        obtain ⟨q148, h149, hf⟩ := ob hf
        rcases e152 : q148.1 with x153 | x154
        rotate_left
        · have h149 := h149.trans (congrArg some (Prod.ext e152 rfl : q148 = (.inr x154, q148.2)))
          rw [e152] at hf
          have hf := thr_r hf
          cases hf
          exact P.callVXt (As := [.int 100]) 1 (ok_X2_known F this 100 q141.2 h149) rfl (Nat.le_of_ble_eq_true rfl) (lw_V q864 q866 qs22 q161 q867) rfl yok_X2_known rfl (Nat.le_of_ble_eq_true rfl) ci2 h151 (by decide) rfl dX2_tell_219
        have h149 := h149.trans (congrArg some (Prod.ext e152 rfl : q148 = (.inl x153, q148.2)))
        rw [e152] at hf
        have hf := thr_l hf
        refine P.callVX (pc' := 222) (As := [.int 100]) 1 (ok_X2_known F this 100 q141.2 h149) (Nat.le_of_ble_eq_true rfl) (lw_V q864 q866 qs22 q161 q867) rfl yok_X2_known rfl (Nat.le_of_ble_eq_true rfl) ci2 h151 (by decide) rfl dX2_tell_219 rfl ?_
        refine P.istore_n (pc' := 223) (lv' := [(2, .int x153), (1, .int x146), (0, .ref this)]) dX2_tell_222 rfl rfl (Nat.le_of_ble_eq_true rfl) rfl ?_
        refine P.iload_n 1 (pc' := 224) dX2_tell_223 rfl rfl rfl ?_
        refine P.iconst (v := (-1)) (pc' := 225) dX2_tell_224 rfl (by decide) ?_
        refine P.icmp_eq (tgt := 245) (pc' := 228) dX2_tell_225 (by decide) rfl (fun y155 => ?_) (fun y155 => ?_)
        · have hf := (if_pos y155).symm.trans hf
          exact PW.sub [2] rfl (ok_f_X2_tell_j245 F this q148.2 hf)
        · have hf := (if_neg y155).symm.trans hf
          refine P.iload_n 0 (pc' := 229) dX2_tell_228 rfl rfl rfl ?_
          refine P.iconst (v := (-1)) (pc' := 230) dX2_tell_229 rfl (by decide) ?_
          refine P.icmp_eq (tgt := 245) (pc' := 233) dX2_tell_230 (by decide) rfl (fun y156 => ?_) (fun y156 => ?_)
          · have hf := (if_pos y156).symm.trans hf
            exact PW.sub [2] rfl (ok_f_X2_tell_j245 F this q148.2 hf)
          · have hf := (if_neg y156).symm.trans hf
            refine P.aload_n 2 (pc' := 234) dX2_tell_233 rfl rfl rfl ?_
            obtain ⟨x157, h158, hf⟩ := ob hf
            refine P.get (pc' := 237) ci2 5 (by decide) (gfR_spec h158) q247 (Or.inl rfl) dX2_tell_234 rfl ?_
            obtain ⟨x159, h160, hf⟩ := ob hf
            refine P.getN (pc' := 240) ci3 7 (by decide) (gfR_spec h160) q349 (Or.inl rfl) dX2_tell_237 rfl ?_
            refine P.iload_n 1 (pc' := 241) dX2_tell_240 rfl rfl rfl ?_
            refine P.iload_n 0 (pc' := 242) dX2_tell_241 rfl rfl rfl ?_
            obtain ⟨q161, h162, hf⟩ := ob hf
            refine P.callSN (pc' := 245) (As := [.ref x159, .int x146, .int x153]) 3 (ok_X0_gives F x159 x146 x153 q148.2 h162) (Nat.le_of_ble_eq_true rfl) q870 q159 q868 q869 yok_X0_gives rfl (Nat.le_of_ble_eq_true rfl) (by decide) rfl dX2_tell_242 rfl ?_
            exact PW.sub [2] rfl (ok_f_X2_tell_j245 F this q161 hf)
      · have hf := (if_neg y129).symm.trans hf
        by_cases y163 : q1 = 203
        · have hf := (if_pos y163).symm.trans hf
          refine P.tsIn (tgt := 261) dX2_tell_4 (by rw [y163]; decide) (by rw [y163]; decide) (by rw [y163]; rfl) (by decide) ?_
          refine P.aload_n 0 (pc' := 262) dX2_tell_261 rfl rfl rfl ?_
          refine P.aload_n 0 (pc' := 263) dX2_tell_262 rfl rfl rfl ?_
          obtain ⟨x164, h165, hf⟩ := ob hf
          refine P.get (pc' := 266) ci2 5 (by decide) (gfR_spec h165) q247 (Or.inl rfl) dX2_tell_263 rfl ?_
          obtain ⟨x166, h167, hf⟩ := ob hf
          refine P.getN (pc' := 269) ci3 1 (by decide) (gfR_spec h167) q331 (Or.inl rfl) dX2_tell_266 rfl ?_
          obtain ⟨u170, h171, hf⟩ := ob hf
          obtain ⟨q168, h169, hf⟩ := ob hf
          refine P.callV (pc' := 272) (As := []) 0 (ok_J2_size F x166 μ h169) (Nat.le_of_ble_eq_true rfl) (lw_V q668 q669 q670 q165 q671) rfl yok_J2_size rfl (Nat.le_of_ble_eq_true rfl) ci20 h171 (Nat.le_of_ble_eq_true rfl) rfl dX2_tell_269 rfl ?_
          refine P.bipush (v := 12) (pc' := 274) dX2_tell_272 rfl (by decide) ?_
          obtain ⟨u174, h175, hf⟩ := ob hf
          obtain ⟨q172, h173, hf⟩ := ob hf
          rcases e176 : q172.1 with x177 | x178
          rotate_left
          · have h173 := h173.trans (congrArg some (Prod.ext e176 rfl : q172 = (.inr x178, q172.2)))
            rw [e176] at hf
            have hf := thr_r hf
            cases hf
            exact P.callVXt (As := [.int q168, .int 12]) 2 (ok_X2_room F this q168 12 μ h173) rfl (Nat.le_of_ble_eq_true rfl) (lw_V q672 q674 qs10 q161 q675) rfl yok_X2_room rfl (Nat.le_of_ble_eq_true rfl) ci2 h175 (by decide) rfl dX2_tell_274
          have h173 := h173.trans (congrArg some (Prod.ext e176 rfl : q172 = (.inl x177, q172.2)))
          rw [e176] at hf
          have hf := thr_l hf
          refine P.callVX (pc' := 277) (As := [.int q168, .int 12]) 2 (ok_X2_room F this q168 12 μ h173) (Nat.le_of_ble_eq_true rfl) (lw_V q672 q674 qs10 q161 q675) rfl yok_X2_room rfl (Nat.le_of_ble_eq_true rfl) ci2 h175 (by decide) rfl dX2_tell_274 rfl ?_
          refine P.aload_n 0 (pc' := 278) dX2_tell_277 rfl rfl rfl ?_
          obtain ⟨u181, h182, hf⟩ := ob hf
          obtain ⟨q179, h180, hf⟩ := ob hf
          rcases e183 : q179.1 with x184 | x185
          rotate_left
          · have h180 := h180.trans (congrArg some (Prod.ext e183 rfl : q179 = (.inr x185, q179.2)))
            rw [e183] at hf
            have hf := thr_r hf
            cases hf
            exact P.callVXt (As := []) 0 (ok_X2_tellStair F this q172.2 h180) rfl (Nat.le_of_ble_eq_true rfl) (lw_V q871 q873 qs23 q161 q874) rfl yok_X2_tellStair rfl (Nat.le_of_ble_eq_true rfl) ci2 h182 (by decide) rfl dX2_tell_278
          have h180 := h180.trans (congrArg some (Prod.ext e183 rfl : q179 = (.inl x184, q179.2)))
          rw [e183] at hf
          have hf := thr_l hf
          refine P.callVX (pc' := 281) (As := []) 0 (ok_X2_tellStair F this q172.2 h180) (Nat.le_of_ble_eq_true rfl) (lw_V q871 q873 qs23 q161 q874) rfl yok_X2_tellStair rfl (Nat.le_of_ble_eq_true rfl) ci2 h182 (by decide) rfl dX2_tell_278 rfl ?_
          refine P.goto (tgt := 434) dX2_tell_281 (by decide) ?_
          refine P.aload_n 0 (pc' := 435) dX2_tell_434 rfl rfl rfl ?_
          refine P.bipush (v := 59) (pc' := 437) dX2_tell_435 rfl (by decide) ?_
          obtain ⟨u188, h189, hf⟩ := ob hf
          obtain ⟨q186, h187, hf⟩ := ob hf
          rcases e190 : q186.1 with x191 | x192
          rotate_left
          · have h187 := h187.trans (congrArg some (Prod.ext e190 rfl : q186 = (.inr x192, q186.2)))
            rw [e190] at hf
            have hf := thr_r hf
            cases hf
            exact P.callVXt (As := [.int 59]) 1 (ok_X2_must F this 59 q179.2 h187) rfl (Nat.le_of_ble_eq_true rfl) (lw_V q760 q762 qs15 q161 q763) rfl yok_X2_must rfl (Nat.le_of_ble_eq_true rfl) ci2 h189 (by decide) rfl dX2_tell_437
          have h187 := h187.trans (congrArg some (Prod.ext e190 rfl : q186 = (.inl x191, q186.2)))
          rw [e190] at hf
          have hf := thr_l hf
          refine P.callVX (pc' := 440) (As := [.int 59]) 1 (ok_X2_must F this 59 q179.2 h187) (Nat.le_of_ble_eq_true rfl) (lw_V q760 q762 qs15 q161 q763) rfl yok_X2_must rfl (Nat.le_of_ble_eq_true rfl) ci2 h189 (by decide) rfl dX2_tell_437 rfl ?_
          refine P.pop (pc' := 441) dX2_tell_440 rfl rfl ?_
          cases hf; exact P.vretX rfl dX2_tell_441
        · have hf := (if_neg y163).symm.trans hf
          by_cases y193 : q1 = 205
          · have hf := (if_pos y193).symm.trans hf
            refine P.tsIn (tgt := 284) dX2_tell_4 (by rw [y193]; decide) (by rw [y193]; decide) (by rw [y193]; rfl) (by decide) ?_
            refine P.aload_n 0 (pc' := 285) dX2_tell_284 rfl rfl rfl ?_
            refine P.aload_n 0 (pc' := 286) dX2_tell_285 rfl rfl rfl ?_
            obtain ⟨x194, h195, hf⟩ := ob hf
            refine P.get (pc' := 289) ci2 5 (by decide) (gfR_spec h195) q247 (Or.inl rfl) dX2_tell_286 rfl ?_
            obtain ⟨x196, h197, hf⟩ := ob hf
            refine P.getN (pc' := 292) ci3 10 (by decide) (gfI_spec h197) q354 (Or.inl rfl) dX2_tell_289 rfl ?_
            refine P.iconst (v := 4) (pc' := 293) dX2_tell_292 rfl (by decide) ?_
            obtain ⟨u200, h201, hf⟩ := ob hf
            obtain ⟨q198, h199, hf⟩ := ob hf
            rcases e202 : q198.1 with x203 | x204
            rotate_left
            · have h199 := h199.trans (congrArg some (Prod.ext e202 rfl : q198 = (.inr x204, q198.2)))
              rw [e202] at hf
              have hf := thr_r hf
              cases hf
              exact P.callVXt (As := [.int x196, .int 4]) 2 (ok_X2_room F this x196 4 μ h199) rfl (Nat.le_of_ble_eq_true rfl) (lw_V q672 q674 qs10 q161 q675) rfl yok_X2_room rfl (Nat.le_of_ble_eq_true rfl) ci2 h201 (by decide) rfl dX2_tell_293
            have h199 := h199.trans (congrArg some (Prod.ext e202 rfl : q198 = (.inl x203, q198.2)))
            rw [e202] at hf
            have hf := thr_l hf
            refine P.callVX (pc' := 296) (As := [.int x196, .int 4]) 2 (ok_X2_room F this x196 4 μ h199) (Nat.le_of_ble_eq_true rfl) (lw_V q672 q674 qs10 q161 q675) rfl yok_X2_room rfl (Nat.le_of_ble_eq_true rfl) ci2 h201 (by decide) rfl dX2_tell_293 rfl ?_
            refine P.aload_n 0 (pc' := 297) dX2_tell_296 rfl rfl rfl ?_
            refine P.iconst (v := 0) (pc' := 298) dX2_tell_297 rfl (by decide) ?_
            obtain ⟨u207, h208, hf⟩ := ob hf
            obtain ⟨q205, h206, hf⟩ := ob hf
            rcases e209 : q205.1 with x210 | x211
            rotate_left
            · have h206 := h206.trans (congrArg some (Prod.ext e209 rfl : q205 = (.inr x211, q205.2)))
              rw [e209] at hf
              have hf := thr_r hf
              cases hf
              exact P.callVXt (As := [.int 0]) 1 (ok_X2_known F this 0 q198.2 h206) rfl (Nat.le_of_ble_eq_true rfl) (lw_V q864 q866 qs22 q161 q867) rfl yok_X2_known rfl (Nat.le_of_ble_eq_true rfl) ci2 h208 (by decide) rfl dX2_tell_298
            have h206 := h206.trans (congrArg some (Prod.ext e209 rfl : q205 = (.inl x210, q205.2)))
            rw [e209] at hf
            have hf := thr_l hf
            refine P.callVX (pc' := 301) (As := [.int 0]) 1 (ok_X2_known F this 0 q198.2 h206) (Nat.le_of_ble_eq_true rfl) (lw_V q864 q866 qs22 q161 q867) rfl yok_X2_known rfl (Nat.le_of_ble_eq_true rfl) ci2 h208 (by decide) rfl dX2_tell_298 rfl ?_
            refine P.istore_n (pc' := 302) (lv' := [(1, .int x210), (0, .ref this)]) dX2_tell_301 rfl rfl (Nat.le_of_ble_eq_true rfl) rfl ?_
            refine P.iload_n 0 (pc' := 303) dX2_tell_302 rfl rfl rfl ?_
            refine P.iconst (v := (-1)) (pc' := 304) dX2_tell_303 rfl (by decide) ?_
            refine P.icmp_eq (tgt := 317) (pc' := 307) dX2_tell_304 (by decide) rfl (fun y212 => ?_) (fun y212 => ?_)
            · have hf := (if_pos y212).symm.trans hf
              exact PW.sub [1] rfl (ok_f_X2_tell_j317 F this q205.2 hf)
            · have hf := (if_neg y212).symm.trans hf
              refine P.aload_n 1 (pc' := 308) dX2_tell_307 rfl rfl rfl ?_
              obtain ⟨x213, h214, hf⟩ := ob hf
              refine P.get (pc' := 311) ci2 5 (by decide) (gfR_spec h214) q247 (Or.inl rfl) dX2_tell_308 rfl ?_
              obtain ⟨x215, h216, hf⟩ := ob hf
              refine P.getN (pc' := 314) ci3 9 (by decide) (gfR_spec h216) q352 (Or.inl rfl) dX2_tell_311 rfl ?_
              refine P.iload_n 0 (pc' := 315) dX2_tell_314 rfl rfl rfl ?_
              refine P.iconst (v := 1) (pc' := 316) dX2_tell_315 rfl (by decide) ?_
              obtain ⟨μ218, h217, hf⟩ := ob hf
              refine P.zast (pc' := 317) h217 dX2_tell_316 rfl ?_
              exact PW.sub [1] rfl (ok_f_X2_tell_j317 F this μ218 hf)
          · have hf := (if_neg y193).symm.trans hf
            by_cases y219 : q1 = 206
            · have hf := (if_pos y219).symm.trans hf
              refine P.tsIn (tgt := 333) dX2_tell_4 (by rw [y219]; decide) (by rw [y219]; decide) (by rw [y219]; rfl) (by decide) ?_
              refine P.aload_n 0 (pc' := 334) dX2_tell_333 rfl rfl rfl ?_
              refine P.aload_n 0 (pc' := 335) dX2_tell_334 rfl rfl rfl ?_
              obtain ⟨x220, h221, hf⟩ := ob hf
              refine P.get (pc' := 338) ci2 5 (by decide) (gfR_spec h221) q247 (Or.inl rfl) dX2_tell_335 rfl ?_
              obtain ⟨x222, h223, hf⟩ := ob hf
              refine P.getN (pc' := 341) ci3 2 (by decide) (gfR_spec h223) q335 (Or.inl rfl) dX2_tell_338 rfl ?_
              obtain ⟨u226, h227, hf⟩ := ob hf
              obtain ⟨q224, h225, hf⟩ := ob hf
              refine P.callV (pc' := 344) (As := []) 0 (ok_J2_size F x222 μ h225) (Nat.le_of_ble_eq_true rfl) (lw_V q668 q669 q670 q165 q671) rfl yok_J2_size rfl (Nat.le_of_ble_eq_true rfl) ci20 h227 (Nat.le_of_ble_eq_true rfl) rfl dX2_tell_341 rfl ?_
              refine P.bipush (v := 8) (pc' := 346) dX2_tell_344 rfl (by decide) ?_
              obtain ⟨u230, h231, hf⟩ := ob hf
              obtain ⟨q228, h229, hf⟩ := ob hf
              rcases e232 : q228.1 with x233 | x234
              rotate_left
              · have h229 := h229.trans (congrArg some (Prod.ext e232 rfl : q228 = (.inr x234, q228.2)))
                rw [e232] at hf
                have hf := thr_r hf
                cases hf
                exact P.callVXt (As := [.int q224, .int 8]) 2 (ok_X2_room F this q224 8 μ h229) rfl (Nat.le_of_ble_eq_true rfl) (lw_V q672 q674 qs10 q161 q675) rfl yok_X2_room rfl (Nat.le_of_ble_eq_true rfl) ci2 h231 (by decide) rfl dX2_tell_346
              have h229 := h229.trans (congrArg some (Prod.ext e232 rfl : q228 = (.inl x233, q228.2)))
              rw [e232] at hf
              have hf := thr_l hf
              refine P.callVX (pc' := 349) (As := [.int q224, .int 8]) 2 (ok_X2_room F this q224 8 μ h229) (Nat.le_of_ble_eq_true rfl) (lw_V q672 q674 qs10 q161 q675) rfl yok_X2_room rfl (Nat.le_of_ble_eq_true rfl) ci2 h231 (by decide) rfl dX2_tell_346 rfl ?_
              refine P.aload_n 0 (pc' := 350) dX2_tell_349 rfl rfl rfl ?_
              refine P.iconst (v := 1) (pc' := 351) dX2_tell_350 rfl (by decide) ?_
              refine P.bipush (v := 60) (pc' := 353) dX2_tell_351 rfl (by decide) ?_
              obtain ⟨u237, h238, hf⟩ := ob hf
              obtain ⟨q235, h236, hf⟩ := ob hf
              rcases e239 : q235.1 with x240 | x241
              rotate_left
              · have h236 := h236.trans (congrArg some (Prod.ext e239 rfl : q235 = (.inr x241, q235.2)))
                rw [e239] at hf
                have hf := thr_r hf
                cases hf
                exact P.callVXt (As := [.int 1, .int 60]) 2 (ok_X2_bounded F this 1 60 q228.2 h236) rfl (Nat.le_of_ble_eq_true rfl) (lw_V q772 q774 qs18 q161 q775) rfl yok_X2_bounded rfl (Nat.le_of_ble_eq_true rfl) ci2 h238 (by decide) rfl dX2_tell_353
              have h236 := h236.trans (congrArg some (Prod.ext e239 rfl : q235 = (.inl x240, q235.2)))
              rw [e239] at hf
              have hf := thr_l hf
              refine P.callVX (pc' := 356) (As := [.int 1, .int 60]) 2 (ok_X2_bounded F this 1 60 q228.2 h236) (Nat.le_of_ble_eq_true rfl) (lw_V q772 q774 qs18 q161 q775) rfl yok_X2_bounded rfl (Nat.le_of_ble_eq_true rfl) ci2 h238 (by decide) rfl dX2_tell_353 rfl ?_
              refine P.istore_n (pc' := 357) (lv' := [(1, .int x240), (0, .ref this)]) dX2_tell_356 rfl rfl (Nat.le_of_ble_eq_true rfl) rfl ?_
              refine P.aload_n 1 (pc' := 358) dX2_tell_357 rfl rfl rfl ?_
              obtain ⟨x242, h243, hf⟩ := ob hf
              refine P.get (pc' := 361) ci2 5 (by decide) (gfR_spec h243) q247 (Or.inl rfl) dX2_tell_358 rfl ?_
              obtain ⟨x244, h245, hf⟩ := ob hf
              refine P.getN (pc' := 364) ci3 2 (by decide) (gfR_spec h245) q335 (Or.inl rfl) dX2_tell_361 rfl ?_
              obtain ⟨μ246, e247, hf⟩ := nm_i hf
              refine P.newE (pc' := 367) ci13 q894 q895 q187 dfX13_ok e247 dX2_tell_364 rfl ?_
              refine P.dup (pc' := 368) dX2_tell_367 rfl rfl ?_
              refine P.iload_n 0 (pc' := 369) dX2_tell_368 rfl rfl rfl ?_
              refine P.aload_n 1 (pc' := 370) dX2_tell_369 rfl rfl rfl ?_
              refine P.iconst (v := 0) (pc' := 371) dX2_tell_370 rfl (by decide) ?_
              refine P.bipush (v := 99) (pc' := 373) dX2_tell_371 rfl (by decide) ?_
              obtain ⟨u250, h251, hf⟩ := ob hf
              obtain ⟨q248, h249, hf⟩ := ob hf
              rcases e252 : q248.1 with x253 | x254
              rotate_left
              · have h249 := h249.trans (congrArg some (Prod.ext e252 rfl : q248 = (.inr x254, q248.2)))
                rw [e252] at hf
                have hf := thr_r hf
                cases hf
                exact P.callVXt (As := [.int 0, .int 99]) 2 (ok_X2_bounded F this 0 99 μ246 h249) rfl (Nat.le_of_ble_eq_true rfl) (lw_V q772 q774 qs18 q161 q775) rfl yok_X2_bounded rfl (Nat.le_of_ble_eq_true rfl) ci2 h251 (Nat.le_of_ble_eq_true rfl) rfl dX2_tell_373
              have h249 := h249.trans (congrArg some (Prod.ext e252 rfl : q248 = (.inl x253, q248.2)))
              rw [e252] at hf
              have hf := thr_l hf
              refine P.callVX (pc' := 376) (As := [.int 0, .int 99]) 2 (ok_X2_bounded F this 0 99 μ246 h249) (Nat.le_of_ble_eq_true rfl) (lw_V q772 q774 qs18 q161 q775) rfl yok_X2_bounded rfl (Nat.le_of_ble_eq_true rfl) ci2 h251 (Nat.le_of_ble_eq_true rfl) rfl dX2_tell_373 rfl ?_
              obtain ⟨q255, h256, hf⟩ := ob hf
              refine P.callIN (pc' := 379) (As := [.int x240, .int x253]) 2 (ok_X13_init F q235.2.2.1 x240 x253 q248.2 h256) (Nat.le_of_ble_eq_true rfl) q898 q187 q896 q897 rfl yok_X13_init rfl (Nat.le_of_ble_eq_true rfl) (Nat.le_of_ble_eq_true rfl) rfl dX2_tell_376 rfl ?_
              obtain ⟨u259, h260, hf⟩ := ob hf
              obtain ⟨q257, h258, hf⟩ := ob hf
              refine P.callV (pc' := 382) (As := [.ref q235.2.2.1]) 1 (ok_J2_add F x244 q235.2.2.1 q255 h258) (Nat.le_of_ble_eq_true rfl) (lw_V q796 q797 q798 q165 q799) rfl yok_J2_add rfl (Nat.le_of_ble_eq_true rfl) ci20 h260 (by decide) rfl dX2_tell_379 rfl ?_
              refine P.pop (pc' := 383) dX2_tell_382 rfl rfl ?_
              refine P.goto (tgt := 434) dX2_tell_383 (by decide) ?_
              refine P.aload_n 1 (pc' := 435) dX2_tell_434 rfl rfl rfl ?_
              refine P.bipush (v := 59) (pc' := 437) dX2_tell_435 rfl (by decide) ?_
              obtain ⟨u263, h264, hf⟩ := ob hf
              obtain ⟨q261, h262, hf⟩ := ob hf
              rcases e265 : q261.1 with x266 | x267
              rotate_left
              · have h262 := h262.trans (congrArg some (Prod.ext e265 rfl : q261 = (.inr x267, q261.2)))
                rw [e265] at hf
                have hf := thr_r hf
                cases hf
                exact P.callVXt (As := [.int 59]) 1 (ok_X2_must F this 59 q257.2 h262) rfl (Nat.le_of_ble_eq_true rfl) (lw_V q760 q762 qs15 q161 q763) rfl yok_X2_must rfl (Nat.le_of_ble_eq_true rfl) ci2 h264 (by decide) rfl dX2_tell_437
              have h262 := h262.trans (congrArg some (Prod.ext e265 rfl : q261 = (.inl x266, q261.2)))
              rw [e265] at hf
              have hf := thr_l hf
              refine P.callVX (pc' := 440) (As := [.int 59]) 1 (ok_X2_must F this 59 q257.2 h262) (Nat.le_of_ble_eq_true rfl) (lw_V q760 q762 qs15 q161 q763) rfl yok_X2_must rfl (Nat.le_of_ble_eq_true rfl) ci2 h264 (by decide) rfl dX2_tell_437 rfl ?_
              refine P.pop (pc' := 441) dX2_tell_440 rfl rfl ?_
              cases hf; exact P.vretX rfl dX2_tell_441
            · have hf := (if_neg y219).symm.trans hf
              by_cases y268 : q1 = 207
              · have hf := (if_pos y268).symm.trans hf
                refine P.tsIn (tgt := 386) dX2_tell_4 (by rw [y268]; decide) (by rw [y268]; decide) (by rw [y268]; rfl) (by decide) ?_
                refine P.aload_n 0 (pc' := 387) dX2_tell_386 rfl rfl rfl ?_
                obtain ⟨u271, h272, hf⟩ := ob hf
                obtain ⟨q269, h270, hf⟩ := ob hf
                rcases e273 : q269.1 with x274 | x275
                rotate_left
                · have h270 := h270.trans (congrArg some (Prod.ext e273 rfl : q269 = (.inr x275, q269.2)))
                  rw [e273] at hf
                  have hf := thr_r hf
                  cases hf
                  exact P.callVXt (As := []) 0 (ok_X2_go F this μ h270) rfl (Nat.le_of_ble_eq_true rfl) (lw_V q752 q754 qs13 q161 q755) rfl yok_X2_go rfl (Nat.le_of_ble_eq_true rfl) ci2 h272 (by decide) rfl dX2_tell_387
                have h270 := h270.trans (congrArg some (Prod.ext e273 rfl : q269 = (.inl x274, q269.2)))
                rw [e273] at hf
                have hf := thr_l hf
                refine P.callVX (pc' := 390) (As := []) 0 (ok_X2_go F this μ h270) (Nat.le_of_ble_eq_true rfl) (lw_V q752 q754 qs13 q161 q755) rfl yok_X2_go rfl (Nat.le_of_ble_eq_true rfl) ci2 h272 (by decide) rfl dX2_tell_387 rfl ?_
                refine P.pop (pc' := 391) dX2_tell_390 rfl rfl ?_
                refine P.aload_n 0 (pc' := 392) dX2_tell_391 rfl rfl rfl ?_
                obtain ⟨x276, h277, hf⟩ := ob hf
                refine P.get (pc' := 395) ci2 5 (by decide) (gfR_spec h277) q247 (Or.inl rfl) dX2_tell_392 rfl ?_
                refine P.aload_n 0 (pc' := 396) dX2_tell_395 rfl rfl rfl ?_
                refine P.iconst (v := 1) (pc' := 397) dX2_tell_396 rfl (by decide) ?_
                refine P.bipush (v := 9) (pc' := 399) dX2_tell_397 rfl (by decide) ?_
                obtain ⟨u280, h281, hf⟩ := ob hf
                obtain ⟨q278, h279, hf⟩ := ob hf
                rcases e282 : q278.1 with x283 | x284
                rotate_left
                · have h279 := h279.trans (congrArg some (Prod.ext e282 rfl : q278 = (.inr x284, q278.2)))
                  rw [e282] at hf
                  have hf := thr_r hf
                  cases hf
                  exact P.callVXt (As := [.int 1, .int 9]) 2 (ok_X2_bounded F this 1 9 q269.2 h279) rfl (Nat.le_of_ble_eq_true rfl) (lw_V q772 q774 qs18 q161 q775) rfl yok_X2_bounded rfl (Nat.le_of_ble_eq_true rfl) ci2 h281 (Nat.le_of_ble_eq_true rfl) rfl dX2_tell_399
                have h279 := h279.trans (congrArg some (Prod.ext e282 rfl : q278 = (.inl x283, q278.2)))
                rw [e282] at hf
                have hf := thr_l hf
                refine P.callVX (pc' := 402) (As := [.int 1, .int 9]) 2 (ok_X2_bounded F this 1 9 q269.2 h279) (Nat.le_of_ble_eq_true rfl) (lw_V q772 q774 qs18 q161 q775) rfl yok_X2_bounded rfl (Nat.le_of_ble_eq_true rfl) ci2 h281 (Nat.le_of_ble_eq_true rfl) rfl dX2_tell_399 rfl ?_
                obtain ⟨μ285, h286, hf⟩ := ob hf
                refine P.putN (v := .int x283) (pc' := 405) ci3 11 (by decide) h286 q357 (Or.inl rfl) rfl rfl rfl dX2_tell_402 rfl ?_
                refine P.goto (tgt := 434) dX2_tell_405 (by decide) ?_
                refine P.aload_n 0 (pc' := 435) dX2_tell_434 rfl rfl rfl ?_
                refine P.bipush (v := 59) (pc' := 437) dX2_tell_435 rfl (by decide) ?_
                obtain ⟨u289, h290, hf⟩ := ob hf
                obtain ⟨q287, h288, hf⟩ := ob hf
                rcases e291 : q287.1 with x292 | x293
                rotate_left
                · have h288 := h288.trans (congrArg some (Prod.ext e291 rfl : q287 = (.inr x293, q287.2)))
                  rw [e291] at hf
                  have hf := thr_r hf
                  cases hf
                  exact P.callVXt (As := [.int 59]) 1 (ok_X2_must F this 59 μ285 h288) rfl (Nat.le_of_ble_eq_true rfl) (lw_V q760 q762 qs15 q161 q763) rfl yok_X2_must rfl (Nat.le_of_ble_eq_true rfl) ci2 h290 (by decide) rfl dX2_tell_437
                have h288 := h288.trans (congrArg some (Prod.ext e291 rfl : q287 = (.inl x292, q287.2)))
                rw [e291] at hf
                have hf := thr_l hf
                refine P.callVX (pc' := 440) (As := [.int 59]) 1 (ok_X2_must F this 59 μ285 h288) (Nat.le_of_ble_eq_true rfl) (lw_V q760 q762 qs15 q161 q763) rfl yok_X2_must rfl (Nat.le_of_ble_eq_true rfl) ci2 h290 (by decide) rfl dX2_tell_437 rfl ?_
                refine P.pop (pc' := 441) dX2_tell_440 rfl rfl ?_
                cases hf; exact P.vretX rfl dX2_tell_441
              · have hf := (if_neg y268).symm.trans hf
                by_cases y294 : q1 = 208
                · have hf := (if_pos y294).symm.trans hf
                  refine P.tsIn (tgt := 408) dX2_tell_4 (by rw [y294]; decide) (by rw [y294]; decide) (by rw [y294]; rfl) (by decide) ?_
                  refine P.aload_n 0 (pc' := 409) dX2_tell_408 rfl rfl rfl ?_
                  obtain ⟨u297, h298, hf⟩ := ob hf
                  obtain ⟨q295, h296, hf⟩ := ob hf
                  rcases e299 : q295.1 with x300 | x301
                  rotate_left
                  · have h296 := h296.trans (congrArg some (Prod.ext e299 rfl : q295 = (.inr x301, q295.2)))
                    rw [e299] at hf
                    have hf := thr_r hf
                    cases hf
                    exact P.callVXt (As := []) 0 (ok_X2_go F this μ h296) rfl (Nat.le_of_ble_eq_true rfl) (lw_V q752 q754 qs13 q161 q755) rfl yok_X2_go rfl (Nat.le_of_ble_eq_true rfl) ci2 h298 (by decide) rfl dX2_tell_409
                  have h296 := h296.trans (congrArg some (Prod.ext e299 rfl : q295 = (.inl x300, q295.2)))
                  rw [e299] at hf
                  have hf := thr_l hf
                  refine P.callVX (pc' := 412) (As := []) 0 (ok_X2_go F this μ h296) (Nat.le_of_ble_eq_true rfl) (lw_V q752 q754 qs13 q161 q755) rfl yok_X2_go rfl (Nat.le_of_ble_eq_true rfl) ci2 h298 (by decide) rfl dX2_tell_409 rfl ?_
                  refine P.pop (pc' := 413) dX2_tell_412 rfl rfl ?_
                  refine P.aload_n 0 (pc' := 414) dX2_tell_413 rfl rfl rfl ?_
                  obtain ⟨x302, h303, hf⟩ := ob hf
                  refine P.get (pc' := 417) ci2 5 (by decide) (gfR_spec h303) q247 (Or.inl rfl) dX2_tell_414 rfl ?_
                  refine P.aload_n 0 (pc' := 418) dX2_tell_417 rfl rfl rfl ?_
                  refine P.iconst (v := 1) (pc' := 419) dX2_tell_418 rfl (by decide) ?_
                  refine P.bipush (v := 99) (pc' := 421) dX2_tell_419 rfl (by decide) ?_
                  obtain ⟨u306, h307, hf⟩ := ob hf
                  obtain ⟨q304, h305, hf⟩ := ob hf
                  rcases e308 : q304.1 with x309 | x310
                  rotate_left
                  · have h305 := h305.trans (congrArg some (Prod.ext e308 rfl : q304 = (.inr x310, q304.2)))
                    rw [e308] at hf
                    have hf := thr_r hf
                    cases hf
                    exact P.callVXt (As := [.int 1, .int 99]) 2 (ok_X2_bounded F this 1 99 q295.2 h305) rfl (Nat.le_of_ble_eq_true rfl) (lw_V q772 q774 qs18 q161 q775) rfl yok_X2_bounded rfl (Nat.le_of_ble_eq_true rfl) ci2 h307 (Nat.le_of_ble_eq_true rfl) rfl dX2_tell_421
                  have h305 := h305.trans (congrArg some (Prod.ext e308 rfl : q304 = (.inl x309, q304.2)))
                  rw [e308] at hf
                  have hf := thr_l hf
                  refine P.callVX (pc' := 424) (As := [.int 1, .int 99]) 2 (ok_X2_bounded F this 1 99 q295.2 h305) (Nat.le_of_ble_eq_true rfl) (lw_V q772 q774 qs18 q161 q775) rfl yok_X2_bounded rfl (Nat.le_of_ble_eq_true rfl) ci2 h307 (Nat.le_of_ble_eq_true rfl) rfl dX2_tell_421 rfl ?_
                  obtain ⟨μ311, h312, hf⟩ := ob hf
                  refine P.putN (v := .int x309) (pc' := 427) ci3 12 (by decide) h312 q360 (Or.inl rfl) rfl rfl rfl dX2_tell_424 rfl ?_
                  refine P.goto (tgt := 434) dX2_tell_427 (by decide) ?_
                  refine P.aload_n 0 (pc' := 435) dX2_tell_434 rfl rfl rfl ?_
                  refine P.bipush (v := 59) (pc' := 437) dX2_tell_435 rfl (by decide) ?_
                  obtain ⟨u315, h316, hf⟩ := ob hf
                  obtain ⟨q313, h314, hf⟩ := ob hf
                  rcases e317 : q313.1 with x318 | x319
                  rotate_left
                  · have h314 := h314.trans (congrArg some (Prod.ext e317 rfl : q313 = (.inr x319, q313.2)))
                    rw [e317] at hf
                    have hf := thr_r hf
                    cases hf
                    exact P.callVXt (As := [.int 59]) 1 (ok_X2_must F this 59 μ311 h314) rfl (Nat.le_of_ble_eq_true rfl) (lw_V q760 q762 qs15 q161 q763) rfl yok_X2_must rfl (Nat.le_of_ble_eq_true rfl) ci2 h316 (by decide) rfl dX2_tell_437
                  have h314 := h314.trans (congrArg some (Prod.ext e317 rfl : q313 = (.inl x318, q313.2)))
                  rw [e317] at hf
                  have hf := thr_l hf
                  refine P.callVX (pc' := 440) (As := [.int 59]) 1 (ok_X2_must F this 59 μ311 h314) (Nat.le_of_ble_eq_true rfl) (lw_V q760 q762 qs15 q161 q763) rfl yok_X2_must rfl (Nat.le_of_ble_eq_true rfl) ci2 h316 (by decide) rfl dX2_tell_437 rfl ?_
                  refine P.pop (pc' := 441) dX2_tell_440 rfl rfl ?_
                  cases hf; exact P.vretX rfl dX2_tell_441
                · have hf := (if_neg y294).symm.trans hf
                  by_cases y320 : q1 = 204
                  · have hf := (if_pos y320).symm.trans hf
                    refine P.tsIn (tgt := 430) dX2_tell_4 (by rw [y320]; decide) (by rw [y320]; decide) (by rw [y320]; rfl) (by decide) ?_
                    refine P.aload_n 0 (pc' := 431) dX2_tell_430 rfl rfl rfl ?_
                    obtain ⟨u323, h324, hf⟩ := ob hf
                    obtain ⟨q321, h322, hf⟩ := ob hf
                    rcases e325 : q321.1 with x326 | x327
                    rotate_left
                    · have h322 := h322.trans (congrArg some (Prod.ext e325 rfl : q321 = (.inr x327, q321.2)))
                      rw [e325] at hf
                      have hf := thr_r hf
                      cases hf
                      exact P.callVXt (As := []) 0 (ok_X2_tellLaw F this μ h322) rfl (Nat.le_of_ble_eq_true rfl) (lw_V q909 q911 qs24 q161 q912) rfl yok_X2_tellLaw rfl (Nat.le_of_ble_eq_true rfl) ci2 h324 (by decide) rfl dX2_tell_431
                    have h322 := h322.trans (congrArg some (Prod.ext e325 rfl : q321 = (.inl x326, q321.2)))
                    rw [e325] at hf
                    have hf := thr_l hf
                    refine P.callVX (pc' := 434) (As := []) 0 (ok_X2_tellLaw F this μ h322) (Nat.le_of_ble_eq_true rfl) (lw_V q909 q911 qs24 q161 q912) rfl yok_X2_tellLaw rfl (Nat.le_of_ble_eq_true rfl) ci2 h324 (by decide) rfl dX2_tell_431 rfl ?_
                    refine P.aload_n 0 (pc' := 435) dX2_tell_434 rfl rfl rfl ?_
                    refine P.bipush (v := 59) (pc' := 437) dX2_tell_435 rfl (by decide) ?_
                    obtain ⟨u330, h331, hf⟩ := ob hf
                    obtain ⟨q328, h329, hf⟩ := ob hf
                    rcases e332 : q328.1 with x333 | x334
                    rotate_left
                    · have h329 := h329.trans (congrArg some (Prod.ext e332 rfl : q328 = (.inr x334, q328.2)))
                      rw [e332] at hf
                      have hf := thr_r hf
                      cases hf
                      exact P.callVXt (As := [.int 59]) 1 (ok_X2_must F this 59 q321.2 h329) rfl (Nat.le_of_ble_eq_true rfl) (lw_V q760 q762 qs15 q161 q763) rfl yok_X2_must rfl (Nat.le_of_ble_eq_true rfl) ci2 h331 (by decide) rfl dX2_tell_437
                    have h329 := h329.trans (congrArg some (Prod.ext e332 rfl : q328 = (.inl x333, q328.2)))
                    rw [e332] at hf
                    have hf := thr_l hf
                    refine P.callVX (pc' := 440) (As := [.int 59]) 1 (ok_X2_must F this 59 q321.2 h329) (Nat.le_of_ble_eq_true rfl) (lw_V q760 q762 qs15 q161 q763) rfl yok_X2_must rfl (Nat.le_of_ble_eq_true rfl) ci2 h331 (by decide) rfl dX2_tell_437 rfl ?_
                    refine P.pop (pc' := 441) dX2_tell_440 rfl rfl ?_
                    cases hf; exact P.vretX rfl dX2_tell_441
                  · have hf := (if_neg y320).symm.trans hf
                    refine P.tsOut (tgt := 430) dX2_tell_4 (by have z0 := lv_neT y5 (a := 200) (by decide); have z1 := lv_neT y76 (a := 201) (by decide); have z2 := lv_neT y129 (a := 202) (by decide); have z3 := lv_neT y163 (a := 203) (by decide); have z4 := lv_neT y193 (a := 205) (by decide); have z5 := lv_neT y219 (a := 206) (by decide); have z6 := lv_neT y268 (a := 207) (by decide); have z7 := lv_neT y294 (a := 208) (by decide); have z8 := lv_neT y320 (a := 204) (by decide); omega) (by decide) ?_
                    refine P.aload_n 0 (pc' := 431) dX2_tell_430 rfl rfl rfl ?_
                    obtain ⟨u337, h338, hf⟩ := ob hf
                    obtain ⟨q335, h336, hf⟩ := ob hf
                    rcases e339 : q335.1 with x340 | x341
                    rotate_left
                    · have h336 := h336.trans (congrArg some (Prod.ext e339 rfl : q335 = (.inr x341, q335.2)))
                      rw [e339] at hf
                      have hf := thr_r hf
                      cases hf
                      exact P.callVXt (As := []) 0 (ok_X2_tellLaw F this μ h336) rfl (Nat.le_of_ble_eq_true rfl) (lw_V q909 q911 qs24 q161 q912) rfl yok_X2_tellLaw rfl (Nat.le_of_ble_eq_true rfl) ci2 h338 (by decide) rfl dX2_tell_431
                    have h336 := h336.trans (congrArg some (Prod.ext e339 rfl : q335 = (.inl x340, q335.2)))
                    rw [e339] at hf
                    have hf := thr_l hf
                    refine P.callVX (pc' := 434) (As := []) 0 (ok_X2_tellLaw F this μ h336) (Nat.le_of_ble_eq_true rfl) (lw_V q909 q911 qs24 q161 q912) rfl yok_X2_tellLaw rfl (Nat.le_of_ble_eq_true rfl) ci2 h338 (by decide) rfl dX2_tell_431 rfl ?_
                    refine P.aload_n 0 (pc' := 435) dX2_tell_434 rfl rfl rfl ?_
                    refine P.bipush (v := 59) (pc' := 437) dX2_tell_435 rfl (by decide) ?_
                    obtain ⟨u344, h345, hf⟩ := ob hf
                    obtain ⟨q342, h343, hf⟩ := ob hf
                    rcases e346 : q342.1 with x347 | x348
                    rotate_left
                    · have h343 := h343.trans (congrArg some (Prod.ext e346 rfl : q342 = (.inr x348, q342.2)))
                      rw [e346] at hf
                      have hf := thr_r hf
                      cases hf
                      exact P.callVXt (As := [.int 59]) 1 (ok_X2_must F this 59 q335.2 h343) rfl (Nat.le_of_ble_eq_true rfl) (lw_V q760 q762 qs15 q161 q763) rfl yok_X2_must rfl (Nat.le_of_ble_eq_true rfl) ci2 h345 (by decide) rfl dX2_tell_437
                    have h343 := h343.trans (congrArg some (Prod.ext e346 rfl : q342 = (.inl x347, q342.2)))
                    rw [e346] at hf
                    have hf := thr_l hf
                    refine P.callVX (pc' := 440) (As := [.int 59]) 1 (ok_X2_must F this 59 q335.2 h343) (Nat.le_of_ble_eq_true rfl) (lw_V q760 q762 qs15 q161 q763) rfl yok_X2_must rfl (Nat.le_of_ble_eq_true rfl) ci2 h345 (by decide) rfl dX2_tell_437 rfl ?_
                    refine P.pop (pc' := 441) dX2_tell_440 rfl rfl ?_
                    cases hf; exact P.vretX rfl dX2_tell_441
theorem yok_X2_tell : yOK yX2_tell 0 := ⟨by decide +kernel, by decide +kernel, by decide +kernel⟩
abbrev mX2_read : Ym := (RX2, cX2_read, 1, (some (Jvm.ClassFile.FieldType.object "StiltTown$Town")), false, [])
noncomputable def f_X2_read_L31_b (F : Nat) (c0 : Nat) (self : Sw → Option ((Nat ⊕ Nat) × Sw)) (μ : Sw) : Option ((Nat ⊕ Nat) × Sw) :=
  Option.bind (oc μ c0 2) fun u3 =>
  Option.bind (f_X2_is F c0 0 μ) fun q1 =>
  if q1 = 0 then
    Option.bind (oc μ c0 2) fun u23 =>
    Option.bind (f_X2_tell F c0 μ) fun q21 =>
    thr q21.1 q21.2 fun x26 =>
    self q21.2
  else
    Option.bind (gfI μ c0 2 3) fun x6 =>
    if x6 = 0 then
      Option.bind (gfR μ c0 2 5) fun x9 =>
      some (.inl x9, μ)
    else
      nm (nw μ (.inr (10, dfX10)) 8) fun μ11 =>
      Option.bind (gfI μ11 c0 2 3) fun x13 =>
      Option.bind (gfI μ11 c0 2 4) fun x15 =>
      Option.bind (f_X10_init F μ.2.1 x13 x15 μ11) fun q17 =>
      Option.bind (oc q17 μ.2.1 10) fun u19 =>
      some (.inr μ.2.1, q17)
noncomputable def f_X2_read_L31 (F : Nat) (c0 : Nat) (n : Nat) : Sw → Option ((Nat ⊕ Nat) × Sw) := Nat.rec (motive := fun _ => Sw → Option ((Nat ⊕ Nat) × Sw)) (fun _ => none) (fun _ self => f_X2_read_L31_b F c0 self) n
set_option maxHeartbeats 4000000 in
theorem ok_f_X2_read_L31 {g : Gx} {μ0 : Sw} {res : Nat ⊕ Nat} {μF : Sw} (F : Nat) (c0 : Nat) : ∀ (n : Nat) (μ : Sw), f_X2_read_L31 F c0 n μ = some (res, μF) → PW g mX2_read 47 μ0 μF (QX g (rvA res) μ0 μF) 31 [(0, .ref c0)] [] μ := by
  intro n
  induction n with
  | zero =>
    intro μ hf
    have hf : (none : Option ((Nat ⊕ Nat) × Sw)) = some _ := hf
    cases hf
  | succ n ih =>
    intro μ hf
    have hf : f_X2_read_L31_b F c0 (f_X2_read_L31 F c0 n) μ = some (res, μF) := hf
    unfold f_X2_read_L31_b at hf
    refine P.aload_n 0 (pc' := 32) dX2_read_31 rfl rfl rfl ?_
    refine P.iconst (v := 0) (pc' := 33) dX2_read_32 rfl (by decide) ?_
    obtain ⟨u3, h4, hf⟩ := ob hf
    obtain ⟨q1, h2, hf⟩ := ob hf
    refine P.callV (pc' := 36) (As := [.int 0]) 1 (ok_X2_is F c0 0 μ h2) (Nat.le_of_ble_eq_true rfl) (lw_V q656 q658 qs7 q161 q659) rfl yok_X2_is rfl (Nat.le_of_ble_eq_true rfl) ci2 h4 (by decide) rfl dX2_read_33 rfl ?_
    refine P.if_ne (tgt := 46) (pc' := 39) dX2_read_36 (by decide) rfl (fun y5 => ?_) (fun y5 => ?_)
    · have hf := (if_neg y5).symm.trans hf
      refine P.aload_n 0 (pc' := 47) dX2_read_46 rfl rfl rfl ?_
      obtain ⟨x6, h7, hf⟩ := ob hf
      refine P.get (pc' := 50) ci2 3 (by decide) (gfI_spec h7) q245 (Or.inl rfl) dX2_read_47 rfl ?_
      refine P.if_eq (tgt := 69) (pc' := 53) dX2_read_50 (by decide) rfl (fun y8 => ?_) (fun y8 => ?_)
      · have hf := (if_pos y8).symm.trans hf
        refine P.aload_n 0 (pc' := 70) dX2_read_69 rfl rfl rfl ?_
        obtain ⟨x9, h10, hf⟩ := ob hf
        refine P.get (pc' := 73) ci2 5 (by decide) (gfR_spec h10) q247 (Or.inl rfl) dX2_read_70 rfl ?_
        cases hf; exact P.aretX rfl (Or.inl ⟨_, rfl⟩) dX2_read_73
      · have hf := (if_neg y8).symm.trans hf
        obtain ⟨μ11, e12, hf⟩ := nm_i hf
        refine P.newE (pc' := 56) ci10 q680 q681 q180 dfX10_ok e12 dX2_read_53 rfl ?_
        refine P.dup (pc' := 57) dX2_read_56 rfl rfl ?_
        refine P.aload_n 0 (pc' := 58) dX2_read_57 rfl rfl rfl ?_
        obtain ⟨x13, h14, hf⟩ := ob hf
        refine P.get (pc' := 61) ci2 3 (by decide) (gfI_spec h14) q245 (Or.inl rfl) dX2_read_58 rfl ?_
        refine P.aload_n 0 (pc' := 62) dX2_read_61 rfl rfl rfl ?_
        obtain ⟨x15, h16, hf⟩ := ob hf
        refine P.get (pc' := 65) ci2 4 (by decide) (gfI_spec h16) q246 (Or.inl rfl) dX2_read_62 rfl ?_
        obtain ⟨q17, h18, hf⟩ := ob hf
        refine P.callI (pc' := 68) (As := [.int x13, .int x15]) 2 (ok_X10_init F μ.2.1 x13 x15 μ11 h18) (Nat.le_of_ble_eq_true rfl) q721 q180 q719 q720 rfl yok_X10_init rfl (Nat.le_of_ble_eq_true rfl) (Nat.le_of_ble_eq_true rfl) rfl dX2_read_65 rfl ?_
        obtain ⟨u19, h20, hf⟩ := ob hf
        cases hf; exact P.athrow rfl h20 dX2_read_68
    · have hf := (if_pos y5).symm.trans hf
      refine P.aload_n 0 (pc' := 40) dX2_read_39 rfl rfl rfl ?_
      obtain ⟨u23, h24, hf⟩ := ob hf
      obtain ⟨q21, h22, hf⟩ := ob hf
      rcases e25 : q21.1 with x26 | x27
      rotate_left
      · have h22 := h22.trans (congrArg some (Prod.ext e25 rfl : q21 = (.inr x27, q21.2)))
        rw [e25] at hf
        have hf := thr_r hf
        cases hf
        exact P.callVXt (As := []) 0 (ok_X2_tell F c0 μ h22) rfl (Nat.le_of_ble_eq_true rfl) (lw_V q660 q662 qs8 q161 q663) rfl yok_X2_tell rfl (Nat.le_of_ble_eq_true rfl) ci2 h24 (by decide) rfl dX2_read_40
      have h22 := h22.trans (congrArg some (Prod.ext e25 rfl : q21 = (.inl x26, q21.2)))
      rw [e25] at hf
      have hf := thr_l hf
      refine P.callVX (pc' := 43) (As := []) 0 (ok_X2_tell F c0 μ h22) (Nat.le_of_ble_eq_true rfl) (lw_V q660 q662 qs8 q161 q663) rfl yok_X2_tell rfl (Nat.le_of_ble_eq_true rfl) ci2 h24 (by decide) rfl dX2_read_40 rfl ?_
      refine P.goto (tgt := 31) dX2_read_43 (by decide) ?_
      exact PW.sub [0] rfl (ih _ hf)
noncomputable def f_X2_read (F : Nat) (this : Nat) (μ : Sw) : Option ((Nat ⊕ Nat) × Sw) :=
  Option.bind (pf μ this 2 1 (.int 0)) fun μ1 =>
  Option.bind (pf μ1 this 2 2 (.int 0)) fun μ3 =>
  Option.bind (pf μ3 this 2 3 (.int 0)) fun μ5 =>
  Option.bind (pf μ5 this 2 8 (.int 0)) fun μ7 =>
  nm (nw μ7 (.inr (3, dfX3)) 16) fun μ9 =>
  Option.bind (f_X3_init F μ7.2.1 μ9) fun q11 =>
  Option.bind (pf q11 this 2 5 (.ref μ7.2.1)) fun μ13 =>
  f_X2_read_L31 F this F μ13
set_option maxHeartbeats 4000000 in
theorem ok_X2_read {g : Gx} (F : Nat) (this : Nat) (μ : Sw) {res : Nat ⊕ Nat} {μF : Sw} (hf : f_X2_read F this μ = some (res, μF)) : ClX g 47 yX2_read cX2_read 1 (some (Jvm.ClassFile.FieldType.object "StiltTown$Town")) [.ref this] μ (rvA res) μF := by
  unfold f_X2_read at hf
  refine ClX.of (own := RX2) (ini := false) (by decide +kernel) rfl (by decide) (Nat.le_of_ble_eq_true rfl) ?_
  show PW g mX2_read 47 μ μF (QX g (rvA res) μ μF) 0 [(0, .ref this)] [] μ
  refine P.aload_n 0 (pc' := 1) dX2_read_0 rfl rfl rfl ?_
  refine P.iconst (v := 0) (pc' := 2) dX2_read_1 rfl (by decide) ?_
  obtain ⟨μ1, h2, hf⟩ := ob hf
  refine P.put (v := .int 0) (pc' := 5) ci2 1 (by decide) h2 q243 (Or.inl rfl) rfl rfl rfl dX2_read_2 rfl ?_
  refine P.aload_n 0 (pc' := 6) dX2_read_5 rfl rfl rfl ?_
  refine P.iconst (v := 0) (pc' := 7) dX2_read_6 rfl (by decide) ?_
  obtain ⟨μ3, h4, hf⟩ := ob hf
  refine P.put (v := .int 0) (pc' := 10) ci2 2 (by decide) h4 q244 (Or.inl rfl) rfl rfl rfl dX2_read_7 rfl ?_
  refine P.aload_n 0 (pc' := 11) dX2_read_10 rfl rfl rfl ?_
  refine P.iconst (v := 0) (pc' := 12) dX2_read_11 rfl (by decide) ?_
  obtain ⟨μ5, h6, hf⟩ := ob hf
  refine P.put (v := .int 0) (pc' := 15) ci2 3 (by decide) h6 q245 (Or.inl rfl) rfl rfl rfl dX2_read_12 rfl ?_
  refine P.aload_n 0 (pc' := 16) dX2_read_15 rfl rfl rfl ?_
  refine P.iconst (v := 0) (pc' := 17) dX2_read_16 rfl (by decide) ?_
  obtain ⟨μ7, h8, hf⟩ := ob hf
  refine P.put (v := .int 0) (pc' := 20) ci2 8 (by decide) h8 q250 (Or.inl rfl) rfl rfl rfl dX2_read_17 rfl ?_
  refine P.aload_n 0 (pc' := 21) dX2_read_20 rfl rfl rfl ?_
  obtain ⟨μ9, e10, hf⟩ := nm_i hf
  refine P.newE (pc' := 24) ci3 q654 q272 q162 dfX3_ok e10 dX2_read_21 rfl ?_
  refine P.dup (pc' := 25) dX2_read_24 rfl rfl ?_
  obtain ⟨q11, h12, hf⟩ := ob hf
  refine P.callI (pc' := 28) (As := []) 0 (ok_X3_init F μ7.2.1 μ9 h12) (Nat.le_of_ble_eq_true rfl) q275 q162 q655 q274 rfl yok_X3_init rfl (Nat.le_of_ble_eq_true rfl) (Nat.le_of_ble_eq_true rfl) rfl dX2_read_25 rfl ?_
  obtain ⟨μ13, h14, hf⟩ := ob hf
  refine P.put (v := .ref μ7.2.1) (pc' := 31) ci2 5 (by decide) h14 q247 (Or.inl rfl) rfl rfl rfl dX2_read_28 rfl ?_
  exact PW.sub [0] rfl (ok_f_X2_read_L31 F this F _ hf)
abbrev mJ2_elementData : Ym := (RJ2, cJ2_elementData, 2, (some (Jvm.ClassFile.FieldType.object "java/lang/Object")), false, [])
noncomputable def f_J2_elementData (F : Nat) (this : Nat) (p1 : Int32) (μ : Sw) : Option Nat :=
  Option.bind (gfR μ this 20 1) fun x1 =>
  Option.bind (aR μ 6 x1 p1) fun x3 =>
  some x3
set_option maxHeartbeats 4000000 in
theorem ok_J2_elementData {g : Gx} (F : Nat) (this : Nat) (p1 : Int32) (μ : Sw) {rv : Nat} (hf : f_J2_elementData F this p1 μ = some rv) : Cl g 1 yJ2_elementData cJ2_elementData 2 (some (Jvm.ClassFile.FieldType.object "java/lang/Object")) [.ref this, .int p1] μ (some (.ref rv)) μ := by
  unfold f_J2_elementData at hf
  refine Cl.of (own := RJ2) (ini := false) (by decide +kernel) rfl (by decide) (Nat.le_of_ble_eq_true rfl) ?_
  show PW g mJ2_elementData 1 μ μ (QN g (some (.ref rv)) μ μ) 0 [(0, .ref this), (1, .int p1)] [] μ
  refine P.aload_n 0 (pc' := 1) dJ2_elementData_0 rfl rfl rfl ?_
  obtain ⟨x1, h2, hf⟩ := ob hf
  refine P.get (pc' := 4) ci20 1 (by decide) (gfR_spec h2) q291 (Or.inl rfl) dJ2_elementData_1 rfl ?_
  refine P.iload_n 1 (pc' := 5) dJ2_elementData_4 rfl rfl rfl ?_
  obtain ⟨x3, h4, hf⟩ := ob hf
  refine P.aald (t := 6) (pc' := 6) rfl h4 dJ2_elementData_5 rfl ?_
  cases hf; exact P.aret rfl (Or.inl ⟨_, rfl⟩) dJ2_elementData_6
theorem yok_J14_checkIndex : yOK yJ14_checkIndex 2 := ⟨by decide +kernel, by decide +kernel, by decide +kernel⟩
theorem yok_J2_elementData : yOK yJ2_elementData 1 := ⟨by decide +kernel, by decide +kernel, by decide +kernel⟩
abbrev mJ2_get : Ym := (RJ2, cJ2_get, 2, (some (Jvm.ClassFile.FieldType.object "java/lang/Object")), false, [])
noncomputable def f_J2_get (F : Nat) (this : Nat) (p1 : Int32) (μ : Sw) : Option Nat :=
  Option.bind (gfI μ this 20 2) fun x1 =>
  Option.bind (p_J14_checkIndex F p1 x1) fun q3 =>
  Option.bind (oc μ this 20) fun u7 =>
  Option.bind (f_J2_elementData F this p1 μ) fun q5 =>
  some q5
set_option maxHeartbeats 4000000 in
theorem ok_J2_get {g : Gx} (F : Nat) (this : Nat) (p1 : Int32) (μ : Sw) {rv : Nat} (hf : f_J2_get F this p1 μ = some rv) : Cl g 3 yJ2_get cJ2_get 2 (some (Jvm.ClassFile.FieldType.object "java/lang/Object")) [.ref this, .int p1] μ (some (.ref rv)) μ := by
  unfold f_J2_get at hf
  refine Cl.of (own := RJ2) (ini := false) (by decide +kernel) rfl (by decide) (Nat.le_of_ble_eq_true rfl) ?_
  show PW g mJ2_get 3 μ μ (QN g (some (.ref rv)) μ μ) 0 [(0, .ref this), (1, .int p1)] [] μ
  refine P.iload_n 1 (pc' := 1) dJ2_get_0 rfl rfl rfl ?_
  refine P.aload_n 0 (pc' := 2) dJ2_get_1 rfl rfl rfl ?_
  obtain ⟨x1, h2, hf⟩ := ob hf
  refine P.get (pc' := 5) ci20 2 (by decide) (gfI_spec h2) q292 (Or.inl rfl) dJ2_get_2 rfl ?_
  obtain ⟨q3, h4, hf⟩ := ob hf
  refine P.callS (pc' := 8) (As := [.int p1, .int x1]) 2 (ok_J14_checkIndex F p1 x1 μ h4) (Nat.le_of_ble_eq_true rfl) (lw_S q1011 q1012 q192 q1013) yok_J14_checkIndex rfl (Nat.le_of_ble_eq_true rfl) (by decide) rfl dJ2_get_5 rfl ?_
  refine P.pop (pc' := 9) dJ2_get_8 rfl rfl ?_
  refine P.aload_n 0 (pc' := 10) dJ2_get_9 rfl rfl rfl ?_
  refine P.iload_n 1 (pc' := 11) dJ2_get_10 rfl rfl rfl ?_
  obtain ⟨u7, h8, hf⟩ := ob hf
  obtain ⟨q5, h6, hf⟩ := ob hf
  refine P.callV (pc' := 14) (As := [.int p1]) 1 (ok_J2_elementData F this p1 μ h6) (Nat.le_of_ble_eq_true rfl) (lw_V q1015 q1016 q1017 q165 q1018) rfl yok_J2_elementData rfl (Nat.le_of_ble_eq_true rfl) ci20 h8 (by decide) rfl dJ2_get_11 rfl ?_
  cases hf; exact P.aret rfl (Or.inl ⟨_, rfl⟩) dJ2_get_14
theorem yok_J2_get : yOK yJ2_get 1 := ⟨by decide +kernel, by decide +kernel, by decide +kernel⟩
theorem yok_X1_cut : yOK yX1_cut 0 := ⟨by decide +kernel, by decide +kernel, by decide +kernel⟩
theorem yok_X2_read : yOK yX2_read 0 := ⟨by decide +kernel, by decide +kernel, by decide +kernel⟩
abbrev mX0_read : Ym := (RX0, cX0_read, 3, (some Jvm.ClassFile.FieldType.int), false, [(12, 23, 26, 121)])
noncomputable def f_X0_read_L50_b (F : Nat) (k93 : Sw → Option (Int32 × Sw)) (c0 : Nat) (c1 : Nat) (self : Int32 → Sw → Option (Int32 × Sw)) (v2 : Int32) (μ : Sw) : Option (Int32 × Sw) :=
  Option.bind (gfR μ c0 0 3) fun x1 =>
  Option.bind (gfR μ x1 3 0) fun x3 =>
  Option.bind (oc μ x3 20) fun u7 =>
  Option.bind (f_J2_size F x3 μ) fun q5 =>
  if q5 ≤ v2 then
    k93 μ
  else
    Option.bind (gfR μ c1 6 0) fun x10 =>
    Option.bind (gfR μ c0 0 3) fun x12 =>
    Option.bind (gfR μ x12 3 0) fun x14 =>
    Option.bind (oc μ x14 20) fun u18 =>
    Option.bind (f_J2_get F x14 v2 μ) fun q16 =>
    Option.bind (oc μ q16 11) fun u20 =>
    Option.bind (gfI μ q16 11 1) fun x22 =>
    Option.bind (sI μ 0 x10 v2 x22) fun μ25 =>
    nm (v2 + 1) fun x26 =>
    self x26 μ25
noncomputable def f_X0_read_L50 (F : Nat) (k93 : Sw → Option (Int32 × Sw)) (c0 : Nat) (c1 : Nat) (n : Nat) : Int32 → Sw → Option (Int32 × Sw) := Nat.rec (motive := fun _ => Int32 → Sw → Option (Int32 × Sw)) (fun _ _ => none) (fun _ self => f_X0_read_L50_b F k93 c0 c1 self) n
set_option maxHeartbeats 4000000 in
theorem ok_f_X0_read_L50 {g : Gx} {μ0 : Sw} {rv : Int32} {μF : Sw} (F : Nat) (c0 : Nat) (c1 : Nat) (k93 : Sw → Option (Int32 × Sw)) (hk93 : ∀ (μ : Sw), k93 μ = some (rv, μF) → PW g mX0_read 48 μ0 μF (QN g (some (.int rv)) μ0 μF) 93 [(0, .ref c0), (1, .ref c1)] [] μ) : ∀ (n : Nat) (v2 : Int32) (μ : Sw), f_X0_read_L50 F k93 c0 c1 n v2 μ = some (rv, μF) → PW g mX0_read 48 μ0 μF (QN g (some (.int rv)) μ0 μF) 50 [(0, .ref c0), (1, .ref c1), (2, .int v2)] [] μ := by
  intro n
  induction n with
  | zero =>
    intro v2 μ hf
    have hf : (none : Option (Int32 × Sw)) = some _ := hf
    cases hf
  | succ n ih =>
    intro v2 μ hf
    have hf : f_X0_read_L50_b F k93 c0 c1 (f_X0_read_L50 F k93 c0 c1 n) v2 μ = some (rv, μF) := hf
    unfold f_X0_read_L50_b at hf
    refine P.iload_n 2 (pc' := 51) dX0_read_50 rfl rfl rfl ?_
    refine P.aload_n 0 (pc' := 52) dX0_read_51 rfl rfl rfl ?_
    obtain ⟨x1, h2, hf⟩ := ob hf
    refine P.get (pc' := 55) ci0 3 (by decide) (gfR_spec h2) q478 (Or.inl rfl) dX0_read_52 rfl ?_
    obtain ⟨x3, h4, hf⟩ := ob hf
    refine P.getN (pc' := 58) ci3 0 (by decide) (gfR_spec h4) q328 (Or.inl rfl) dX0_read_55 rfl ?_
    obtain ⟨u7, h8, hf⟩ := ob hf
    obtain ⟨q5, h6, hf⟩ := ob hf
    refine P.callV (pc' := 61) (As := []) 0 (ok_J2_size F x3 μ h6) (Nat.le_of_ble_eq_true rfl) (lw_V q1006 q669 q670 q165 q671) rfl yok_J2_size rfl (Nat.le_of_ble_eq_true rfl) ci20 h8 (Nat.le_of_ble_eq_true rfl) rfl dX0_read_58 rfl ?_
    refine P.icmp_ge (tgt := 93) (pc' := 64) dX0_read_61 (by decide) rfl (fun y9 => ?_) (fun y9 => ?_)
    · have hf := (if_pos y9).symm.trans hf
      exact PW.sub [0, 1] rfl (hk93 _ hf)
    · have hf := (if_neg y9).symm.trans hf
      refine P.aload_n 1 (pc' := 65) dX0_read_64 rfl rfl rfl ?_
      obtain ⟨x10, h11, hf⟩ := ob hf
      refine P.getN (pc' := 68) ci6 0 (by decide) (gfR_spec h11) q414 (Or.inl rfl) dX0_read_65 rfl ?_
      refine P.iload_n 2 (pc' := 69) dX0_read_68 rfl rfl rfl ?_
      refine P.aload_n 0 (pc' := 70) dX0_read_69 rfl rfl rfl ?_
      obtain ⟨x12, h13, hf⟩ := ob hf
      refine P.get (pc' := 73) ci0 3 (by decide) (gfR_spec h13) q478 (Or.inl rfl) dX0_read_70 rfl ?_
      obtain ⟨x14, h15, hf⟩ := ob hf
      refine P.getN (pc' := 76) ci3 0 (by decide) (gfR_spec h15) q328 (Or.inl rfl) dX0_read_73 rfl ?_
      refine P.iload_n 2 (pc' := 77) dX0_read_76 rfl rfl rfl ?_
      obtain ⟨u18, h19, hf⟩ := ob hf
      obtain ⟨q16, h17, hf⟩ := ob hf
      refine P.callV (pc' := 80) (As := [.int v2]) 1 (ok_J2_get F x14 v2 μ h17) (Nat.le_of_ble_eq_true rfl) (lw_V q1007 q1008 q1009 q165 q1010) rfl yok_J2_get rfl (Nat.le_of_ble_eq_true rfl) ci20 h19 (Nat.le_of_ble_eq_true rfl) rfl dX0_read_77 rfl ?_
      obtain ⟨u20, h21, hf⟩ := ob hf
      refine P.castS (u := u20) (pc' := 83) ci11 q1019 h21 dX0_read_80 rfl ?_
      obtain ⟨x22, h23, hf⟩ := ob hf
      refine P.getN (pc' := 86) ci11 1 (by decide) (gfI_spec h23) q786 (Or.inl rfl) dX0_read_83 rfl ?_
      obtain ⟨μ25, h24, hf⟩ := ob hf
      refine P.iast (pc' := 87) h24 dX0_read_86 rfl ?_
      obtain ⟨x26, e27, hf⟩ := nm_i hf
      refine P.iinc 2 (pc' := 90) (lv' := [(2, .int x26), (0, .ref c0), (1, .ref c1)]) dX0_read_87 rfl rfl (by decide) e27 (Nat.le_of_ble_eq_true rfl) rfl ?_
      refine P.goto (tgt := 50) dX0_read_90 (by decide) ?_
      exact PW.sub [1, 2, 0] rfl (ih _ _ hf)
noncomputable def f_X0_read_L113_b (F : Nat) (k156 : Sw → Option (Int32 × Sw)) (c0 : Nat) (c1 : Nat) (self : Int32 → Sw → Option (Int32 × Sw)) (v2 : Int32) (μ : Sw) : Option (Int32 × Sw) :=
  Option.bind (gfR μ c0 0 3) fun x1 =>
  Option.bind (gfR μ x1 3 2) fun x3 =>
  Option.bind (oc μ x3 20) fun u7 =>
  Option.bind (f_J2_size F x3 μ) fun q5 =>
  if q5 ≤ v2 then
    k156 μ
  else
    Option.bind (gfR μ c1 6 2) fun x10 =>
    Option.bind (gfR μ c0 0 3) fun x12 =>
    Option.bind (gfR μ x12 3 2) fun x14 =>
    Option.bind (oc μ x14 20) fun u18 =>
    Option.bind (f_J2_get F x14 v2 μ) fun q16 =>
    Option.bind (oc μ q16 13) fun u20 =>
    Option.bind (gfI μ q16 13 1) fun x22 =>
    Option.bind (sI μ 0 x10 v2 x22) fun μ25 =>
    nm (v2 + 1) fun x26 =>
    self x26 μ25
noncomputable def f_X0_read_L113 (F : Nat) (k156 : Sw → Option (Int32 × Sw)) (c0 : Nat) (c1 : Nat) (n : Nat) : Int32 → Sw → Option (Int32 × Sw) := Nat.rec (motive := fun _ => Int32 → Sw → Option (Int32 × Sw)) (fun _ _ => none) (fun _ self => f_X0_read_L113_b F k156 c0 c1 self) n
set_option maxHeartbeats 4000000 in
theorem ok_f_X0_read_L113 {g : Gx} {μ0 : Sw} {rv : Int32} {μF : Sw} (F : Nat) (c0 : Nat) (c1 : Nat) (k156 : Sw → Option (Int32 × Sw)) (hk156 : ∀ (μ : Sw), k156 μ = some (rv, μF) → PW g mX0_read 48 μ0 μF (QN g (some (.int rv)) μ0 μF) 156 [(0, .ref c0), (1, .ref c1)] [] μ) : ∀ (n : Nat) (v2 : Int32) (μ : Sw), f_X0_read_L113 F k156 c0 c1 n v2 μ = some (rv, μF) → PW g mX0_read 48 μ0 μF (QN g (some (.int rv)) μ0 μF) 113 [(0, .ref c0), (1, .ref c1), (2, .int v2)] [] μ := by
  intro n
  induction n with
  | zero =>
    intro v2 μ hf
    have hf : (none : Option (Int32 × Sw)) = some _ := hf
    cases hf
  | succ n ih =>
    intro v2 μ hf
    have hf : f_X0_read_L113_b F k156 c0 c1 (f_X0_read_L113 F k156 c0 c1 n) v2 μ = some (rv, μF) := hf
    unfold f_X0_read_L113_b at hf
    refine P.iload_n 2 (pc' := 114) dX0_read_113 rfl rfl rfl ?_
    refine P.aload_n 0 (pc' := 115) dX0_read_114 rfl rfl rfl ?_
    obtain ⟨x1, h2, hf⟩ := ob hf
    refine P.get (pc' := 118) ci0 3 (by decide) (gfR_spec h2) q478 (Or.inl rfl) dX0_read_115 rfl ?_
    obtain ⟨x3, h4, hf⟩ := ob hf
    refine P.getN (pc' := 121) ci3 2 (by decide) (gfR_spec h4) q334 (Or.inl rfl) dX0_read_118 rfl ?_
    obtain ⟨u7, h8, hf⟩ := ob hf
    obtain ⟨q5, h6, hf⟩ := ob hf
    refine P.callV (pc' := 124) (As := []) 0 (ok_J2_size F x3 μ h6) (Nat.le_of_ble_eq_true rfl) (lw_V q1006 q669 q670 q165 q671) rfl yok_J2_size rfl (Nat.le_of_ble_eq_true rfl) ci20 h8 (Nat.le_of_ble_eq_true rfl) rfl dX0_read_121 rfl ?_
    refine P.icmp_ge (tgt := 156) (pc' := 127) dX0_read_124 (by decide) rfl (fun y9 => ?_) (fun y9 => ?_)
    · have hf := (if_pos y9).symm.trans hf
      exact PW.sub [0, 1] rfl (hk156 _ hf)
    · have hf := (if_neg y9).symm.trans hf
      refine P.aload_n 1 (pc' := 128) dX0_read_127 rfl rfl rfl ?_
      obtain ⟨x10, h11, hf⟩ := ob hf
      refine P.getN (pc' := 131) ci6 2 (by decide) (gfR_spec h11) q419 (Or.inl rfl) dX0_read_128 rfl ?_
      refine P.iload_n 2 (pc' := 132) dX0_read_131 rfl rfl rfl ?_
      refine P.aload_n 0 (pc' := 133) dX0_read_132 rfl rfl rfl ?_
      obtain ⟨x12, h13, hf⟩ := ob hf
      refine P.get (pc' := 136) ci0 3 (by decide) (gfR_spec h13) q478 (Or.inl rfl) dX0_read_133 rfl ?_
      obtain ⟨x14, h15, hf⟩ := ob hf
      refine P.getN (pc' := 139) ci3 2 (by decide) (gfR_spec h15) q334 (Or.inl rfl) dX0_read_136 rfl ?_
      refine P.iload_n 2 (pc' := 140) dX0_read_139 rfl rfl rfl ?_
      obtain ⟨u18, h19, hf⟩ := ob hf
      obtain ⟨q16, h17, hf⟩ := ob hf
      refine P.callV (pc' := 143) (As := [.int v2]) 1 (ok_J2_get F x14 v2 μ h17) (Nat.le_of_ble_eq_true rfl) (lw_V q1007 q1008 q1009 q165 q1010) rfl yok_J2_get rfl (Nat.le_of_ble_eq_true rfl) ci20 h19 (Nat.le_of_ble_eq_true rfl) rfl dX0_read_140 rfl ?_
      obtain ⟨u20, h21, hf⟩ := ob hf
      refine P.castS (u := u20) (pc' := 146) ci13 q1021 h21 dX0_read_143 rfl ?_
      obtain ⟨x22, h23, hf⟩ := ob hf
      refine P.getN (pc' := 149) ci13 1 (by decide) (gfI_spec h23) q903 (Or.inl rfl) dX0_read_146 rfl ?_
      obtain ⟨μ25, h24, hf⟩ := ob hf
      refine P.iast (pc' := 150) h24 dX0_read_149 rfl ?_
      obtain ⟨x26, e27, hf⟩ := nm_i hf
      refine P.iinc 2 (pc' := 153) (lv' := [(2, .int x26), (0, .ref c0), (1, .ref c1)]) dX0_read_150 rfl rfl (by decide) e27 (Nat.le_of_ble_eq_true rfl) rfl ?_
      refine P.goto (tgt := 113) dX0_read_153 (by decide) ?_
      exact PW.sub [1, 2, 0] rfl (ih _ _ hf)
noncomputable def f_X0_read (F : Nat) (this : Nat) (μ : Sw) : Option (Int32 × Sw) :=
  Option.bind (gfR μ this 0 0) fun x1 =>
  Option.bind (oc μ x1 1) fun u5 =>
  Option.bind (f_X1_cut F x1 μ) fun q3 =>
  Option.bind (pf q3 this 0 2 (.int (-1))) fun μ7 =>
  Option.bind (gfR μ7 this 0 1) fun x9 =>
  Option.bind (oc μ7 x9 2) fun u13 =>
  Option.bind (f_X2_read F x9 μ7) fun q11 =>
  slt q11.1 (fun x16 =>
    Option.bind (pf q11.2 this 0 3 (.ref x16)) fun μ18 =>
    nm (nw μ18 (.inr (6, dfX6)) 6) fun μ20 =>
    Option.bind (f_X6_init F μ18.2.1 μ20) fun q22 =>
    f_X0_read_L50 F
      (fun μ24 =>
        Option.bind (gfR μ24 this 0 3) fun x25 =>
        Option.bind (gfR μ24 x25 3 7) fun x27 =>
        Option.bind (gfR μ24 μ18.2.1 6 1) fun x29 =>
        Option.bind (cpI μ24 x27 0 x29 0 16) fun μ31 =>
        f_X0_read_L113 F
          (fun μ33 =>
            Option.bind (pf μ33 this 0 4 (.ref μ18.2.1)) fun μ34 =>
            Option.bind (gfR μ34 this 0 5) fun x36 =>
            Option.bind (sQ μ34 7 x36 0 none) fun μ39 =>
            Option.bind (gfR μ39 this 0 5) fun x40 =>
            Option.bind (sQ μ39 7 x40 1 none) fun μ43 =>
            Option.bind (pf μ43 this 0 9 (.int 0)) fun μ44 =>
            Option.bind (pf μ44 this 0 11 (.int 0)) fun μ46 =>
            some (0, μ46))
          this μ18.2.1 F 0 μ31)
      this μ18.2.1 F 0 q22)
    (fun x17 =>
    Option.bind (gfI q11.2 x17 10 7) fun x48 =>
    Option.bind (pf q11.2 this 0 2 (.int x48)) fun μ50 =>
    Option.bind (gfI μ50 x17 10 6) fun x52 =>
    some (x52, μ50))
set_option maxHeartbeats 4000000 in
theorem ok_X0_read {g : Gx} (F : Nat) (this : Nat) (μ : Sw) {rv : Int32} {μF : Sw} (hf : f_X0_read F this μ = some (rv, μF)) : ClW g 48 yX0_read cX0_read 3 (some Jvm.ClassFile.FieldType.int) [(12, 23, 26, 121)] [.ref this] μ (some (.int rv)) μF := by
  unfold f_X0_read at hf
  refine ClW.of (own := RX0) (ini := false) (by decide +kernel) rfl (by decide) (Nat.le_of_ble_eq_true rfl) ?_
  show PW g mX0_read 48 μ μF (QN g (some (.int rv)) μ μF) 0 [(0, .ref this)] [] μ
  refine P.aload_n 0 (pc' := 1) dX0_read_0 rfl rfl rfl ?_
  obtain ⟨x1, h2, hf⟩ := ob hf
  refine P.get (pc' := 4) ci0 0 (by decide) (gfR_spec h2) q475 (Or.inl rfl) dX0_read_1 rfl ?_
  obtain ⟨u5, h6, hf⟩ := ob hf
  obtain ⟨q3, h4, hf⟩ := ob hf
  refine P.callV (pc' := 7) (As := []) 0 (ok_X1_cut F x1 μ h4) (Nat.le_of_ble_eq_true rfl) (lw_V q564 q565 q566 q160 q567) rfl yok_X1_cut rfl (Nat.le_of_ble_eq_true rfl) ci1 h6 (by decide) rfl dX0_read_4 rfl ?_
  refine P.aload_n 0 (pc' := 8) dX0_read_7 rfl rfl rfl ?_
  refine P.iconst (v := (-1)) (pc' := 9) dX0_read_8 rfl (by decide) ?_
  obtain ⟨μ7, h8, hf⟩ := ob hf
  refine P.put (v := .int (-1)) (pc' := 12) ci0 2 (by decide) h8 q477 (Or.inl rfl) rfl rfl rfl dX0_read_9 rfl ?_
  refine P.aload_n 0 (pc' := 13) dX0_read_12 rfl rfl rfl ?_
  refine P.aload_n 0 (pc' := 14) dX0_read_13 rfl rfl rfl ?_
  obtain ⟨x9, h10, hf⟩ := ob hf
  refine P.get (pc' := 17) ci0 1 (by decide) (gfR_spec h10) q476 (Or.inl rfl) dX0_read_14 rfl ?_
  obtain ⟨u13, h14, hf⟩ := ob hf
  obtain ⟨q11, h12, hf⟩ := ob hf
  rcases e15 : q11.1 with x16 | x17
  · have h12 := h12.trans (congrArg some (Prod.ext e15 rfl : q11 = (.inl x16, q11.2)))
    rw [e15] at hf
    have hf := slt_l hf
    refine P.callVX (pc' := 20) (As := []) 0 (ok_X2_read F x9 μ7 h12) (Nat.le_of_ble_eq_true rfl) (lw_V q650 q651 q652 q161 q653) rfl yok_X2_read rfl (Nat.le_of_ble_eq_true rfl) ci2 h14 (Nat.le_of_ble_eq_true rfl) rfl dX0_read_17 rfl ?_
    obtain ⟨μ18, h19, hf⟩ := ob hf
    refine P.put (v := .ref x16) (pc' := 23) ci0 3 (by decide) h19 q478 (Or.inl rfl) rfl rfl rfl dX0_read_20 rfl ?_
    refine P.goto (tgt := 40) dX0_read_23 (by decide) ?_
    obtain ⟨μ20, e21, hf⟩ := nm_i hf
    refine P.newE (pc' := 43) ci6 q404 q405 q169 dfX6_ok e21 dX0_read_40 rfl ?_
    refine P.dup (pc' := 44) dX0_read_43 rfl rfl ?_
    obtain ⟨q22, h23, hf⟩ := ob hf
    refine P.callIN (pc' := 47) (As := []) 0 (ok_X6_init F μ18.2.1 μ20 h23) (Nat.le_of_ble_eq_true rfl) q408 q169 q406 q407 rfl yok_X6_init rfl (Nat.le_of_ble_eq_true rfl) (Nat.le_of_ble_eq_true rfl) rfl dX0_read_44 rfl ?_
    refine P.astore_n (pc' := 48) (lv' := [(1, .ref μ18.2.1), (0, .ref this)]) dX0_read_47 rfl rfl (Nat.le_of_ble_eq_true rfl) rfl ?_
    refine P.iconst (v := 0) (pc' := 49) dX0_read_48 rfl (by decide) ?_
    refine P.istore_n (pc' := 50) (lv' := [(2, .int 0), (1, .ref μ18.2.1), (0, .ref this)]) dX0_read_49 rfl rfl (Nat.le_of_ble_eq_true rfl) rfl ?_
    refine PW.sub [2, 1, 0] rfl (ok_f_X0_read_L50 F this μ18.2.1 _ ?_ F _ _ hf)
    · intro μ24 hf
      refine P.aload_n 0 (pc' := 94) dX0_read_93 rfl rfl rfl ?_
      obtain ⟨x25, h26, hf⟩ := ob hf
      refine P.get (pc' := 97) ci0 3 (by decide) (gfR_spec h26) q478 (Or.inl rfl) dX0_read_94 rfl ?_
      obtain ⟨x27, h28, hf⟩ := ob hf
      refine P.getN (pc' := 100) ci3 7 (by decide) (gfR_spec h28) q348 (Or.inl rfl) dX0_read_97 rfl ?_
      refine P.iconst (v := 0) (pc' := 101) dX0_read_100 rfl (by decide) ?_
      refine P.aload_n 1 (pc' := 102) dX0_read_101 rfl rfl rfl ?_
      obtain ⟨x29, h30, hf⟩ := ob hf
      refine P.getN (pc' := 105) ci6 1 (by decide) (gfR_spec h30) q416 (Or.inl rfl) dX0_read_102 rfl ?_
      refine P.iconst (v := 0) (pc' := 106) dX0_read_105 rfl (by decide) ?_
      refine P.bipush (v := 16) (pc' := 108) dX0_read_106 rfl (by decide) ?_
      obtain ⟨μ31, h32, hf⟩ := ob hf
      refine P.cpI (pc' := 111) h32 q1020 q861 q860 q185 (Nat.le_of_ble_eq_true rfl) (by decide) dX0_read_108 rfl ?_
      refine P.iconst (v := 0) (pc' := 112) dX0_read_111 rfl (by decide) ?_
      refine P.istore_n (pc' := 113) (lv' := [(2, .int 0), (0, .ref this), (1, .ref μ18.2.1)]) dX0_read_112 rfl rfl (Nat.le_of_ble_eq_true rfl) rfl ?_
      refine PW.sub [1, 2, 0] rfl (ok_f_X0_read_L113 F this μ18.2.1 _ ?_ F _ _ hf)
      · intro μ33 hf
        refine P.aload_n 0 (pc' := 157) dX0_read_156 rfl rfl rfl ?_
        refine P.aload_n 1 (pc' := 158) dX0_read_157 rfl rfl rfl ?_
        obtain ⟨μ34, h35, hf⟩ := ob hf
        refine P.put (v := .ref μ18.2.1) (pc' := 161) ci0 4 (by decide) h35 q479 (Or.inl rfl) rfl rfl rfl dX0_read_158 rfl ?_
        refine P.aload_n 0 (pc' := 162) dX0_read_161 rfl rfl rfl ?_
        obtain ⟨x36, h37, hf⟩ := ob hf
        refine P.get (pc' := 165) ci0 5 (by decide) (gfR_spec h37) q480 (Or.inl rfl) dX0_read_162 rfl ?_
        refine P.iconst (v := 0) (pc' := 166) dX0_read_165 rfl (by decide) ?_
        refine P.null (pc' := 167) dX0_read_166 rfl ?_
        obtain ⟨μ39, h38, hf⟩ := ob hf
        refine P.aastN (t := 7) (pc' := 168) rfl (by decide) h38 dX0_read_167 rfl ?_
        refine P.aload_n 0 (pc' := 169) dX0_read_168 rfl rfl rfl ?_
        obtain ⟨x40, h41, hf⟩ := ob hf
        refine P.get (pc' := 172) ci0 5 (by decide) (gfR_spec h41) q480 (Or.inl rfl) dX0_read_169 rfl ?_
        refine P.iconst (v := 1) (pc' := 173) dX0_read_172 rfl (by decide) ?_
        refine P.null (pc' := 174) dX0_read_173 rfl ?_
        obtain ⟨μ43, h42, hf⟩ := ob hf
        refine P.aastN (t := 7) (pc' := 175) rfl (by decide) h42 dX0_read_174 rfl ?_
        refine P.aload_n 0 (pc' := 176) dX0_read_175 rfl rfl rfl ?_
        refine P.iconst (v := 0) (pc' := 177) dX0_read_176 rfl (by decide) ?_
        obtain ⟨μ44, h45, hf⟩ := ob hf
        refine P.put (v := .int 0) (pc' := 180) ci0 9 (by decide) h45 q484 (Or.inl rfl) rfl rfl rfl dX0_read_177 rfl ?_
        refine P.aload_n 0 (pc' := 181) dX0_read_180 rfl rfl rfl ?_
        refine P.iconst (v := 0) (pc' := 182) dX0_read_181 rfl (by decide) ?_
        obtain ⟨μ46, h47, hf⟩ := ob hf
        refine P.put (v := .int 0) (pc' := 185) ci0 11 (by decide) h47 q486 (Or.inl rfl) rfl rfl rfl dX0_read_182 rfl ?_
        refine P.iconst (v := 0) (pc' := 186) dX0_read_185 rfl (by decide) ?_
        cases hf; exact P.iret rfl dX0_read_186
  · have h12 := h12.trans (congrArg some (Prod.ext e15 rfl : q11 = (.inr x17, q11.2)))
    rw [e15] at hf
    have hf := slt_r hf
    refine P.callVXc (As := []) 0 (ok_X2_read F x9 μ7 h12) rfl (by decide) (by decide) q563 (Nat.le_of_ble_eq_true rfl) (lw_V q650 q651 q652 q161 q653) rfl yok_X2_read rfl (Nat.le_of_ble_eq_true rfl) ci2 h14 (Nat.le_of_ble_eq_true rfl) rfl dX0_read_17 ?_
    refine P.astore_n (pc' := 27) (lv' := [(1, .ref x17), (0, .ref this)]) dX0_read_26 rfl rfl (Nat.le_of_ble_eq_true rfl) rfl ?_
    refine P.aload_n 1 (pc' := 28) dX0_read_27 rfl rfl rfl ?_
    refine P.aload_n 0 (pc' := 29) dX0_read_28 rfl rfl rfl ?_
    obtain ⟨x48, h49, hf⟩ := ob hf
    refine P.getN (pc' := 32) ci10 7 (by decide) (gfI_spec h49) q734 (Or.inl rfl) dX0_read_29 rfl ?_
    obtain ⟨μ50, h51, hf⟩ := ob hf
    refine P.put (v := .int x48) (pc' := 35) ci0 2 (by decide) h51 q477 (Or.inl rfl) rfl rfl rfl dX0_read_32 rfl ?_
    refine P.aload_n 0 (pc' := 36) dX0_read_35 rfl rfl rfl ?_
    obtain ⟨x52, h53, hf⟩ := ob hf
    refine P.getN (pc' := 39) ci10 6 (by decide) (gfI_spec h53) q732 (Or.inl rfl) dX0_read_36 rfl ?_
    cases hf; exact P.iret rfl dX0_read_39
abbrev mX0_place : Ym := (RX0, cX0_place, 1, (some Jvm.ClassFile.FieldType.int), false, [])
noncomputable def f_X0_place (F : Nat) (this : Nat) (μ : Sw) : Option Int32 :=
  Option.bind (gfI μ this 0 2) fun x1 =>
  some x1
set_option maxHeartbeats 4000000 in
theorem ok_X0_place {g : Gx} (F : Nat) (this : Nat) (μ : Sw) {rv : Int32} (hf : f_X0_place F this μ = some rv) : Cl g 1 yX0_place cX0_place 1 (some Jvm.ClassFile.FieldType.int) [.ref this] μ (some (.int rv)) μ := by
  unfold f_X0_place at hf
  refine Cl.of (own := RX0) (ini := false) (by decide +kernel) rfl (by decide) (Nat.le_of_ble_eq_true rfl) ?_
  show PW g mX0_place 1 μ μ (QN g (some (.int rv)) μ μ) 0 [(0, .ref this)] [] μ
  refine P.aload_n 0 (pc' := 1) dX0_place_0 rfl rfl rfl ?_
  obtain ⟨x1, h2, hf⟩ := ob hf
  refine P.get (pc' := 4) ci0 2 (by decide) (gfI_spec h2) q477 (Or.inl rfl) dX0_place_1 rfl ?_
  cases hf; exact P.iret rfl dX0_place_4
abbrev mX0_houses : Ym := (RX0, cX0_houses, 1, (some Jvm.ClassFile.FieldType.int), false, [])
noncomputable def f_X0_houses (F : Nat) (this : Nat) (μ : Sw) : Option Int32 :=
  Option.bind (gfR μ this 0 3) fun x1 =>
  Option.bind (gfR μ x1 3 0) fun x3 =>
  Option.bind (oc μ x3 20) fun u7 =>
  Option.bind (f_J2_size F x3 μ) fun q5 =>
  some q5
set_option maxHeartbeats 4000000 in
theorem ok_X0_houses {g : Gx} (F : Nat) (this : Nat) (μ : Sw) {rv : Int32} (hf : f_X0_houses F this μ = some rv) : Cl g 2 yX0_houses cX0_houses 1 (some Jvm.ClassFile.FieldType.int) [.ref this] μ (some (.int rv)) μ := by
  unfold f_X0_houses at hf
  refine Cl.of (own := RX0) (ini := false) (by decide +kernel) rfl (by decide) (Nat.le_of_ble_eq_true rfl) ?_
  show PW g mX0_houses 2 μ μ (QN g (some (.int rv)) μ μ) 0 [(0, .ref this)] [] μ
  refine P.aload_n 0 (pc' := 1) dX0_houses_0 rfl rfl rfl ?_
  obtain ⟨x1, h2, hf⟩ := ob hf
  refine P.get (pc' := 4) ci0 3 (by decide) (gfR_spec h2) q478 (Or.inl rfl) dX0_houses_1 rfl ?_
  obtain ⟨x3, h4, hf⟩ := ob hf
  refine P.getN (pc' := 7) ci3 0 (by decide) (gfR_spec h4) q328 (Or.inl rfl) dX0_houses_4 rfl ?_
  obtain ⟨u7, h8, hf⟩ := ob hf
  obtain ⟨q5, h6, hf⟩ := ob hf
  refine P.callV (pc' := 10) (As := []) 0 (ok_J2_size F x3 μ h6) (Nat.le_of_ble_eq_true rfl) (lw_V q1006 q669 q670 q165 q671) rfl yok_J2_size rfl (Nat.le_of_ble_eq_true rfl) ci20 h8 (by decide) rfl dX0_houses_7 rfl ?_
  cases hf; exact P.iret rfl dX0_houses_10
theorem yok_X0_houses : yOK yX0_houses 0 := ⟨by decide +kernel, by decide +kernel, by decide +kernel⟩
abbrev mX0_isHouse : Ym := (RX0, cX0_isHouse, 2, (some Jvm.ClassFile.FieldType.boolean), false, [])
noncomputable def f_X0_isHouse (F : Nat) (this : Nat) (p1 : Int32) (μ : Sw) : Option Int32 :=
  Option.bind (oc μ this 0) fun u3 =>
  Option.bind (f_X0_houses F this μ) fun q1 =>
  Option.bind (p_X0_within F p1 0 (q1 - 1)) fun q5 =>
  if q5 = 0 ∨ q5 = 1 then
    some q5
  else
    none
set_option maxHeartbeats 4000000 in
theorem ok_X0_isHouse {g : Gx} (F : Nat) (this : Nat) (p1 : Int32) (μ : Sw) {rv : Int32} (hf : f_X0_isHouse F this p1 μ = some rv) : Cl g 3 yX0_isHouse cX0_isHouse 2 (some Jvm.ClassFile.FieldType.boolean) [.ref this, .int p1] μ (some (.int rv)) μ := by
  unfold f_X0_isHouse at hf
  refine Cl.of (own := RX0) (ini := false) (by decide +kernel) rfl (by decide) (Nat.le_of_ble_eq_true rfl) ?_
  show PW g mX0_isHouse 3 μ μ (QN g (some (.int rv)) μ μ) 0 [(0, .ref this), (1, .int p1)] [] μ
  refine P.iload_n 1 (pc' := 1) dX0_isHouse_0 rfl rfl rfl ?_
  refine P.iconst (v := 0) (pc' := 2) dX0_isHouse_1 rfl (by decide) ?_
  refine P.aload_n 0 (pc' := 3) dX0_isHouse_2 rfl rfl rfl ?_
  obtain ⟨u3, h4, hf⟩ := ob hf
  obtain ⟨q1, h2, hf⟩ := ob hf
  refine P.callV (pc' := 6) (As := []) 0 (ok_X0_houses F this μ h2) (Nat.le_of_ble_eq_true rfl) (lw_V q1034 q1036 qs34 q159 q1037) rfl yok_X0_houses rfl (Nat.le_of_ble_eq_true rfl) ci0 h4 (Nat.le_of_ble_eq_true rfl) rfl dX0_isHouse_3 rfl ?_
  refine P.iconst (v := 1) (pc' := 7) dX0_isHouse_6 rfl (by decide) ?_
  refine P.isub (pc' := 8) dX0_isHouse_7 rfl ?_
  obtain ⟨q5, h6, hf⟩ := ob hf
  refine P.callS (pc' := 11) (As := [.int p1, .int 0, .int (q1 - 1)]) 3 (ok_X0_within F p1 0 (q1 - 1) μ h6) (Nat.le_of_ble_eq_true rfl) (lw_S q1038 q557 q159 q558) yok_X0_within rfl (Nat.le_of_ble_eq_true rfl) (by decide) rfl dX0_isHouse_8 rfl ?_
  by_cases y7 : q5 = 0 ∨ q5 = 1
  · have hf := (if_pos y7).symm.trans hf
    cases hf; exact P.zret rfl y7 dX0_isHouse_11
  · have hf := (if_neg y7).symm.trans hf
    cases hf
abbrev mX7_clear : Ym := (RX7, cX7_clear, 2, none, false, [])
noncomputable def f_X7_clear_L2_b (F : Nat) (c0 : Nat) (self : Int32 → Sw → Option Sw) (v1 : Int32) (μ : Sw) : Option Sw :=
  Option.bind (gfR μ c0 7 0) fun x1 =>
  Option.bind (aN μ x1) fun x3 =>
  if x3 ≤ v1 then
    some μ
  else
    Option.bind (gfR μ c0 7 0) fun x6 =>
    Option.bind (sI μ 0 x6 v1 0) fun μ9 =>
    nm (v1 + 1) fun x10 =>
    self x10 μ9
noncomputable def f_X7_clear_L2 (F : Nat) (c0 : Nat) (n : Nat) : Int32 → Sw → Option Sw := Nat.rec (motive := fun _ => Int32 → Sw → Option Sw) (fun _ _ => none) (fun _ self => f_X7_clear_L2_b F c0 self) n
set_option maxHeartbeats 4000000 in
theorem ok_f_X7_clear_L2 {g : Gx} {μ0 : Sw} {μF : Sw} (F : Nat) (c0 : Nat) : ∀ (n : Nat) (v1 : Int32) (μ : Sw), f_X7_clear_L2 F c0 n v1 μ = some μF → PW g mX7_clear 1 μ0 μF (QN g none μ0 μF) 2 [(0, .ref c0), (1, .int v1)] [] μ := by
  intro n
  induction n with
  | zero =>
    intro v1 μ hf
    have hf : (none : Option Sw) = some _ := hf
    cases hf
  | succ n ih =>
    intro v1 μ hf
    have hf : f_X7_clear_L2_b F c0 (f_X7_clear_L2 F c0 n) v1 μ = some μF := hf
    unfold f_X7_clear_L2_b at hf
    refine P.iload_n 1 (pc' := 3) dX7_clear_2 rfl rfl rfl ?_
    refine P.aload_n 0 (pc' := 4) dX7_clear_3 rfl rfl rfl ?_
    obtain ⟨x1, h2, hf⟩ := ob hf
    refine P.get (pc' := 7) ci7 0 (by decide) (gfR_spec h2) q446 (Or.inl rfl) dX7_clear_4 rfl ?_
    obtain ⟨x3, h4, hf⟩ := ob hf
    refine P.alen (pc' := 8) h4 dX7_clear_7 rfl ?_
    refine P.icmp_ge (tgt := 24) (pc' := 11) dX7_clear_8 (by decide) rfl (fun y5 => ?_) (fun y5 => ?_)
    · have hf := (if_pos y5).symm.trans hf
      cases hf; exact P.vret rfl dX7_clear_24
    · have hf := (if_neg y5).symm.trans hf
      refine P.aload_n 0 (pc' := 12) dX7_clear_11 rfl rfl rfl ?_
      obtain ⟨x6, h7, hf⟩ := ob hf
      refine P.get (pc' := 15) ci7 0 (by decide) (gfR_spec h7) q446 (Or.inl rfl) dX7_clear_12 rfl ?_
      refine P.iload_n 1 (pc' := 16) dX7_clear_15 rfl rfl rfl ?_
      refine P.iconst (v := 0) (pc' := 17) dX7_clear_16 rfl (by decide) ?_
      obtain ⟨μ9, h8, hf⟩ := ob hf
      refine P.iast (pc' := 18) h8 dX7_clear_17 rfl ?_
      obtain ⟨x10, e11, hf⟩ := nm_i hf
      refine P.iinc 1 (pc' := 21) (lv' := [(1, .int x10), (0, .ref c0)]) dX7_clear_18 rfl rfl (by decide) e11 (Nat.le_of_ble_eq_true rfl) rfl ?_
      refine P.goto (tgt := 2) dX7_clear_21 (by decide) ?_
      exact PW.sub [1, 0] rfl (ih _ _ hf)
noncomputable def f_X7_clear (F : Nat) (this : Nat) (μ : Sw) : Option Sw :=
  f_X7_clear_L2 F this F 0 μ
set_option maxHeartbeats 4000000 in
theorem ok_X7_clear {g : Gx} (F : Nat) (this : Nat) (μ : Sw) {μF : Sw} (hf : f_X7_clear F this μ = some μF) : Cl g 1 yX7_clear cX7_clear 2 none [.ref this] μ none μF := by
  unfold f_X7_clear at hf
  refine Cl.of (own := RX7) (ini := false) (by decide +kernel) rfl (by decide) (Nat.le_of_ble_eq_true rfl) ?_
  show PW g mX7_clear 1 μ μF (QN g none μ μF) 0 [(0, .ref this)] [] μ
  refine P.iconst (v := 0) (pc' := 1) dX7_clear_0 rfl (by decide) ?_
  refine P.istore_n (pc' := 2) (lv' := [(1, .int 0), (0, .ref this)]) dX7_clear_1 rfl rfl (Nat.le_of_ble_eq_true rfl) rfl ?_
  exact PW.sub [1, 0] rfl (ok_f_X7_clear_L2 F this F _ _ hf)
abbrev mX0_rankOf : Ym := (RX0, cX0_rankOf, 2, (some Jvm.ClassFile.FieldType.int), false, [])
noncomputable def f_X0_rankOf (F : Nat) (this : Nat) (p1 : Int32) (μ : Sw) : Option Int32 :=
  Option.bind (gfR μ this 0 4) fun x1 =>
  Option.bind (gfR μ x1 6 1) fun x3 =>
  Option.bind (aI μ 0 x3 p1) fun x5 =>
  if x5 = (-1) then
    some 0
  else
    Option.bind (gfR μ this 0 3) fun x8 =>
    Option.bind (gfR μ x8 3 5) fun x10 =>
    Option.bind (gfR μ this 0 4) fun x12 =>
    Option.bind (gfR μ x12 6 1) fun x14 =>
    Option.bind (aI μ 0 x14 p1) fun x16 =>
    Option.bind (aI μ 0 x10 x16) fun x18 =>
    some x18
set_option maxHeartbeats 4000000 in
theorem ok_X0_rankOf {g : Gx} (F : Nat) (this : Nat) (p1 : Int32) (μ : Sw) {rv : Int32} (hf : f_X0_rankOf F this p1 μ = some rv) : Cl g 1 yX0_rankOf cX0_rankOf 2 (some Jvm.ClassFile.FieldType.int) [.ref this, .int p1] μ (some (.int rv)) μ := by
  unfold f_X0_rankOf at hf
  refine Cl.of (own := RX0) (ini := false) (by decide +kernel) rfl (by decide) (Nat.le_of_ble_eq_true rfl) ?_
  show PW g mX0_rankOf 1 μ μ (QN g (some (.int rv)) μ μ) 0 [(0, .ref this), (1, .int p1)] [] μ
  refine P.aload_n 0 (pc' := 1) dX0_rankOf_0 rfl rfl rfl ?_
  obtain ⟨x1, h2, hf⟩ := ob hf
  refine P.get (pc' := 4) ci0 4 (by decide) (gfR_spec h2) q479 (Or.inl rfl) dX0_rankOf_1 rfl ?_
  obtain ⟨x3, h4, hf⟩ := ob hf
  refine P.getN (pc' := 7) ci6 1 (by decide) (gfR_spec h4) q416 (Or.inl rfl) dX0_rankOf_4 rfl ?_
  refine P.iload_n 1 (pc' := 8) dX0_rankOf_7 rfl rfl rfl ?_
  obtain ⟨x5, h6, hf⟩ := ob hf
  refine P.iald (t := 0) (pc' := 9) rfl h6 dX0_rankOf_8 rfl ?_
  refine P.iconst (v := (-1)) (pc' := 10) dX0_rankOf_9 rfl (by decide) ?_
  refine P.icmp_ne (tgt := 17) (pc' := 13) dX0_rankOf_10 (by decide) rfl (fun y7 => ?_) (fun y7 => ?_)
  · have hf := (if_neg y7).symm.trans hf
    refine P.aload_n 0 (pc' := 18) dX0_rankOf_17 rfl rfl rfl ?_
    obtain ⟨x8, h9, hf⟩ := ob hf
    refine P.get (pc' := 21) ci0 3 (by decide) (gfR_spec h9) q478 (Or.inl rfl) dX0_rankOf_18 rfl ?_
    obtain ⟨x10, h11, hf⟩ := ob hf
    refine P.getN (pc' := 24) ci3 5 (by decide) (gfR_spec h11) q343 (Or.inl rfl) dX0_rankOf_21 rfl ?_
    refine P.aload_n 0 (pc' := 25) dX0_rankOf_24 rfl rfl rfl ?_
    obtain ⟨x12, h13, hf⟩ := ob hf
    refine P.get (pc' := 28) ci0 4 (by decide) (gfR_spec h13) q479 (Or.inl rfl) dX0_rankOf_25 rfl ?_
    obtain ⟨x14, h15, hf⟩ := ob hf
    refine P.getN (pc' := 31) ci6 1 (by decide) (gfR_spec h15) q416 (Or.inl rfl) dX0_rankOf_28 rfl ?_
    refine P.iload_n 1 (pc' := 32) dX0_rankOf_31 rfl rfl rfl ?_
    obtain ⟨x16, h17, hf⟩ := ob hf
    refine P.iald (t := 0) (pc' := 33) rfl h17 dX0_rankOf_32 rfl ?_
    obtain ⟨x18, h19, hf⟩ := ob hf
    refine P.iald (t := 0) (pc' := 34) rfl h19 dX0_rankOf_33 rfl ?_
    cases hf; exact P.iret rfl dX0_rankOf_34
  · have hf := (if_pos y7).symm.trans hf
    refine P.iconst (v := 0) (pc' := 14) dX0_rankOf_13 rfl (by decide) ?_
    refine P.goto (tgt := 34) dX0_rankOf_14 (by decide) ?_
    cases hf; exact P.iret rfl dX0_rankOf_34
