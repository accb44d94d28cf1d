set_option maxRecDepth 100000
abbrev mX16_holds : Ym := (RX16, cX16_holds, 2, (some Jvm.ClassFile.FieldType.boolean), false, [])
noncomputable def f_X16_holds (F : Nat) (rec : Nat → Nat → Sw → Option (Int32 × Sw)) (this : Nat) (p1 : Nat) (μ : Sw) : Option (Int32 × Sw) :=
  Option.bind (gfR μ this 16 0) fun x1 =>
  Option.bind (rec x1 p1 μ) fun q3 =>
  if q3.1 = 0 then
    some (1, q3.2)
  else
    some (0, q3.2)
set_option maxHeartbeats 4000000 in
theorem ok_X16_holds {g : Gx} (F : Nat) (D0 : Nat) (rec : Nat → Nat → Sw → Option (Int32 × Sw)) (hrec : ∀ t v μ r μ1, rec t v μ = some (r, μ1) → TsOK g D0 t v μ r μ1) (this : Nat) (p1 : Nat) (μ : Sw) {rv : Int32} {μF : Sw} (hf : f_X16_holds F rec this p1 μ = some (rv, μF)) : Cl g (D0 + 1) yX16_holds cX16_holds 2 (some Jvm.ClassFile.FieldType.boolean) [.ref this, .ref p1] μ (some (.int rv)) μF := by
  unfold f_X16_holds at hf
  refine Cl.of (own := RX16) (ini := false) (by decide +kernel) rfl (by decide) (Nat.le_of_ble_eq_true rfl) ?_
  show PW g mX16_holds (D0 + 1) μ μF (QN g (some (.int rv)) μ μF) 0 [(0, .ref this), (1, .ref p1)] [] μ
  refine P.aload_n 0 (pc' := 1) dX16_holds_0 rfl rfl rfl ?_
  obtain ⟨x1, h2, hf⟩ := ob hf
  refine P.get (pc' := 4) ci16 0 (by decide) (gfR_spec h2) q989 (Or.inl rfl) dX16_holds_1 rfl ?_
  refine P.aload_n 1 (pc' := 5) dX16_holds_4 rfl rfl rfl ?_
  obtain ⟨q3, h4, hf⟩ := ob hf
  refine P.callTest (pc' := 10) (hrec _ _ _ _ _ h4) (Nat.le_refl _) q1233 (by decide) dX16_holds_5 rfl ?_
  refine P.if_ne (tgt := 17) (pc' := 13) dX16_holds_10 (by decide) rfl (fun y5 => ?_) (fun y5 => ?_)
  · have hf := (if_neg y5).symm.trans hf
    refine P.iconst (v := 0) (pc' := 18) dX16_holds_17 rfl (by decide) ?_
    cases hf; exact P.zret rfl (Or.inl rfl) dX16_holds_18
  · have hf := (if_pos y5).symm.trans hf
    refine P.iconst (v := 1) (pc' := 14) dX16_holds_13 rfl (by decide) ?_
    refine P.goto (tgt := 18) dX16_holds_14 (by decide) ?_
    cases hf; exact P.zret rfl (Or.inr rfl) dX16_holds_18
abbrev mX17_holds : Ym := (RX17, cX17_holds, 4, (some Jvm.ClassFile.FieldType.boolean), false, [])
noncomputable def f_X17_holds_L2_b (F : Nat) (rec : Nat → Nat → Sw → Option (Int32 × Sw)) (c0 : Nat) (c1 : Nat) (self : Int32 → Sw → Option (Int32 × Sw)) (v2 : Int32) (μ : Sw) : Option (Int32 × Sw) :=
  Option.bind (gfR μ c0 17 1) fun x1 =>
  Option.bind (oc μ x1 20) fun u5 =>
  Option.bind (f_J2_size F x1 μ) fun q3 =>
  if q3 ≤ v2 then
    Option.bind (gfI μ c0 17 0) fun x8 =>
    if x8 = 0 ∨ x8 = 1 then
      some (x8, μ)
    else
      none
  else
    Option.bind (gfR μ c0 17 1) fun x11 =>
    Option.bind (oc μ x11 20) fun u15 =>
    Option.bind (f_J2_get F x11 v2 μ) fun q13 =>
    Option.bind (oTest μ q13) fun u17 =>
    Option.bind (rec q13 c1 μ) fun q19 =>
    Option.bind (gfI q19.2 c0 17 0) fun x21 =>
    if q19.1 = x21 then
      nm (v2 + 1) fun x24 =>
      self x24 q19.2
    else
      Option.bind (gfI q19.2 c0 17 0) fun x26 =>
      if x26 = 0 then
        some (1, q19.2)
      else
        some (0, q19.2)
noncomputable def f_X17_holds_L2 (F : Nat) (rec : Nat → Nat → Sw → Option (Int32 × Sw)) (c0 : Nat) (c1 : Nat) (n : Nat) : Int32 → Sw → Option (Int32 × Sw) := Nat.rec (motive := fun _ => Int32 → Sw → Option (Int32 × Sw)) (fun _ _ => none) (fun _ self => f_X17_holds_L2_b F rec c0 c1 self) n
set_option maxHeartbeats 4000000 in
theorem ok_f_X17_holds_L2 {g : Gx} {μ0 : Sw} {rv : Int32} {μF : Sw} (F : Nat) (D0 : Nat) (h410 : 410 ≤ D0) (rec : Nat → Nat → Sw → Option (Int32 × Sw)) (hrec : ∀ t v μ r μ1, rec t v μ = some (r, μ1) → TsOK g D0 t v μ r μ1) (c0 : Nat) (c1 : Nat) : ∀ (n : Nat) (v2 : Int32) (μ : Sw), f_X17_holds_L2 F rec c0 c1 n v2 μ = some (rv, μF) → PW g mX17_holds (D0 + 1) μ0 μF (QN g (some (.int rv)) μ0 μF) 2 [(0, .ref c0), (1, .ref c1), (2, .int v2)] [] μ := by
  intro n
  induction n with
  | zero =>
    intro v2 μ hf
    have hf : (none : Option (Int32 × Sw)) = some _ := hf
    cases hf
  | succ n ih =>
    intro v2 μ hf
    have hf : f_X17_holds_L2_b F rec c0 c1 (f_X17_holds_L2 F rec c0 c1 n) v2 μ = some (rv, μF) := hf
    unfold f_X17_holds_L2_b at hf
    refine P.iload_n 2 (pc' := 3) dX17_holds_2 rfl rfl rfl ?_
    refine P.aload_n 0 (pc' := 4) dX17_holds_3 rfl rfl rfl ?_
    obtain ⟨x1, h2, hf⟩ := ob hf
    refine P.get (pc' := 7) ci17 1 (by decide) (gfR_spec h2) q1000 (Or.inl rfl) dX17_holds_4 rfl ?_
    obtain ⟨u5, h6, hf⟩ := ob hf
    obtain ⟨q3, h4, hf⟩ := ob hf
    refine P.callV (pc' := 10) (As := []) 0 (ok_J2_size F x1 μ h4) (by omega) (lw_V q1221 q669 q670 q165 q671) rfl yok_J2_size rfl (by omega) ci20 h6 (Nat.le_of_ble_eq_true rfl) rfl dX17_holds_7 rfl ?_
    refine P.icmp_ge (tgt := 58) (pc' := 13) dX17_holds_10 (by decide) rfl (fun y7 => ?_) (fun y7 => ?_)
    · have hf := (if_pos y7).symm.trans hf
      refine P.aload_n 0 (pc' := 59) dX17_holds_58 rfl rfl rfl ?_
      obtain ⟨x8, h9, hf⟩ := ob hf
      refine P.get (pc' := 62) ci17 0 (by decide) (gfI_spec h9) q999 (Or.inl rfl) dX17_holds_59 rfl ?_
      by_cases y10 : x8 = 0 ∨ x8 = 1
      · have hf := (if_pos y10).symm.trans hf
        cases hf; exact P.zret rfl y10 dX17_holds_62
      · have hf := (if_neg y10).symm.trans hf
        cases hf
    · have hf := (if_neg y7).symm.trans hf
      refine P.aload_n 0 (pc' := 14) dX17_holds_13 rfl rfl rfl ?_
      obtain ⟨x11, h12, hf⟩ := ob hf
      refine P.get (pc' := 17) ci17 1 (by decide) (gfR_spec h12) q1000 (Or.inl rfl) dX17_holds_14 rfl ?_
      refine P.iload_n 2 (pc' := 18) dX17_holds_17 rfl rfl rfl ?_
      obtain ⟨u15, h16, hf⟩ := ob hf
      obtain ⟨q13, h14, hf⟩ := ob hf
      refine P.callV (pc' := 21) (As := [.int v2]) 1 (ok_J2_get F x11 v2 μ h14) (by omega) (lw_V q1222 q1008 q1009 q165 q1010) rfl yok_J2_get rfl (by omega) ci20 h16 (by decide) rfl dX17_holds_18 rfl ?_
      obtain ⟨u17, h18, hf⟩ := ob hf
      refine P.castTest (pc' := 24) q1223 h18 dX17_holds_21 rfl ?_
      refine P.astore_n (pc' := 25) (lv' := [(3, .ref q13), (0, .ref c0), (1, .ref c1), (2, .int v2)]) dX17_holds_24 rfl rfl (Nat.le_of_ble_eq_true rfl) rfl ?_
      refine P.aload_n 0 (pc' := 26) dX17_holds_25 rfl rfl rfl ?_
      refine P.aload_n 2 (pc' := 27) dX17_holds_26 rfl rfl rfl ?_
      obtain ⟨q19, h20, hf⟩ := ob hf
      refine P.callTest (pc' := 32) (hrec _ _ _ _ _ h20) (Nat.le_refl _) q1225 (by decide) dX17_holds_27 rfl ?_
      refine P.aload_n 1 (pc' := 33) dX17_holds_32 rfl rfl rfl ?_
      obtain ⟨x21, h22, hf⟩ := ob hf
      refine P.get (pc' := 36) ci17 0 (by decide) (gfI_spec h22) q999 (Or.inl rfl) dX17_holds_33 rfl ?_
      refine P.icmp_eq (tgt := 52) (pc' := 39) dX17_holds_36 (by decide) rfl (fun y23 => ?_) (fun y23 => ?_)
      · have hf := (if_pos y23).symm.trans hf
        obtain ⟨x24, e25, hf⟩ := nm_i hf
        refine P.iinc 3 (pc' := 55) (lv' := [(2, .int x24), (3, .ref q13), (0, .ref c0), (1, .ref c1)]) dX17_holds_52 rfl rfl (by decide) e25 (Nat.le_of_ble_eq_true rfl) rfl ?_
        refine P.goto (tgt := 2) dX17_holds_55 (by decide) ?_
        exact PW.sub [2, 3, 0] rfl (ih _ _ hf)
      · have hf := (if_neg y23).symm.trans hf
        refine P.aload_n 1 (pc' := 40) dX17_holds_39 rfl rfl rfl ?_
        obtain ⟨x26, h27, hf⟩ := ob hf
        refine P.get (pc' := 43) ci17 0 (by decide) (gfI_spec h27) q999 (Or.inl rfl) dX17_holds_40 rfl ?_
        refine P.if_ne (tgt := 50) (pc' := 46) dX17_holds_43 (by decide) rfl (fun y28 => ?_) (fun y28 => ?_)
        · have hf := (if_neg y28).symm.trans hf
          refine P.iconst (v := 0) (pc' := 51) dX17_holds_50 rfl (by decide) ?_
          cases hf; exact P.zret rfl (Or.inl rfl) dX17_holds_51
        · have hf := (if_pos y28).symm.trans hf
          refine P.iconst (v := 1) (pc' := 47) dX17_holds_46 rfl (by decide) ?_
          refine P.goto (tgt := 51) dX17_holds_47 (by decide) ?_
          cases hf; exact P.zret rfl (Or.inr rfl) dX17_holds_51
noncomputable def f_X17_holds (F : Nat) (rec : Nat → Nat → Sw → Option (Int32 × Sw)) (this : Nat) (p1 : Nat) (μ : Sw) : Option (Int32 × Sw) :=
  f_X17_holds_L2 F rec this p1 F 0 μ
set_option maxHeartbeats 4000000 in
theorem ok_X17_holds {g : Gx} (F : Nat) (D0 : Nat) (h410 : 410 ≤ D0) (rec : Nat → Nat → Sw → Option (Int32 × Sw)) (hrec : ∀ t v μ r μ1, rec t v μ = some (r, μ1) → TsOK g D0 t v μ r μ1) (this : Nat) (p1 : Nat) (μ : Sw) {rv : Int32} {μF : Sw} (hf : f_X17_holds F rec this p1 μ = some (rv, μF)) : Cl g (D0 + 1) yX17_holds cX17_holds 4 (some Jvm.ClassFile.FieldType.boolean) [.ref this, .ref p1] μ (some (.int rv)) μF := by
  unfold f_X17_holds at hf
  refine Cl.of (own := RX17) (ini := false) (by decide +kernel) rfl (by decide) (Nat.le_of_ble_eq_true rfl) ?_
  show PW g mX17_holds (D0 + 1) μ μF (QN g (some (.int rv)) μ μF) 0 [(0, .ref this), (1, .ref p1)] [] μ
  refine P.iconst (v := 0) (pc' := 1) dX17_holds_0 rfl (by decide) ?_
  refine P.istore_n (pc' := 2) (lv' := [(2, .int 0), (0, .ref this), (1, .ref p1)]) dX17_holds_1 rfl rfl (Nat.le_of_ble_eq_true rfl) rfl ?_
  exact PW.sub [1, 2, 0] rfl (ok_f_X17_holds_L2 F D0 h410 rec hrec this p1 F _ _ hf)
/-! a test's answer, by its record's kind -/
noncomputable def f_holds (F : Nat) (D : Nat) : Nat → Nat → Sw → Option (Int32 × Sw) := Nat.rec (motive := fun _ => Nat → Nat → Sw → Option (Int32 × Sw)) (fun _ _ _ => none) (fun _ rec t v μ => if oc μ t 15 = some () then f_X15_holds F t v μ else if oc μ t 16 = some () then f_X16_holds F rec t v μ else if oc μ t 17 = some () then f_X17_holds F rec t v μ else none) D
theorem f_holds_s (F D : Nat) (t v : Nat) (μ : Sw) : f_holds F (D + 1) t v μ = if oc μ t 15 = some () then f_X15_holds F t v μ else if oc μ t 16 = some () then f_X16_holds F (f_holds F D) t v μ else if oc μ t 17 = some () then f_X17_holds F (f_holds F D) t v μ else none := rfl
theorem ok_holds {g : Gx} (F D : Nat) : ∀ (t v : Nat) (μ : Sw) (r : Int32) (μ1 : Sw), f_holds F D t v μ = some (r, μ1) → TsOK g (D + 411) t v μ r μ1 := by
  induction D with
  | zero => intro t v μ r μ1 h; have h : (none : Option (Int32 × Sw)) = some _ := h; cases h
  | succ D ih =>
    intro t v μ r μ1 h
    rw [f_holds_s] at h
    by_cases h4 : oc μ t 15 = some ()
    · rw [if_pos h4] at h
      exact Or.inl ⟨h4, ok_X15_holds F (D + 1 + 411) (by omega) t v μ h⟩
    · rw [if_neg h4] at h
      by_cases h5 : oc μ t 16 = some ()
      · rw [if_pos h5] at h
        have k := ok_X16_holds F (D + 411) (f_holds F D) ih t v μ h
        rw [show D + 411 + 1 = D + 1 + 411 by omega] at k
        exact Or.inr (Or.inl ⟨h5, k⟩)
      · rw [if_neg h5] at h
        by_cases h14 : oc μ t 17 = some ()
        · rw [if_pos h14] at h
          have k := ok_X17_holds F (D + 411) (by omega) (f_holds F D) ih t v μ h
          rw [show D + 411 + 1 = D + 1 + 411 by omega] at k
          exact Or.inr (Or.inr ⟨h14, k⟩)
        · rw [if_neg h14] at h
          cases h

theorem yok_X0_swayOf : yOK yX0_swayOf 2 := ⟨by decide +kernel, by decide +kernel, by decide +kernel⟩
abbrev mX0_isBad : Ym := (RX0, cX0_isBad, 4, (some Jvm.ClassFile.FieldType.boolean), false, [])
noncomputable def f_X0_isBad_L20_b (F : Nat) (c0 : Nat) (self : Int32 → Sw → Option (Int32 × Sw)) (v3 : Int32) (μ : Sw) : Option (Int32 × Sw) :=
  Option.bind (gfR μ c0 0 3) fun x1 =>
  Option.bind (gfR μ x1 3 4) fun x3 =>
  Option.bind (oc μ x3 20) fun u7 =>
  Option.bind (f_J2_size F x3 μ) fun q5 =>
  if q5 ≤ v3 then
    some (0, μ)
  else
    Option.bind (gfR μ c0 0 3) fun x10 =>
    Option.bind (gfR μ x10 3 4) fun x12 =>
    Option.bind (oc μ x12 20) fun u16 =>
    Option.bind (f_J2_get F x12 v3 μ) fun q14 =>
    Option.bind (oTest μ q14) fun u18 =>
    Option.bind (gfR μ c0 0 6) fun x20 =>
    Option.bind (f_holds F 8 q14 x20 μ) fun q22 =>
    if q22.1 = 0 then
      nm (v3 + 1) fun x25 =>
      self x25 q22.2
    else
      some (1, q22.2)
noncomputable def f_X0_isBad_L20 (F : Nat) (c0 : Nat) (n : Nat) : Int32 → Sw → Option (Int32 × Sw) := Nat.rec (motive := fun _ => Int32 → Sw → Option (Int32 × Sw)) (fun _ _ => none) (fun _ self => f_X0_isBad_L20_b F c0 self) n
set_option maxHeartbeats 4000000 in
theorem ok_f_X0_isBad_L20 {g : Gx} {μ0 : Sw} {rv : Int32} {μF : Sw} (F : Nat) (c0 : Nat) : ∀ (n : Nat) (v3 : Int32) (μ : Sw), f_X0_isBad_L20 F c0 n v3 μ = some (rv, μF) → PW g mX0_isBad 421 μ0 μF (QN g (some (.int rv)) μ0 μF) 20 [(0, .ref c0), (3, .int v3)] [] μ := by
  intro n
  induction n with
  | zero =>
    intro v3 μ hf
    have hf : (none : Option (Int32 × Sw)) = some _ := hf
    cases hf
  | succ n ih =>
    intro v3 μ hf
    have hf : f_X0_isBad_L20_b F c0 (f_X0_isBad_L20 F c0 n) v3 μ = some (rv, μF) := hf
    unfold f_X0_isBad_L20_b at hf
    refine P.iload_n 1 (pc' := 21) dX0_isBad_20 rfl rfl rfl ?_
    refine P.aload_n 0 (pc' := 22) dX0_isBad_21 rfl rfl rfl ?_
    obtain ⟨x1, h2, hf⟩ := ob hf
    refine P.get (pc' := 25) ci0 3 (by decide) (gfR_spec h2) q478 (Or.inl rfl) dX0_isBad_22 rfl ?_
    obtain ⟨x3, h4, hf⟩ := ob hf
    refine P.getN (pc' := 28) ci3 4 (by decide) (gfR_spec h4) q341 (Or.inl rfl) dX0_isBad_25 rfl ?_
    obtain ⟨u7, h8, hf⟩ := ob hf
    obtain ⟨q5, h6, hf⟩ := ob hf
    refine P.callV (pc' := 31) (As := []) 0 (ok_J2_size F x3 μ h6) (Nat.le_of_ble_eq_true rfl) (lw_V q1006 q669 q670 q165 q671) rfl yok_J2_size rfl (Nat.le_of_ble_eq_true rfl) ci20 h8 (Nat.le_of_ble_eq_true rfl) rfl dX0_isBad_28 rfl ?_
    refine P.icmp_ge (tgt := 68) (pc' := 34) dX0_isBad_31 (by decide) rfl (fun y9 => ?_) (fun y9 => ?_)
    · have hf := (if_pos y9).symm.trans hf
      refine P.iconst (v := 0) (pc' := 69) dX0_isBad_68 rfl (by decide) ?_
      cases hf; exact P.zret rfl (Or.inl rfl) dX0_isBad_69
    · have hf := (if_neg y9).symm.trans hf
      refine P.aload_n 0 (pc' := 35) dX0_isBad_34 rfl rfl rfl ?_
      obtain ⟨x10, h11, hf⟩ := ob hf
      refine P.get (pc' := 38) ci0 3 (by decide) (gfR_spec h11) q478 (Or.inl rfl) dX0_isBad_35 rfl ?_
      obtain ⟨x12, h13, hf⟩ := ob hf
      refine P.getN (pc' := 41) ci3 4 (by decide) (gfR_spec h13) q341 (Or.inl rfl) dX0_isBad_38 rfl ?_
      refine P.iload_n 1 (pc' := 42) dX0_isBad_41 rfl rfl rfl ?_
      obtain ⟨u16, h17, hf⟩ := ob hf
      obtain ⟨q14, h15, hf⟩ := ob hf
      refine P.callV (pc' := 45) (As := [.int v3]) 1 (ok_J2_get F x12 v3 μ h15) (Nat.le_of_ble_eq_true rfl) (lw_V q1007 q1008 q1009 q165 q1010) rfl yok_J2_get rfl (Nat.le_of_ble_eq_true rfl) ci20 h17 (by decide) rfl dX0_isBad_42 rfl ?_
      obtain ⟨u18, h19, hf⟩ := ob hf
      refine P.castTest (pc' := 48) q1202 h19 dX0_isBad_45 rfl ?_
      refine P.aload_n 0 (pc' := 49) dX0_isBad_48 rfl rfl rfl ?_
      obtain ⟨x20, h21, hf⟩ := ob hf
      refine P.get (pc' := 52) ci0 6 (by decide) (gfR_spec h21) q481 (Or.inl rfl) dX0_isBad_49 rfl ?_
      obtain ⟨q22, h23, hf⟩ := ob hf
      refine P.callTest (pc' := 57) (ok_holds F 8 _ _ _ _ _ h23) (Nat.le_of_ble_eq_true rfl) q1204 (by decide) dX0_isBad_52 rfl ?_
      refine P.if_eq (tgt := 62) (pc' := 60) dX0_isBad_57 (by decide) rfl (fun y24 => ?_) (fun y24 => ?_)
      · have hf := (if_pos y24).symm.trans hf
        obtain ⟨x25, e26, hf⟩ := nm_i hf
        refine P.iinc 1 (pc' := 65) (lv' := [(3, .int x25), (0, .ref c0)]) dX0_isBad_62 rfl rfl (by decide) e26 (Nat.le_of_ble_eq_true rfl) rfl ?_
        refine P.goto (tgt := 20) dX0_isBad_65 (by decide) ?_
        exact PW.sub [1, 0] rfl (ih _ _ hf)
      · have hf := (if_neg y24).symm.trans hf
        refine P.iconst (v := 1) (pc' := 61) dX0_isBad_60 rfl (by decide) ?_
        cases hf; exact P.zret rfl (Or.inr rfl) dX0_isBad_61
noncomputable def f_X0_isBad (F : Nat) (this : Nat) (p1 : Int32) (μ : Sw) : Option (Int32 × Sw) :=
  Option.bind (oc μ this 0) fun u3 =>
  Option.bind (f_X0_swayOf F this p1 0 μ) fun q1 =>
  Option.bind (gfR q1.2 this 0 6) fun x5 =>
  Option.bind (gfR q1.2 x5 7 0) fun x7 =>
  Option.bind (sI q1.2 0 x7 8 q1.1) fun μ10 =>
  f_X0_isBad_L20 F this F 0 μ10
set_option maxHeartbeats 4000000 in
theorem ok_X0_isBad {g : Gx} (F : Nat) (this : Nat) (p1 : Int32) (μ : Sw) {rv : Int32} {μF : Sw} (hf : f_X0_isBad F this p1 μ = some (rv, μF)) : Cl g 421 yX0_isBad cX0_isBad 4 (some Jvm.ClassFile.FieldType.boolean) [.ref this, .int p1] μ (some (.int rv)) μF := by
  unfold f_X0_isBad at hf
  refine Cl.of (own := RX0) (ini := false) (by decide +kernel) rfl (by decide) (Nat.le_of_ble_eq_true rfl) ?_
  show PW g mX0_isBad 421 μ μF (QN g (some (.int rv)) μ μF) 0 [(0, .ref this), (1, .int p1)] [] μ
  refine P.aload_n 0 (pc' := 1) dX0_isBad_0 rfl rfl rfl ?_
  refine P.iload_n 1 (pc' := 2) dX0_isBad_1 rfl rfl rfl ?_
  refine P.iconst (v := 0) (pc' := 3) dX0_isBad_2 rfl (by decide) ?_
  obtain ⟨u3, h4, hf⟩ := ob hf
  obtain ⟨q1, h2, hf⟩ := ob hf
  refine P.callV (pc' := 6) (As := [.int p1, .int 0]) 2 (ok_X0_swayOf F this p1 0 μ h2) (Nat.le_of_ble_eq_true rfl) (lw_V q1198 q1200 qs51 q159 q1201) rfl yok_X0_swayOf rfl (Nat.le_of_ble_eq_true rfl) ci0 h4 (by decide) rfl dX0_isBad_3 rfl ?_
  refine P.istore_n (pc' := 7) (lv' := [(2, .int q1.1), (0, .ref this), (1, .int p1)]) dX0_isBad_6 rfl rfl (Nat.le_of_ble_eq_true rfl) rfl ?_
  refine P.aload_n 1 (pc' := 8) dX0_isBad_7 rfl rfl rfl ?_
  obtain ⟨x5, h6, hf⟩ := ob hf
  refine P.get (pc' := 11) ci0 6 (by decide) (gfR_spec h6) q481 (Or.inl rfl) dX0_isBad_8 rfl ?_
  obtain ⟨x7, h8, hf⟩ := ob hf
  refine P.getN (pc' := 14) ci7 0 (by decide) (gfR_spec h8) q448 (Or.inl rfl) dX0_isBad_11 rfl ?_
  refine P.bipush (v := 8) (pc' := 16) dX0_isBad_14 rfl (by decide) ?_
  refine P.iload_n 0 (pc' := 17) dX0_isBad_16 rfl rfl rfl ?_
  obtain ⟨μ10, h9, hf⟩ := ob hf
  refine P.iast (pc' := 18) h9 dX0_isBad_17 rfl ?_
  refine P.iconst (v := 0) (pc' := 19) dX0_isBad_18 rfl (by decide) ?_
  refine P.istore_n (pc' := 20) (lv' := [(3, .int 0), (2, .int q1.1), (0, .ref this), (1, .int p1)]) dX0_isBad_19 rfl rfl (Nat.le_of_ble_eq_true rfl) rfl ?_
  exact PW.sub [2, 0] rfl (ok_f_X0_isBad_L20 F this F _ _ hf)
theorem yok_X0_isBad : yOK yX0_isBad 1 := ⟨by decide +kernel, by decide +kernel, by decide +kernel⟩
abbrev mX0_badOnes : Ym := (RX0, cX0_badOnes, 3, (some Jvm.ClassFile.FieldType.int), false, [])
noncomputable def f_X0_badOnes_L4_b (F : Nat) (c0 : Nat) (self : Int32 → Int32 → Sw → Option (Int32 × Sw)) (v1 : Int32) (v2 : Int32) (μ : Sw) : Option (Int32 × Sw) :=
  Option.bind (oc μ c0 0) fun u3 =>
  Option.bind (f_X0_houses F c0 μ) fun q1 =>
  if q1 ≤ v2 then
    some (v1, μ)
  else
    Option.bind (oc μ c0 0) fun u8 =>
    Option.bind (f_X0_isBad F c0 v2 μ) fun q6 =>
    if q6.1 = 0 then
      nm (v2 + 1) fun x11 =>
      self v1 x11 q6.2
    else
      nm (v1 ||| ((1 : Int32) <<< (v2 &&& 31))) fun x13 =>
      nm (v2 + 1) fun x15 =>
      self x13 x15 q6.2
noncomputable def f_X0_badOnes_L4 (F : Nat) (c0 : Nat) (n : Nat) : Int32 → Int32 → Sw → Option (Int32 × Sw) := Nat.rec (motive := fun _ => Int32 → Int32 → Sw → Option (Int32 × Sw)) (fun _ _ _ => none) (fun _ self => f_X0_badOnes_L4_b F c0 self) n
set_option maxHeartbeats 4000000 in
theorem ok_f_X0_badOnes_L4 {g : Gx} {μ0 : Sw} {rv : Int32} {μF : Sw} (F : Nat) (c0 : Nat) : ∀ (n : Nat) (v1 : Int32) (v2 : Int32) (μ : Sw), f_X0_badOnes_L4 F c0 n v1 v2 μ = some (rv, μF) → PW g mX0_badOnes 422 μ0 μF (QN g (some (.int rv)) μ0 μF) 4 [(0, .ref c0), (1, .int v1), (2, .int v2)] [] μ := by
  intro n
  induction n with
  | zero =>
    intro v1 v2 μ hf
    have hf : (none : Option (Int32 × Sw)) = some _ := hf
    cases hf
  | succ n ih =>
    intro v1 v2 μ hf
    have hf : f_X0_badOnes_L4_b F c0 (f_X0_badOnes_L4 F c0 n) v1 v2 μ = some (rv, μF) := hf
    unfold f_X0_badOnes_L4_b at hf
    refine P.iload_n 2 (pc' := 5) dX0_badOnes_4 rfl rfl rfl ?_
    refine P.aload_n 0 (pc' := 6) dX0_badOnes_5 rfl rfl rfl ?_
    obtain ⟨u3, h4, hf⟩ := ob hf
    obtain ⟨q1, h2, hf⟩ := ob hf
    refine P.callV (pc' := 9) (As := []) 0 (ok_X0_houses F c0 μ h2) (Nat.le_of_ble_eq_true rfl) (lw_V q1034 q1036 qs34 q159 q1037) rfl yok_X0_houses rfl (Nat.le_of_ble_eq_true rfl) ci0 h4 (Nat.le_of_ble_eq_true rfl) rfl dX0_badOnes_6 rfl ?_
    refine P.icmp_ge (tgt := 32) (pc' := 12) dX0_badOnes_9 (by decide) rfl (fun y5 => ?_) (fun y5 => ?_)
    · have hf := (if_pos y5).symm.trans hf
      refine P.iload_n 1 (pc' := 33) dX0_badOnes_32 rfl rfl rfl ?_
      cases hf; exact P.iret rfl dX0_badOnes_33
    · have hf := (if_neg y5).symm.trans hf
      refine P.aload_n 0 (pc' := 13) dX0_badOnes_12 rfl rfl rfl ?_
      refine P.iload_n 2 (pc' := 14) dX0_badOnes_13 rfl rfl rfl ?_
      obtain ⟨u8, h9, hf⟩ := ob hf
      obtain ⟨q6, h7, hf⟩ := ob hf
      refine P.callV (pc' := 17) (As := [.int v2]) 1 (ok_X0_isBad F c0 v2 μ h7) (Nat.le_of_ble_eq_true rfl) (lw_V q1194 q1196 qs50 q159 q1197) rfl yok_X0_isBad rfl (Nat.le_of_ble_eq_true rfl) ci0 h9 (by decide) rfl dX0_badOnes_14 rfl ?_
      refine P.if_eq (tgt := 26) (pc' := 20) dX0_badOnes_17 (by decide) rfl (fun y10 => ?_) (fun y10 => ?_)
      · have hf := (if_pos y10).symm.trans hf
        obtain ⟨x11, e12, hf⟩ := nm_i hf
        refine P.iinc 2 (pc' := 29) (lv' := [(2, .int x11), (0, .ref c0), (1, .int v1)]) dX0_badOnes_26 rfl rfl (by decide) e12 (Nat.le_of_ble_eq_true rfl) rfl ?_
        refine P.goto (tgt := 4) dX0_badOnes_29 (by decide) ?_
        exact PW.sub [1, 2, 0] rfl (ih _ _ _ hf)
      · have hf := (if_neg y10).symm.trans hf
        refine P.iload_n 1 (pc' := 21) dX0_badOnes_20 rfl rfl rfl ?_
        refine P.iconst (v := 1) (pc' := 22) dX0_badOnes_21 rfl (by decide) ?_
        refine P.iload_n 2 (pc' := 23) dX0_badOnes_22 rfl rfl rfl ?_
        refine P.ishl (pc' := 24) dX0_badOnes_23 rfl ?_
        refine P.ior (pc' := 25) dX0_badOnes_24 rfl ?_
        obtain ⟨x13, e14, hf⟩ := nm_i hf
        refine P.nmi e14 ?_
        refine P.istore_n (pc' := 26) (lv' := [(1, .int x13), (0, .ref c0), (2, .int v2)]) dX0_badOnes_25 rfl rfl (Nat.le_of_ble_eq_true rfl) rfl ?_
        obtain ⟨x15, e16, hf⟩ := nm_i hf
        refine P.iinc 2 (pc' := 29) (lv' := [(2, .int x15), (1, .int x13), (0, .ref c0)]) dX0_badOnes_26 rfl rfl (by decide) e16 (Nat.le_of_ble_eq_true rfl) rfl ?_
        refine P.goto (tgt := 4) dX0_badOnes_29 (by decide) ?_
        exact PW.sub [2, 1, 0] rfl (ih _ _ _ hf)
noncomputable def f_X0_badOnes (F : Nat) (this : Nat) (μ : Sw) : Option (Int32 × Sw) :=
  f_X0_badOnes_L4 F this F 0 0 μ
set_option maxHeartbeats 4000000 in
theorem ok_X0_badOnes {g : Gx} (F : Nat) (this : Nat) (μ : Sw) {rv : Int32} {μF : Sw} (hf : f_X0_badOnes F this μ = some (rv, μF)) : Cl g 422 yX0_badOnes cX0_badOnes 3 (some Jvm.ClassFile.FieldType.int) [.ref this] μ (some (.int rv)) μF := by
  unfold f_X0_badOnes at hf
  refine Cl.of (own := RX0) (ini := false) (by decide +kernel) rfl (by decide) (Nat.le_of_ble_eq_true rfl) ?_
  show PW g mX0_badOnes 422 μ μF (QN g (some (.int rv)) μ μF) 0 [(0, .ref this)] [] μ
  refine P.iconst (v := 0) (pc' := 1) dX0_badOnes_0 rfl (by decide) ?_
  refine P.istore_n (pc' := 2) (lv' := [(1, .int 0), (0, .ref this)]) dX0_badOnes_1 rfl rfl (Nat.le_of_ble_eq_true rfl) rfl ?_
  refine P.iconst (v := 0) (pc' := 3) dX0_badOnes_2 rfl (by decide) ?_
  refine P.istore_n (pc' := 4) (lv' := [(2, .int 0), (1, .int 0), (0, .ref this)]) dX0_badOnes_3 rfl rfl (Nat.le_of_ble_eq_true rfl) rfl ?_
  exact PW.sub [2, 1, 0] rfl (ok_f_X0_badOnes_L4 F this F _ _ _ hf)
abbrev mX0_untrue : Ym := (RX0, cX0_untrue, 3, (some Jvm.ClassFile.FieldType.int), false, [])
noncomputable def f_X0_untrue_L4_b (F : Nat) (c0 : Nat) (self : Int32 → Int32 → Sw → Option (Int32 × Sw)) (v1 : Int32) (v2 : Int32) (μ : Sw) : Option (Int32 × Sw) :=
  Option.bind (oc μ c0 0) fun u3 =>
  Option.bind (f_X0_houses F c0 μ) fun q1 =>
  if q1 ≤ v2 then
    some (v1, μ)
  else
    Option.bind (gfR μ c0 0 4) fun x6 =>
    Option.bind (gfR μ x6 6 0) fun x8 =>
    Option.bind (aI μ 0 x8 v2) fun x10 =>
    Option.bind (oc μ c0 0) fun u14 =>
    Option.bind (f_X0_dueOf F c0 v2 μ) fun q12 =>
    if x10 = q12.1 then
      nm (v2 + 1) fun x17 =>
      self v1 x17 q12.2
    else
      nm (v1 ||| ((1 : Int32) <<< (v2 &&& 31))) fun x19 =>
      nm (v2 + 1) fun x21 =>
      self x19 x21 q12.2
noncomputable def f_X0_untrue_L4 (F : Nat) (c0 : Nat) (n : Nat) : Int32 → Int32 → Sw → Option (Int32 × Sw) := Nat.rec (motive := fun _ => Int32 → Int32 → Sw → Option (Int32 × Sw)) (fun _ _ _ => none) (fun _ self => f_X0_untrue_L4_b F c0 self) n
set_option maxHeartbeats 4000000 in
theorem ok_f_X0_untrue_L4 {g : Gx} {μ0 : Sw} {rv : Int32} {μF : Sw} (F : Nat) (c0 : Nat) : ∀ (n : Nat) (v1 : Int32) (v2 : Int32) (μ : Sw), f_X0_untrue_L4 F c0 n v1 v2 μ = some (rv, μF) → PW g mX0_untrue 413 μ0 μF (QN g (some (.int rv)) μ0 μF) 4 [(0, .ref c0), (1, .int v1), (2, .int v2)] [] μ := by
  intro n
  induction n with
  | zero =>
    intro v1 v2 μ hf
    have hf : (none : Option (Int32 × Sw)) = some _ := hf
    cases hf
  | succ n ih =>
    intro v1 v2 μ hf
    have hf : f_X0_untrue_L4_b F c0 (f_X0_untrue_L4 F c0 n) v1 v2 μ = some (rv, μF) := hf
    unfold f_X0_untrue_L4_b at hf
    refine P.iload_n 2 (pc' := 5) dX0_untrue_4 rfl rfl rfl ?_
    refine P.aload_n 0 (pc' := 6) dX0_untrue_5 rfl rfl rfl ?_
    obtain ⟨u3, h4, hf⟩ := ob hf
    obtain ⟨q1, h2, hf⟩ := ob hf
    refine P.callV (pc' := 9) (As := []) 0 (ok_X0_houses F c0 μ h2) (Nat.le_of_ble_eq_true rfl) (lw_V q1034 q1036 qs34 q159 q1037) rfl yok_X0_houses rfl (Nat.le_of_ble_eq_true rfl) ci0 h4 (Nat.le_of_ble_eq_true rfl) rfl dX0_untrue_6 rfl ?_
    refine P.icmp_ge (tgt := 41) (pc' := 12) dX0_untrue_9 (by decide) rfl (fun y5 => ?_) (fun y5 => ?_)
    · have hf := (if_pos y5).symm.trans hf
      refine P.iload_n 1 (pc' := 42) dX0_untrue_41 rfl rfl rfl ?_
      cases hf; exact P.iret rfl dX0_untrue_42
    · have hf := (if_neg y5).symm.trans hf
      refine P.aload_n 0 (pc' := 13) dX0_untrue_12 rfl rfl rfl ?_
      obtain ⟨x6, h7, hf⟩ := ob hf
      refine P.get (pc' := 16) ci0 4 (by decide) (gfR_spec h7) q479 (Or.inl rfl) dX0_untrue_13 rfl ?_
      obtain ⟨x8, h9, hf⟩ := ob hf
      refine P.getN (pc' := 19) ci6 0 (by decide) (gfR_spec h9) q414 (Or.inl rfl) dX0_untrue_16 rfl ?_
      refine P.iload_n 2 (pc' := 20) dX0_untrue_19 rfl rfl rfl ?_
      obtain ⟨x10, h11, hf⟩ := ob hf
      refine P.iald (t := 0) (pc' := 21) rfl h11 dX0_untrue_20 rfl ?_
      refine P.aload_n 0 (pc' := 22) dX0_untrue_21 rfl rfl rfl ?_
      refine P.iload_n 2 (pc' := 23) dX0_untrue_22 rfl rfl rfl ?_
      obtain ⟨u14, h15, hf⟩ := ob hf
      obtain ⟨q12, h13, hf⟩ := ob hf
      refine P.callV (pc' := 26) (As := [.int v2]) 1 (ok_X0_dueOf F c0 v2 μ h13) (Nat.le_of_ble_eq_true rfl) (lw_V q1043 q1045 qs36 q159 q1046) rfl yok_X0_dueOf rfl (Nat.le_of_ble_eq_true rfl) ci0 h15 (Nat.le_of_ble_eq_true rfl) rfl dX0_untrue_23 rfl ?_
      refine P.icmp_eq (tgt := 35) (pc' := 29) dX0_untrue_26 (by decide) rfl (fun y16 => ?_) (fun y16 => ?_)
      · have hf := (if_pos y16).symm.trans hf
        obtain ⟨x17, e18, hf⟩ := nm_i hf
        refine P.iinc 2 (pc' := 38) (lv' := [(2, .int x17), (0, .ref c0), (1, .int v1)]) dX0_untrue_35 rfl rfl (by decide) e18 (Nat.le_of_ble_eq_true rfl) rfl ?_
        refine P.goto (tgt := 4) dX0_untrue_38 (by decide) ?_
        exact PW.sub [1, 2, 0] rfl (ih _ _ _ hf)
      · have hf := (if_neg y16).symm.trans hf
        refine P.iload_n 1 (pc' := 30) dX0_untrue_29 rfl rfl rfl ?_
        refine P.iconst (v := 1) (pc' := 31) dX0_untrue_30 rfl (by decide) ?_
        refine P.iload_n 2 (pc' := 32) dX0_untrue_31 rfl rfl rfl ?_
        refine P.ishl (pc' := 33) dX0_untrue_32 rfl ?_
        refine P.ior (pc' := 34) dX0_untrue_33 rfl ?_
        obtain ⟨x19, e20, hf⟩ := nm_i hf
        refine P.nmi e20 ?_
        refine P.istore_n (pc' := 35) (lv' := [(1, .int x19), (0, .ref c0), (2, .int v2)]) dX0_untrue_34 rfl rfl (Nat.le_of_ble_eq_true rfl) rfl ?_
        obtain ⟨x21, e22, hf⟩ := nm_i hf
        refine P.iinc 2 (pc' := 38) (lv' := [(2, .int x21), (1, .int x19), (0, .ref c0)]) dX0_untrue_35 rfl rfl (by decide) e22 (Nat.le_of_ble_eq_true rfl) rfl ?_
        refine P.goto (tgt := 4) dX0_untrue_38 (by decide) ?_
        exact PW.sub [2, 1, 0] rfl (ih _ _ _ hf)
noncomputable def f_X0_untrue (F : Nat) (this : Nat) (μ : Sw) : Option (Int32 × Sw) :=
  f_X0_untrue_L4 F this F 0 0 μ
set_option maxHeartbeats 4000000 in
theorem ok_X0_untrue {g : Gx} (F : Nat) (this : Nat) (μ : Sw) {rv : Int32} {μF : Sw} (hf : f_X0_untrue F this μ = some (rv, μF)) : Cl g 413 yX0_untrue cX0_untrue 3 (some Jvm.ClassFile.FieldType.int) [.ref this] μ (some (.int rv)) μF := by
  unfold f_X0_untrue at hf
  refine Cl.of (own := RX0) (ini := false) (by decide +kernel) rfl (by decide) (Nat.le_of_ble_eq_true rfl) ?_
  show PW g mX0_untrue 413 μ μF (QN g (some (.int rv)) μ μF) 0 [(0, .ref this)] [] μ
  refine P.iconst (v := 0) (pc' := 1) dX0_untrue_0 rfl (by decide) ?_
  refine P.istore_n (pc' := 2) (lv' := [(1, .int 0), (0, .ref this)]) dX0_untrue_1 rfl rfl (Nat.le_of_ble_eq_true rfl) rfl ?_
  refine P.iconst (v := 0) (pc' := 3) dX0_untrue_2 rfl (by decide) ?_
  refine P.istore_n (pc' := 4) (lv' := [(2, .int 0), (1, .int 0), (0, .ref this)]) dX0_untrue_3 rfl rfl (Nat.le_of_ble_eq_true rfl) rfl ?_
  exact PW.sub [2, 1, 0] rfl (ok_f_X0_untrue_L4 F this F _ _ _ hf)
abbrev mX0_turned : Ym := (RX0, cX0_turned, 4, (some Jvm.ClassFile.FieldType.int), false, [])
noncomputable def f_X0_turned_L14_b (F : Nat) (k65 : Int32 → Option Int32) (c0 : Nat) (c2 : Int32) (μ : Sw) (self : Int32 → Int32 → Option Int32) (v1 : Int32) (v3 : Int32) : Option Int32 :=
  Option.bind (oc μ c0 0) fun u3 =>
  Option.bind (f_X0_houses F c0 μ) fun q1 =>
  if q1 ≤ v3 then
    k65 v1
  else
    Option.bind (oc μ c0 0) fun u8 =>
    Option.bind (f_X0_rankOf F c0 c2 μ) fun q6 =>
    Option.bind (oc μ c0 0) fun u12 =>
    Option.bind (f_X0_rankOf F c0 v3 μ) fun q10 =>
    if q6 ≤ q10 then
      nm (v3 + 1) fun x15 =>
      self v1 x15
    else
      Option.bind (gfR μ c0 0 4) fun x17 =>
      Option.bind (gfR μ x17 6 0) fun x19 =>
      Option.bind (aI μ 0 x19 c2) fun x21 =>
      Option.bind (gfR μ c0 0 4) fun x23 =>
      Option.bind (gfR μ x23 6 0) fun x25 =>
      Option.bind (aI μ 0 x25 v3) fun x27 =>
      if x27 < x21 then
        nm (v3 + 1) fun x30 =>
        self v1 x30
      else
        nm (v1 + 1) fun x32 =>
        nm (v3 + 1) fun x34 =>
        self x32 x34
noncomputable def f_X0_turned_L14 (F : Nat) (k65 : Int32 → Option Int32) (c0 : Nat) (c2 : Int32) (μ : Sw) (n : Nat) : Int32 → Int32 → Option Int32 := Nat.rec (motive := fun _ => Int32 → Int32 → Option Int32) (fun _ _ => none) (fun _ self => f_X0_turned_L14_b F k65 c0 c2 μ self) n
set_option maxHeartbeats 4000000 in
theorem ok_f_X0_turned_L14 {g : Gx} {μ0 : Sw} {rv : Int32} (F : Nat) (c0 : Nat) (c2 : Int32) (μ : Sw) (k65 : Int32 → Option Int32) (hk65 : ∀ (w1 : Int32), k65 w1 = some rv → PW g mX0_turned 3 μ0 μ (QN g (some (.int rv)) μ0 μ) 65 [(0, .ref c0), (1, .int w1), (2, .int c2)] [] μ) : ∀ (n : Nat) (v1 : Int32) (v3 : Int32), f_X0_turned_L14 F k65 c0 c2 μ n v1 v3 = some rv → PW g mX0_turned 3 μ0 μ (QN g (some (.int rv)) μ0 μ) 14 [(0, .ref c0), (1, .int v1), (2, .int c2), (3, .int v3)] [] μ := by
  intro n
  induction n with
  | zero =>
    intro v1 v3 hf
    have hf : (none : Option Int32) = some _ := hf
    cases hf
  | succ n ih =>
    intro v1 v3 hf
    have hf : f_X0_turned_L14_b F k65 c0 c2 μ (f_X0_turned_L14 F k65 c0 c2 μ n) v1 v3 = some rv := hf
    unfold f_X0_turned_L14_b at hf
    refine P.iload_n 3 (pc' := 15) dX0_turned_14 rfl rfl rfl ?_
    refine P.aload_n 0 (pc' := 16) dX0_turned_15 rfl rfl rfl ?_
    obtain ⟨u3, h4, hf⟩ := ob hf
    obtain ⟨q1, h2, hf⟩ := ob hf
    refine P.callV (pc' := 19) (As := []) 0 (ok_X0_houses F c0 μ h2) (Nat.le_of_ble_eq_true rfl) (lw_V q1034 q1036 qs34 q159 q1037) rfl yok_X0_houses rfl (Nat.le_of_ble_eq_true rfl) ci0 h4 (Nat.le_of_ble_eq_true rfl) rfl dX0_turned_16 rfl ?_
    refine P.icmp_ge (tgt := 65) (pc' := 22) dX0_turned_19 (by decide) rfl (fun y5 => ?_) (fun y5 => ?_)
    · have hf := (if_pos y5).symm.trans hf
      exact PW.sub [0, 1, 2] rfl (hk65 _ hf)
    · have hf := (if_neg y5).symm.trans hf
      refine P.aload_n 0 (pc' := 23) dX0_turned_22 rfl rfl rfl ?_
      refine P.iload_n 2 (pc' := 24) dX0_turned_23 rfl rfl rfl ?_
      obtain ⟨u8, h9, hf⟩ := ob hf
      obtain ⟨q6, h7, hf⟩ := ob hf
      refine P.callV (pc' := 27) (As := [.int c2]) 1 (ok_X0_rankOf F c0 c2 μ h7) (Nat.le_of_ble_eq_true rfl) (lw_V q1039 q1041 qs35 q159 q1042) rfl yok_X0_rankOf rfl (Nat.le_of_ble_eq_true rfl) ci0 h9 (by decide) rfl dX0_turned_24 rfl ?_
      refine P.aload_n 0 (pc' := 28) dX0_turned_27 rfl rfl rfl ?_
      refine P.iload_n 3 (pc' := 29) dX0_turned_28 rfl rfl rfl ?_
      obtain ⟨u12, h13, hf⟩ := ob hf
      obtain ⟨q10, h11, hf⟩ := ob hf
      refine P.callV (pc' := 32) (As := [.int v3]) 1 (ok_X0_rankOf F c0 v3 μ h11) (Nat.le_of_ble_eq_true rfl) (lw_V q1039 q1041 qs35 q159 q1042) rfl yok_X0_rankOf rfl (Nat.le_of_ble_eq_true rfl) ci0 h13 (Nat.le_of_ble_eq_true rfl) rfl dX0_turned_29 rfl ?_
      refine P.icmp_le (tgt := 59) (pc' := 35) dX0_turned_32 (by decide) rfl (fun y14 => ?_) (fun y14 => ?_)
      · have hf := (if_pos y14).symm.trans hf
        obtain ⟨x15, e16, hf⟩ := nm_i hf
        refine P.iinc 3 (pc' := 62) (lv' := [(3, .int x15), (0, .ref c0), (1, .int v1), (2, .int c2)]) dX0_turned_59 rfl rfl (by decide) e16 (Nat.le_of_ble_eq_true rfl) rfl ?_
        refine P.goto (tgt := 14) dX0_turned_62 (by decide) ?_
        exact PW.sub [1, 2, 3, 0] rfl (ih _ _ hf)
      · have hf := (if_neg y14).symm.trans hf
        refine P.aload_n 0 (pc' := 36) dX0_turned_35 rfl rfl rfl ?_
        obtain ⟨x17, h18, hf⟩ := ob hf
        refine P.get (pc' := 39) ci0 4 (by decide) (gfR_spec h18) q479 (Or.inl rfl) dX0_turned_36 rfl ?_
        obtain ⟨x19, h20, hf⟩ := ob hf
        refine P.getN (pc' := 42) ci6 0 (by decide) (gfR_spec h20) q414 (Or.inl rfl) dX0_turned_39 rfl ?_
        refine P.iload_n 2 (pc' := 43) dX0_turned_42 rfl rfl rfl ?_
        obtain ⟨x21, h22, hf⟩ := ob hf
        refine P.iald (t := 0) (pc' := 44) rfl h22 dX0_turned_43 rfl ?_
        refine P.aload_n 0 (pc' := 45) dX0_turned_44 rfl rfl rfl ?_
        obtain ⟨x23, h24, hf⟩ := ob hf
        refine P.get (pc' := 48) ci0 4 (by decide) (gfR_spec h24) q479 (Or.inl rfl) dX0_turned_45 rfl ?_
        obtain ⟨x25, h26, hf⟩ := ob hf
        refine P.getN (pc' := 51) ci6 0 (by decide) (gfR_spec h26) q414 (Or.inl rfl) dX0_turned_48 rfl ?_
        refine P.iload_n 3 (pc' := 52) dX0_turned_51 rfl rfl rfl ?_
        obtain ⟨x27, h28, hf⟩ := ob hf
        refine P.iald (t := 0) (pc' := 53) rfl h28 dX0_turned_52 rfl ?_
        refine P.icmp_gt (tgt := 59) (pc' := 56) dX0_turned_53 (by decide) rfl (fun y29 => ?_) (fun y29 => ?_)
        · have hf := (if_pos y29).symm.trans hf
          obtain ⟨x30, e31, hf⟩ := nm_i hf
          refine P.iinc 3 (pc' := 62) (lv' := [(3, .int x30), (0, .ref c0), (1, .int v1), (2, .int c2)]) dX0_turned_59 rfl rfl (by decide) e31 (Nat.le_of_ble_eq_true rfl) rfl ?_
          refine P.goto (tgt := 14) dX0_turned_62 (by decide) ?_
          exact PW.sub [1, 2, 3, 0] rfl (ih _ _ hf)
        · have hf := (if_neg y29).symm.trans hf
          obtain ⟨x32, e33, hf⟩ := nm_i hf
          refine P.iinc 1 (pc' := 59) (lv' := [(1, .int x32), (0, .ref c0), (2, .int c2), (3, .int v3)]) dX0_turned_56 rfl rfl (by decide) e33 (Nat.le_of_ble_eq_true rfl) rfl ?_
          obtain ⟨x34, e35, hf⟩ := nm_i hf
          refine P.iinc 3 (pc' := 62) (lv' := [(3, .int x34), (1, .int x32), (0, .ref c0), (2, .int c2)]) dX0_turned_59 rfl rfl (by decide) e35 (Nat.le_of_ble_eq_true rfl) rfl ?_
          refine P.goto (tgt := 14) dX0_turned_62 (by decide) ?_
          exact PW.sub [2, 1, 3, 0] rfl (ih _ _ hf)
noncomputable def f_X0_turned_L4_b (F : Nat) (c0 : Nat) (μ : Sw) (self : Int32 → Int32 → Option Int32) (v1 : Int32) (v2 : Int32) : Option Int32 :=
  Option.bind (oc μ c0 0) fun u3 =>
  Option.bind (f_X0_houses F c0 μ) fun q1 =>
  if q1 ≤ v2 then
    some v1
  else
    f_X0_turned_L14 F
      (fun w6 =>
        nm (v2 + 1) fun x7 =>
        self w6 x7)
      c0 v2 μ F v1 0
noncomputable def f_X0_turned_L4 (F : Nat) (c0 : Nat) (μ : Sw) (n : Nat) : Int32 → Int32 → Option Int32 := Nat.rec (motive := fun _ => Int32 → Int32 → Option Int32) (fun _ _ => none) (fun _ self => f_X0_turned_L4_b F c0 μ self) n
set_option maxHeartbeats 4000000 in
theorem ok_f_X0_turned_L4 {g : Gx} {μ0 : Sw} {rv : Int32} (F : Nat) (c0 : Nat) (μ : Sw) : ∀ (n : Nat) (v1 : Int32) (v2 : Int32), f_X0_turned_L4 F c0 μ n v1 v2 = some rv → PW g mX0_turned 3 μ0 μ (QN g (some (.int rv)) μ0 μ) 4 [(0, .ref c0), (1, .int v1), (2, .int v2)] [] μ := by
  intro n
  induction n with
  | zero =>
    intro v1 v2 hf
    have hf : (none : Option Int32) = some _ := hf
    cases hf
  | succ n ih =>
    intro v1 v2 hf
    have hf : f_X0_turned_L4_b F c0 μ (f_X0_turned_L4 F c0 μ n) v1 v2 = some rv := hf
    unfold f_X0_turned_L4_b at hf
    refine P.iload_n 2 (pc' := 5) dX0_turned_4 rfl rfl rfl ?_
    refine P.aload_n 0 (pc' := 6) dX0_turned_5 rfl rfl rfl ?_
    obtain ⟨u3, h4, hf⟩ := ob hf
    obtain ⟨q1, h2, hf⟩ := ob hf
    refine P.callV (pc' := 9) (As := []) 0 (ok_X0_houses F c0 μ h2) (Nat.le_of_ble_eq_true rfl) (lw_V q1034 q1036 qs34 q159 q1037) rfl yok_X0_houses rfl (Nat.le_of_ble_eq_true rfl) ci0 h4 (Nat.le_of_ble_eq_true rfl) rfl dX0_turned_6 rfl ?_
    refine P.icmp_ge (tgt := 71) (pc' := 12) dX0_turned_9 (by decide) rfl (fun y5 => ?_) (fun y5 => ?_)
    · have hf := (if_pos y5).symm.trans hf
      refine P.iload_n 1 (pc' := 72) dX0_turned_71 rfl rfl rfl ?_
      cases hf; exact P.iret rfl dX0_turned_72
    · have hf := (if_neg y5).symm.trans hf
      refine P.iconst (v := 0) (pc' := 13) dX0_turned_12 rfl (by decide) ?_
      refine P.istore_n (pc' := 14) (lv' := [(3, .int 0), (0, .ref c0), (1, .int v1), (2, .int v2)]) dX0_turned_13 rfl rfl (Nat.le_of_ble_eq_true rfl) rfl ?_
      refine PW.sub [1, 2, 3, 0] rfl (ok_f_X0_turned_L14 F c0 v2 μ _ ?_ F _ _ hf)
      · intro w6 hf
        obtain ⟨x7, e8, hf⟩ := nm_i hf
        refine P.iinc 2 (pc' := 68) (lv' := [(2, .int x7), (0, .ref c0), (1, .int w6)]) dX0_turned_65 rfl rfl (by decide) e8 (Nat.le_of_ble_eq_true rfl) rfl ?_
        refine P.goto (tgt := 4) dX0_turned_68 (by decide) ?_
        exact PW.sub [1, 2, 0] rfl (ih _ _ hf)
noncomputable def f_X0_turned (F : Nat) (this : Nat) (μ : Sw) : Option Int32 :=
  f_X0_turned_L4 F this μ F 0 0
set_option maxHeartbeats 4000000 in
theorem ok_X0_turned {g : Gx} (F : Nat) (this : Nat) (μ : Sw) {rv : Int32} (hf : f_X0_turned F this μ = some rv) : Cl g 3 yX0_turned cX0_turned 4 (some Jvm.ClassFile.FieldType.int) [.ref this] μ (some (.int rv)) μ := by
  unfold f_X0_turned at hf
  refine Cl.of (own := RX0) (ini := false) (by decide +kernel) rfl (by decide) (Nat.le_of_ble_eq_true rfl) ?_
  show PW g mX0_turned 3 μ μ (QN g (some (.int rv)) μ μ) 0 [(0, .ref this)] [] μ
  refine P.iconst (v := 0) (pc' := 1) dX0_turned_0 rfl (by decide) ?_
  refine P.istore_n (pc' := 2) (lv' := [(1, .int 0), (0, .ref this)]) dX0_turned_1 rfl rfl (Nat.le_of_ble_eq_true rfl) rfl ?_
  refine P.iconst (v := 0) (pc' := 3) dX0_turned_2 rfl (by decide) ?_
  refine P.istore_n (pc' := 4) (lv' := [(2, .int 0), (1, .int 0), (0, .ref this)]) dX0_turned_3 rfl rfl (Nat.le_of_ble_eq_true rfl) rfl ?_
  exact PW.sub [2, 1, 0] rfl (ok_f_X0_turned_L4 F this μ F _ _ hf)
theorem yok_X0_badOnes : yOK yX0_badOnes 0 := ⟨by decide +kernel, by decide +kernel, by decide +kernel⟩
theorem yok_X0_turned : yOK yX0_turned 0 := ⟨by decide +kernel, by decide +kernel, by decide +kernel⟩
theorem yok_X0_untrue : yOK yX0_untrue 0 := ⟨by decide +kernel, by decide +kernel, by decide +kernel⟩
abbrev mX0_law : Ym := (RX0, cX0_law, 2, (some Jvm.ClassFile.FieldType.int), false, [])
noncomputable def f_X0_law (F : Nat) (this : Nat) (p1 : Int32) (μ : Sw) : Option (Int32 × Sw) :=
  if p1 = 0 then
    Option.bind (oc μ this 0) fun u4 =>
    Option.bind (f_X0_untrue F this μ) fun q2 =>
    Option.bind (p_J15_bitCount F q2.1) fun q6 =>
    some (q6, q2.2)
  else
    if p1 = 1 then
      Option.bind (oc μ this 0) fun u11 =>
      Option.bind (f_X0_turned F this μ) fun q9 =>
      some (q9, μ)
    else
      if p1 = 2 then
        Option.bind (oc μ this 0) fun u16 =>
        Option.bind (f_X0_badOnes F this μ) fun q14 =>
        Option.bind (p_J15_bitCount F q14.1) fun q18 =>
        some (q18, q14.2)
      else
        if p1 = 3 then
          Option.bind (oc μ this 0) fun u23 =>
          Option.bind (f_X0_untrue F this μ) fun q21 =>
          some (q21.1, q21.2)
        else
          if p1 = 4 then
            Option.bind (oc μ this 0) fun u28 =>
            Option.bind (f_X0_badOnes F this μ) fun q26 =>
            some (q26.1, q26.2)
          else
            some ((-1), μ)
set_option maxHeartbeats 4000000 in
theorem ok_X0_law {g : Gx} (F : Nat) (this : Nat) (p1 : Int32) (μ : Sw) {rv : Int32} {μF : Sw} (hf : f_X0_law F this p1 μ = some (rv, μF)) : Cl g 423 yX0_law cX0_law 2 (some Jvm.ClassFile.FieldType.int) [.ref this, .int p1] μ (some (.int rv)) μF := by
  unfold f_X0_law at hf
  refine Cl.of (own := RX0) (ini := false) (by decide +kernel) rfl (by decide) (Nat.le_of_ble_eq_true rfl) ?_
  show PW g mX0_law 423 μ μF (QN g (some (.int rv)) μ μF) 0 [(0, .ref this), (1, .int p1)] [] μ
  refine P.iload_n 1 (pc' := 1) dX0_law_0 rfl rfl rfl ?_
  by_cases y1 : p1 = 0
  · have hf := (if_pos y1).symm.trans hf
    refine P.tsIn (tgt := 36) dX0_law_1 (by rw [y1]; decide) (by rw [y1]; decide) (by rw [y1]; rfl) (by decide) ?_
    refine P.aload_n 0 (pc' := 37) dX0_law_36 rfl rfl rfl ?_
    obtain ⟨u4, h5, hf⟩ := ob hf
    obtain ⟨q2, h3, hf⟩ := ob hf
    refine P.callV (pc' := 40) (As := []) 0 (ok_X0_untrue F this μ h3) (Nat.le_of_ble_eq_true rfl) (lw_V q1182 q1184 qs47 q159 q1185) rfl yok_X0_untrue rfl (Nat.le_of_ble_eq_true rfl) ci0 h5 (by decide) rfl dX0_law_37 rfl ?_
    obtain ⟨q6, h7, hf⟩ := ob hf
    refine P.callS (pc' := 43) (As := [.int q2.1]) 1 (ok_J15_bitCount F q2.1 q2.2 h7) (Nat.le_of_ble_eq_true rfl) (lw_S q1168 q1169 q193 q1170) yok_J15_bitCount rfl (Nat.le_of_ble_eq_true rfl) (by decide) rfl dX0_law_40 rfl ?_
    cases hf; exact P.iret rfl dX0_law_43
  · have hf := (if_neg y1).symm.trans hf
    by_cases y8 : p1 = 1
    · have hf := (if_pos y8).symm.trans hf
      refine P.tsIn (tgt := 44) dX0_law_1 (by rw [y8]; decide) (by rw [y8]; decide) (by rw [y8]; rfl) (by decide) ?_
      refine P.aload_n 0 (pc' := 45) dX0_law_44 rfl rfl rfl ?_
      obtain ⟨u11, h12, hf⟩ := ob hf
      obtain ⟨q9, h10, hf⟩ := ob hf
      refine P.callV (pc' := 48) (As := []) 0 (ok_X0_turned F this μ h10) (Nat.le_of_ble_eq_true rfl) (lw_V q1186 q1188 qs48 q159 q1189) rfl yok_X0_turned rfl (Nat.le_of_ble_eq_true rfl) ci0 h12 (by decide) rfl dX0_law_45 rfl ?_
      cases hf; exact P.iret rfl dX0_law_48
    · have hf := (if_neg y8).symm.trans hf
      by_cases y13 : p1 = 2
      · have hf := (if_pos y13).symm.trans hf
        refine P.tsIn (tgt := 49) dX0_law_1 (by rw [y13]; decide) (by rw [y13]; decide) (by rw [y13]; rfl) (by decide) ?_
        refine P.aload_n 0 (pc' := 50) dX0_law_49 rfl rfl rfl ?_
        obtain ⟨u16, h17, hf⟩ := ob hf
        obtain ⟨q14, h15, hf⟩ := ob hf
        refine P.callV (pc' := 53) (As := []) 0 (ok_X0_badOnes F this μ h15) (Nat.le_of_ble_eq_true rfl) (lw_V q1190 q1192 qs49 q159 q1193) rfl yok_X0_badOnes rfl (Nat.le_of_ble_eq_true rfl) ci0 h17 (by decide) rfl dX0_law_50 rfl ?_
        obtain ⟨q18, h19, hf⟩ := ob hf
        refine P.callS (pc' := 56) (As := [.int q14.1]) 1 (ok_J15_bitCount F q14.1 q14.2 h19) (Nat.le_of_ble_eq_true rfl) (lw_S q1168 q1169 q193 q1170) yok_J15_bitCount rfl (Nat.le_of_ble_eq_true rfl) (by decide) rfl dX0_law_53 rfl ?_
        cases hf; exact P.iret rfl dX0_law_56
      · have hf := (if_neg y13).symm.trans hf
        by_cases y20 : p1 = 3
        · have hf := (if_pos y20).symm.trans hf
          refine P.tsIn (tgt := 57) dX0_law_1 (by rw [y20]; decide) (by rw [y20]; decide) (by rw [y20]; rfl) (by decide) ?_
          refine P.aload_n 0 (pc' := 58) dX0_law_57 rfl rfl rfl ?_
          obtain ⟨u23, h24, hf⟩ := ob hf
          obtain ⟨q21, h22, hf⟩ := ob hf
          refine P.callV (pc' := 61) (As := []) 0 (ok_X0_untrue F this μ h22) (Nat.le_of_ble_eq_true rfl) (lw_V q1182 q1184 qs47 q159 q1185) rfl yok_X0_untrue rfl (Nat.le_of_ble_eq_true rfl) ci0 h24 (by decide) rfl dX0_law_58 rfl ?_
          cases hf; exact P.iret rfl dX0_law_61
        · have hf := (if_neg y20).symm.trans hf
          by_cases y25 : p1 = 4
          · have hf := (if_pos y25).symm.trans hf
            refine P.tsIn (tgt := 62) dX0_law_1 (by rw [y25]; decide) (by rw [y25]; decide) (by rw [y25]; rfl) (by decide) ?_
            refine P.aload_n 0 (pc' := 63) dX0_law_62 rfl rfl rfl ?_
            obtain ⟨u28, h29, hf⟩ := ob hf
            obtain ⟨q26, h27, hf⟩ := ob hf
            refine P.callV (pc' := 66) (As := []) 0 (ok_X0_badOnes F this μ h27) (Nat.le_of_ble_eq_true rfl) (lw_V q1190 q1192 qs49 q159 q1193) rfl yok_X0_badOnes rfl (Nat.le_of_ble_eq_true rfl) ci0 h29 (by decide) rfl dX0_law_63 rfl ?_
            cases hf; exact P.iret rfl dX0_law_66
          · have hf := (if_neg y25).symm.trans hf
            refine P.tsOut (tgt := 67) dX0_law_1 (by have z0 := lv_neT y1 (a := 0) (by decide); have z1 := lv_neT y8 (a := 1) (by decide); have z2 := lv_neT y13 (a := 2) (by decide); have z3 := lv_neT y20 (a := 3) (by decide); have z4 := lv_neT y25 (a := 4) (by decide); omega) (by decide) ?_
            refine P.iconst (v := (-1)) (pc' := 68) dX0_law_67 rfl (by decide) ?_
            cases hf; exact P.iret rfl dX0_law_68
abbrev mX0_wood : Ym := (RX0, cX0_wood, 2, (some Jvm.ClassFile.FieldType.int), false, [])
noncomputable def f_X0_wood (F : Nat) (this : Nat) (p1 : Int32) (μ : Sw) : Option Int32 :=
  Option.bind (gfR μ this 0 3) fun x1 =>
  Option.bind (gfR μ x1 3 2) fun x3 =>
  Option.bind (oc μ x3 20) fun u7 =>
  Option.bind (f_J2_size F x3 μ) fun q5 =>
  Option.bind (p_X0_within F p1 0 (q5 - 1)) fun q9 =>
  if q9 = 0 then
    some (-1)
  else
    Option.bind (gfR μ this 0 4) fun x12 =>
    Option.bind (gfR μ x12 6 2) fun x14 =>
    Option.bind (aI μ 0 x14 p1) fun x16 =>
    some x16
set_option maxHeartbeats 4000000 in
theorem ok_X0_wood {g : Gx} (F : Nat) (this : Nat) (p1 : Int32) (μ : Sw) {rv : Int32} (hf : f_X0_wood F this p1 μ = some rv) : Cl g 2 yX0_wood cX0_wood 2 (some Jvm.ClassFile.FieldType.int) [.ref this, .int p1] μ (some (.int rv)) μ := by
  unfold f_X0_wood at hf
  refine Cl.of (own := RX0) (ini := false) (by decide +kernel) rfl (by decide) (Nat.le_of_ble_eq_true rfl) ?_
  show PW g mX0_wood 2 μ μ (QN g (some (.int rv)) μ μ) 0 [(0, .ref this), (1, .int p1)] [] μ
  refine P.iload_n 1 (pc' := 1) dX0_wood_0 rfl rfl rfl ?_
  refine P.iconst (v := 0) (pc' := 2) dX0_wood_1 rfl (by decide) ?_
  refine P.aload_n 0 (pc' := 3) dX0_wood_2 rfl rfl rfl ?_
  obtain ⟨x1, h2, hf⟩ := ob hf
  refine P.get (pc' := 6) ci0 3 (by decide) (gfR_spec h2) q478 (Or.inl rfl) dX0_wood_3 rfl ?_
  obtain ⟨x3, h4, hf⟩ := ob hf
  refine P.getN (pc' := 9) ci3 2 (by decide) (gfR_spec h4) q334 (Or.inl rfl) dX0_wood_6 rfl ?_
  obtain ⟨u7, h8, hf⟩ := ob hf
  obtain ⟨q5, h6, hf⟩ := ob hf
  refine P.callV (pc' := 12) (As := []) 0 (ok_J2_size F x3 μ h6) (Nat.le_of_ble_eq_true rfl) (lw_V q1006 q669 q670 q165 q671) rfl yok_J2_size rfl (Nat.le_of_ble_eq_true rfl) ci20 h8 (Nat.le_of_ble_eq_true rfl) rfl dX0_wood_9 rfl ?_
  refine P.iconst (v := 1) (pc' := 13) dX0_wood_12 rfl (by decide) ?_
  refine P.isub (pc' := 14) dX0_wood_13 rfl ?_
  obtain ⟨q9, h10, hf⟩ := ob hf
  refine P.callS (pc' := 17) (As := [.int p1, .int 0, .int (q5 - 1)]) 3 (ok_X0_within F p1 0 (q5 - 1) μ h10) (Nat.le_of_ble_eq_true rfl) (lw_S q1038 q557 q159 q558) yok_X0_within rfl (Nat.le_of_ble_eq_true rfl) (by decide) rfl dX0_wood_14 rfl ?_
  refine P.if_eq (tgt := 32) (pc' := 20) dX0_wood_17 (by decide) rfl (fun y11 => ?_) (fun y11 => ?_)
  · have hf := (if_pos y11).symm.trans hf
    refine P.iconst (v := (-1)) (pc' := 33) dX0_wood_32 rfl (by decide) ?_
    cases hf; exact P.iret rfl dX0_wood_33
  · have hf := (if_neg y11).symm.trans hf
    refine P.aload_n 0 (pc' := 21) dX0_wood_20 rfl rfl rfl ?_
    obtain ⟨x12, h13, hf⟩ := ob hf
    refine P.get (pc' := 24) ci0 4 (by decide) (gfR_spec h13) q479 (Or.inl rfl) dX0_wood_21 rfl ?_
    obtain ⟨x14, h15, hf⟩ := ob hf
    refine P.getN (pc' := 27) ci6 2 (by decide) (gfR_spec h15) q419 (Or.inl rfl) dX0_wood_24 rfl ?_
    refine P.iload_n 1 (pc' := 28) dX0_wood_27 rfl rfl rfl ?_
    obtain ⟨x16, h17, hf⟩ := ob hf
    refine P.iald (t := 0) (pc' := 29) rfl h17 dX0_wood_28 rfl ?_
    refine P.goto (tgt := 33) dX0_wood_29 (by decide) ?_
    cases hf; exact P.iret rfl dX0_wood_33
abbrev mX0_fewest : Ym := (RX0, cX0_fewest, 7, (some Jvm.ClassFile.FieldType.int), false, [])
noncomputable def f_X0_fewest_L13_b (F : Nat) (k43 : Sw → Option (Int32 × Sw)) (c0 : Nat) (c1 : Int32) (c2 : Int32) (self : Int32 → Sw → Option (Int32 × Sw)) (v3 : Int32) (μ : Sw) : Option (Int32 × Sw) :=
  if c1 < v3 then
    k43 μ
  else
    Option.bind (gfR μ c0 0 12) fun x2 =>
    Option.bind (aR μ 5 x2 c2) fun x4 =>
    if v3 = 0 then
      Option.bind (sI μ 0 x4 v3 0) fun μ12 =>
      nm (v3 + 1) fun x13 =>
      self x13 μ12
    else
      Option.bind (sI μ 0 x4 v3 1000000000) fun μ8 =>
      nm (v3 + 1) fun x9 =>
      self x9 μ8
noncomputable def f_X0_fewest_L13 (F : Nat) (k43 : Sw → Option (Int32 × Sw)) (c0 : Nat) (c1 : Int32) (c2 : Int32) (n : Nat) : Int32 → Sw → Option (Int32 × Sw) := Nat.rec (motive := fun _ => Int32 → Sw → Option (Int32 × Sw)) (fun _ _ => none) (fun _ self => f_X0_fewest_L13_b F k43 c0 c1 c2 self) n
set_option maxHeartbeats 4000000 in
theorem ok_f_X0_fewest_L13 {g : Gx} {μ0 : Sw} {rv : Int32} {μF : Sw} (F : Nat) (c0 : Nat) (c1 : Int32) (c2 : Int32) (k43 : Sw → Option (Int32 × Sw)) (hk43 : ∀ (μ : Sw), k43 μ = some (rv, μF) → PW g mX0_fewest 4 μ0 μF (QN g (some (.int rv)) μ0 μF) 43 [(0, .ref c0), (1, .int c1), (2, .int c2)] [] μ) : ∀ (n : Nat) (v3 : Int32) (μ : Sw), f_X0_fewest_L13 F k43 c0 c1 c2 n v3 μ = some (rv, μF) → PW g mX0_fewest 4 μ0 μF (QN g (some (.int rv)) μ0 μF) 13 [(0, .ref c0), (1, .int c1), (2, .int c2), (3, .int v3)] [] μ := by
  intro n
  induction n with
  | zero =>
    intro v3 μ hf
    have hf : (none : Option (Int32 × Sw)) = some _ := hf
    cases hf
  | succ n ih =>
    intro v3 μ hf
    have hf : f_X0_fewest_L13_b F k43 c0 c1 c2 (f_X0_fewest_L13 F k43 c0 c1 c2 n) v3 μ = some (rv, μF) := hf
    unfold f_X0_fewest_L13_b at hf
    refine P.iload_n 3 (pc' := 14) dX0_fewest_13 rfl rfl rfl ?_
    refine P.iload_n 1 (pc' := 15) dX0_fewest_14 rfl rfl rfl ?_
    refine P.icmp_gt (tgt := 43) (pc' := 18) dX0_fewest_15 (by decide) rfl (fun y1 => ?_) (fun y1 => ?_)
    · have hf := (if_pos y1).symm.trans hf
      exact PW.sub [0, 1, 2] rfl (hk43 _ hf)
    · have hf := (if_neg y1).symm.trans hf
      refine P.aload_n 0 (pc' := 19) dX0_fewest_18 rfl rfl rfl ?_
      obtain ⟨x2, h3, hf⟩ := ob hf
      refine P.get (pc' := 22) ci0 12 (by decide) (gfR_spec h3) q487 (Or.inl rfl) dX0_fewest_19 rfl ?_
      refine P.iload_n 2 (pc' := 23) dX0_fewest_22 rfl rfl rfl ?_
      obtain ⟨x4, h5, hf⟩ := ob hf
      refine P.aald (t := 5) (pc' := 24) rfl h5 dX0_fewest_23 rfl ?_
      refine P.iload_n 3 (pc' := 25) dX0_fewest_24 rfl rfl rfl ?_
      refine P.iload_n 3 (pc' := 26) dX0_fewest_25 rfl rfl rfl ?_
      refine P.if_ne (tgt := 33) (pc' := 29) dX0_fewest_26 (by decide) rfl (fun y6 => ?_) (fun y6 => ?_)
      · have hf := (if_neg y6).symm.trans hf
        refine P.ldc_w (v := 1000000000) (pc' := 36) dX0_fewest_33 rfl q1246 ?_
        obtain ⟨μ8, h7, hf⟩ := ob hf
        refine P.iast (pc' := 37) h7 dX0_fewest_36 rfl ?_
        obtain ⟨x9, e10, hf⟩ := nm_i hf
        refine P.iinc 3 (pc' := 40) (lv' := [(3, .int x9), (0, .ref c0), (1, .int c1), (2, .int c2)]) dX0_fewest_37 rfl rfl (by decide) e10 (Nat.le_of_ble_eq_true rfl) rfl ?_
        refine P.goto (tgt := 13) dX0_fewest_40 (by decide) ?_
        exact PW.sub [1, 2, 3, 0] rfl (ih _ _ hf)
      · have hf := (if_pos y6).symm.trans hf
        refine P.iconst (v := 0) (pc' := 30) dX0_fewest_29 rfl (by decide) ?_
        refine P.goto (tgt := 36) dX0_fewest_30 (by decide) ?_
        obtain ⟨μ12, h11, hf⟩ := ob hf
        refine P.iast (pc' := 37) h11 dX0_fewest_36 rfl ?_
        obtain ⟨x13, e14, hf⟩ := nm_i hf
        refine P.iinc 3 (pc' := 40) (lv' := [(3, .int x13), (0, .ref c0), (1, .int c1), (2, .int c2)]) dX0_fewest_37 rfl rfl (by decide) e14 (Nat.le_of_ble_eq_true rfl) rfl ?_
        refine P.goto (tgt := 13) dX0_fewest_40 (by decide) ?_
        exact PW.sub [1, 2, 3, 0] rfl (ih _ _ hf)
noncomputable def f_X0_fewest_L94_b (F : Nat) (k165 : Sw → Option (Int32 × Sw)) (c0 : Nat) (c1 : Int32) (c3 : Int32) (c4 : Int32) (c5 : Int32) (self : Int32 → Sw → Option (Int32 × Sw)) (v6 : Int32) (μ : Sw) : Option (Int32 × Sw) :=
  Option.bind (gfR μ c0 0 4) fun x1 =>
  Option.bind (gfR μ x1 6 2) fun x3 =>
  Option.bind (aI μ 0 x3 c3) fun x5 =>
  if x5 < v6 then
    k165 μ
  else
    if c5 < (v6 * c4) then
      k165 μ
    else
      Option.bind (gfR μ c0 0 12) fun x9 =>
      Option.bind (aR μ 5 x9 c3) fun x11 =>
      Option.bind (gfR μ c0 0 12) fun x13 =>
      Option.bind (aR μ 5 x13 c3) fun x15 =>
      Option.bind (aI μ 0 x15 c5) fun x17 =>
      Option.bind (gfR μ c0 0 12) fun x19 =>
      Option.bind (aR μ 5 x19 (c3 + 1)) fun x21 =>
      Option.bind (aI μ 0 x21 (c5 - (v6 * c4))) fun x23 =>
      Option.bind (sI μ 0 x11 c5 (mn x17 (x23 + v6))) fun μ26 =>
      nm (v6 + 1) fun x27 =>
      self x27 μ26
noncomputable def f_X0_fewest_L94 (F : Nat) (k165 : Sw → Option (Int32 × Sw)) (c0 : Nat) (c1 : Int32) (c3 : Int32) (c4 : Int32) (c5 : Int32) (n : Nat) : Int32 → Sw → Option (Int32 × Sw) := Nat.rec (motive := fun _ => Int32 → Sw → Option (Int32 × Sw)) (fun _ _ => none) (fun _ self => f_X0_fewest_L94_b F k165 c0 c1 c3 c4 c5 self) n
set_option maxHeartbeats 4000000 in
theorem ok_f_X0_fewest_L94 {g : Gx} {μ0 : Sw} {rv : Int32} {μF : Sw} (F : Nat) (c0 : Nat) (c1 : Int32) (c3 : Int32) (c4 : Int32) (c5 : Int32) (k165 : Sw → Option (Int32 × Sw)) (hk165 : ∀ (μ : Sw), k165 μ = some (rv, μF) → PW g mX0_fewest 4 μ0 μF (QN g (some (.int rv)) μ0 μF) 165 [(0, .ref c0), (1, .int c1), (3, .int c3), (4, .int c4), (5, .int c5)] [] μ) : ∀ (n : Nat) (v6 : Int32) (μ : Sw), f_X0_fewest_L94 F k165 c0 c1 c3 c4 c5 n v6 μ = some (rv, μF) → PW g mX0_fewest 4 μ0 μF (QN g (some (.int rv)) μ0 μF) 94 [(0, .ref c0), (1, .int c1), (3, .int c3), (4, .int c4), (5, .int c5), (6, .int v6)] [] μ := by
  intro n
  induction n with
  | zero =>
    intro v6 μ hf
    have hf : (none : Option (Int32 × Sw)) = some _ := hf
    cases hf
  | succ n ih =>
    intro v6 μ hf
    have hf : f_X0_fewest_L94_b F k165 c0 c1 c3 c4 c5 (f_X0_fewest_L94 F k165 c0 c1 c3 c4 c5 n) v6 μ = some (rv, μF) := hf
    unfold f_X0_fewest_L94_b at hf
    refine P.iload 5 (pc' := 96) dX0_fewest_94 rfl rfl ?_
    refine P.aload_n 0 (pc' := 97) dX0_fewest_96 rfl rfl rfl ?_
    obtain ⟨x1, h2, hf⟩ := ob hf
    refine P.get (pc' := 100) ci0 4 (by decide) (gfR_spec h2) q479 (Or.inl rfl) dX0_fewest_97 rfl ?_
    obtain ⟨x3, h4, hf⟩ := ob hf
    refine P.getN (pc' := 103) ci6 2 (by decide) (gfR_spec h4) q419 (Or.inl rfl) dX0_fewest_100 rfl ?_
    refine P.iload_n 2 (pc' := 104) dX0_fewest_103 rfl rfl rfl ?_
    obtain ⟨x5, h6, hf⟩ := ob hf
    refine P.iald (t := 0) (pc' := 105) rfl h6 dX0_fewest_104 rfl ?_
    refine P.icmp_gt (tgt := 165) (pc' := 108) dX0_fewest_105 (by decide) rfl (fun y7 => ?_) (fun y7 => ?_)
    · have hf := (if_pos y7).symm.trans hf
      exact PW.sub [0, 1, 2, 3, 4] rfl (hk165 _ hf)
    · have hf := (if_neg y7).symm.trans hf
      refine P.iload 5 (pc' := 110) dX0_fewest_108 rfl rfl ?_
      refine P.iload 3 (pc' := 112) dX0_fewest_110 rfl rfl ?_
      refine P.imul (pc' := 113) dX0_fewest_112 rfl ?_
      refine P.iload 4 (pc' := 115) dX0_fewest_113 rfl rfl ?_
      refine P.icmp_gt (tgt := 165) (pc' := 118) dX0_fewest_115 (by decide) rfl (fun y8 => ?_) (fun y8 => ?_)
      · have hf := (if_pos y8).symm.trans hf
        exact PW.sub [0, 1, 2, 3, 4] rfl (hk165 _ hf)
      · have hf := (if_neg y8).symm.trans hf
        refine P.aload_n 0 (pc' := 119) dX0_fewest_118 rfl rfl rfl ?_
        obtain ⟨x9, h10, hf⟩ := ob hf
        refine P.get (pc' := 122) ci0 12 (by decide) (gfR_spec h10) q487 (Or.inl rfl) dX0_fewest_119 rfl ?_
        refine P.iload_n 2 (pc' := 123) dX0_fewest_122 rfl rfl rfl ?_
        obtain ⟨x11, h12, hf⟩ := ob hf
        refine P.aald (t := 5) (pc' := 124) rfl h12 dX0_fewest_123 rfl ?_
        refine P.iload 4 (pc' := 126) dX0_fewest_124 rfl rfl ?_
        refine P.aload_n 0 (pc' := 127) dX0_fewest_126 rfl rfl rfl ?_
        obtain ⟨x13, h14, hf⟩ := ob hf
        refine P.get (pc' := 130) ci0 12 (by decide) (gfR_spec h14) q487 (Or.inl rfl) dX0_fewest_127 rfl ?_
        refine P.iload_n 2 (pc' := 131) dX0_fewest_130 rfl rfl rfl ?_
        obtain ⟨x15, h16, hf⟩ := ob hf
        refine P.aald (t := 5) (pc' := 132) rfl h16 dX0_fewest_131 rfl ?_
        refine P.iload 4 (pc' := 134) dX0_fewest_132 rfl rfl ?_
        obtain ⟨x17, h18, hf⟩ := ob hf
        refine P.iald (t := 0) (pc' := 135) rfl h18 dX0_fewest_134 rfl ?_
        refine P.aload_n 0 (pc' := 136) dX0_fewest_135 rfl rfl rfl ?_
        obtain ⟨x19, h20, hf⟩ := ob hf
        refine P.get (pc' := 139) ci0 12 (by decide) (gfR_spec h20) q487 (Or.inl rfl) dX0_fewest_136 rfl ?_
        refine P.iload_n 2 (pc' := 140) dX0_fewest_139 rfl rfl rfl ?_
        refine P.iconst (v := 1) (pc' := 141) dX0_fewest_140 rfl (by decide) ?_
        refine P.iadd (pc' := 142) dX0_fewest_141 rfl ?_
        obtain ⟨x21, h22, hf⟩ := ob hf
        refine P.aald (t := 5) (pc' := 143) rfl h22 dX0_fewest_142 rfl ?_
        refine P.iload 4 (pc' := 145) dX0_fewest_143 rfl rfl ?_
        refine P.iload 5 (pc' := 147) dX0_fewest_145 rfl rfl ?_
        refine P.iload 3 (pc' := 149) dX0_fewest_147 rfl rfl ?_
        refine P.imul (pc' := 150) dX0_fewest_149 rfl ?_
        refine P.isub (pc' := 151) dX0_fewest_150 rfl ?_
        obtain ⟨x23, h24, hf⟩ := ob hf
        refine P.iald (t := 0) (pc' := 152) rfl h24 dX0_fewest_151 rfl ?_
        refine P.iload 5 (pc' := 154) dX0_fewest_152 rfl rfl ?_
        refine P.iadd (pc' := 155) dX0_fewest_154 rfl ?_
        refine P.mmin (pc' := 158) q1087 q857 q183 q858 (Nat.le_of_ble_eq_true rfl) (Nat.le_of_ble_eq_true rfl) dX0_fewest_155 rfl ?_
        obtain ⟨μ26, h25, hf⟩ := ob hf
        refine P.iast (pc' := 159) h25 dX0_fewest_158 rfl ?_
        obtain ⟨x27, e28, hf⟩ := nm_i hf
        refine P.iinc 5 (pc' := 162) (lv' := [(6, .int x27), (0, .ref c0), (1, .int c1), (3, .int c3), (4, .int c4), (5, .int c5)]) dX0_fewest_159 rfl rfl (by decide) e28 (Nat.le_of_ble_eq_true rfl) rfl ?_
        refine P.goto (tgt := 94) dX0_fewest_162 (by decide) ?_
        exact PW.sub [1, 2, 3, 4, 5, 0] rfl (ih _ _ hf)
noncomputable def f_X0_fewest_L73_b (F : Nat) (k171 : Sw → Option (Int32 × Sw)) (c0 : Nat) (c1 : Int32) (c3 : Int32) (c4 : Int32) (self : Int32 → Sw → Option (Int32 × Sw)) (v5 : Int32) (μ : Sw) : Option (Int32 × Sw) :=
  if c1 < v5 then
    k171 μ
  else
    Option.bind (gfR μ c0 0 12) fun x2 =>
    Option.bind (aR μ 5 x2 c3) fun x4 =>
    Option.bind (sI μ 0 x4 v5 1000000000) fun μ7 =>
    f_X0_fewest_L94 F
      (fun μ8 =>
        nm (v5 + 1) fun x9 =>
        self x9 μ8)
      c0 c1 c3 c4 v5 F 0 μ7
noncomputable def f_X0_fewest_L73 (F : Nat) (k171 : Sw → Option (Int32 × Sw)) (c0 : Nat) (c1 : Int32) (c3 : Int32) (c4 : Int32) (n : Nat) : Int32 → Sw → Option (Int32 × Sw) := Nat.rec (motive := fun _ => Int32 → Sw → Option (Int32 × Sw)) (fun _ _ => none) (fun _ self => f_X0_fewest_L73_b F k171 c0 c1 c3 c4 self) n
set_option maxHeartbeats 4000000 in
theorem ok_f_X0_fewest_L73 {g : Gx} {μ0 : Sw} {rv : Int32} {μF : Sw} (F : Nat) (c0 : Nat) (c1 : Int32) (c3 : Int32) (c4 : Int32) (k171 : Sw → Option (Int32 × Sw)) (hk171 : ∀ (μ : Sw), k171 μ = some (rv, μF) → PW g mX0_fewest 4 μ0 μF (QN g (some (.int rv)) μ0 μF) 171 [(0, .ref c0), (1, .int c1), (3, .int c3)] [] μ) : ∀ (n : Nat) (v5 : Int32) (μ : Sw), f_X0_fewest_L73 F k171 c0 c1 c3 c4 n v5 μ = some (rv, μF) → PW g mX0_fewest 4 μ0 μF (QN g (some (.int rv)) μ0 μF) 73 [(0, .ref c0), (1, .int c1), (3, .int c3), (4, .int c4), (5, .int v5)] [] μ := by
  intro n
  induction n with
  | zero =>
    intro v5 μ hf
    have hf : (none : Option (Int32 × Sw)) = some _ := hf
    cases hf
  | succ n ih =>
    intro v5 μ hf
    have hf : f_X0_fewest_L73_b F k171 c0 c1 c3 c4 (f_X0_fewest_L73 F k171 c0 c1 c3 c4 n) v5 μ = some (rv, μF) := hf
    unfold f_X0_fewest_L73_b at hf
    refine P.iload 4 (pc' := 75) dX0_fewest_73 rfl rfl ?_
    refine P.iload_n 1 (pc' := 76) dX0_fewest_75 rfl rfl rfl ?_
    refine P.icmp_gt (tgt := 171) (pc' := 79) dX0_fewest_76 (by decide) rfl (fun y1 => ?_) (fun y1 => ?_)
    · have hf := (if_pos y1).symm.trans hf
      exact PW.sub [0, 1, 2] rfl (hk171 _ hf)
    · have hf := (if_neg y1).symm.trans hf
      refine P.aload_n 0 (pc' := 80) dX0_fewest_79 rfl rfl rfl ?_
      obtain ⟨x2, h3, hf⟩ := ob hf
      refine P.get (pc' := 83) ci0 12 (by decide) (gfR_spec h3) q487 (Or.inl rfl) dX0_fewest_80 rfl ?_
      refine P.iload_n 2 (pc' := 84) dX0_fewest_83 rfl rfl rfl ?_
      obtain ⟨x4, h5, hf⟩ := ob hf
      refine P.aald (t := 5) (pc' := 85) rfl h5 dX0_fewest_84 rfl ?_
      refine P.iload 4 (pc' := 87) dX0_fewest_85 rfl rfl ?_
      refine P.ldc_w (v := 1000000000) (pc' := 90) dX0_fewest_87 rfl q1246 ?_
      obtain ⟨μ7, h6, hf⟩ := ob hf
      refine P.iast (pc' := 91) h6 dX0_fewest_90 rfl ?_
      refine P.iconst (v := 0) (pc' := 92) dX0_fewest_91 rfl (by decide) ?_
      refine P.istore (pc' := 94) (lv' := [(6, .int 0), (0, .ref c0), (1, .int c1), (3, .int c3), (4, .int c4), (5, .int v5)]) dX0_fewest_92 rfl (Nat.le_of_ble_eq_true rfl) rfl ?_
      refine PW.sub [1, 2, 3, 4, 5, 0] rfl (ok_f_X0_fewest_L94 F c0 c1 c3 c4 v5 _ ?_ F _ _ hf)
      · intro μ8 hf
        obtain ⟨x9, e10, hf⟩ := nm_i hf
        refine P.iinc 4 (pc' := 168) (lv' := [(5, .int x9), (0, .ref c0), (1, .int c1), (3, .int c3), (4, .int c4)]) dX0_fewest_165 rfl rfl (by decide) e10 (Nat.le_of_ble_eq_true rfl) rfl ?_
        refine P.goto (tgt := 73) dX0_fewest_168 (by decide) ?_
        exact PW.sub [1, 2, 3, 4, 0] rfl (ih _ _ hf)
noncomputable def f_X0_fewest_L47_b (F : Nat) (c0 : Nat) (c1 : Int32) (self : Int32 → Sw → Option (Int32 × Sw)) (v3 : Int32) (μ : Sw) : Option (Int32 × Sw) :=
  if v3 < 0 then
    Option.bind (gfR μ c0 0 12) fun x2 =>
    Option.bind (aR μ 5 x2 0) fun x4 =>
    Option.bind (aI μ 0 x4 c1) fun x6 =>
    some (x6, μ)
  else
    Option.bind (gfR μ c0 0 3) fun x8 =>
    Option.bind (gfR μ x8 3 2) fun x10 =>
    Option.bind (oc μ x10 20) fun u14 =>
    Option.bind (f_J2_get F x10 v3 μ) fun q12 =>
    Option.bind (oc μ q12 13) fun u16 =>
    Option.bind (gfI μ q12 13 0) fun x18 =>
    f_X0_fewest_L73 F
      (fun μ20 =>
        nm (v3 + (-1)) fun x21 =>
        self x21 μ20)
      c0 c1 v3 x18 F 0 μ
noncomputable def f_X0_fewest_L47 (F : Nat) (c0 : Nat) (c1 : Int32) (n : Nat) : Int32 → Sw → Option (Int32 × Sw) := Nat.rec (motive := fun _ => Int32 → Sw → Option (Int32 × Sw)) (fun _ _ => none) (fun _ self => f_X0_fewest_L47_b F c0 c1 self) n
set_option maxHeartbeats 4000000 in
theorem ok_f_X0_fewest_L47 {g : Gx} {μ0 : Sw} {rv : Int32} {μF : Sw} (F : Nat) (c0 : Nat) (c1 : Int32) : ∀ (n : Nat) (v3 : Int32) (μ : Sw), f_X0_fewest_L47 F c0 c1 n v3 μ = some (rv, μF) → PW g mX0_fewest 4 μ0 μF (QN g (some (.int rv)) μ0 μF) 47 [(0, .ref c0), (1, .int c1), (3, .int v3)] [] μ := by
  intro n
  induction n with
  | zero =>
    intro v3 μ hf
    have hf : (none : Option (Int32 × Sw)) = some _ := hf
    cases hf
  | succ n ih =>
    intro v3 μ hf
    have hf : f_X0_fewest_L47_b F c0 c1 (f_X0_fewest_L47 F c0 c1 n) v3 μ = some (rv, μF) := hf
    unfold f_X0_fewest_L47_b at hf
    refine P.iload_n 2 (pc' := 48) dX0_fewest_47 rfl rfl rfl ?_
    refine P.if_lt (tgt := 177) (pc' := 51) dX0_fewest_48 (by decide) rfl (fun y1 => ?_) (fun y1 => ?_)
    · have hf := (if_pos y1).symm.trans hf
      refine P.aload_n 0 (pc' := 178) dX0_fewest_177 rfl rfl rfl ?_
      obtain ⟨x2, h3, hf⟩ := ob hf
      refine P.get (pc' := 181) ci0 12 (by decide) (gfR_spec h3) q487 (Or.inl rfl) dX0_fewest_178 rfl ?_
      refine P.iconst (v := 0) (pc' := 182) dX0_fewest_181 rfl (by decide) ?_
      obtain ⟨x4, h5, hf⟩ := ob hf
      refine P.aald (t := 5) (pc' := 183) rfl h5 dX0_fewest_182 rfl ?_
      refine P.iload_n 1 (pc' := 184) dX0_fewest_183 rfl rfl rfl ?_
      obtain ⟨x6, h7, hf⟩ := ob hf
      refine P.iald (t := 0) (pc' := 185) rfl h7 dX0_fewest_184 rfl ?_
      cases hf; exact P.iret rfl dX0_fewest_185
    · have hf := (if_neg y1).symm.trans hf
      refine P.aload_n 0 (pc' := 52) dX0_fewest_51 rfl rfl rfl ?_
      obtain ⟨x8, h9, hf⟩ := ob hf
      refine P.get (pc' := 55) ci0 3 (by decide) (gfR_spec h9) q478 (Or.inl rfl) dX0_fewest_52 rfl ?_
      obtain ⟨x10, h11, hf⟩ := ob hf
      refine P.getN (pc' := 58) ci3 2 (by decide) (gfR_spec h11) q334 (Or.inl rfl) dX0_fewest_55 rfl ?_
      refine P.iload_n 2 (pc' := 59) dX0_fewest_58 rfl rfl rfl ?_
      obtain ⟨u14, h15, hf⟩ := ob hf
      obtain ⟨q12, h13, hf⟩ := ob hf
      refine P.callV (pc' := 62) (As := [.int v3]) 1 (ok_J2_get F x10 v3 μ h13) (Nat.le_of_ble_eq_true rfl) (lw_V q1007 q1008 q1009 q165 q1010) rfl yok_J2_get rfl (Nat.le_of_ble_eq_true rfl) ci20 h15 (by decide) rfl dX0_fewest_59 rfl ?_
      obtain ⟨u16, h17, hf⟩ := ob hf
      refine P.castS (u := u16) (pc' := 65) ci13 q1021 h17 dX0_fewest_62 rfl ?_
      obtain ⟨x18, h19, hf⟩ := ob hf
      refine P.getN (pc' := 68) ci13 0 (by decide) (gfI_spec h19) q901 (Or.inl rfl) dX0_fewest_65 rfl ?_
      refine P.istore (pc' := 70) (lv' := [(4, .int x18), (0, .ref c0), (1, .int c1), (3, .int v3)]) dX0_fewest_68 rfl (Nat.le_of_ble_eq_true rfl) rfl ?_
      refine P.iconst (v := 0) (pc' := 71) dX0_fewest_70 rfl (by decide) ?_
      refine P.istore (pc' := 73) (lv' := [(5, .int 0), (4, .int x18), (0, .ref c0), (1, .int c1), (3, .int v3)]) dX0_fewest_71 rfl (Nat.le_of_ble_eq_true rfl) rfl ?_
      refine PW.sub [2, 3, 4, 1, 0] rfl (ok_f_X0_fewest_L73 F c0 c1 v3 x18 _ ?_ F _ _ hf)
      · intro μ20 hf
        obtain ⟨x21, e22, hf⟩ := nm_i hf
        refine P.iinc 2 (pc' := 174) (lv' := [(3, .int x21), (0, .ref c0), (1, .int c1)]) dX0_fewest_171 rfl rfl (by decide) e22 (Nat.le_of_ble_eq_true rfl) rfl ?_
        refine P.goto (tgt := 47) dX0_fewest_174 (by decide) ?_
        exact PW.sub [1, 2, 0] rfl (ih _ _ hf)
noncomputable def f_X0_fewest (F : Nat) (this : Nat) (p1 : Int32) (μ : Sw) : Option (Int32 × Sw) :=
  Option.bind (gfR μ this 0 3) fun x1 =>
  Option.bind (gfR μ x1 3 2) fun x3 =>
  Option.bind (oc μ x3 20) fun u7 =>
  Option.bind (f_J2_size F x3 μ) fun q5 =>
  f_X0_fewest_L13 F
    (fun μ9 =>
      nm (q5 - 1) fun x10 =>
      f_X0_fewest_L47 F this p1 F x10 μ9)
    this p1 q5 F 0 μ
set_option maxHeartbeats 4000000 in
theorem ok_X0_fewest {g : Gx} (F : Nat) (this : Nat) (p1 : Int32) (μ : Sw) {rv : Int32} {μF : Sw} (hf : f_X0_fewest F this p1 μ = some (rv, μF)) : Cl g 4 yX0_fewest cX0_fewest 7 (some Jvm.ClassFile.FieldType.int) [.ref this, .int p1] μ (some (.int rv)) μF := by
  unfold f_X0_fewest at hf
  refine Cl.of (own := RX0) (ini := false) (by decide +kernel) rfl (by decide) (Nat.le_of_ble_eq_true rfl) ?_
  show PW g mX0_fewest 4 μ μF (QN g (some (.int rv)) μ μF) 0 [(0, .ref this), (1, .int p1)] [] μ
  refine P.aload_n 0 (pc' := 1) dX0_fewest_0 rfl rfl rfl ?_
  obtain ⟨x1, h2, hf⟩ := ob hf
  refine P.get (pc' := 4) ci0 3 (by decide) (gfR_spec h2) q478 (Or.inl rfl) dX0_fewest_1 rfl ?_
  obtain ⟨x3, h4, hf⟩ := ob hf
  refine P.getN (pc' := 7) ci3 2 (by decide) (gfR_spec h4) q334 (Or.inl rfl) dX0_fewest_4 rfl ?_
  obtain ⟨u7, h8, hf⟩ := ob hf
  obtain ⟨q5, h6, hf⟩ := ob hf
  refine P.callV (pc' := 10) (As := []) 0 (ok_J2_size F x3 μ h6) (Nat.le_of_ble_eq_true rfl) (lw_V q1006 q669 q670 q165 q671) rfl yok_J2_size rfl (Nat.le_of_ble_eq_true rfl) ci20 h8 (by decide) rfl dX0_fewest_7 rfl ?_
  refine P.istore_n (pc' := 11) (lv' := [(2, .int q5), (0, .ref this), (1, .int p1)]) dX0_fewest_10 rfl rfl (Nat.le_of_ble_eq_true rfl) rfl ?_
  refine P.iconst (v := 0) (pc' := 12) dX0_fewest_11 rfl (by decide) ?_
  refine P.istore_n (pc' := 13) (lv' := [(3, .int 0), (2, .int q5), (0, .ref this), (1, .int p1)]) dX0_fewest_12 rfl rfl (Nat.le_of_ble_eq_true rfl) rfl ?_
  refine PW.sub [2, 3, 1, 0] rfl (ok_f_X0_fewest_L13 F this p1 q5 _ ?_ F _ _ hf)
  · intro μ9 hf
    refine P.iload_n 2 (pc' := 44) dX0_fewest_43 rfl rfl rfl ?_
    refine P.iconst (v := 1) (pc' := 45) dX0_fewest_44 rfl (by decide) ?_
    refine P.isub (pc' := 46) dX0_fewest_45 rfl ?_
    obtain ⟨x10, e11, hf⟩ := nm_i hf
    refine P.nmi e11 ?_
    refine P.istore_n (pc' := 47) (lv' := [(3, .int x10), (0, .ref this), (1, .int p1), (2, .int q5)]) dX0_fewest_46 rfl rfl (Nat.le_of_ble_eq_true rfl) rfl ?_
    exact PW.sub [1, 2, 0] rfl (ok_f_X0_fewest_L47 F this p1 F _ _ hf)
abbrev mX0_takes : Ym := (RX0, cX0_takes, 5, (some Jvm.ClassFile.FieldType.int), false, [])
noncomputable def f_X0_takes_L35_b (F : Nat) (c0 : Nat) (c1 : Int32) (c2 : Int32) (c3 : Int32) (μ : Sw) (self : Int32 → Option Int32) (v4 : Int32) : Option Int32 :=
  Option.bind (gfR μ c0 0 12) fun x1 =>
  Option.bind (aR μ 5 x1 (c1 + 1)) fun x3 =>
  Option.bind (aI μ 0 x3 (c2 - (v4 * c3))) fun x5 =>
  Option.bind (gfR μ c0 0 12) fun x7 =>
  Option.bind (aR μ 5 x7 c1) fun x9 =>
  Option.bind (aI μ 0 x9 c2) fun x11 =>
  if (x5 + v4) = x11 then
    some v4
  else
    nm (v4 + (-1)) fun x14 =>
    self x14
noncomputable def f_X0_takes_L35 (F : Nat) (c0 : Nat) (c1 : Int32) (c2 : Int32) (c3 : Int32) (μ : Sw) (n : Nat) : Int32 → Option Int32 := Nat.rec (motive := fun _ => Int32 → Option Int32) (fun _ => none) (fun _ self => f_X0_takes_L35_b F c0 c1 c2 c3 μ self) n
set_option maxHeartbeats 4000000 in
theorem ok_f_X0_takes_L35 {g : Gx} {μ0 : Sw} {rv : Int32} (F : Nat) (c0 : Nat) (c1 : Int32) (c2 : Int32) (c3 : Int32) (μ : Sw) : ∀ (n : Nat) (v4 : Int32), f_X0_takes_L35 F c0 c1 c2 c3 μ n v4 = some rv → PW g mX0_takes 4 μ0 μ (QN g (some (.int rv)) μ0 μ) 35 [(0, .ref c0), (1, .int c1), (2, .int c2), (3, .int c3), (4, .int v4)] [] μ := by
  intro n
  induction n with
  | zero =>
    intro v4 hf
    have hf : (none : Option Int32) = some _ := hf
    cases hf
  | succ n ih =>
    intro v4 hf
    have hf : f_X0_takes_L35_b F c0 c1 c2 c3 μ (f_X0_takes_L35 F c0 c1 c2 c3 μ n) v4 = some rv := hf
    unfold f_X0_takes_L35_b at hf
    refine P.aload_n 0 (pc' := 36) dX0_takes_35 rfl rfl rfl ?_
    obtain ⟨x1, h2, hf⟩ := ob hf
    refine P.get (pc' := 39) ci0 12 (by decide) (gfR_spec h2) q487 (Or.inl rfl) dX0_takes_36 rfl ?_
    refine P.iload_n 1 (pc' := 40) dX0_takes_39 rfl rfl rfl ?_
    refine P.iconst (v := 1) (pc' := 41) dX0_takes_40 rfl (by decide) ?_
    refine P.iadd (pc' := 42) dX0_takes_41 rfl ?_
    obtain ⟨x3, h4, hf⟩ := ob hf
    refine P.aald (t := 5) (pc' := 43) rfl h4 dX0_takes_42 rfl ?_
    refine P.iload_n 2 (pc' := 44) dX0_takes_43 rfl rfl rfl ?_
    refine P.iload 4 (pc' := 46) dX0_takes_44 rfl rfl ?_
    refine P.iload_n 3 (pc' := 47) dX0_takes_46 rfl rfl rfl ?_
    refine P.imul (pc' := 48) dX0_takes_47 rfl ?_
    refine P.isub (pc' := 49) dX0_takes_48 rfl ?_
    obtain ⟨x5, h6, hf⟩ := ob hf
    refine P.iald (t := 0) (pc' := 50) rfl h6 dX0_takes_49 rfl ?_
    refine P.iload 4 (pc' := 52) dX0_takes_50 rfl rfl ?_
    refine P.iadd (pc' := 53) dX0_takes_52 rfl ?_
    refine P.aload_n 0 (pc' := 54) dX0_takes_53 rfl rfl rfl ?_
    obtain ⟨x7, h8, hf⟩ := ob hf
    refine P.get (pc' := 57) ci0 12 (by decide) (gfR_spec h8) q487 (Or.inl rfl) dX0_takes_54 rfl ?_
    refine P.iload_n 1 (pc' := 58) dX0_takes_57 rfl rfl rfl ?_
    obtain ⟨x9, h10, hf⟩ := ob hf
    refine P.aald (t := 5) (pc' := 59) rfl h10 dX0_takes_58 rfl ?_
    refine P.iload_n 2 (pc' := 60) dX0_takes_59 rfl rfl rfl ?_
    obtain ⟨x11, h12, hf⟩ := ob hf
    refine P.iald (t := 0) (pc' := 61) rfl h12 dX0_takes_60 rfl ?_
    refine P.icmp_eq (tgt := 70) (pc' := 64) dX0_takes_61 (by decide) rfl (fun y13 => ?_) (fun y13 => ?_)
    · have hf := (if_pos y13).symm.trans hf
      refine P.iload 4 (pc' := 72) dX0_takes_70 rfl rfl ?_
      cases hf; exact P.iret rfl dX0_takes_72
    · have hf := (if_neg y13).symm.trans hf
      obtain ⟨x14, e15, hf⟩ := nm_i hf
      refine P.iinc 4 (pc' := 67) (lv' := [(4, .int x14), (0, .ref c0), (1, .int c1), (2, .int c2), (3, .int c3)]) dX0_takes_64 rfl rfl (by decide) e15 (Nat.le_of_ble_eq_true rfl) rfl ?_
      refine P.goto (tgt := 35) dX0_takes_67 (by decide) ?_
      exact PW.sub [1, 2, 3, 4, 0] rfl (ih _ hf)
noncomputable def f_X0_takes (F : Nat) (this : Nat) (p1 : Int32) (p2 : Int32) (μ : Sw) : Option Int32 :=
  Option.bind (gfR μ this 0 3) fun x1 =>
  Option.bind (gfR μ x1 3 2) fun x3 =>
  Option.bind (oc μ x3 20) fun u7 =>
  Option.bind (f_J2_get F x3 p1 μ) fun q5 =>
  Option.bind (oc μ q5 13) fun u9 =>
  Option.bind (gfI μ q5 13 0) fun x11 =>
  Option.bind (gfR μ this 0 4) fun x13 =>
  Option.bind (gfR μ x13 6 2) fun x15 =>
  Option.bind (aI μ 0 x15 p1) fun x17 =>
  Option.bind (dvO p2 x11) fun x19 =>
  nm (mn x17 x19) fun x21 =>
  f_X0_takes_L35 F this p1 p2 x11 μ F x21
set_option maxHeartbeats 4000000 in
theorem ok_X0_takes {g : Gx} (F : Nat) (this : Nat) (p1 : Int32) (p2 : Int32) (μ : Sw) {rv : Int32} (hf : f_X0_takes F this p1 p2 μ = some rv) : Cl g 4 yX0_takes cX0_takes 5 (some Jvm.ClassFile.FieldType.int) [.ref this, .int p1, .int p2] μ (some (.int rv)) μ := by
  unfold f_X0_takes at hf
  refine Cl.of (own := RX0) (ini := false) (by decide +kernel) rfl (by decide) (Nat.le_of_ble_eq_true rfl) ?_
  show PW g mX0_takes 4 μ μ (QN g (some (.int rv)) μ μ) 0 [(0, .ref this), (1, .int p1), (2, .int p2)] [] μ
  refine P.aload_n 0 (pc' := 1) dX0_takes_0 rfl rfl rfl ?_
  obtain ⟨x1, h2, hf⟩ := ob hf
  refine P.get (pc' := 4) ci0 3 (by decide) (gfR_spec h2) q478 (Or.inl rfl) dX0_takes_1 rfl ?_
  obtain ⟨x3, h4, hf⟩ := ob hf
  refine P.getN (pc' := 7) ci3 2 (by decide) (gfR_spec h4) q334 (Or.inl rfl) dX0_takes_4 rfl ?_
  refine P.iload_n 1 (pc' := 8) dX0_takes_7 rfl rfl rfl ?_
  obtain ⟨u7, h8, hf⟩ := ob hf
  obtain ⟨q5, h6, hf⟩ := ob hf
  refine P.callV (pc' := 11) (As := [.int p1]) 1 (ok_J2_get F x3 p1 μ h6) (Nat.le_of_ble_eq_true rfl) (lw_V q1007 q1008 q1009 q165 q1010) rfl yok_J2_get rfl (Nat.le_of_ble_eq_true rfl) ci20 h8 (by decide) rfl dX0_takes_8 rfl ?_
  obtain ⟨u9, h10, hf⟩ := ob hf
  refine P.castS (u := u9) (pc' := 14) ci13 q1021 h10 dX0_takes_11 rfl ?_
  obtain ⟨x11, h12, hf⟩ := ob hf
  refine P.getN (pc' := 17) ci13 0 (by decide) (gfI_spec h12) q901 (Or.inl rfl) dX0_takes_14 rfl ?_
  refine P.istore_n (pc' := 18) (lv' := [(3, .int x11), (0, .ref this), (1, .int p1), (2, .int p2)]) dX0_takes_17 rfl rfl (Nat.le_of_ble_eq_true rfl) rfl ?_
  refine P.aload_n 1 (pc' := 19) dX0_takes_18 rfl rfl rfl ?_
  obtain ⟨x13, h14, hf⟩ := ob hf
  refine P.get (pc' := 22) ci0 4 (by decide) (gfR_spec h14) q479 (Or.inl rfl) dX0_takes_19 rfl ?_
  obtain ⟨x15, h16, hf⟩ := ob hf
  refine P.getN (pc' := 25) ci6 2 (by decide) (gfR_spec h16) q419 (Or.inl rfl) dX0_takes_22 rfl ?_
  refine P.iload_n 2 (pc' := 26) dX0_takes_25 rfl rfl rfl ?_
  obtain ⟨x17, h18, hf⟩ := ob hf
  refine P.iald (t := 0) (pc' := 27) rfl h18 dX0_takes_26 rfl ?_
  refine P.iload_n 3 (pc' := 28) dX0_takes_27 rfl rfl rfl ?_
  refine P.iload_n 0 (pc' := 29) dX0_takes_28 rfl rfl rfl ?_
  obtain ⟨x19, h20, hf⟩ := ob hf
  refine P.idivO (pc' := 30) h20 dX0_takes_29 rfl ?_
  refine P.mmin (pc' := 33) q1087 q857 q183 q858 (Nat.le_of_ble_eq_true rfl) (by decide) dX0_takes_30 rfl ?_
  obtain ⟨x21, e22, hf⟩ := nm_i hf
  refine P.nmi e22 ?_
  refine P.istore (pc' := 35) (lv' := [(4, .int x21), (3, .int x11), (0, .ref this), (1, .int p1), (2, .int p2)]) dX0_takes_33 rfl (Nat.le_of_ble_eq_true rfl) rfl ?_
  exact PW.sub [2, 3, 4, 1, 0] rfl (ok_f_X0_takes_L35 F this p1 p2 x11 μ F _ hf)
theorem yok_X0_fewest : yOK yX0_fewest 1 := ⟨by decide +kernel, by decide +kernel, by decide +kernel⟩
theorem yok_X0_takes : yOK yX0_takes 2 := ⟨by decide +kernel, by decide +kernel, by decide +kernel⟩
abbrev mX0_jack : Ym := (RX0, cX0_jack, 6, (some Jvm.ClassFile.FieldType.int), false, [])
noncomputable def f_X0_jack_L67_b (F : Nat) (c0 : Nat) (c2 : Int32) (μ : Sw) (self : Int32 → Int32 → Option (Int32 × Sw)) (v4 : Int32) (v5 : Int32) : Option (Int32 × Sw) :=
  if (c2 - 10) ≤ v5 then
    Option.bind (oc μ c0 0) fun u4 =>
    Option.bind (f_X0_takes F c0 (c2 - 10) v4 μ) fun q2 =>
    some (q2, μ)
  else
    Option.bind (oc μ c0 0) fun u8 =>
    Option.bind (f_X0_takes F c0 v5 v4 μ) fun q6 =>
    Option.bind (gfR μ c0 0 3) fun x10 =>
    Option.bind (gfR μ x10 3 2) fun x12 =>
    Option.bind (oc μ x12 20) fun u16 =>
    Option.bind (f_J2_get F x12 v5 μ) fun q14 =>
    Option.bind (oc μ q14 13) fun u18 =>
    Option.bind (gfI μ q14 13 0) fun x20 =>
    nm (v4 - (q6 * x20)) fun x22 =>
    nm (v5 + 1) fun x24 =>
    self x22 x24
noncomputable def f_X0_jack_L67 (F : Nat) (c0 : Nat) (c2 : Int32) (μ : Sw) (n : Nat) : Int32 → Int32 → Option (Int32 × Sw) := Nat.rec (motive := fun _ => Int32 → Int32 → Option (Int32 × Sw)) (fun _ _ => none) (fun _ self => f_X0_jack_L67_b F c0 c2 μ self) n
set_option maxHeartbeats 4000000 in
theorem ok_f_X0_jack_L67 {g : Gx} {μ0 : Sw} {rv : Int32} {μF : Sw} (F : Nat) (c0 : Nat) (c2 : Int32) (μ : Sw) : ∀ (n : Nat) (v4 : Int32) (v5 : Int32), f_X0_jack_L67 F c0 c2 μ n v4 v5 = some (rv, μF) → PW g mX0_jack 5 μ0 μF (QN g (some (.int rv)) μ0 μF) 67 [(0, .ref c0), (2, .int c2), (4, .int v4), (5, .int v5)] [] μ := by
  intro n
  induction n with
  | zero =>
    intro v4 v5 hf
    have hf : (none : Option (Int32 × Sw)) = some _ := hf
    cases hf
  | succ n ih =>
    intro v4 v5 hf
    have hf : f_X0_jack_L67_b F c0 c2 μ (f_X0_jack_L67 F c0 c2 μ n) v4 v5 = some (rv, μF) := hf
    unfold f_X0_jack_L67_b at hf
    refine P.iload 3 (pc' := 69) dX0_jack_67 rfl rfl ?_
    refine P.iload_n 1 (pc' := 70) dX0_jack_69 rfl rfl rfl ?_
    refine P.bipush (v := 10) (pc' := 72) dX0_jack_70 rfl (by decide) ?_
    refine P.isub (pc' := 73) dX0_jack_72 rfl ?_
    refine P.icmp_ge (tgt := 114) (pc' := 76) dX0_jack_73 (by decide) rfl (fun y1 => ?_) (fun y1 => ?_)
    · have hf := (if_pos y1).symm.trans hf
      refine P.aload_n 0 (pc' := 115) dX0_jack_114 rfl rfl rfl ?_
      refine P.iload_n 1 (pc' := 116) dX0_jack_115 rfl rfl rfl ?_
      refine P.bipush (v := 10) (pc' := 118) dX0_jack_116 rfl (by decide) ?_
      refine P.isub (pc' := 119) dX0_jack_118 rfl ?_
      refine P.iload 2 (pc' := 121) dX0_jack_119 rfl rfl ?_
      obtain ⟨u4, h5, hf⟩ := ob hf
      obtain ⟨q2, h3, hf⟩ := ob hf
      refine P.callV (pc' := 124) (As := [.int (c2 - 10), .int v4]) 2 (ok_X0_takes F c0 (c2 - 10) v4 μ h3) (Nat.le_of_ble_eq_true rfl) (lw_V q1247 q1249 qs53 q159 q1250) rfl yok_X0_takes rfl (Nat.le_of_ble_eq_true rfl) ci0 h5 (by decide) rfl dX0_jack_121 rfl ?_
      cases hf; exact P.iret rfl dX0_jack_124
    · have hf := (if_neg y1).symm.trans hf
      refine P.iload 2 (pc' := 78) dX0_jack_76 rfl rfl ?_
      refine P.aload_n 0 (pc' := 79) dX0_jack_78 rfl rfl rfl ?_
      refine P.iload 3 (pc' := 81) dX0_jack_79 rfl rfl ?_
      refine P.iload 2 (pc' := 83) dX0_jack_81 rfl rfl ?_
      obtain ⟨u8, h9, hf⟩ := ob hf
      obtain ⟨q6, h7, hf⟩ := ob hf
      refine P.callV (pc' := 86) (As := [.int v5, .int v4]) 2 (ok_X0_takes F c0 v5 v4 μ h7) (Nat.le_of_ble_eq_true rfl) (lw_V q1247 q1249 qs53 q159 q1250) rfl yok_X0_takes rfl (Nat.le_of_ble_eq_true rfl) ci0 h9 (Nat.le_of_ble_eq_true rfl) rfl dX0_jack_83 rfl ?_
      refine P.aload_n 0 (pc' := 87) dX0_jack_86 rfl rfl rfl ?_
      obtain ⟨x10, h11, hf⟩ := ob hf
      refine P.get (pc' := 90) ci0 3 (by decide) (gfR_spec h11) q478 (Or.inl rfl) dX0_jack_87 rfl ?_
      obtain ⟨x12, h13, hf⟩ := ob hf
      refine P.getN (pc' := 93) ci3 2 (by decide) (gfR_spec h13) q334 (Or.inl rfl) dX0_jack_90 rfl ?_
      refine P.iload 3 (pc' := 95) dX0_jack_93 rfl rfl ?_
      obtain ⟨u16, h17, hf⟩ := ob hf
      obtain ⟨q14, h15, hf⟩ := ob hf
      refine P.callV (pc' := 98) (As := [.int v5]) 1 (ok_J2_get F x12 v5 μ h15) (Nat.le_of_ble_eq_true rfl) (lw_V q1007 q1008 q1009 q165 q1010) rfl yok_J2_get rfl (Nat.le_of_ble_eq_true rfl) ci20 h17 (Nat.le_of_ble_eq_true rfl) rfl dX0_jack_95 rfl ?_
      obtain ⟨u18, h19, hf⟩ := ob hf
      refine P.castS (u := u18) (pc' := 101) ci13 q1021 h19 dX0_jack_98 rfl ?_
      obtain ⟨x20, h21, hf⟩ := ob hf
      refine P.getN (pc' := 104) ci13 0 (by decide) (gfI_spec h21) q901 (Or.inl rfl) dX0_jack_101 rfl ?_
      refine P.imul (pc' := 105) dX0_jack_104 rfl ?_
      refine P.isub (pc' := 106) dX0_jack_105 rfl ?_
      obtain ⟨x22, e23, hf⟩ := nm_i hf
      refine P.nmi e23 ?_
      refine P.istore (pc' := 108) (lv' := [(4, .int x22), (0, .ref c0), (2, .int c2), (5, .int v5)]) dX0_jack_106 rfl (Nat.le_of_ble_eq_true rfl) rfl ?_
      obtain ⟨x24, e25, hf⟩ := nm_i hf
      refine P.iinc 3 (pc' := 111) (lv' := [(5, .int x24), (4, .int x22), (0, .ref c0), (2, .int c2)]) dX0_jack_108 rfl rfl (by decide) e25 (Nat.le_of_ble_eq_true rfl) rfl ?_
      refine P.goto (tgt := 67) dX0_jack_111 (by decide) ?_
      exact PW.sub [2, 3, 1, 0] rfl (ih _ _ hf)
noncomputable def f_X0_jack_j39 (F : Nat) (v0 : Nat) (v1 : Int32) (v2 : Int32) (μ : Sw) : Option (Int32 × Sw) :=
  Option.bind (oc μ v0 0) fun u3 =>
  Option.bind (f_X0_fewest F v0 v1 μ) fun q1 =>
  if q1.1 < 1000000000 then
    if v2 = 0 then
      some (q1.1, q1.2)
    else
      f_X0_jack_L67 F v0 v2 q1.2 F v1 0
  else
    some ((-2), q1.2)
set_option maxHeartbeats 4000000 in
theorem ok_f_X0_jack_j39 {g : Gx} {μ0 : Sw} {rv : Int32} {μF : Sw} (F : Nat) (v0 : Nat) (v1 : Int32) (v2 : Int32) (μ : Sw) (hf : f_X0_jack_j39 F v0 v1 v2 μ = some (rv, μF)) : PW g mX0_jack 5 μ0 μF (QN g (some (.int rv)) μ0 μF) 39 [(0, .ref v0), (1, .int v1), (2, .int v2)] [] μ := by
  unfold f_X0_jack_j39 at hf
  refine P.aload_n 0 (pc' := 40) dX0_jack_39 rfl rfl rfl ?_
  refine P.iload_n 1 (pc' := 41) dX0_jack_40 rfl rfl rfl ?_
  obtain ⟨u3, h4, hf⟩ := ob hf
  obtain ⟨q1, h2, hf⟩ := ob hf
  refine P.callV (pc' := 44) (As := [.int v1]) 1 (ok_X0_fewest F v0 v1 μ h2) (Nat.le_of_ble_eq_true rfl) (lw_V q1242 q1244 qs52 q159 q1245) rfl yok_X0_fewest rfl (Nat.le_of_ble_eq_true rfl) ci0 h4 (by decide) rfl dX0_jack_41 rfl ?_
  refine P.istore_n (pc' := 45) (lv' := [(3, .int q1.1), (0, .ref v0), (1, .int v1), (2, .int v2)]) dX0_jack_44 rfl rfl (Nat.le_of_ble_eq_true rfl) rfl ?_
  refine P.iload_n 0 (pc' := 46) dX0_jack_45 rfl rfl rfl ?_
  refine P.ldc_w (v := 1000000000) (pc' := 49) dX0_jack_46 rfl q1246 ?_
  refine P.icmp_lt (tgt := 55) (pc' := 52) dX0_jack_49 (by decide) rfl (fun y5 => ?_) (fun y5 => ?_)
  · have hf := (if_pos y5).symm.trans hf
    refine P.iload_n 3 (pc' := 56) dX0_jack_55 rfl rfl rfl ?_
    refine P.if_ne (tgt := 61) (pc' := 59) dX0_jack_56 (by decide) rfl (fun y6 => ?_) (fun y6 => ?_)
    · have hf := (if_neg y6).symm.trans hf
      refine P.iload_n 2 (pc' := 62) dX0_jack_61 rfl rfl rfl ?_
      refine P.istore (pc' := 64) (lv' := [(4, .int v1), (3, .int q1.1), (0, .ref v0), (1, .int v1), (2, .int v2)]) dX0_jack_62 rfl (Nat.le_of_ble_eq_true rfl) rfl ?_
      refine P.iconst (v := 0) (pc' := 65) dX0_jack_64 rfl (by decide) ?_
      refine P.istore (pc' := 67) (lv' := [(5, .int 0), (4, .int v1), (3, .int q1.1), (0, .ref v0), (1, .int v1), (2, .int v2)]) dX0_jack_65 rfl (Nat.le_of_ble_eq_true rfl) rfl ?_
      exact PW.sub [3, 5, 1, 0] rfl (ok_f_X0_jack_L67 F v0 v2 q1.2 F _ _ hf)
    · have hf := (if_pos y6).symm.trans hf
      refine P.iload_n 0 (pc' := 60) dX0_jack_59 rfl rfl rfl ?_
      cases hf; exact P.iret rfl dX0_jack_60
  · have hf := (if_neg y5).symm.trans hf
    refine P.bipush (v := (-2)) (pc' := 54) dX0_jack_52 rfl (by decide) ?_
    cases hf; exact P.iret rfl dX0_jack_54
noncomputable def f_X0_jack (F : Nat) (this : Nat) (p1 : Int32) (p2 : Int32) (μ : Sw) : Option (Int32 × Sw) :=
  Option.bind (p_X0_within F p1 1 99) fun q1 =>
  if q1 = 0 then
    some ((-1), μ)
  else
    if p2 = 0 then
      f_X0_jack_j39 F this p1 p2 μ
    else
      Option.bind (gfR μ this 0 3) fun x5 =>
      Option.bind (gfR μ x5 3 2) fun x7 =>
      Option.bind (oc μ x7 20) fun u11 =>
      Option.bind (f_J2_size F x7 μ) fun q9 =>
      Option.bind (p_X0_within F (p2 - 10) 0 (q9 - 1)) fun q13 =>
      if q13 = 0 then
        some ((-1), μ)
      else
        f_X0_jack_j39 F this p1 p2 μ
set_option maxHeartbeats 4000000 in
theorem ok_X0_jack {g : Gx} (F : Nat) (this : Nat) (p1 : Int32) (p2 : Int32) (μ : Sw) {rv : Int32} {μF : Sw} (hf : f_X0_jack F this p1 p2 μ = some (rv, μF)) : Cl g 5 yX0_jack cX0_jack 6 (some Jvm.ClassFile.FieldType.int) [.ref this, .int p1, .int p2] μ (some (.int rv)) μF := by
  unfold f_X0_jack at hf
  refine Cl.of (own := RX0) (ini := false) (by decide +kernel) rfl (by decide) (Nat.le_of_ble_eq_true rfl) ?_
  show PW g mX0_jack 5 μ μF (QN g (some (.int rv)) μ μF) 0 [(0, .ref this), (1, .int p1), (2, .int p2)] [] μ
  refine P.iload_n 1 (pc' := 1) dX0_jack_0 rfl rfl rfl ?_
  refine P.iconst (v := 1) (pc' := 2) dX0_jack_1 rfl (by decide) ?_
  refine P.bipush (v := 99) (pc' := 4) dX0_jack_2 rfl (by decide) ?_
  obtain ⟨q1, h2, hf⟩ := ob hf
  refine P.callS (pc' := 7) (As := [.int p1, .int 1, .int 99]) 3 (ok_X0_within F p1 1 99 μ h2) (Nat.le_of_ble_eq_true rfl) (lw_S q1038 q557 q159 q558) yok_X0_within rfl (Nat.le_of_ble_eq_true rfl) (by decide) rfl dX0_jack_4 rfl ?_
  refine P.if_eq (tgt := 37) (pc' := 10) dX0_jack_7 (by decide) rfl (fun y3 => ?_) (fun y3 => ?_)
  · have hf := (if_pos y3).symm.trans hf
    refine P.iconst (v := (-1)) (pc' := 38) dX0_jack_37 rfl (by decide) ?_
    cases hf; exact P.iret rfl dX0_jack_38
  · have hf := (if_neg y3).symm.trans hf
    refine P.iload_n 2 (pc' := 11) dX0_jack_10 rfl rfl rfl ?_
    refine P.if_eq (tgt := 39) (pc' := 14) dX0_jack_11 (by decide) rfl (fun y4 => ?_) (fun y4 => ?_)
    · have hf := (if_pos y4).symm.trans hf
      exact PW.sub [0, 1, 2] rfl (ok_f_X0_jack_j39 F this p1 p2 μ hf)
    · have hf := (if_neg y4).symm.trans hf
      refine P.iload_n 2 (pc' := 15) dX0_jack_14 rfl rfl rfl ?_
      refine P.bipush (v := 10) (pc' := 17) dX0_jack_15 rfl (by decide) ?_
      refine P.isub (pc' := 18) dX0_jack_17 rfl ?_
      refine P.iconst (v := 0) (pc' := 19) dX0_jack_18 rfl (by decide) ?_
      refine P.aload_n 0 (pc' := 20) dX0_jack_19 rfl rfl rfl ?_
      obtain ⟨x5, h6, hf⟩ := ob hf
      refine P.get (pc' := 23) ci0 3 (by decide) (gfR_spec h6) q478 (Or.inl rfl) dX0_jack_20 rfl ?_
      obtain ⟨x7, h8, hf⟩ := ob hf
      refine P.getN (pc' := 26) ci3 2 (by decide) (gfR_spec h8) q334 (Or.inl rfl) dX0_jack_23 rfl ?_
      obtain ⟨u11, h12, hf⟩ := ob hf
      obtain ⟨q9, h10, hf⟩ := ob hf
      refine P.callV (pc' := 29) (As := []) 0 (ok_J2_size F x7 μ h10) (Nat.le_of_ble_eq_true rfl) (lw_V q1006 q669 q670 q165 q671) rfl yok_J2_size rfl (Nat.le_of_ble_eq_true rfl) ci20 h12 (Nat.le_of_ble_eq_true rfl) rfl dX0_jack_26 rfl ?_
      refine P.iconst (v := 1) (pc' := 30) dX0_jack_29 rfl (by decide) ?_
      refine P.isub (pc' := 31) dX0_jack_30 rfl ?_
      obtain ⟨q13, h14, hf⟩ := ob hf
      refine P.callS (pc' := 34) (As := [.int (p2 - 10), .int 0, .int (q9 - 1)]) 3 (ok_X0_within F (p2 - 10) 0 (q9 - 1) μ h14) (Nat.le_of_ble_eq_true rfl) (lw_S q1038 q557 q159 q558) yok_X0_within rfl (Nat.le_of_ble_eq_true rfl) (by decide) rfl dX0_jack_31 rfl ?_
      refine P.if_ne (tgt := 39) (pc' := 37) dX0_jack_34 (by decide) rfl (fun y15 => ?_) (fun y15 => ?_)
      · have hf := (if_neg y15).symm.trans hf
        exact PW.sub [0, 1, 2] rfl (ok_f_X0_jack_j39 F this p1 p2 μ hf)
      · have hf := (if_pos y15).symm.trans hf
        refine P.iconst (v := (-1)) (pc' := 38) dX0_jack_37 rfl (by decide) ?_
        cases hf; exact P.iret rfl dX0_jack_38
abbrev mX18_init : Ym := (RX18, cX18_init, 4, none, true, [])
noncomputable def f_X18_init (F : Nat) (this : Nat) (p1 : Int32) (p2 : Int32) (p3 : Int32) (μ : Sw) : Option Sw :=
  Option.bind (f_J3_init F this μ) fun q1 =>
  Option.bind (pf μ this 18 0 (.int p1)) fun μ3 =>
  Option.bind (pf μ3 this 18 1 (.int p2)) fun μ5 =>
  Option.bind (pf μ5 this 18 2 (.int p3)) fun μ7 =>
  some μ7
set_option maxHeartbeats 4000000 in
theorem ok_X18_init {g : Gx} (F : Nat) (this : Nat) (p1 : Int32) (p2 : Int32) (p3 : Int32) (μ : Sw) {μF : Sw} (hf : f_X18_init F this p1 p2 p3 μ = some μF) : Cl g 2 yX18_init cX18_init 4 none [.ref this, .int p1, .int p2, .int p3] μ none μF := by
  unfold f_X18_init at hf
  refine Cl.of (own := RX18) (ini := true) (by decide +kernel) rfl (by decide) (Nat.le_of_ble_eq_true rfl) ?_
  show PW g mX18_init 2 μ μF (QN g none μ μF) 0 [(0, .ref this), (1, .int p1), (2, .int p2), (3, .int p3)] [] μ
  refine P.aload_n 0 (pc' := 1) dX18_init_0 rfl rfl rfl ?_
  obtain ⟨q1, h2, hf⟩ := ob hf
  refine P.callI (pc' := 4) (As := []) 0 (ok_J3_init F this μ h2) (Nat.le_of_ble_eq_true rfl) q310 q166 q1260 q309 rfl yok_J3_init rfl (Nat.le_of_ble_eq_true rfl) (by decide) rfl dX18_init_1 rfl ?_
  refine P.aload_n 0 (pc' := 5) dX18_init_4 rfl rfl rfl ?_
  refine P.iload_n 1 (pc' := 6) dX18_init_5 rfl rfl rfl ?_
  obtain ⟨μ3, h4, hf⟩ := ob hf
  refine P.putF (v := .int p1) (pc' := 9) ci18 0 (by decide) h4 q1261 (Or.inl rfl) rfl rfl rfl rfl rfl dX18_init_6 rfl ?_
  refine P.aload_n 0 (pc' := 10) dX18_init_9 rfl rfl rfl ?_
  refine P.iload_n 2 (pc' := 11) dX18_init_10 rfl rfl rfl ?_
  obtain ⟨μ5, h6, hf⟩ := ob hf
  refine P.putF (v := .int p2) (pc' := 14) ci18 1 (by decide) h6 q1263 (Or.inl rfl) rfl rfl rfl rfl rfl dX18_init_11 rfl ?_
  refine P.aload_n 0 (pc' := 15) dX18_init_14 rfl rfl rfl ?_
  refine P.iload_n 3 (pc' := 16) dX18_init_15 rfl rfl rfl ?_
  obtain ⟨μ7, h8, hf⟩ := ob hf
  refine P.putF (v := .int p3) (pc' := 19) ci18 2 (by decide) h8 q1265 (Or.inl rfl) rfl rfl rfl rfl rfl dX18_init_16 rfl ?_
  cases hf; exact P.vret rfl dX18_init_19
theorem yok_X18_init : yOK yX18_init 3 := ⟨by decide +kernel, by decide +kernel, by decide +kernel⟩
abbrev mX0_work : Ym := (RX0, cX0_work, 4, (some Jvm.ClassFile.FieldType.int), false, [])
noncomputable def f_X0_work (F : Nat) (this : Nat) (p1 : Int32) (p2 : Int32) (p3 : Int32) (μ : Sw) : Option (Int32 × Sw) :=
  Option.bind (gfR μ this 0 4) fun x1 =>
  Option.bind (gfR μ x1 6 4) fun x3 =>
  Option.bind (oc μ x3 20) fun u7 =>
  Option.bind (f_J2_size F x3 μ) fun q5 =>
  if q5 = 40 then
    some ((-1), μ)
  else
    Option.bind (p_X0_within F p1 0 99) fun q10 =>
    if q10 = 0 then
      some ((-1), μ)
    else
      Option.bind (oc μ this 0) fun u15 =>
      Option.bind (f_X0_isHouse F this p2 μ) fun q13 =>
      if q13 = 0 then
        some ((-1), μ)
      else
        if p3 = 0 then
          some ((-1), μ)
        else
          Option.bind (p_X0_within F p3 (-99) 99) fun q19 =>
          if q19 = 0 then
            some ((-1), μ)
          else
            Option.bind (gfR μ this 0 4) fun x22 =>
            Option.bind (gfR μ x22 6 4) fun x24 =>
            nm (nw μ (.inr (18, dfX18)) 3) fun μ26 =>
            Option.bind (f_X18_init F μ.2.1 p1 p2 p3 μ26) fun q28 =>
            Option.bind (oc q28 x24 20) fun u32 =>
            Option.bind (f_J2_add F x24 μ.2.1 q28) fun q30 =>
            Option.bind (gfR q30.2 this 0 4) fun x34 =>
            Option.bind (gfR q30.2 x34 6 4) fun x36 =>
            Option.bind (oc q30.2 x36 20) fun u40 =>
            Option.bind (f_J2_size F x36 q30.2) fun q38 =>
            some (q38 - 1, q30.2)
set_option maxHeartbeats 4000000 in
theorem ok_X0_work {g : Gx} (F : Nat) (this : Nat) (p1 : Int32) (p2 : Int32) (p3 : Int32) (μ : Sw) {rv : Int32} {μF : Sw} (hf : f_X0_work F this p1 p2 p3 μ = some (rv, μF)) : Cl g 8 yX0_work cX0_work 4 (some Jvm.ClassFile.FieldType.int) [.ref this, .int p1, .int p2, .int p3] μ (some (.int rv)) μF := by
  unfold f_X0_work at hf
  refine Cl.of (own := RX0) (ini := false) (by decide +kernel) rfl (by decide) (Nat.le_of_ble_eq_true rfl) ?_
  show PW g mX0_work 8 μ μF (QN g (some (.int rv)) μ μF) 0 [(0, .ref this), (1, .int p1), (2, .int p2), (3, .int p3)] [] μ
  refine P.aload_n 0 (pc' := 1) dX0_work_0 rfl rfl rfl ?_
  obtain ⟨x1, h2, hf⟩ := ob hf
  refine P.get (pc' := 4) ci0 4 (by decide) (gfR_spec h2) q479 (Or.inl rfl) dX0_work_1 rfl ?_
  obtain ⟨x3, h4, hf⟩ := ob hf
  refine P.getN (pc' := 7) ci6 4 (by decide) (gfR_spec h4) q423 (Or.inl rfl) dX0_work_4 rfl ?_
  obtain ⟨u7, h8, hf⟩ := ob hf
  obtain ⟨q5, h6, hf⟩ := ob hf
  refine P.callV (pc' := 10) (As := []) 0 (ok_J2_size F x3 μ h6) (Nat.le_of_ble_eq_true rfl) (lw_V q1006 q669 q670 q165 q671) rfl yok_J2_size rfl (Nat.le_of_ble_eq_true rfl) ci20 h8 (by decide) rfl dX0_work_7 rfl ?_
  refine P.bipush (v := 40) (pc' := 12) dX0_work_10 rfl (by decide) ?_
  refine P.icmp_eq (tgt := 48) (pc' := 15) dX0_work_12 (by decide) rfl (fun y9 => ?_) (fun y9 => ?_)
  · have hf := (if_pos y9).symm.trans hf
    refine P.iconst (v := (-1)) (pc' := 49) dX0_work_48 rfl (by decide) ?_
    cases hf; exact P.iret rfl dX0_work_49
  · have hf := (if_neg y9).symm.trans hf
    refine P.iload_n 1 (pc' := 16) dX0_work_15 rfl rfl rfl ?_
    refine P.iconst (v := 0) (pc' := 17) dX0_work_16 rfl (by decide) ?_
    refine P.bipush (v := 99) (pc' := 19) dX0_work_17 rfl (by decide) ?_
    obtain ⟨q10, h11, hf⟩ := ob hf
    refine P.callS (pc' := 22) (As := [.int p1, .int 0, .int 99]) 3 (ok_X0_within F p1 0 99 μ h11) (Nat.le_of_ble_eq_true rfl) (lw_S q1038 q557 q159 q558) yok_X0_within rfl (Nat.le_of_ble_eq_true rfl) (by decide) rfl dX0_work_19 rfl ?_
    refine P.if_eq (tgt := 48) (pc' := 25) dX0_work_22 (by decide) rfl (fun y12 => ?_) (fun y12 => ?_)
    · have hf := (if_pos y12).symm.trans hf
      refine P.iconst (v := (-1)) (pc' := 49) dX0_work_48 rfl (by decide) ?_
      cases hf; exact P.iret rfl dX0_work_49
    · have hf := (if_neg y12).symm.trans hf
      refine P.aload_n 0 (pc' := 26) dX0_work_25 rfl rfl rfl ?_
      refine P.iload_n 2 (pc' := 27) dX0_work_26 rfl rfl rfl ?_
      obtain ⟨u15, h16, hf⟩ := ob hf
      obtain ⟨q13, h14, hf⟩ := ob hf
      refine P.callV (pc' := 30) (As := [.int p2]) 1 (ok_X0_isHouse F this p2 μ h14) (Nat.le_of_ble_eq_true rfl) (lw_V q1030 q1032 qs33 q159 q1033) rfl yok_X0_isHouse rfl (Nat.le_of_ble_eq_true rfl) ci0 h16 (by decide) rfl dX0_work_27 rfl ?_
      refine P.if_eq (tgt := 48) (pc' := 33) dX0_work_30 (by decide) rfl (fun y17 => ?_) (fun y17 => ?_)
      · have hf := (if_pos y17).symm.trans hf
        refine P.iconst (v := (-1)) (pc' := 49) dX0_work_48 rfl (by decide) ?_
        cases hf; exact P.iret rfl dX0_work_49
      · have hf := (if_neg y17).symm.trans hf
        refine P.iload_n 3 (pc' := 34) dX0_work_33 rfl rfl rfl ?_
        refine P.if_eq (tgt := 48) (pc' := 37) dX0_work_34 (by decide) rfl (fun y18 => ?_) (fun y18 => ?_)
        · have hf := (if_pos y18).symm.trans hf
          refine P.iconst (v := (-1)) (pc' := 49) dX0_work_48 rfl (by decide) ?_
          cases hf; exact P.iret rfl dX0_work_49
        · have hf := (if_neg y18).symm.trans hf
          refine P.iload_n 3 (pc' := 38) dX0_work_37 rfl rfl rfl ?_
          refine P.bipush (v := (-99)) (pc' := 40) dX0_work_38 rfl (by decide) ?_
          refine P.bipush (v := 99) (pc' := 42) dX0_work_40 rfl (by decide) ?_
          obtain ⟨q19, h20, hf⟩ := ob hf
          refine P.callS (pc' := 45) (As := [.int p3, .int (-99), .int 99]) 3 (ok_X0_within F p3 (-99) 99 μ h20) (Nat.le_of_ble_eq_true rfl) (lw_S q1038 q557 q159 q558) yok_X0_within rfl (Nat.le_of_ble_eq_true rfl) (by decide) rfl dX0_work_42 rfl ?_
          refine P.if_ne (tgt := 50) (pc' := 48) dX0_work_45 (by decide) rfl (fun y21 => ?_) (fun y21 => ?_)
          · have hf := (if_neg y21).symm.trans hf
            refine P.aload_n 0 (pc' := 51) dX0_work_50 rfl rfl rfl ?_
            obtain ⟨x22, h23, hf⟩ := ob hf
            refine P.get (pc' := 54) ci0 4 (by decide) (gfR_spec h23) q479 (Or.inl rfl) dX0_work_51 rfl ?_
            obtain ⟨x24, h25, hf⟩ := ob hf
            refine P.getN (pc' := 57) ci6 4 (by decide) (gfR_spec h25) q423 (Or.inl rfl) dX0_work_54 rfl ?_
            obtain ⟨μ26, e27, hf⟩ := nm_i hf
            refine P.newE (pc' := 60) ci18 q1255 q1256 q194 dfX18_ok e27 dX0_work_57 rfl ?_
            refine P.dup (pc' := 61) dX0_work_60 rfl rfl ?_
            refine P.iload_n 1 (pc' := 62) dX0_work_61 rfl rfl rfl ?_
            refine P.iload_n 2 (pc' := 63) dX0_work_62 rfl rfl rfl ?_
            refine P.iload_n 3 (pc' := 64) dX0_work_63 rfl rfl rfl ?_
            obtain ⟨q28, h29, hf⟩ := ob hf
            refine P.callIN (pc' := 67) (As := [.int p1, .int p2, .int p3]) 3 (ok_X18_init F μ.2.1 p1 p2 p3 μ26 h29) (Nat.le_of_ble_eq_true rfl) q1259 q194 q1257 q1258 rfl yok_X18_init rfl (Nat.le_of_ble_eq_true rfl) (Nat.le_of_ble_eq_true rfl) rfl dX0_work_64 rfl ?_
            obtain ⟨u32, h33, hf⟩ := ob hf
            obtain ⟨q30, h31, hf⟩ := ob hf
            refine P.callV (pc' := 70) (As := [.ref μ.2.1]) 1 (ok_J2_add F x24 μ.2.1 q28 h31) (Nat.le_of_ble_eq_true rfl) (lw_V q1274 q797 q798 q165 q799) rfl yok_J2_add rfl (Nat.le_of_ble_eq_true rfl) ci20 h33 (by decide) rfl dX0_work_67 rfl ?_
            refine P.pop (pc' := 71) dX0_work_70 rfl rfl ?_
            refine P.aload_n 0 (pc' := 72) dX0_work_71 rfl rfl rfl ?_
            obtain ⟨x34, h35, hf⟩ := ob hf
            refine P.get (pc' := 75) ci0 4 (by decide) (gfR_spec h35) q479 (Or.inl rfl) dX0_work_72 rfl ?_
            obtain ⟨x36, h37, hf⟩ := ob hf
            refine P.getN (pc' := 78) ci6 4 (by decide) (gfR_spec h37) q423 (Or.inl rfl) dX0_work_75 rfl ?_
            obtain ⟨u40, h41, hf⟩ := ob hf
            obtain ⟨q38, h39, hf⟩ := ob hf
            refine P.callV (pc' := 81) (As := []) 0 (ok_J2_size F x36 q30.2 h39) (Nat.le_of_ble_eq_true rfl) (lw_V q1006 q669 q670 q165 q671) rfl yok_J2_size rfl (Nat.le_of_ble_eq_true rfl) ci20 h41 (by decide) rfl dX0_work_78 rfl ?_
            refine P.iconst (v := 1) (pc' := 82) dX0_work_81 rfl (by decide) ?_
            refine P.isub (pc' := 83) dX0_work_82 rfl ?_
            cases hf; exact P.iret rfl dX0_work_83
          · have hf := (if_pos y21).symm.trans hf
            refine P.iconst (v := (-1)) (pc' := 49) dX0_work_48 rfl (by decide) ?_
            cases hf; exact P.iret rfl dX0_work_49
abbrev mJ2_clear : Ym := (RJ2, cJ2_clear, 4, none, false, [])
noncomputable def f_J2_clear_L27_b (F : Nat) (c1 : Nat) (c2 : Int32) (self : Int32 → Sw → Option Sw) (v3 : Int32) (μ : Sw) : Option Sw :=
  if c2 ≤ v3 then
    some μ
  else
    Option.bind (sQ μ 6 c1 v3 none) fun μ3 =>
    nm (v3 + 1) fun x4 =>
    self x4 μ3
noncomputable def f_J2_clear_L27 (F : Nat) (c1 : Nat) (c2 : Int32) (n : Nat) : Int32 → Sw → Option Sw := Nat.rec (motive := fun _ => Int32 → Sw → Option Sw) (fun _ _ => none) (fun _ self => f_J2_clear_L27_b F c1 c2 self) n
set_option maxHeartbeats 4000000 in
theorem ok_f_J2_clear_L27 {g : Gx} {μ0 : Sw} {μF : Sw} (F : Nat) (c1 : Nat) (c2 : Int32) : ∀ (n : Nat) (v3 : Int32) (μ : Sw), f_J2_clear_L27 F c1 c2 n v3 μ = some μF → PW g mJ2_clear 1 μ0 μF (QN g none μ0 μF) 27 [(1, .ref c1), (2, .int c2), (3, .int v3)] [] μ := by
  intro n
  induction n with
  | zero =>
    intro v3 μ hf
    have hf : (none : Option Sw) = some _ := hf
    cases hf
  | succ n ih =>
    intro v3 μ hf
    have hf : f_J2_clear_L27_b F c1 c2 (f_J2_clear_L27 F c1 c2 n) v3 μ = some μF := hf
    unfold f_J2_clear_L27_b at hf
    refine P.iload_n 2 (pc' := 28) dJ2_clear_27 rfl rfl rfl ?_
    refine P.iload_n 1 (pc' := 29) dJ2_clear_28 rfl rfl rfl ?_
    refine P.icmp_ge (tgt := 42) (pc' := 32) dJ2_clear_29 (by decide) rfl (fun y1 => ?_) (fun y1 => ?_)
    · have hf := (if_pos y1).symm.trans hf
      cases hf; exact P.vret rfl dJ2_clear_42
    · have hf := (if_neg y1).symm.trans hf
      refine P.aload_n 0 (pc' := 33) dJ2_clear_32 rfl rfl rfl ?_
      refine P.iload_n 2 (pc' := 34) dJ2_clear_33 rfl rfl rfl ?_
      refine P.null (pc' := 35) dJ2_clear_34 rfl ?_
      obtain ⟨μ3, h2, hf⟩ := ob hf
      refine P.aastN (t := 6) (pc' := 36) rfl (by decide) h2 dJ2_clear_35 rfl ?_
      obtain ⟨x4, e5, hf⟩ := nm_i hf
      refine P.iinc 2 (pc' := 39) (lv' := [(3, .int x4), (1, .ref c1), (2, .int c2)]) dJ2_clear_36 rfl rfl (by decide) e5 (Nat.le_of_ble_eq_true rfl) rfl ?_
      refine P.goto (tgt := 27) dJ2_clear_39 (by decide) ?_
      exact PW.sub [1, 2, 0] rfl (ih _ _ hf)
noncomputable def f_J2_clear (F : Nat) (this : Nat) (μ : Sw) : Option Sw :=
  Option.bind (gfI μ this 20 0) fun x1 =>
  Option.bind (pf μ this 20 0 (.int (x1 + 1))) fun μ3 =>
  Option.bind (gfR μ3 this 20 1) fun x5 =>
  Option.bind (gfI μ3 this 20 2) fun x7 =>
  Option.bind (pf μ3 this 20 2 (.int 0)) fun μ9 =>
  f_J2_clear_L27 F x5 x7 F 0 μ9
set_option maxHeartbeats 4000000 in
theorem ok_J2_clear {g : Gx} (F : Nat) (this : Nat) (μ : Sw) {μF : Sw} (hf : f_J2_clear F this μ = some μF) : Cl g 1 yJ2_clear cJ2_clear 4 none [.ref this] μ none μF := by
  unfold f_J2_clear at hf
  refine Cl.of (own := RJ2) (ini := false) (by decide +kernel) rfl (by decide) (Nat.le_of_ble_eq_true rfl) ?_
  show PW g mJ2_clear 1 μ μF (QN g none μ μF) 0 [(0, .ref this)] [] μ
  refine P.aload_n 0 (pc' := 1) dJ2_clear_0 rfl rfl rfl ?_
  refine P.dup (pc' := 2) dJ2_clear_1 rfl rfl ?_
  obtain ⟨x1, h2, hf⟩ := ob hf
  refine P.get (pc' := 5) ci20 0 (by decide) (gfI_spec h2) q294 (Or.inr q295) dJ2_clear_2 rfl ?_
  refine P.iconst (v := 1) (pc' := 6) dJ2_clear_5 rfl (by decide) ?_
  refine P.iadd (pc' := 7) dJ2_clear_6 rfl ?_
  obtain ⟨μ3, h4, hf⟩ := ob hf
  refine P.put (v := .int (x1 + 1)) (pc' := 10) ci20 0 (by decide) h4 q294 (Or.inr q295) rfl rfl rfl dJ2_clear_7 rfl ?_
  refine P.aload_n 0 (pc' := 11) dJ2_clear_10 rfl rfl rfl ?_
  obtain ⟨x5, h6, hf⟩ := ob hf
  refine P.get (pc' := 14) ci20 1 (by decide) (gfR_spec h6) q291 (Or.inl rfl) dJ2_clear_11 rfl ?_
  refine P.astore_n (pc' := 15) (lv' := [(1, .ref x5), (0, .ref this)]) dJ2_clear_14 rfl rfl (Nat.le_of_ble_eq_true rfl) rfl ?_
  refine P.aload_n 1 (pc' := 16) dJ2_clear_15 rfl rfl rfl ?_
  obtain ⟨x7, h8, hf⟩ := ob hf
  refine P.get (pc' := 19) ci20 2 (by decide) (gfI_spec h8) q292 (Or.inl rfl) dJ2_clear_16 rfl ?_
  refine P.istore_n (pc' := 20) (lv' := [(2, .int x7), (1, .ref x5), (0, .ref this)]) dJ2_clear_19 rfl rfl (Nat.le_of_ble_eq_true rfl) rfl ?_
  refine P.aload_n 2 (pc' := 21) dJ2_clear_20 rfl rfl rfl ?_
  refine P.iconst (v := 0) (pc' := 22) dJ2_clear_21 rfl (by decide) ?_
  refine P.dup_x1 (pc' := 23) dJ2_clear_22 rfl rfl rfl ?_
  obtain ⟨μ9, h10, hf⟩ := ob hf
  refine P.put (v := .int 0) (pc' := 26) ci20 2 (by decide) h10 q292 (Or.inl rfl) rfl rfl rfl dJ2_clear_23 rfl ?_
  refine P.istore_n (pc' := 27) (lv' := [(3, .int 0), (2, .int x7), (1, .ref x5), (0, .ref this)]) dJ2_clear_26 rfl rfl (Nat.le_of_ble_eq_true rfl) rfl ?_
  exact PW.sub [2, 1, 0] rfl (ok_f_J2_clear_L27 F x5 x7 F _ _ hf)
theorem yok_J2_clear : yOK yJ2_clear 0 := ⟨by decide +kernel, by decide +kernel, by decide +kernel⟩
abbrev mX0_forget : Ym := (RX0, cX0_forget, 2, (some Jvm.ClassFile.FieldType.int), false, [])
noncomputable def f_X0_forget (F : Nat) (this : Nat) (μ : Sw) : Option (Int32 × Sw) :=
  Option.bind (gfR μ this 0 4) fun x1 =>
  Option.bind (gfR μ x1 6 4) fun x3 =>
  Option.bind (oc μ x3 20) fun u7 =>
  Option.bind (f_J2_size F x3 μ) fun q5 =>
  Option.bind (gfR μ this 0 4) fun x9 =>
  Option.bind (gfR μ x9 6 4) fun x11 =>
  Option.bind (oc μ x11 20) fun u15 =>
  Option.bind (f_J2_clear F x11 μ) fun q13 =>
  some (q5, q13)
set_option maxHeartbeats 4000000 in
theorem ok_X0_forget {g : Gx} (F : Nat) (this : Nat) (μ : Sw) {rv : Int32} {μF : Sw} (hf : f_X0_forget F this μ = some (rv, μF)) : Cl g 2 yX0_forget cX0_forget 2 (some Jvm.ClassFile.FieldType.int) [.ref this] μ (some (.int rv)) μF := by
  unfold f_X0_forget at hf
  refine Cl.of (own := RX0) (ini := false) (by decide +kernel) rfl (by decide) (Nat.le_of_ble_eq_true rfl) ?_
  show PW g mX0_forget 2 μ μF (QN g (some (.int rv)) μ μF) 0 [(0, .ref this)] [] μ
  refine P.aload_n 0 (pc' := 1) dX0_forget_0 rfl rfl rfl ?_
  obtain ⟨x1, h2, hf⟩ := ob hf
  refine P.get (pc' := 4) ci0 4 (by decide) (gfR_spec h2) q479 (Or.inl rfl) dX0_forget_1 rfl ?_
  obtain ⟨x3, h4, hf⟩ := ob hf
  refine P.getN (pc' := 7) ci6 4 (by decide) (gfR_spec h4) q423 (Or.inl rfl) dX0_forget_4 rfl ?_
  obtain ⟨u7, h8, hf⟩ := ob hf
  obtain ⟨q5, h6, hf⟩ := ob hf
  refine P.callV (pc' := 10) (As := []) 0 (ok_J2_size F x3 μ h6) (Nat.le_of_ble_eq_true rfl) (lw_V q1006 q669 q670 q165 q671) rfl yok_J2_size rfl (Nat.le_of_ble_eq_true rfl) ci20 h8 (by decide) rfl dX0_forget_7 rfl ?_
  refine P.istore_n (pc' := 11) (lv' := [(1, .int q5), (0, .ref this)]) dX0_forget_10 rfl rfl (Nat.le_of_ble_eq_true rfl) rfl ?_
  refine P.aload_n 1 (pc' := 12) dX0_forget_11 rfl rfl rfl ?_
  obtain ⟨x9, h10, hf⟩ := ob hf
  refine P.get (pc' := 15) ci0 4 (by decide) (gfR_spec h10) q479 (Or.inl rfl) dX0_forget_12 rfl ?_
  obtain ⟨x11, h12, hf⟩ := ob hf
  refine P.getN (pc' := 18) ci6 4 (by decide) (gfR_spec h12) q423 (Or.inl rfl) dX0_forget_15 rfl ?_
  obtain ⟨u15, h16, hf⟩ := ob hf
  obtain ⟨q13, h14, hf⟩ := ob hf
  refine P.callV (pc' := 21) (As := []) 0 (ok_J2_clear F x11 μ h14) (Nat.le_of_ble_eq_true rfl) (lw_V q1279 q1280 q1281 q165 q1282) rfl yok_J2_clear rfl (Nat.le_of_ble_eq_true rfl) ci20 h16 (by decide) rfl dX0_forget_18 rfl ?_
  refine P.iload_n 0 (pc' := 22) dX0_forget_21 rfl rfl rfl ?_
  cases hf; exact P.iret rfl dX0_forget_22
abbrev mX8_keep : Ym := (RX8, cX8_keep, 2, none, false, [])
noncomputable def f_X8_keep (F : Nat) (this : Nat) (p1 : Nat) (μ : Sw) : Option Sw :=
  Option.bind (gfR μ p1 6 0) fun x1 =>
  Option.bind (gfR μ this 8 0) fun x3 =>
  Option.bind (cpI μ x1 0 x3 0 16) fun μ5 =>
  Option.bind (gfR μ5 p1 6 2) fun x7 =>
  Option.bind (gfR μ5 this 8 1) fun x9 =>
  Option.bind (cpI μ5 x7 0 x9 0 8) fun μ11 =>
  some μ11
set_option maxHeartbeats 4000000 in
theorem ok_X8_keep {g : Gx} (F : Nat) (this : Nat) (p1 : Nat) (μ : Sw) {μF : Sw} (hf : f_X8_keep F this p1 μ = some μF) : Cl g 2 yX8_keep cX8_keep 2 none [.ref this, .ref p1] μ none μF := by
  unfold f_X8_keep at hf
  refine Cl.of (own := RX8) (ini := false) (by decide +kernel) rfl (by decide) (Nat.le_of_ble_eq_true rfl) ?_
  show PW g mX8_keep 2 μ μF (QN g none μ μF) 0 [(0, .ref this), (1, .ref p1)] [] μ
  refine P.aload_n 1 (pc' := 1) dX8_keep_0 rfl rfl rfl ?_
  obtain ⟨x1, h2, hf⟩ := ob hf
  refine P.getN (pc' := 4) ci6 0 (by decide) (gfR_spec h2) q413 (Or.inl rfl) dX8_keep_1 rfl ?_
  refine P.iconst (v := 0) (pc' := 5) dX8_keep_4 rfl (by decide) ?_
  refine P.aload_n 0 (pc' := 6) dX8_keep_5 rfl rfl rfl ?_
  obtain ⟨x3, h4, hf⟩ := ob hf
  refine P.get (pc' := 9) ci8 0 (by decide) (gfR_spec h4) q463 (Or.inl rfl) dX8_keep_6 rfl ?_
  refine P.iconst (v := 0) (pc' := 10) dX8_keep_9 rfl (by decide) ?_
  refine P.bipush (v := 16) (pc' := 12) dX8_keep_10 rfl (by decide) ?_
  obtain ⟨μ5, h6, hf⟩ := ob hf
  refine P.cpI (pc' := 15) h6 q1291 q861 q860 q185 (Nat.le_of_ble_eq_true rfl) (by decide) dX8_keep_12 rfl ?_
  refine P.aload_n 1 (pc' := 16) dX8_keep_15 rfl rfl rfl ?_
  obtain ⟨x7, h8, hf⟩ := ob hf
  refine P.getN (pc' := 19) ci6 2 (by decide) (gfR_spec h8) q418 (Or.inl rfl) dX8_keep_16 rfl ?_
  refine P.iconst (v := 0) (pc' := 20) dX8_keep_19 rfl (by decide) ?_
  refine P.aload_n 0 (pc' := 21) dX8_keep_20 rfl rfl rfl ?_
  obtain ⟨x9, h10, hf⟩ := ob hf
  refine P.get (pc' := 24) ci8 1 (by decide) (gfR_spec h10) q465 (Or.inl rfl) dX8_keep_21 rfl ?_
  refine P.iconst (v := 0) (pc' := 25) dX8_keep_24 rfl (by decide) ?_
  refine P.bipush (v := 8) (pc' := 27) dX8_keep_25 rfl (by decide) ?_
  obtain ⟨μ11, h12, hf⟩ := ob hf
  refine P.cpI (pc' := 30) h12 q1291 q861 q860 q185 (Nat.le_of_ble_eq_true rfl) (by decide) dX8_keep_27 rfl ?_
  cases hf; exact P.vret rfl dX8_keep_30
abbrev mX0_saws : Ym := (RX0, cX0_saws, 3, none, false, [])
noncomputable def f_X0_saws_L2_b (F : Nat) (k40 : Int32 → Option Sw) (c0 : Nat) (c1 : Int32) (μ : Sw) (self : Int32 → Option Sw) (v2 : Int32) : Option Sw :=
  Option.bind (gfR μ c0 0 3) fun x1 =>
  Option.bind (gfR μ x1 3 2) fun x3 =>
  Option.bind (oc μ x3 20) fun u7 =>
  Option.bind (f_J2_size F x3 μ) fun q5 =>
  if q5 ≤ v2 then
    some μ
  else
    Option.bind (gfR μ c0 0 3) fun x10 =>
    Option.bind (gfR μ x10 3 2) fun x12 =>
    Option.bind (oc μ x12 20) fun u16 =>
    Option.bind (f_J2_get F x12 v2 μ) fun q14 =>
    Option.bind (oc μ q14 13) fun u18 =>
    Option.bind (gfI μ q14 13 0) fun x20 =>
    if x20 = c1 then
      k40 v2
    else
      nm (v2 + 1) fun x23 =>
      self x23
noncomputable def f_X0_saws_L2 (F : Nat) (k40 : Int32 → Option Sw) (c0 : Nat) (c1 : Int32) (μ : Sw) (n : Nat) : Int32 → Option Sw := Nat.rec (motive := fun _ => Int32 → Option Sw) (fun _ => none) (fun _ self => f_X0_saws_L2_b F k40 c0 c1 μ self) n
set_option maxHeartbeats 4000000 in
theorem ok_f_X0_saws_L2 {g : Gx} {μ0 : Sw} {μF : Sw} (F : Nat) (c0 : Nat) (c1 : Int32) (μ : Sw) (k40 : Int32 → Option Sw) (hk40 : ∀ (w2 : Int32), k40 w2 = some μF → PW g mX0_saws 4 μ0 μF (QN g none μ0 μF) 40 [(0, .ref c0), (2, .int w2)] [] μ) : ∀ (n : Nat) (v2 : Int32), f_X0_saws_L2 F k40 c0 c1 μ n v2 = some μF → PW g mX0_saws 4 μ0 μF (QN g none μ0 μF) 2 [(0, .ref c0), (1, .int c1), (2, .int v2)] [] μ := by
  intro n
  induction n with
  | zero =>
    intro v2 hf
    have hf : (none : Option Sw) = some _ := hf
    cases hf
  | succ n ih =>
    intro v2 hf
    have hf : f_X0_saws_L2_b F k40 c0 c1 μ (f_X0_saws_L2 F k40 c0 c1 μ n) v2 = some μF := hf
    unfold f_X0_saws_L2_b at hf
    refine P.iload_n 2 (pc' := 3) dX0_saws_2 rfl rfl rfl ?_
    refine P.aload_n 0 (pc' := 4) dX0_saws_3 rfl rfl rfl ?_
    obtain ⟨x1, h2, hf⟩ := ob hf
    refine P.get (pc' := 7) ci0 3 (by decide) (gfR_spec h2) q478 (Or.inl rfl) dX0_saws_4 rfl ?_
    obtain ⟨x3, h4, hf⟩ := ob hf
    refine P.getN (pc' := 10) ci3 2 (by decide) (gfR_spec h4) q334 (Or.inl rfl) dX0_saws_7 rfl ?_
    obtain ⟨u7, h8, hf⟩ := ob hf
    obtain ⟨q5, h6, hf⟩ := ob hf
    refine P.callV (pc' := 13) (As := []) 0 (ok_J2_size F x3 μ h6) (Nat.le_of_ble_eq_true rfl) (lw_V q1006 q669 q670 q165 q671) rfl yok_J2_size rfl (Nat.le_of_ble_eq_true rfl) ci20 h8 (Nat.le_of_ble_eq_true rfl) rfl dX0_saws_10 rfl ?_
    refine P.icmp_ge (tgt := 74) (pc' := 16) dX0_saws_13 (by decide) rfl (fun y9 => ?_) (fun y9 => ?_)
    · have hf := (if_pos y9).symm.trans hf
      cases hf; exact P.vret rfl dX0_saws_74
    · have hf := (if_neg y9).symm.trans hf
      refine P.aload_n 0 (pc' := 17) dX0_saws_16 rfl rfl rfl ?_
      obtain ⟨x10, h11, hf⟩ := ob hf
      refine P.get (pc' := 20) ci0 3 (by decide) (gfR_spec h11) q478 (Or.inl rfl) dX0_saws_17 rfl ?_
      obtain ⟨x12, h13, hf⟩ := ob hf
      refine P.getN (pc' := 23) ci3 2 (by decide) (gfR_spec h13) q334 (Or.inl rfl) dX0_saws_20 rfl ?_
      refine P.iload_n 2 (pc' := 24) dX0_saws_23 rfl rfl rfl ?_
      obtain ⟨u16, h17, hf⟩ := ob hf
      obtain ⟨q14, h15, hf⟩ := ob hf
      refine P.callV (pc' := 27) (As := [.int v2]) 1 (ok_J2_get F x12 v2 μ h15) (Nat.le_of_ble_eq_true rfl) (lw_V q1007 q1008 q1009 q165 q1010) rfl yok_J2_get rfl (Nat.le_of_ble_eq_true rfl) ci20 h17 (by decide) rfl dX0_saws_24 rfl ?_
      obtain ⟨u18, h19, hf⟩ := ob hf
      refine P.castS (u := u18) (pc' := 30) ci13 q1021 h19 dX0_saws_27 rfl ?_
      obtain ⟨x20, h21, hf⟩ := ob hf
      refine P.getN (pc' := 33) ci13 0 (by decide) (gfI_spec h21) q901 (Or.inl rfl) dX0_saws_30 rfl ?_
      refine P.iload_n 1 (pc' := 34) dX0_saws_33 rfl rfl rfl ?_
      refine P.icmp_eq (tgt := 40) (pc' := 37) dX0_saws_34 (by decide) rfl (fun y22 => ?_) (fun y22 => ?_)
      · have hf := (if_pos y22).symm.trans hf
        exact PW.sub [0, 2] rfl (hk40 _ hf)
      · have hf := (if_neg y22).symm.trans hf
        refine P.goto (tgt := 68) dX0_saws_37 (by decide) ?_
        obtain ⟨x23, e24, hf⟩ := nm_i hf
        refine P.iinc 2 (pc' := 71) (lv' := [(2, .int x23), (0, .ref c0), (1, .int c1)]) dX0_saws_68 rfl rfl (by decide) e24 (Nat.le_of_ble_eq_true rfl) rfl ?_
        refine P.goto (tgt := 2) dX0_saws_71 (by decide) ?_
        exact PW.sub [1, 2, 0] rfl (ih _ hf)
noncomputable def f_X0_saws (F : Nat) (this : Nat) (p1 : Int32) (μ : Sw) : Option Sw :=
  f_X0_saws_L2 F
    (fun w1 =>
      Option.bind (gfR μ this 0 4) fun x2 =>
      Option.bind (gfR μ x2 6 2) fun x4 =>
      Option.bind (aI μ 0 x4 w1) fun x6 =>
      if 99 ≤ x6 then
        some μ
      else
        Option.bind (gfR μ this 0 4) fun x9 =>
        Option.bind (gfR μ x9 6 2) fun x11 =>
        Option.bind (aI μ 0 x11 w1) fun x13 =>
        Option.bind (sI μ 0 x11 w1 (x13 + 1)) fun μ16 =>
        some μ16)
    this p1 μ F 0
set_option maxHeartbeats 4000000 in
theorem ok_X0_saws {g : Gx} (F : Nat) (this : Nat) (p1 : Int32) (μ : Sw) {μF : Sw} (hf : f_X0_saws F this p1 μ = some μF) : Cl g 4 yX0_saws cX0_saws 3 none [.ref this, .int p1] μ none μF := by
  unfold f_X0_saws at hf
  refine Cl.of (own := RX0) (ini := false) (by decide +kernel) rfl (by decide) (Nat.le_of_ble_eq_true rfl) ?_
  show PW g mX0_saws 4 μ μF (QN g none μ μF) 0 [(0, .ref this), (1, .int p1)] [] μ
  refine P.iconst (v := 0) (pc' := 1) dX0_saws_0 rfl (by decide) ?_
  refine P.istore_n (pc' := 2) (lv' := [(2, .int 0), (0, .ref this), (1, .int p1)]) dX0_saws_1 rfl rfl (Nat.le_of_ble_eq_true rfl) rfl ?_
  refine PW.sub [1, 2, 0] rfl (ok_f_X0_saws_L2 F this p1 μ _ ?_ F _ hf)
  · intro w1 hf
    refine P.aload_n 0 (pc' := 41) dX0_saws_40 rfl rfl rfl ?_
    obtain ⟨x2, h3, hf⟩ := ob hf
    refine P.get (pc' := 44) ci0 4 (by decide) (gfR_spec h3) q479 (Or.inl rfl) dX0_saws_41 rfl ?_
    obtain ⟨x4, h5, hf⟩ := ob hf
    refine P.getN (pc' := 47) ci6 2 (by decide) (gfR_spec h5) q419 (Or.inl rfl) dX0_saws_44 rfl ?_
    refine P.iload_n 1 (pc' := 48) dX0_saws_47 rfl rfl rfl ?_
    obtain ⟨x6, h7, hf⟩ := ob hf
    refine P.iald (t := 0) (pc' := 49) rfl h7 dX0_saws_48 rfl ?_
    refine P.bipush (v := 99) (pc' := 51) dX0_saws_49 rfl (by decide) ?_
    refine P.icmp_ge (tgt := 67) (pc' := 54) dX0_saws_51 (by decide) rfl (fun y8 => ?_) (fun y8 => ?_)
    · have hf := (if_pos y8).symm.trans hf
      cases hf; exact P.vret rfl dX0_saws_67
    · have hf := (if_neg y8).symm.trans hf
      refine P.aload_n 0 (pc' := 55) dX0_saws_54 rfl rfl rfl ?_
      obtain ⟨x9, h10, hf⟩ := ob hf
      refine P.get (pc' := 58) ci0 4 (by decide) (gfR_spec h10) q479 (Or.inl rfl) dX0_saws_55 rfl ?_
      obtain ⟨x11, h12, hf⟩ := ob hf
      refine P.getN (pc' := 61) ci6 2 (by decide) (gfR_spec h12) q419 (Or.inl rfl) dX0_saws_58 rfl ?_
      refine P.iload_n 1 (pc' := 62) dX0_saws_61 rfl rfl rfl ?_
      refine P.dup2 (pc' := 63) dX0_saws_62 rfl rfl rfl ?_
      obtain ⟨x13, h14, hf⟩ := ob hf
      refine P.iald (t := 0) (pc' := 64) rfl h14 dX0_saws_63 rfl ?_
      refine P.iconst (v := 1) (pc' := 65) dX0_saws_64 rfl (by decide) ?_
      refine P.iadd (pc' := 66) dX0_saws_65 rfl ?_
      obtain ⟨μ16, h15, hf⟩ := ob hf
      refine P.iast (pc' := 67) h15 dX0_saws_66 rfl ?_
      cases hf; exact P.vret rfl dX0_saws_67
theorem yok_X0_saws : yOK yX0_saws 1 := ⟨by decide +kernel, by decide +kernel, by decide +kernel⟩
abbrev mX0_does : Ym := (RX0, cX0_does, 8, (some Jvm.ClassFile.FieldType.int), false, [])
noncomputable def f_X0_does_L109_b (F : Nat) (c0 : Nat) (c1 : Nat) (c3 : Int32) (self : Int32 → Int32 → Sw → Option (Int32 × Sw)) (v5 : Int32) (v6 : Int32) (μ : Sw) : Option (Int32 × Sw) :=
  Option.bind (gfR μ c0 0 3) fun x1 =>
  Option.bind (gfR μ x1 3 2) fun x3 =>
  Option.bind (oc μ x3 20) fun u7 =>
  Option.bind (f_J2_size F x3 μ) fun q5 =>
  if q5 ≤ v6 then
    Option.bind (gfR μ c0 0 4) fun x10 =>
    Option.bind (gfR μ x10 6 0) fun x12 =>
    Option.bind (gfI μ c1 18 1) fun x14 =>
    Option.bind (sI μ 0 x12 x14 c3) fun μ17 =>
    some (0, μ17)
  else
    Option.bind (oc μ c0 0) fun u20 =>
    Option.bind (f_X0_takes F c0 v6 v5 μ) fun q18 =>
    Option.bind (gfR μ c0 0 3) fun x22 =>
    Option.bind (gfR μ x22 3 2) fun x24 =>
    Option.bind (oc μ x24 20) fun u28 =>
    Option.bind (f_J2_get F x24 v6 μ) fun q26 =>
    Option.bind (oc μ q26 13) fun u30 =>
    Option.bind (gfI μ q26 13 0) fun x32 =>
    nm (v5 - (q18 * x32)) fun x34 =>
    Option.bind (gfR μ c0 0 4) fun x36 =>
    Option.bind (gfR μ x36 6 2) fun x38 =>
    Option.bind (aI μ 0 x38 v6) fun x40 =>
    Option.bind (sI μ 0 x38 v6 (x40 - q18)) fun μ43 =>
    nm (v6 + 1) fun x44 =>
    self x34 x44 μ43
noncomputable def f_X0_does_L109 (F : Nat) (c0 : Nat) (c1 : Nat) (c3 : Int32) (n : Nat) : Int32 → Int32 → Sw → Option (Int32 × Sw) := Nat.rec (motive := fun _ => Int32 → Int32 → Sw → Option (Int32 × Sw)) (fun _ _ _ => none) (fun _ self => f_X0_does_L109_b F c0 c1 c3 self) n
set_option maxHeartbeats 4000000 in
theorem ok_f_X0_does_L109 {g : Gx} {μ0 : Sw} {rv : Int32} {μF : Sw} (F : Nat) (c0 : Nat) (c1 : Nat) (c3 : Int32) : ∀ (n : Nat) (v5 : Int32) (v6 : Int32) (μ : Sw), f_X0_does_L109 F c0 c1 c3 n v5 v6 μ = some (rv, μF) → PW g mX0_does 5 μ0 μF (QN g (some (.int rv)) μ0 μF) 109 [(0, .ref c0), (1, .ref c1), (3, .int c3), (5, .int v5), (6, .int v6)] [] μ := by
  intro n
  induction n with
  | zero =>
    intro v5 v6 μ hf
    have hf : (none : Option (Int32 × Sw)) = some _ := hf
    cases hf
  | succ n ih =>
    intro v5 v6 μ hf
    have hf : f_X0_does_L109_b F c0 c1 c3 (f_X0_does_L109 F c0 c1 c3 n) v5 v6 μ = some (rv, μF) := hf
    unfold f_X0_does_L109_b at hf
    refine P.iload 4 (pc' := 111) dX0_does_109 rfl rfl ?_
    refine P.aload_n 0 (pc' := 112) dX0_does_111 rfl rfl rfl ?_
    obtain ⟨x1, h2, hf⟩ := ob hf
    refine P.get (pc' := 115) ci0 3 (by decide) (gfR_spec h2) q478 (Or.inl rfl) dX0_does_112 rfl ?_
    obtain ⟨x3, h4, hf⟩ := ob hf
    refine P.getN (pc' := 118) ci3 2 (by decide) (gfR_spec h4) q334 (Or.inl rfl) dX0_does_115 rfl ?_
    obtain ⟨u7, h8, hf⟩ := ob hf
    obtain ⟨q5, h6, hf⟩ := ob hf
    refine P.callV (pc' := 121) (As := []) 0 (ok_J2_size F x3 μ h6) (Nat.le_of_ble_eq_true rfl) (lw_V q1006 q669 q670 q165 q671) rfl yok_J2_size rfl (Nat.le_of_ble_eq_true rfl) ci20 h8 (Nat.le_of_ble_eq_true rfl) rfl dX0_does_118 rfl ?_
    refine P.icmp_ge (tgt := 181) (pc' := 124) dX0_does_121 (by decide) rfl (fun y9 => ?_) (fun y9 => ?_)
    · have hf := (if_pos y9).symm.trans hf
      refine P.goto (tgt := 193) dX0_does_181 (by decide) ?_
      refine P.aload_n 0 (pc' := 194) dX0_does_193 rfl rfl rfl ?_
      obtain ⟨x10, h11, hf⟩ := ob hf
      refine P.get (pc' := 197) ci0 4 (by decide) (gfR_spec h11) q479 (Or.inl rfl) dX0_does_194 rfl ?_
      obtain ⟨x12, h13, hf⟩ := ob hf
      refine P.getN (pc' := 200) ci6 0 (by decide) (gfR_spec h13) q414 (Or.inl rfl) dX0_does_197 rfl ?_
      refine P.aload_n 1 (pc' := 201) dX0_does_200 rfl rfl rfl ?_
      obtain ⟨x14, h15, hf⟩ := ob hf
      refine P.getN (pc' := 204) ci18 1 (by decide) (gfI_spec h15) q1264 (Or.inl rfl) dX0_does_201 rfl ?_
      refine P.iload_n 2 (pc' := 205) dX0_does_204 rfl rfl rfl ?_
      obtain ⟨μ17, h16, hf⟩ := ob hf
      refine P.iast (pc' := 206) h16 dX0_does_205 rfl ?_
      refine P.iconst (v := 0) (pc' := 207) dX0_does_206 rfl (by decide) ?_
      cases hf; exact P.iret rfl dX0_does_207
    · have hf := (if_neg y9).symm.trans hf
      refine P.aload_n 0 (pc' := 125) dX0_does_124 rfl rfl rfl ?_
      refine P.iload 4 (pc' := 127) dX0_does_125 rfl rfl ?_
      refine P.iload 3 (pc' := 129) dX0_does_127 rfl rfl ?_
      obtain ⟨u20, h21, hf⟩ := ob hf
      obtain ⟨q18, h19, hf⟩ := ob hf
      refine P.callV (pc' := 132) (As := [.int v6, .int v5]) 2 (ok_X0_takes F c0 v6 v5 μ h19) (Nat.le_of_ble_eq_true rfl) (lw_V q1247 q1249 qs53 q159 q1250) rfl yok_X0_takes rfl (Nat.le_of_ble_eq_true rfl) ci0 h21 (by decide) rfl dX0_does_129 rfl ?_
      refine P.istore (pc' := 134) (lv' := [(7, .int q18), (0, .ref c0), (1, .ref c1), (3, .int c3), (5, .int v5), (6, .int v6)]) dX0_does_132 rfl (Nat.le_of_ble_eq_true rfl) rfl ?_
      refine P.iload 4 (pc' := 136) dX0_does_134 rfl rfl ?_
      refine P.iload 0 (pc' := 138) dX0_does_136 rfl rfl ?_
      refine P.aload_n 1 (pc' := 139) dX0_does_138 rfl rfl rfl ?_
      obtain ⟨x22, h23, hf⟩ := ob hf
      refine P.get (pc' := 142) ci0 3 (by decide) (gfR_spec h23) q478 (Or.inl rfl) dX0_does_139 rfl ?_
      obtain ⟨x24, h25, hf⟩ := ob hf
      refine P.getN (pc' := 145) ci3 2 (by decide) (gfR_spec h25) q334 (Or.inl rfl) dX0_does_142 rfl ?_
      refine P.iload 5 (pc' := 147) dX0_does_145 rfl rfl ?_
      obtain ⟨u28, h29, hf⟩ := ob hf
      obtain ⟨q26, h27, hf⟩ := ob hf
      refine P.callV (pc' := 150) (As := [.int v6]) 1 (ok_J2_get F x24 v6 μ h27) (Nat.le_of_ble_eq_true rfl) (lw_V q1007 q1008 q1009 q165 q1010) rfl yok_J2_get rfl (Nat.le_of_ble_eq_true rfl) ci20 h29 (Nat.le_of_ble_eq_true rfl) rfl dX0_does_147 rfl ?_
      obtain ⟨u30, h31, hf⟩ := ob hf
      refine P.castS (u := u30) (pc' := 153) ci13 q1021 h31 dX0_does_150 rfl ?_
      obtain ⟨x32, h33, hf⟩ := ob hf
      refine P.getN (pc' := 156) ci13 0 (by decide) (gfI_spec h33) q901 (Or.inl rfl) dX0_does_153 rfl ?_
      refine P.imul (pc' := 157) dX0_does_156 rfl ?_
      refine P.isub (pc' := 158) dX0_does_157 rfl ?_
      obtain ⟨x34, e35, hf⟩ := nm_i hf
      refine P.nmi e35 ?_
      refine P.istore (pc' := 160) (lv' := [(5, .int x34), (7, .int q18), (0, .ref c0), (1, .ref c1), (3, .int c3), (6, .int v6)]) dX0_does_158 rfl (Nat.le_of_ble_eq_true rfl) rfl ?_
      refine P.aload_n 2 (pc' := 161) dX0_does_160 rfl rfl rfl ?_
      obtain ⟨x36, h37, hf⟩ := ob hf
      refine P.get (pc' := 164) ci0 4 (by decide) (gfR_spec h37) q479 (Or.inl rfl) dX0_does_161 rfl ?_
      obtain ⟨x38, h39, hf⟩ := ob hf
      refine P.getN (pc' := 167) ci6 2 (by decide) (gfR_spec h39) q419 (Or.inl rfl) dX0_does_164 rfl ?_
      refine P.iload 5 (pc' := 169) dX0_does_167 rfl rfl ?_
      refine P.dup2 (pc' := 170) dX0_does_169 rfl rfl rfl ?_
      obtain ⟨x40, h41, hf⟩ := ob hf
      refine P.iald (t := 0) (pc' := 171) rfl h41 dX0_does_170 rfl ?_
      refine P.iload 1 (pc' := 173) dX0_does_171 rfl rfl ?_
      refine P.isub (pc' := 174) dX0_does_173 rfl ?_
      obtain ⟨μ43, h42, hf⟩ := ob hf
      refine P.iast (pc' := 175) h42 dX0_does_174 rfl ?_
      obtain ⟨x44, e45, hf⟩ := nm_i hf
      refine P.iinc 5 (pc' := 178) (lv' := [(6, .int x44), (5, .int x34), (7, .int q18), (0, .ref c0), (1, .ref c1), (3, .int c3)]) dX0_does_175 rfl rfl (by decide) e45 (Nat.le_of_ble_eq_true rfl) rfl ?_
      refine P.goto (tgt := 109) dX0_does_178 (by decide) ?_
      exact PW.sub [3, 4, 5, 1, 0] rfl (ih _ _ _ hf)
noncomputable def f_X0_does (F : Nat) (this : Nat) (p1 : Nat) (p2 : Int32) (μ : Sw) : Option (Int32 × Sw) :=
  Option.bind (gfR μ this 0 4) fun x1 =>
  Option.bind (gfR μ x1 6 0) fun x3 =>
  Option.bind (gfI μ p1 18 1) fun x5 =>
  Option.bind (aI μ 0 x3 x5) fun x7 =>
  Option.bind (gfI μ p1 18 2) fun x9 =>
  nm (x7 + x9) fun x11 =>
  Option.bind (gfR μ this 0 3) fun x13 =>
  Option.bind (gfI μ x13 3 11) fun x15 =>
  if p2 = x15 then
    some (1, μ)
  else
    Option.bind (gfI μ p1 18 2) fun x18 =>
    Option.bind (gfR μ this 0 3) fun x20 =>
    Option.bind (gfI μ x20 3 12) fun x22 =>
    if (ab x18) ≤ x22 then
      Option.bind (p_X0_within F x11 0 99) fun q25 =>
      if q25 = 0 then
        some (3, μ)
      else
        Option.bind (gfI μ p1 18 2) fun x28 =>
        if x28 ≤ 0 then
          Option.bind (gfI μ p1 18 2) fun x31 =>
          Option.bind (oc μ this 0) fun u35 =>
          Option.bind (f_X0_saws F this (-x31) μ) fun q33 =>
          Option.bind (gfR q33 this 0 4) fun x37 =>
          Option.bind (gfR q33 x37 6 0) fun x39 =>
          Option.bind (gfI q33 p1 18 1) fun x41 =>
          Option.bind (sI q33 0 x39 x41 x11) fun μ44 =>
          some (0, μ44)
        else
          Option.bind (gfI μ p1 18 2) fun x45 =>
          Option.bind (oc μ this 0) fun u49 =>
          Option.bind (f_X0_fewest F this x45 μ) fun q47 =>
          if q47.1 < 1000000000 then
            Option.bind (gfI q47.2 this 0 13) fun x52 =>
            Option.bind (pf q47.2 this 0 13 (.int (x52 + q47.1))) fun μ54 =>
            Option.bind (gfI μ54 p1 18 2) fun x56 =>
            f_X0_does_L109 F this p1 x11 F x56 0 μ54
          else
            some (4, q47.2)
    else
      some (2, μ)
set_option maxHeartbeats 4000000 in
theorem ok_X0_does {g : Gx} (F : Nat) (this : Nat) (p1 : Nat) (p2 : Int32) (μ : Sw) {rv : Int32} {μF : Sw} (hf : f_X0_does F this p1 p2 μ = some (rv, μF)) : Cl g 5 yX0_does cX0_does 8 (some Jvm.ClassFile.FieldType.int) [.ref this, .ref p1, .int p2] μ (some (.int rv)) μF := by
  unfold f_X0_does at hf
  refine Cl.of (own := RX0) (ini := false) (by decide +kernel) rfl (by decide) (Nat.le_of_ble_eq_true rfl) ?_
  show PW g mX0_does 5 μ μF (QN g (some (.int rv)) μ μF) 0 [(0, .ref this), (1, .ref p1), (2, .int p2)] [] μ
  refine P.aload_n 0 (pc' := 1) dX0_does_0 rfl rfl rfl ?_
  obtain ⟨x1, h2, hf⟩ := ob hf
  refine P.get (pc' := 4) ci0 4 (by decide) (gfR_spec h2) q479 (Or.inl rfl) dX0_does_1 rfl ?_
  obtain ⟨x3, h4, hf⟩ := ob hf
  refine P.getN (pc' := 7) ci6 0 (by decide) (gfR_spec h4) q414 (Or.inl rfl) dX0_does_4 rfl ?_
  refine P.aload_n 1 (pc' := 8) dX0_does_7 rfl rfl rfl ?_
  obtain ⟨x5, h6, hf⟩ := ob hf
  refine P.getN (pc' := 11) ci18 1 (by decide) (gfI_spec h6) q1264 (Or.inl rfl) dX0_does_8 rfl ?_
  obtain ⟨x7, h8, hf⟩ := ob hf
  refine P.iald (t := 0) (pc' := 12) rfl h8 dX0_does_11 rfl ?_
  refine P.aload_n 1 (pc' := 13) dX0_does_12 rfl rfl rfl ?_
  obtain ⟨x9, h10, hf⟩ := ob hf
  refine P.getN (pc' := 16) ci18 2 (by decide) (gfI_spec h10) q1266 (Or.inl rfl) dX0_does_13 rfl ?_
  refine P.iadd (pc' := 17) dX0_does_16 rfl ?_
  obtain ⟨x11, e12, hf⟩ := nm_i hf
  refine P.nmi e12 ?_
  refine P.istore_n (pc' := 18) (lv' := [(3, .int x11), (0, .ref this), (1, .ref p1), (2, .int p2)]) dX0_does_17 rfl rfl (Nat.le_of_ble_eq_true rfl) rfl ?_
  refine P.iload_n 3 (pc' := 19) dX0_does_18 rfl rfl rfl ?_
  refine P.aload_n 1 (pc' := 20) dX0_does_19 rfl rfl rfl ?_
  obtain ⟨x13, h14, hf⟩ := ob hf
  refine P.get (pc' := 23) ci0 3 (by decide) (gfR_spec h14) q478 (Or.inl rfl) dX0_does_20 rfl ?_
  obtain ⟨x15, h16, hf⟩ := ob hf
  refine P.getN (pc' := 26) ci3 11 (by decide) (gfI_spec h16) q358 (Or.inl rfl) dX0_does_23 rfl ?_
  refine P.icmp_ne (tgt := 31) (pc' := 29) dX0_does_26 (by decide) rfl (fun y17 => ?_) (fun y17 => ?_)
  · have hf := (if_neg y17).symm.trans hf
    refine P.aload_n 2 (pc' := 32) dX0_does_31 rfl rfl rfl ?_
    obtain ⟨x18, h19, hf⟩ := ob hf
    refine P.getN (pc' := 35) ci18 2 (by decide) (gfI_spec h19) q1266 (Or.inl rfl) dX0_does_32 rfl ?_
    refine P.mabs (pc' := 38) q1137 q1138 q183 q1139 (Nat.le_of_ble_eq_true rfl) (by decide) dX0_does_35 rfl ?_
    refine P.aload_n 1 (pc' := 39) dX0_does_38 rfl rfl rfl ?_
    obtain ⟨x20, h21, hf⟩ := ob hf
    refine P.get (pc' := 42) ci0 3 (by decide) (gfR_spec h21) q478 (Or.inl rfl) dX0_does_39 rfl ?_
    obtain ⟨x22, h23, hf⟩ := ob hf
    refine P.getN (pc' := 45) ci3 12 (by decide) (gfI_spec h23) q361 (Or.inl rfl) dX0_does_42 rfl ?_
    refine P.icmp_le (tgt := 50) (pc' := 48) dX0_does_45 (by decide) rfl (fun y24 => ?_) (fun y24 => ?_)
    · have hf := (if_pos y24).symm.trans hf
      refine P.iload_n 0 (pc' := 51) dX0_does_50 rfl rfl rfl ?_
      refine P.iconst (v := 0) (pc' := 52) dX0_does_51 rfl (by decide) ?_
      refine P.bipush (v := 99) (pc' := 54) dX0_does_52 rfl (by decide) ?_
      obtain ⟨q25, h26, hf⟩ := ob hf
      refine P.callS (pc' := 57) (As := [.int x11, .int 0, .int 99]) 3 (ok_X0_within F x11 0 99 μ h26) (Nat.le_of_ble_eq_true rfl) (lw_S q1038 q557 q159 q558) yok_X0_within rfl (Nat.le_of_ble_eq_true rfl) (by decide) rfl dX0_does_54 rfl ?_
      refine P.if_ne (tgt := 62) (pc' := 60) dX0_does_57 (by decide) rfl (fun y27 => ?_) (fun y27 => ?_)
      · have hf := (if_neg y27).symm.trans hf
        refine P.aload_n 2 (pc' := 63) dX0_does_62 rfl rfl rfl ?_
        obtain ⟨x28, h29, hf⟩ := ob hf
        refine P.getN (pc' := 66) ci18 2 (by decide) (gfI_spec h29) q1266 (Or.inl rfl) dX0_does_63 rfl ?_
        refine P.if_le (tgt := 184) (pc' := 69) dX0_does_66 (by decide) rfl (fun y30 => ?_) (fun y30 => ?_)
        · have hf := (if_pos y30).symm.trans hf
          refine P.aload_n 1 (pc' := 185) dX0_does_184 rfl rfl rfl ?_
          refine P.aload_n 2 (pc' := 186) dX0_does_185 rfl rfl rfl ?_
          obtain ⟨x31, h32, hf⟩ := ob hf
          refine P.getN (pc' := 189) ci18 2 (by decide) (gfI_spec h32) q1266 (Or.inl rfl) dX0_does_186 rfl ?_
          refine P.ineg (pc' := 190) dX0_does_189 rfl ?_
          obtain ⟨u35, h36, hf⟩ := ob hf
          obtain ⟨q33, h34, hf⟩ := ob hf
          refine P.callV (pc' := 193) (As := [.int (-x31)]) 1 (ok_X0_saws F this (-x31) μ h34) (Nat.le_of_ble_eq_true rfl) (lw_V q1300 q1302 qs56 q159 q1303) rfl yok_X0_saws rfl (Nat.le_of_ble_eq_true rfl) ci0 h36 (by decide) rfl dX0_does_190 rfl ?_
          refine P.aload_n 1 (pc' := 194) dX0_does_193 rfl rfl rfl ?_
          obtain ⟨x37, h38, hf⟩ := ob hf
          refine P.get (pc' := 197) ci0 4 (by decide) (gfR_spec h38) q479 (Or.inl rfl) dX0_does_194 rfl ?_
          obtain ⟨x39, h40, hf⟩ := ob hf
          refine P.getN (pc' := 200) ci6 0 (by decide) (gfR_spec h40) q414 (Or.inl rfl) dX0_does_197 rfl ?_
          refine P.aload_n 2 (pc' := 201) dX0_does_200 rfl rfl rfl ?_
          obtain ⟨x41, h42, hf⟩ := ob hf
          refine P.getN (pc' := 204) ci18 1 (by decide) (gfI_spec h42) q1264 (Or.inl rfl) dX0_does_201 rfl ?_
          refine P.iload_n 0 (pc' := 205) dX0_does_204 rfl rfl rfl ?_
          obtain ⟨μ44, h43, hf⟩ := ob hf
          refine P.iast (pc' := 206) h43 dX0_does_205 rfl ?_
          refine P.iconst (v := 0) (pc' := 207) dX0_does_206 rfl (by decide) ?_
          cases hf; exact P.iret rfl dX0_does_207
        · have hf := (if_neg y30).symm.trans hf
          refine P.aload_n 1 (pc' := 70) dX0_does_69 rfl rfl rfl ?_
          refine P.aload_n 2 (pc' := 71) dX0_does_70 rfl rfl rfl ?_
          obtain ⟨x45, h46, hf⟩ := ob hf
          refine P.getN (pc' := 74) ci18 2 (by decide) (gfI_spec h46) q1266 (Or.inl rfl) dX0_does_71 rfl ?_
          obtain ⟨u49, h50, hf⟩ := ob hf
          obtain ⟨q47, h48, hf⟩ := ob hf
          refine P.callV (pc' := 77) (As := [.int x45]) 1 (ok_X0_fewest F this x45 μ h48) (Nat.le_of_ble_eq_true rfl) (lw_V q1242 q1244 qs52 q159 q1245) rfl yok_X0_fewest rfl (Nat.le_of_ble_eq_true rfl) ci0 h50 (by decide) rfl dX0_does_74 rfl ?_
          refine P.istore (pc' := 79) (lv' := [(4, .int q47.1), (3, .int x11), (0, .ref this), (1, .ref p1), (2, .int p2)]) dX0_does_77 rfl (Nat.le_of_ble_eq_true rfl) rfl ?_
          refine P.iload 0 (pc' := 81) dX0_does_79 rfl rfl ?_
          refine P.ldc_w (v := 1000000000) (pc' := 84) dX0_does_81 rfl q1246 ?_
          refine P.icmp_lt (tgt := 89) (pc' := 87) dX0_does_84 (by decide) rfl (fun y51 => ?_) (fun y51 => ?_)
          · have hf := (if_pos y51).symm.trans hf
            refine P.aload_n 2 (pc' := 90) dX0_does_89 rfl rfl rfl ?_
            refine P.dup (pc' := 91) dX0_does_90 rfl rfl ?_
            obtain ⟨x52, h53, hf⟩ := ob hf
            refine P.get (pc' := 94) ci0 13 (by decide) (gfI_spec h53) q488 (Or.inl rfl) dX0_does_91 rfl ?_
            refine P.iload 0 (pc' := 96) dX0_does_94 rfl rfl ?_
            refine P.iadd (pc' := 97) dX0_does_96 rfl ?_
            obtain ⟨μ54, h55, hf⟩ := ob hf
            refine P.put (v := .int (x52 + q47.1)) (pc' := 100) ci0 13 (by decide) h55 q488 (Or.inl rfl) rfl rfl rfl dX0_does_97 rfl ?_
            refine P.aload_n 3 (pc' := 101) dX0_does_100 rfl rfl rfl ?_
            obtain ⟨x56, h57, hf⟩ := ob hf
            refine P.getN (pc' := 104) ci18 2 (by decide) (gfI_spec h57) q1266 (Or.inl rfl) dX0_does_101 rfl ?_
            refine P.istore (pc' := 106) (lv' := [(5, .int x56), (4, .int q47.1), (3, .int x11), (0, .ref this), (1, .ref p1), (2, .int p2)]) dX0_does_104 rfl (Nat.le_of_ble_eq_true rfl) rfl ?_
            refine P.iconst (v := 0) (pc' := 107) dX0_does_106 rfl (by decide) ?_
            refine P.istore (pc' := 109) (lv' := [(6, .int 0), (5, .int x56), (4, .int q47.1), (3, .int x11), (0, .ref this), (1, .ref p1), (2, .int p2)]) dX0_does_107 rfl (Nat.le_of_ble_eq_true rfl) rfl ?_
            exact PW.sub [4, 5, 3, 1, 0] rfl (ok_f_X0_does_L109 F this p1 x11 F _ _ _ hf)
          · have hf := (if_neg y51).symm.trans hf
            refine P.iconst (v := 4) (pc' := 88) dX0_does_87 rfl (by decide) ?_
            cases hf; exact P.iret rfl dX0_does_88
      · have hf := (if_pos y27).symm.trans hf
        refine P.iconst (v := 3) (pc' := 61) dX0_does_60 rfl (by decide) ?_
        cases hf; exact P.iret rfl dX0_does_61
    · have hf := (if_neg y24).symm.trans hf
      refine P.iconst (v := 2) (pc' := 49) dX0_does_48 rfl (by decide) ?_
      cases hf; exact P.iret rfl dX0_does_49
  · have hf := (if_pos y17).symm.trans hf
    refine P.iconst (v := 1) (pc' := 30) dX0_does_29 rfl (by decide) ?_
    cases hf; exact P.iret rfl dX0_does_30
theorem yok_X0_does : yOK yX0_does 2 := ⟨by decide +kernel, by decide +kernel, by decide +kernel⟩
abbrev mX0_works : Ym := (RX0, cX0_works, 8, (some Jvm.ClassFile.FieldType.int), false, [])
noncomputable def f_X0_works_j80 (F : Nat) (self : Int32 → Int32 → Int32 → Int32 → Sw → Option (Int32 × Sw)) (v0 : Nat) (v1 : Int32) (v2 : Int32) (v4 : Int32) (v5 : Int32) (v6 : Nat) (μ : Sw) : Option (Int32 × Sw) :=
  Option.bind (oc μ v0 0) fun u3 =>
  Option.bind (f_X0_does F v0 v6 v2 μ) fun q1 =>
  if q1.1 ≤ 0 then
    nm (v2 + 1) fun x6 =>
    nm (v5 + 1) fun x8 =>
    self x6 v5 v4 x8 q1.2
  else
    some ((10 * v5) + q1.1, q1.2)
set_option maxHeartbeats 4000000 in
theorem ok_f_X0_works_j80 {g : Gx} {μ0 : Sw} {rv : Int32} {μF : Sw} (F : Nat) (v0 : Nat) (v1 : Int32) (v2 : Int32) (v4 : Int32) (v5 : Int32) (v6 : Nat) (μ : Sw) (self : Int32 → Int32 → Int32 → Int32 → Sw → Option (Int32 × Sw)) (ih : ∀ (w2 : Int32) (w3 : Int32) (w4 : Int32) (w5 : Int32) (μ : Sw), self w2 w3 w4 w5 μ = some (rv, μF) → PW g mX0_works 414 μ0 μF (QN g (some (.int rv)) μ0 μF) 23 [(0, .ref v0), (1, .int v1), (2, .int w2), (3, .int w3), (4, .int w4), (5, .int w5)] [] μ) (hf : f_X0_works_j80 F self v0 v1 v2 v4 v5 v6 μ = some (rv, μF)) : PW g mX0_works 414 μ0 μF (QN g (some (.int rv)) μ0 μF) 80 [(0, .ref v0), (1, .int v1), (2, .int v2), (4, .int v4), (5, .int v5), (6, .ref v6)] [] μ := by
  unfold f_X0_works_j80 at hf
  refine P.aload_n 0 (pc' := 81) dX0_works_80 rfl rfl rfl ?_
  refine P.aload 5 (pc' := 83) dX0_works_81 rfl rfl ?_
  refine P.iload_n 2 (pc' := 84) dX0_works_83 rfl rfl rfl ?_
  obtain ⟨u3, h4, hf⟩ := ob hf
  obtain ⟨q1, h2, hf⟩ := ob hf
  refine P.callV (pc' := 87) (As := [.ref v6, .int v2]) 2 (ok_X0_does F v0 v6 v2 μ h2) (Nat.le_of_ble_eq_true rfl) (lw_V q1296 q1298 qs55 q159 q1299) rfl yok_X0_does rfl (Nat.le_of_ble_eq_true rfl) ci0 h4 (by decide) rfl dX0_works_84 rfl ?_
  refine P.istore (pc' := 89) (lv' := [(7, .int q1.1), (0, .ref v0), (1, .int v1), (2, .int v2), (4, .int v4), (5, .int v5), (6, .ref v6)]) dX0_works_87 rfl (Nat.le_of_ble_eq_true rfl) rfl ?_
  refine P.iload 0 (pc' := 91) dX0_works_89 rfl rfl ?_
  refine P.if_le (tgt := 103) (pc' := 94) dX0_works_91 (by decide) rfl (fun y5 => ?_) (fun y5 => ?_)
  · have hf := (if_pos y5).symm.trans hf
    obtain ⟨x6, e7, hf⟩ := nm_i hf
    refine P.iinc 3 (pc' := 106) (lv' := [(2, .int x6), (7, .int q1.1), (0, .ref v0), (1, .int v1), (4, .int v4), (5, .int v5), (6, .ref v6)]) dX0_works_103 rfl rfl (by decide) e7 (Nat.le_of_ble_eq_true rfl) rfl ?_
    refine P.iload 5 (pc' := 108) dX0_works_106 rfl rfl ?_
    refine P.istore_n (pc' := 109) (lv' := [(3, .int v5), (2, .int x6), (7, .int q1.1), (0, .ref v0), (1, .int v1), (4, .int v4), (5, .int v5), (6, .ref v6)]) dX0_works_108 rfl rfl (Nat.le_of_ble_eq_true rfl) rfl ?_
    obtain ⟨x8, e9, hf⟩ := nm_i hf
    refine P.iinc 6 (pc' := 112) (lv' := [(5, .int x8), (3, .int v5), (2, .int x6), (7, .int q1.1), (0, .ref v0), (1, .int v1), (4, .int v4), (6, .ref v6)]) dX0_works_109 rfl rfl (by decide) e9 (Nat.le_of_ble_eq_true rfl) rfl ?_
    refine P.goto (tgt := 23) dX0_works_112 (by decide) ?_
    exact PW.sub [4, 5, 2, 1, 6, 0] rfl (ih _ _ _ _ _ hf)
  · have hf := (if_neg y5).symm.trans hf
    refine P.bipush (v := 10) (pc' := 96) dX0_works_94 rfl (by decide) ?_
    refine P.iload 5 (pc' := 98) dX0_works_96 rfl rfl ?_
    refine P.imul (pc' := 99) dX0_works_98 rfl ?_
    refine P.iload 0 (pc' := 101) dX0_works_99 rfl rfl ?_
    refine P.iadd (pc' := 102) dX0_works_101 rfl ?_
    cases hf; exact P.iret rfl dX0_works_102
noncomputable def f_X0_works_L23_b (F : Nat) (k115 : Int32 → Int32 → Sw → Option (Int32 × Sw)) (c0 : Nat) (c1 : Int32) (self : Int32 → Int32 → Int32 → Int32 → Sw → Option (Int32 × Sw)) (v2 : Int32) (v3 : Int32) (v4 : Int32) (v5 : Int32) (μ : Sw) : Option (Int32 × Sw) :=
  Option.bind (gfR μ c0 0 4) fun x1 =>
  Option.bind (gfR μ x1 6 4) fun x3 =>
  Option.bind (oc μ x3 20) fun u7 =>
  Option.bind (f_J2_size F x3 μ) fun q5 =>
  if q5 ≤ v5 then
    k115 v3 v4 μ
  else
    Option.bind (gfR μ c0 0 4) fun x10 =>
    Option.bind (gfR μ x10 6 4) fun x12 =>
    Option.bind (oc μ x12 20) fun u16 =>
    Option.bind (f_J2_get F x12 v5 μ) fun q14 =>
    Option.bind (oc μ q14 18) fun u18 =>
    Option.bind (gfI μ q14 18 0) fun x20 =>
    if x20 = c1 then
      if v3 = (-1) then
        Option.bind (oc μ c0 0) fun u26 =>
        Option.bind (f_X0_reachedAt F c0 12 μ) fun q24 =>
        f_X0_works_j80 F self c0 c1 v2 q24.1 v5 q14 q24.2
      else
        f_X0_works_j80 F self c0 c1 v2 v4 v5 q14 μ
    else
      nm (v5 + 1) fun x28 =>
      self v2 v3 v4 x28 μ
noncomputable def f_X0_works_L23 (F : Nat) (k115 : Int32 → Int32 → Sw → Option (Int32 × Sw)) (c0 : Nat) (c1 : Int32) (n : Nat) : Int32 → Int32 → Int32 → Int32 → Sw → Option (Int32 × Sw) := Nat.rec (motive := fun _ => Int32 → Int32 → Int32 → Int32 → Sw → Option (Int32 × Sw)) (fun _ _ _ _ _ => none) (fun _ self => f_X0_works_L23_b F k115 c0 c1 self) n
set_option maxHeartbeats 4000000 in
theorem ok_f_X0_works_L23 {g : Gx} {μ0 : Sw} {rv : Int32} {μF : Sw} (F : Nat) (c0 : Nat) (c1 : Int32) (k115 : Int32 → Int32 → Sw → Option (Int32 × Sw)) (hk115 : ∀ (w3 : Int32) (w4 : Int32) (μ : Sw), k115 w3 w4 μ = some (rv, μF) → PW g mX0_works 414 μ0 μF (QN g (some (.int rv)) μ0 μF) 115 [(0, .ref c0), (1, .int c1), (3, .int w3), (4, .int w4)] [] μ) : ∀ (n : Nat) (v2 : Int32) (v3 : Int32) (v4 : Int32) (v5 : Int32) (μ : Sw), f_X0_works_L23 F k115 c0 c1 n v2 v3 v4 v5 μ = some (rv, μF) → PW g mX0_works 414 μ0 μF (QN g (some (.int rv)) μ0 μF) 23 [(0, .ref c0), (1, .int c1), (2, .int v2), (3, .int v3), (4, .int v4), (5, .int v5)] [] μ := by
  intro n
  induction n with
  | zero =>
    intro v2 v3 v4 v5 μ hf
    have hf : (none : Option (Int32 × Sw)) = some _ := hf
    cases hf
  | succ n ih =>
    intro v2 v3 v4 v5 μ hf
    have hf : f_X0_works_L23_b F k115 c0 c1 (f_X0_works_L23 F k115 c0 c1 n) v2 v3 v4 v5 μ = some (rv, μF) := hf
    unfold f_X0_works_L23_b at hf
    refine P.iload 5 (pc' := 25) dX0_works_23 rfl rfl ?_
    refine P.aload_n 0 (pc' := 26) dX0_works_25 rfl rfl rfl ?_
    obtain ⟨x1, h2, hf⟩ := ob hf
    refine P.get (pc' := 29) ci0 4 (by decide) (gfR_spec h2) q479 (Or.inl rfl) dX0_works_26 rfl ?_
    obtain ⟨x3, h4, hf⟩ := ob hf
    refine P.getN (pc' := 32) ci6 4 (by decide) (gfR_spec h4) q423 (Or.inl rfl) dX0_works_29 rfl ?_
    obtain ⟨u7, h8, hf⟩ := ob hf
    obtain ⟨q5, h6, hf⟩ := ob hf
    refine P.callV (pc' := 35) (As := []) 0 (ok_J2_size F x3 μ h6) (Nat.le_of_ble_eq_true rfl) (lw_V q1006 q669 q670 q165 q671) rfl yok_J2_size rfl (Nat.le_of_ble_eq_true rfl) ci20 h8 (Nat.le_of_ble_eq_true rfl) rfl dX0_works_32 rfl ?_
    refine P.icmp_ge (tgt := 115) (pc' := 38) dX0_works_35 (by decide) rfl (fun y9 => ?_) (fun y9 => ?_)
    · have hf := (if_pos y9).symm.trans hf
      exact PW.sub [0, 1, 3, 4] rfl (hk115 _ _ _ hf)
    · have hf := (if_neg y9).symm.trans hf
      refine P.aload_n 0 (pc' := 39) dX0_works_38 rfl rfl rfl ?_
      obtain ⟨x10, h11, hf⟩ := ob hf
      refine P.get (pc' := 42) ci0 4 (by decide) (gfR_spec h11) q479 (Or.inl rfl) dX0_works_39 rfl ?_
      obtain ⟨x12, h13, hf⟩ := ob hf
      refine P.getN (pc' := 45) ci6 4 (by decide) (gfR_spec h13) q423 (Or.inl rfl) dX0_works_42 rfl ?_
      refine P.iload 5 (pc' := 47) dX0_works_45 rfl rfl ?_
      obtain ⟨u16, h17, hf⟩ := ob hf
      obtain ⟨q14, h15, hf⟩ := ob hf
      refine P.callV (pc' := 50) (As := [.int v5]) 1 (ok_J2_get F x12 v5 μ h15) (Nat.le_of_ble_eq_true rfl) (lw_V q1007 q1008 q1009 q165 q1010) rfl yok_J2_get rfl (Nat.le_of_ble_eq_true rfl) ci20 h17 (by decide) rfl dX0_works_47 rfl ?_
      obtain ⟨u18, h19, hf⟩ := ob hf
      refine P.castS (u := u18) (pc' := 53) ci18 q1255 h19 dX0_works_50 rfl ?_
      refine P.astore (pc' := 55) (lv' := [(6, .ref q14), (0, .ref c0), (1, .int c1), (2, .int v2), (3, .int v3), (4, .int v4), (5, .int v5)]) dX0_works_53 rfl (Nat.le_of_ble_eq_true rfl) rfl ?_
      refine P.aload 0 (pc' := 57) dX0_works_55 rfl rfl ?_
      obtain ⟨x20, h21, hf⟩ := ob hf
      refine P.getN (pc' := 60) ci18 0 (by decide) (gfI_spec h21) q1262 (Or.inl rfl) dX0_works_57 rfl ?_
      refine P.iload_n 2 (pc' := 61) dX0_works_60 rfl rfl rfl ?_
      refine P.icmp_eq (tgt := 67) (pc' := 64) dX0_works_61 (by decide) rfl (fun y22 => ?_) (fun y22 => ?_)
      · have hf := (if_pos y22).symm.trans hf
        refine P.iload_n 4 (pc' := 68) dX0_works_67 rfl rfl rfl ?_
        refine P.iconst (v := (-1)) (pc' := 69) dX0_works_68 rfl (by decide) ?_
        refine P.icmp_ne (tgt := 80) (pc' := 72) dX0_works_69 (by decide) rfl (fun y23 => ?_) (fun y23 => ?_)
        · have hf := (if_neg y23).symm.trans hf
          exact PW.sub [1, 2, 3, 5, 6, 0] rfl (ok_f_X0_works_j80 F c0 c1 v2 v4 v5 q14 μ _ ih hf)
        · have hf := (if_pos y23).symm.trans hf
          refine P.aload_n 1 (pc' := 73) dX0_works_72 rfl rfl rfl ?_
          refine P.bipush (v := 12) (pc' := 75) dX0_works_73 rfl (by decide) ?_
          obtain ⟨u26, h27, hf⟩ := ob hf
          obtain ⟨q24, h25, hf⟩ := ob hf
          refine P.callV (pc' := 78) (As := [.int 12]) 1 (ok_X0_reachedAt F c0 12 μ h25) (Nat.le_of_ble_eq_true rfl) (lw_V q1144 q1146 qs43 q159 q1147) rfl yok_X0_reachedAt rfl (Nat.le_of_ble_eq_true rfl) ci0 h27 (by decide) rfl dX0_works_75 rfl ?_
          refine P.istore (pc' := 80) (lv' := [(4, .int q24.1), (6, .ref q14), (0, .ref c0), (1, .int c1), (2, .int v2), (3, .int v3), (5, .int v5)]) dX0_works_78 rfl (Nat.le_of_ble_eq_true rfl) rfl ?_
          exact PW.sub [2, 3, 4, 0, 6, 1] rfl (ok_f_X0_works_j80 F c0 c1 v2 q24.1 v5 q14 q24.2 _ ih hf)
      · have hf := (if_neg y22).symm.trans hf
        refine P.goto (tgt := 109) dX0_works_64 (by decide) ?_
        obtain ⟨x28, e29, hf⟩ := nm_i hf
        refine P.iinc 6 (pc' := 112) (lv' := [(5, .int x28), (6, .ref q14), (0, .ref c0), (1, .int c1), (2, .int v2), (3, .int v3), (4, .int v4)]) dX0_works_109 rfl rfl (by decide) e29 (Nat.le_of_ble_eq_true rfl) rfl ?_
        refine P.goto (tgt := 23) dX0_works_112 (by decide) ?_
        exact PW.sub [2, 3, 4, 5, 6, 0] rfl (ih _ _ _ _ _ hf)
noncomputable def f_X0_works_L7_b (F : Nat) (c0 : Nat) (self : Int32 → Sw → Option (Int32 × Sw)) (v1 : Int32) (μ : Sw) : Option (Int32 × Sw) :=
  if 100 ≤ v1 then
    some (0, μ)
  else
    f_X0_works_L23 F
      (fun w2 w3 μ4 =>
        if w2 = (-1) then
          nm (v1 + 1) fun x6 =>
          self x6 μ4
        else
          Option.bind (oc μ4 c0 0) fun u10 =>
          Option.bind (f_X0_reachedAt F c0 12 μ4) fun q8 =>
          if (w3 &&& (q8.1 ^^^ (-1))) = 0 then
            nm (v1 + 1) fun x13 =>
            self x13 q8.2
          else
            some ((10 * w2) + 5, q8.2))
      c0 v1 F 0 (-1) 0 0 μ
noncomputable def f_X0_works_L7 (F : Nat) (c0 : Nat) (n : Nat) : Int32 → Sw → Option (Int32 × Sw) := Nat.rec (motive := fun _ => Int32 → Sw → Option (Int32 × Sw)) (fun _ _ => none) (fun _ self => f_X0_works_L7_b F c0 self) n
set_option maxHeartbeats 4000000 in
theorem ok_f_X0_works_L7 {g : Gx} {μ0 : Sw} {rv : Int32} {μF : Sw} (F : Nat) (c0 : Nat) : ∀ (n : Nat) (v1 : Int32) (μ : Sw), f_X0_works_L7 F c0 n v1 μ = some (rv, μF) → PW g mX0_works 414 μ0 μF (QN g (some (.int rv)) μ0 μF) 7 [(0, .ref c0), (1, .int v1)] [] μ := by
  intro n
  induction n with
  | zero =>
    intro v1 μ hf
    have hf : (none : Option (Int32 × Sw)) = some _ := hf
    cases hf
  | succ n ih =>
    intro v1 μ hf
    have hf : f_X0_works_L7_b F c0 (f_X0_works_L7 F c0 n) v1 μ = some (rv, μF) := hf
    unfold f_X0_works_L7_b at hf
    refine P.iload_n 1 (pc' := 8) dX0_works_7 rfl rfl rfl ?_
    refine P.bipush (v := 100) (pc' := 10) dX0_works_8 rfl (by decide) ?_
    refine P.icmp_ge (tgt := 147) (pc' := 13) dX0_works_10 (by decide) rfl (fun y1 => ?_) (fun y1 => ?_)
    · have hf := (if_pos y1).symm.trans hf
      refine P.iconst (v := 0) (pc' := 148) dX0_works_147 rfl (by decide) ?_
      cases hf; exact P.iret rfl dX0_works_148
    · have hf := (if_neg y1).symm.trans hf
      refine P.iconst (v := 0) (pc' := 14) dX0_works_13 rfl (by decide) ?_
      refine P.istore_n (pc' := 15) (lv' := [(2, .int 0), (0, .ref c0), (1, .int v1)]) dX0_works_14 rfl rfl (Nat.le_of_ble_eq_true rfl) rfl ?_
      refine P.iconst (v := (-1)) (pc' := 16) dX0_works_15 rfl (by decide) ?_
      refine P.istore_n (pc' := 17) (lv' := [(3, .int (-1)), (2, .int 0), (0, .ref c0), (1, .int v1)]) dX0_works_16 rfl rfl (Nat.le_of_ble_eq_true rfl) rfl ?_
      refine P.iconst (v := 0) (pc' := 18) dX0_works_17 rfl (by decide) ?_
      refine P.istore (pc' := 20) (lv' := [(4, .int 0), (3, .int (-1)), (2, .int 0), (0, .ref c0), (1, .int v1)]) dX0_works_18 rfl (Nat.le_of_ble_eq_true rfl) rfl ?_
      refine P.iconst (v := 0) (pc' := 21) dX0_works_20 rfl (by decide) ?_
      refine P.istore (pc' := 23) (lv' := [(5, .int 0), (4, .int 0), (3, .int (-1)), (2, .int 0), (0, .ref c0), (1, .int v1)]) dX0_works_21 rfl (Nat.le_of_ble_eq_true rfl) rfl ?_
      refine PW.sub [4, 5, 3, 2, 1, 0] rfl (ok_f_X0_works_L23 F c0 v1 _ ?_ F _ _ _ _ _ hf)
      · intro w2 w3 μ4 hf
        refine P.iload_n 2 (pc' := 116) dX0_works_115 rfl rfl rfl ?_
        refine P.iconst (v := (-1)) (pc' := 117) dX0_works_116 rfl (by decide) ?_
        refine P.icmp_eq (tgt := 141) (pc' := 120) dX0_works_117 (by decide) rfl (fun y5 => ?_) (fun y5 => ?_)
        · have hf := (if_pos y5).symm.trans hf
          obtain ⟨x6, e7, hf⟩ := nm_i hf
          refine P.iinc 1 (pc' := 144) (lv' := [(1, .int x6), (0, .ref c0), (3, .int w2), (4, .int w3)]) dX0_works_141 rfl rfl (by decide) e7 (Nat.le_of_ble_eq_true rfl) rfl ?_
          refine P.goto (tgt := 7) dX0_works_144 (by decide) ?_
          exact PW.sub [1, 0] rfl (ih _ _ hf)
        · have hf := (if_neg y5).symm.trans hf
          refine P.iload 3 (pc' := 122) dX0_works_120 rfl rfl ?_
          refine P.aload_n 0 (pc' := 123) dX0_works_122 rfl rfl rfl ?_
          refine P.bipush (v := 12) (pc' := 125) dX0_works_123 rfl (by decide) ?_
          obtain ⟨u10, h11, hf⟩ := ob hf
          obtain ⟨q8, h9, hf⟩ := ob hf
          refine P.callV (pc' := 128) (As := [.int 12]) 1 (ok_X0_reachedAt F c0 12 μ4 h9) (Nat.le_of_ble_eq_true rfl) (lw_V q1144 q1146 qs43 q159 q1147) rfl yok_X0_reachedAt rfl (Nat.le_of_ble_eq_true rfl) ci0 h11 (Nat.le_of_ble_eq_true rfl) rfl dX0_works_125 rfl ?_
          refine P.iconst (v := (-1)) (pc' := 129) dX0_works_128 rfl (by decide) ?_
          refine P.ixor (pc' := 130) dX0_works_129 rfl ?_
          refine P.iand (pc' := 131) dX0_works_130 rfl ?_
          refine P.if_eq (tgt := 141) (pc' := 134) dX0_works_131 (by decide) rfl (fun y12 => ?_) (fun y12 => ?_)
          · have hf := (if_pos y12).symm.trans hf
            obtain ⟨x13, e14, hf⟩ := nm_i hf
            refine P.iinc 1 (pc' := 144) (lv' := [(1, .int x13), (0, .ref c0), (3, .int w2), (4, .int w3)]) dX0_works_141 rfl rfl (by decide) e14 (Nat.le_of_ble_eq_true rfl) rfl ?_
            refine P.goto (tgt := 7) dX0_works_144 (by decide) ?_
            exact PW.sub [1, 0] rfl (ih _ _ hf)
          · have hf := (if_neg y12).symm.trans hf
            refine P.bipush (v := 10) (pc' := 136) dX0_works_134 rfl (by decide) ?_
            refine P.iload_n 2 (pc' := 137) dX0_works_136 rfl rfl rfl ?_
            refine P.imul (pc' := 138) dX0_works_137 rfl ?_
            refine P.iconst (v := 5) (pc' := 139) dX0_works_138 rfl (by decide) ?_
            refine P.iadd (pc' := 140) dX0_works_139 rfl ?_
            cases hf; exact P.iret rfl dX0_works_140
noncomputable def f_X0_works (F : Nat) (this : Nat) (μ : Sw) : Option (Int32 × Sw) :=
  Option.bind (pf μ this 0 13 (.int 0)) fun μ1 =>
  f_X0_works_L7 F this F 0 μ1
set_option maxHeartbeats 4000000 in
theorem ok_X0_works {g : Gx} (F : Nat) (this : Nat) (μ : Sw) {rv : Int32} {μF : Sw} (hf : f_X0_works F this μ = some (rv, μF)) : Cl g 414 yX0_works cX0_works 8 (some Jvm.ClassFile.FieldType.int) [.ref this] μ (some (.int rv)) μF := by
  unfold f_X0_works at hf
  refine Cl.of (own := RX0) (ini := false) (by decide +kernel) rfl (by decide) (Nat.le_of_ble_eq_true rfl) ?_
  show PW g mX0_works 414 μ μF (QN g (some (.int rv)) μ μF) 0 [(0, .ref this)] [] μ
  refine P.aload_n 0 (pc' := 1) dX0_works_0 rfl rfl rfl ?_
  refine P.iconst (v := 0) (pc' := 2) dX0_works_1 rfl (by decide) ?_
  obtain ⟨μ1, h2, hf⟩ := ob hf
  refine P.put (v := .int 0) (pc' := 5) ci0 13 (by decide) h2 q488 (Or.inl rfl) rfl rfl rfl dX0_works_2 rfl ?_
  refine P.iconst (v := 0) (pc' := 6) dX0_works_5 rfl (by decide) ?_
  refine P.istore_n (pc' := 7) (lv' := [(1, .int 0), (0, .ref this)]) dX0_works_6 rfl rfl (Nat.le_of_ble_eq_true rfl) rfl ?_
  exact PW.sub [1, 0] rfl (ok_f_X0_works_L7 F this F _ _ hf)
