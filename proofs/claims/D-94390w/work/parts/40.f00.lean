set_option maxRecDepth 100000
abbrev mX1_init : Ym := (RX1, cX1_init, 1, none, true, [])
noncomputable def f_X1_init (F : Nat) (this : Nat) (μ : Sw) : Option Sw :=
  nm (nw μ (.inl (2, (2000, .inl fun _ => 0))) 2000) fun μ1 =>
  Option.bind (pf μ1 this 1 0 (.ref μ.2.1)) fun μ3 =>
  nm (nw μ3 (.inl (3, (402, .inl fun _ => 0))) 402) fun μ5 =>
  Option.bind (pf μ5 this 1 2 (.ref μ3.2.1)) fun μ7 =>
  nm (nw μ7 (.inl (3, (402, .inl fun _ => 0))) 402) fun μ9 =>
  Option.bind (pf μ9 this 1 3 (.ref μ7.2.1)) fun μ11 =>
  nm (nw μ11 (.inl (1, (402, .inr (.inl fun _ => 0)))) 402) fun μ13 =>
  Option.bind (pf μ13 this 1 4 (.ref μ11.2.1)) fun μ15 =>
  some μ15
set_option maxHeartbeats 4000000 in
theorem ok_X1_init {g : Gx} (F : Nat) (this : Nat) (μ : Sw) {μF : Sw} (hf : f_X1_init F this μ = some μF) : Cl g 1 yX1_init cX1_init 1 none [.ref this] μ none μF := by
  unfold f_X1_init at hf
  refine Cl.of (own := RX1) (ini := true) (by decide +kernel) rfl (by decide) (Nat.le_of_ble_eq_true rfl) ?_
  show PW g mX1_init 1 μ μF (QN g none μ μF) 0 [(0, .ref this)] [] μ
  refine P.aload_n 0 (pc' := 1) dX1_init_0 rfl rfl rfl ?_
  refine P.objInit (pc' := 4) q209 q202 q203 (by decide) (by decide) dX1_init_1 rfl ?_
  refine P.aload_n 0 (pc' := 5) dX1_init_4 rfl rfl rfl ?_
  refine P.sipush (v := 2000) (pc' := 8) dX1_init_5 rfl (by decide) ?_
  obtain ⟨μ1, e2, hf⟩ := nm_i hf
  refine P.newarrE (t := 2) (atype := .byte) (N := 2000) (pc' := 10) q233 rfl (by decide) (fun _ _ h => h) rfl (fun _ => rfl) (by decide) (by decide) (Nat.le_of_ble_eq_true rfl) e2 dX1_init_8 rfl ?_
  obtain ⟨μ3, h4, hf⟩ := ob hf
  refine P.putF (v := .ref μ.2.1) (pc' := 13) ci1 0 (by decide) h4 q210 (Or.inl rfl) rfl rfl rfl rfl rfl dX1_init_10 rfl ?_
  refine P.aload_n 0 (pc' := 14) dX1_init_13 rfl rfl rfl ?_
  refine P.sipush (v := 402) (pc' := 17) dX1_init_14 rfl (by decide) ?_
  obtain ⟨μ5, e6, hf⟩ := nm_i hf
  refine P.newarrE (t := 3) (atype := .short) (N := 402) (pc' := 19) q234 rfl (by decide) (fun _ _ h => h) rfl (fun _ => rfl) (by decide) (by decide) (Nat.le_of_ble_eq_true rfl) e6 dX1_init_17 rfl ?_
  obtain ⟨μ7, h8, hf⟩ := ob hf
  refine P.putF (v := .ref μ3.2.1) (pc' := 22) ci1 2 (by decide) h8 q213 (Or.inl rfl) rfl rfl rfl rfl rfl dX1_init_19 rfl ?_
  refine P.aload_n 0 (pc' := 23) dX1_init_22 rfl rfl rfl ?_
  refine P.sipush (v := 402) (pc' := 26) dX1_init_23 rfl (by decide) ?_
  obtain ⟨μ9, e10, hf⟩ := nm_i hf
  refine P.newarrE (t := 3) (atype := .short) (N := 402) (pc' := 28) q234 rfl (by decide) (fun _ _ h => h) rfl (fun _ => rfl) (by decide) (by decide) (Nat.le_of_ble_eq_true rfl) e10 dX1_init_26 rfl ?_
  obtain ⟨μ11, h12, hf⟩ := ob hf
  refine P.putF (v := .ref μ7.2.1) (pc' := 31) ci1 3 (by decide) h12 q215 (Or.inl rfl) rfl rfl rfl rfl rfl dX1_init_28 rfl ?_
  refine P.aload_n 0 (pc' := 32) dX1_init_31 rfl rfl rfl ?_
  refine P.sipush (v := 402) (pc' := 35) dX1_init_32 rfl (by decide) ?_
  obtain ⟨μ13, e14, hf⟩ := nm_i hf
  refine P.newarrE (t := 1) (atype := .long) (N := 402) (pc' := 37) q235 rfl (by decide) (fun _ _ h => h) rfl (fun _ => rfl) (by decide) (by decide) (Nat.le_of_ble_eq_true rfl) e14 dX1_init_35 rfl ?_
  obtain ⟨μ15, h16, hf⟩ := ob hf
  refine P.putF (v := .ref μ11.2.1) (pc' := 40) ci1 4 (by decide) h16 q217 (Or.inl rfl) rfl rfl rfl rfl rfl dX1_init_37 rfl ?_
  cases hf; exact P.vret rfl dX1_init_40
abbrev mX2_init : Ym := (RX2, cX2_init, 2, none, true, [])
noncomputable def f_X2_init (F : Nat) (this : Nat) (p1 : Nat) (μ : Sw) : Option Sw :=
  nm (nw μ (.inl (1, (28, .inr (.inl fun _ => 0)))) 28) fun μ1 =>
  Option.bind (pf μ1 this 2 6 (.ref μ.2.1)) fun μ3 =>
  nm (nw μ3 (.inl (0, (28, .inl fun _ => 0))) 28) fun μ5 =>
  Option.bind (pf μ5 this 2 7 (.ref μ3.2.1)) fun μ7 =>
  Option.bind (pf μ7 this 2 0 (.ref p1)) fun μ9 =>
  some μ9
set_option maxHeartbeats 4000000 in
theorem ok_X2_init {g : Gx} (F : Nat) (this : Nat) (p1 : Nat) (μ : Sw) {μF : Sw} (hf : f_X2_init F this p1 μ = some μF) : Cl g 1 yX2_init cX2_init 2 none [.ref this, .ref p1] μ none μF := by
  unfold f_X2_init at hf
  refine Cl.of (own := RX2) (ini := true) (by decide +kernel) rfl (by decide) (Nat.le_of_ble_eq_true rfl) ?_
  show PW g mX2_init 1 μ μF (QN g none μ μF) 0 [(0, .ref this), (1, .ref p1)] [] μ
  refine P.aload_n 0 (pc' := 1) dX2_init_0 rfl rfl rfl ?_
  refine P.objInit (pc' := 4) q241 q202 q203 (by decide) (by decide) dX2_init_1 rfl ?_
  refine P.aload_n 0 (pc' := 5) dX2_init_4 rfl rfl rfl ?_
  refine P.bipush (v := 28) (pc' := 7) dX2_init_5 rfl (by decide) ?_
  obtain ⟨μ1, e2, hf⟩ := nm_i hf
  refine P.newarrE (t := 1) (atype := .long) (N := 28) (pc' := 9) q235 rfl (by decide) (fun _ _ h => h) rfl (fun _ => rfl) (by decide) (by decide) (Nat.le_of_ble_eq_true rfl) e2 dX2_init_7 rfl ?_
  obtain ⟨μ3, h4, hf⟩ := ob hf
  refine P.putF (v := .ref μ.2.1) (pc' := 12) ci2 6 (by decide) h4 q248 (Or.inl rfl) rfl rfl rfl rfl rfl dX2_init_9 rfl ?_
  refine P.aload_n 0 (pc' := 13) dX2_init_12 rfl rfl rfl ?_
  refine P.bipush (v := 28) (pc' := 15) dX2_init_13 rfl (by decide) ?_
  obtain ⟨μ5, e6, hf⟩ := nm_i hf
  refine P.newarrE (t := 0) (atype := .int) (N := 28) (pc' := 17) q270 rfl (by decide) (fun _ _ h => h) rfl (fun _ => rfl) (by decide) (by decide) (Nat.le_of_ble_eq_true rfl) e6 dX2_init_15 rfl ?_
  obtain ⟨μ7, h8, hf⟩ := ob hf
  refine P.putF (v := .ref μ3.2.1) (pc' := 20) ci2 7 (by decide) h8 q249 (Or.inl rfl) rfl rfl rfl rfl rfl dX2_init_17 rfl ?_
  refine P.aload_n 0 (pc' := 21) dX2_init_20 rfl rfl rfl ?_
  refine P.aload_n 1 (pc' := 22) dX2_init_21 rfl rfl rfl ?_
  obtain ⟨μ9, h10, hf⟩ := ob hf
  refine P.putF (v := .ref p1) (pc' := 25) ci2 0 (by decide) h10 q242 (Or.inl rfl) rfl rfl rfl rfl rfl dX2_init_22 rfl ?_
  cases hf; exact P.vret rfl dX2_init_25
abbrev mJ0_init : Ym := (RJ0, cJ0_init, 1, none, true, [])
noncomputable def f_J0_init (F : Nat) (this : Nat) (μ : Sw) : Option Unit :=
  some ()
set_option maxHeartbeats 4000000 in
theorem ok_J0_init {g : Gx} (F : Nat) (this : Nat) (μ : Sw) (hf : f_J0_init F this μ = some ()) : Cl g 1 yJ0_init cJ0_init 1 none [.ref this] μ none μ := by
  unfold f_J0_init at hf
  refine Cl.of (own := RJ0) (ini := true) (by decide +kernel) rfl (by decide) (Nat.le_of_ble_eq_true rfl) ?_
  show PW g mJ0_init 1 μ μ (QN g none μ μ) 0 [(0, .ref this)] [] μ
  refine P.aload_n 0 (pc' := 1) dJ0_init_0 rfl rfl rfl ?_
  refine P.objInit (pc' := 4) q288 q202 q203 (by decide) (by decide) dJ0_init_1 rfl ?_
  cases hf; exact P.vret rfl dJ0_init_4
theorem yok_J0_init : yOK yJ0_init 0 := ⟨by decide +kernel, by decide +kernel, by decide +kernel⟩
abbrev mJ1_init : Ym := (RJ1, cJ1_init, 1, none, true, [])
noncomputable def f_J1_init (F : Nat) (this : Nat) (μ : Sw) : Option Sw :=
  Option.bind (f_J0_init F this μ) fun q1 =>
  Option.bind (pf μ this 20 0 (.int 0)) fun μ3 =>
  some μ3
set_option maxHeartbeats 4000000 in
theorem ok_J1_init {g : Gx} (F : Nat) (this : Nat) (μ : Sw) {μF : Sw} (hf : f_J1_init F this μ = some μF) : Cl g 2 yJ1_init cJ1_init 1 none [.ref this] μ none μF := by
  unfold f_J1_init at hf
  refine Cl.of (own := RJ1) (ini := true) (by decide +kernel) rfl (by decide) (Nat.le_of_ble_eq_true rfl) ?_
  show PW g mJ1_init 2 μ μF (QN g none μ μF) 0 [(0, .ref this)] [] μ
  refine P.aload_n 0 (pc' := 1) dJ1_init_0 rfl rfl rfl ?_
  obtain ⟨q1, h2, hf⟩ := ob hf
  refine P.callI (pc' := 4) (As := []) 0 (ok_J0_init F this μ h2) (Nat.le_of_ble_eq_true rfl) q287 q163 q285 q286 rfl yok_J0_init rfl (Nat.le_of_ble_eq_true rfl) (by decide) rfl dJ1_init_1 rfl ?_
  refine P.aload_n 0 (pc' := 5) dJ1_init_4 rfl rfl rfl ?_
  refine P.iconst (v := 0) (pc' := 6) dJ1_init_5 rfl (by decide) ?_
  obtain ⟨μ3, h4, hf⟩ := ob hf
  refine P.put (v := .int 0) (pc' := 9) ci20 0 (by decide) h4 q293 (Or.inl rfl) rfl rfl rfl dJ1_init_6 rfl ?_
  cases hf; exact P.vret rfl dJ1_init_9
theorem yok_J1_init : yOK yJ1_init 0 := ⟨by decide +kernel, by decide +kernel, by decide +kernel⟩
abbrev mJ2_init : Ym := (RJ2, cJ2_init, 1, none, true, [])
noncomputable def f_J2_init (F : Nat) (this : Nat) (μ : Sw) : Option Sw :=
  Option.bind (f_J1_init F this μ) fun q1 =>
  Option.bind (pf q1 this 20 1 (.ref (q1.2.2.2 0))) fun μ3 =>
  some μ3
set_option maxHeartbeats 4000000 in
theorem ok_J2_init {g : Gx} (F : Nat) (this : Nat) (μ : Sw) {μF : Sw} (hf : f_J2_init F this μ = some μF) : Cl g 3 yJ2_init cJ2_init 1 none [.ref this] μ none μF := by
  unfold f_J2_init at hf
  refine Cl.of (own := RJ2) (ini := true) (by decide +kernel) rfl (by decide) (Nat.le_of_ble_eq_true rfl) ?_
  show PW g mJ2_init 3 μ μF (QN g none μ μF) 0 [(0, .ref this)] [] μ
  refine P.aload_n 0 (pc' := 1) dJ2_init_0 rfl rfl rfl ?_
  obtain ⟨q1, h2, hf⟩ := ob hf
  refine P.callI (pc' := 4) (As := []) 0 (ok_J1_init F this μ h2) (Nat.le_of_ble_eq_true rfl) q284 q164 q282 q283 rfl yok_J1_init rfl (Nat.le_of_ble_eq_true rfl) (by decide) rfl dJ2_init_1 rfl ?_
  refine P.aload_n 0 (pc' := 5) dJ2_init_4 rfl rfl rfl ?_
  refine P.getsR (pc' := 8) 0 (zs0 g) q289 dJ2_init_5 rfl ?_
  obtain ⟨μ3, h4, hf⟩ := ob hf
  refine P.put (v := .ref (q1.2.2.2 0)) (pc' := 11) ci20 1 (by decide) h4 q291 (Or.inl rfl) rfl rfl rfl dJ2_init_8 rfl ?_
  cases hf; exact P.vret rfl dJ2_init_11
abbrev mJ3_init : Ym := (RJ3, cJ3_init, 1, none, true, [])
noncomputable def f_J3_init (F : Nat) (this : Nat) (μ : Sw) : Option Unit :=
  some ()
set_option maxHeartbeats 4000000 in
theorem ok_J3_init {g : Gx} (F : Nat) (this : Nat) (μ : Sw) (hf : f_J3_init F this μ = some ()) : Cl g 1 yJ3_init cJ3_init 1 none [.ref this] μ none μ := by
  unfold f_J3_init at hf
  refine Cl.of (own := RJ3) (ini := true) (by decide +kernel) rfl (by decide) (Nat.le_of_ble_eq_true rfl) ?_
  show PW g mJ3_init 1 μ μ (QN g none μ μ) 0 [(0, .ref this)] [] μ
  refine P.aload_n 0 (pc' := 1) dJ3_init_0 rfl rfl rfl ?_
  refine P.objInit (pc' := 4) q311 q202 q203 (by decide) (by decide) dJ3_init_1 rfl ?_
  cases hf; exact P.vret rfl dJ3_init_4
theorem yok_J3_init : yOK yJ3_init 0 := ⟨by decide +kernel, by decide +kernel, by decide +kernel⟩
abbrev mX4_init : Ym := (RX4, cX4_init, 2, none, true, [])
noncomputable def f_X4_init (F : Nat) (this : Nat) (p1 : Int32) (μ : Sw) : Option Sw :=
  Option.bind (f_J3_init F this μ) fun q1 =>
  Option.bind (pf μ this 4 0 (.int p1)) fun μ3 =>
  some μ3
set_option maxHeartbeats 4000000 in
theorem ok_X4_init {g : Gx} (F : Nat) (this : Nat) (p1 : Int32) (μ : Sw) {μF : Sw} (hf : f_X4_init F this p1 μ = some μF) : Cl g 2 yX4_init cX4_init 2 none [.ref this, .int p1] μ none μF := by
  unfold f_X4_init at hf
  refine Cl.of (own := RX4) (ini := true) (by decide +kernel) rfl (by decide) (Nat.le_of_ble_eq_true rfl) ?_
  show PW g mX4_init 2 μ μF (QN g none μ μF) 0 [(0, .ref this), (1, .int p1)] [] μ
  refine P.aload_n 0 (pc' := 1) dX4_init_0 rfl rfl rfl ?_
  obtain ⟨q1, h2, hf⟩ := ob hf
  refine P.callI (pc' := 4) (As := []) 0 (ok_J3_init F this μ h2) (Nat.le_of_ble_eq_true rfl) q310 q166 q308 q309 rfl yok_J3_init rfl (Nat.le_of_ble_eq_true rfl) (by decide) rfl dX4_init_1 rfl ?_
  refine P.aload_n 0 (pc' := 5) dX4_init_4 rfl rfl rfl ?_
  refine P.iload_n 1 (pc' := 6) dX4_init_5 rfl rfl rfl ?_
  obtain ⟨μ3, h4, hf⟩ := ob hf
  refine P.putF (v := .int p1) (pc' := 9) ci4 0 (by decide) h4 q312 (Or.inl rfl) rfl rfl rfl rfl rfl dX4_init_6 rfl ?_
  cases hf; exact P.vret rfl dX4_init_9
abbrev mX5_init : Ym := (RX5, cX5_init, 2, none, true, [])
noncomputable def f_X5_init (F : Nat) (this : Nat) (p1 : Int32) (μ : Sw) : Option Sw :=
  Option.bind (f_J3_init F this μ) fun q1 =>
  Option.bind (pf μ this 5 0 (.int p1)) fun μ3 =>
  some μ3
set_option maxHeartbeats 4000000 in
theorem ok_X5_init {g : Gx} (F : Nat) (this : Nat) (p1 : Int32) (μ : Sw) {μF : Sw} (hf : f_X5_init F this p1 μ = some μF) : Cl g 2 yX5_init cX5_init 2 none [.ref this, .int p1] μ none μF := by
  unfold f_X5_init at hf
  refine Cl.of (own := RX5) (ini := true) (by decide +kernel) rfl (by decide) (Nat.le_of_ble_eq_true rfl) ?_
  show PW g mX5_init 2 μ μF (QN g none μ μF) 0 [(0, .ref this), (1, .int p1)] [] μ
  refine P.aload_n 0 (pc' := 1) dX5_init_0 rfl rfl rfl ?_
  obtain ⟨q1, h2, hf⟩ := ob hf
  refine P.callI (pc' := 4) (As := []) 0 (ok_J3_init F this μ h2) (Nat.le_of_ble_eq_true rfl) q310 q166 q322 q309 rfl yok_J3_init rfl (Nat.le_of_ble_eq_true rfl) (by decide) rfl dX5_init_1 rfl ?_
  refine P.aload_n 0 (pc' := 5) dX5_init_4 rfl rfl rfl ?_
  refine P.iload_n 1 (pc' := 6) dX5_init_5 rfl rfl rfl ?_
  obtain ⟨μ3, h4, hf⟩ := ob hf
  refine P.putF (v := .int p1) (pc' := 9) ci5 0 (by decide) h4 q323 (Or.inl rfl) rfl rfl rfl rfl rfl dX5_init_6 rfl ?_
  cases hf; exact P.vret rfl dX5_init_9
theorem yok_J2_init : yOK yJ2_init 0 := ⟨by decide +kernel, by decide +kernel, by decide +kernel⟩
theorem yok_X4_init : yOK yX4_init 1 := ⟨by decide +kernel, by decide +kernel, by decide +kernel⟩
theorem yok_X5_init : yOK yX5_init 1 := ⟨by decide +kernel, by decide +kernel, by decide +kernel⟩
abbrev mX3_init : Ym := (RX3, cX3_init, 2, none, true, [])
noncomputable def f_X3_init_L132_b (F : Nat) (c0 : Nat) (self : Int32 → Sw → Option Sw) (v1 : Int32) (μ : Sw) : Option Sw :=
  if 16 ≤ v1 then
    some μ
  else
    Option.bind (gfR μ c0 3 7) fun x2 =>
    Option.bind (sI μ 0 x2 v1 (-1)) fun μ5 =>
    nm (v1 + 1) fun x6 =>
    self x6 μ5
noncomputable def f_X3_init_L132 (F : Nat) (c0 : Nat) (n : Nat) : Int32 → Sw → Option Sw := Nat.rec (motive := fun _ => Int32 → Sw → Option Sw) (fun _ _ => none) (fun _ self => f_X3_init_L132_b F c0 self) n
set_option maxHeartbeats 4000000 in
theorem ok_f_X3_init_L132 {g : Gx} {μ0 : Sw} {μF : Sw} (F : Nat) (c0 : Nat) : ∀ (n : Nat) (v1 : Int32) (μ : Sw), f_X3_init_L132 F c0 n v1 μ = some μF → PW g mX3_init 4 μ0 μF (QN g none μ0 μF) 132 [(0, .ref c0), (1, .int v1)] [] μ := by
  intro n
  induction n with
  | zero =>
    intro v1 μ hf
    have hf : (none : Option Sw) = some _ := hf
    cases hf
  | succ n ih =>
    intro v1 μ hf
    have hf : f_X3_init_L132_b F c0 (f_X3_init_L132 F c0 n) v1 μ = some μF := hf
    unfold f_X3_init_L132_b at hf
    refine P.iload_n 1 (pc' := 133) dX3_init_132 rfl rfl rfl ?_
    refine P.bipush (v := 16) (pc' := 135) dX3_init_133 rfl (by decide) ?_
    refine P.icmp_ge (tgt := 151) (pc' := 138) dX3_init_135 (by decide) rfl (fun y1 => ?_) (fun y1 => ?_)
    · have hf := (if_pos y1).symm.trans hf
      cases hf; exact P.vret rfl dX3_init_151
    · have hf := (if_neg y1).symm.trans hf
      refine P.aload_n 0 (pc' := 139) dX3_init_138 rfl rfl rfl ?_
      obtain ⟨x2, h3, hf⟩ := ob hf
      refine P.get (pc' := 142) ci3 7 (by decide) (gfR_spec h3) q347 (Or.inl rfl) dX3_init_139 rfl ?_
      refine P.iload_n 1 (pc' := 143) dX3_init_142 rfl rfl rfl ?_
      refine P.iconst (v := (-1)) (pc' := 144) dX3_init_143 rfl (by decide) ?_
      obtain ⟨μ5, h4, hf⟩ := ob hf
      refine P.iast (pc' := 145) h4 dX3_init_144 rfl ?_
      obtain ⟨x6, e7, hf⟩ := nm_i hf
      refine P.iinc 1 (pc' := 148) (lv' := [(1, .int x6), (0, .ref c0)]) dX3_init_145 rfl rfl (by decide) e7 (Nat.le_of_ble_eq_true rfl) rfl ?_
      refine P.goto (tgt := 132) dX3_init_148 (by decide) ?_
      exact PW.sub [1, 0] rfl (ih _ _ hf)
noncomputable def f_X3_init (F : Nat) (this : Nat) (μ : Sw) : Option Sw :=
  nm (nw μ (.inr (20, dfJ2)) 3) fun μ1 =>
  Option.bind (f_J2_init F μ.2.1 μ1) fun q3 =>
  Option.bind (pf q3 this 3 0 (.ref μ.2.1)) fun μ5 =>
  nm (nw μ5 (.inr (20, dfJ2)) 3) fun μ7 =>
  Option.bind (f_J2_init F μ5.2.1 μ7) fun q9 =>
  Option.bind (pf q9 this 3 1 (.ref μ5.2.1)) fun μ11 =>
  nm (nw μ11 (.inr (20, dfJ2)) 3) fun μ13 =>
  Option.bind (f_J2_init F μ11.2.1 μ13) fun q15 =>
  Option.bind (pf q15 this 3 2 (.ref μ11.2.1)) fun μ17 =>
  nm (nw μ17 (.inr (20, dfJ2)) 3) fun μ19 =>
  Option.bind (f_J2_init F μ17.2.1 μ19) fun q21 =>
  Option.bind (pf q21 this 3 3 (.ref μ17.2.1)) fun μ23 =>
  nm (nw μ23 (.inr (20, dfJ2)) 3) fun μ25 =>
  Option.bind (f_J2_init F μ23.2.1 μ25) fun q27 =>
  Option.bind (pf q27 this 3 4 (.ref μ23.2.1)) fun μ29 =>
  nm (nw μ29 (.inl (0, (12, .inl fun _ => 0))) 12) fun μ31 =>
  Option.bind (pf μ31 this 3 5 (.ref μ29.2.1)) fun μ33 =>
  nm (nw μ33 (.inl (0, (16, .inl fun _ => 0))) 16) fun μ35 =>
  Option.bind (pf μ35 this 3 7 (.ref μ33.2.1)) fun μ37 =>
  nm (nw μ37 (.inl (4, (16, .inl fun _ => 0))) 16) fun μ39 =>
  Option.bind (pf μ39 this 3 9 (.ref μ37.2.1)) fun μ41 =>
  Option.bind (pf μ41 this 3 11 (.int 2)) fun μ43 =>
  Option.bind (pf μ43 this 3 12 (.int 10)) fun μ45 =>
  nm (nw μ45 (.inr (4, dfX4)) 1) fun μ47 =>
  Option.bind (f_X4_init F μ45.2.1 0 μ47) fun q49 =>
  Option.bind (pf q49 this 3 13 (.ref μ45.2.1)) fun μ51 =>
  nm (nw μ51 (.inr (5, dfX5)) 1) fun μ53 =>
  Option.bind (f_X5_init F μ51.2.1 1 μ53) fun q55 =>
  Option.bind (pf q55 this 3 14 (.ref μ51.2.1)) fun μ57 =>
  nm (nw μ57 (.inr (4, dfX4)) 1) fun μ59 =>
  Option.bind (f_X4_init F μ57.2.1 0 μ59) fun q61 =>
  Option.bind (pf q61 this 3 15 (.ref μ57.2.1)) fun μ63 =>
  f_X3_init_L132 F this F 0 μ63
set_option maxHeartbeats 4000000 in
theorem ok_X3_init {g : Gx} (F : Nat) (this : Nat) (μ : Sw) {μF : Sw} (hf : f_X3_init F this μ = some μF) : Cl g 4 yX3_init cX3_init 2 none [.ref this] μ none μF := by
  unfold f_X3_init at hf
  refine Cl.of (own := RX3) (ini := true) (by decide +kernel) rfl (by decide) (Nat.le_of_ble_eq_true rfl) ?_
  show PW g mX3_init 4 μ μF (QN g none μ μF) 0 [(0, .ref this)] [] μ
  refine P.aload_n 0 (pc' := 1) dX3_init_0 rfl rfl rfl ?_
  refine P.objInit (pc' := 4) q276 q202 q203 (by decide) (by decide) dX3_init_1 rfl ?_
  refine P.aload_n 0 (pc' := 5) dX3_init_4 rfl rfl rfl ?_
  obtain ⟨μ1, e2, hf⟩ := nm_i hf
  refine P.newE (pc' := 8) ci20 q277 q278 q165 dfJ2_ok e2 dX3_init_5 rfl ?_
  refine P.dup (pc' := 9) dX3_init_8 rfl rfl ?_
  obtain ⟨q3, h4, hf⟩ := ob hf
  refine P.callI (pc' := 12) (As := []) 0 (ok_J2_init F μ.2.1 μ1 h4) (Nat.le_of_ble_eq_true rfl) q281 q165 q279 q280 rfl yok_J2_init rfl (Nat.le_of_ble_eq_true rfl) (Nat.le_of_ble_eq_true rfl) rfl dX3_init_9 rfl ?_
  obtain ⟨μ5, h6, hf⟩ := ob hf
  refine P.putF (v := .ref μ.2.1) (pc' := 15) ci3 0 (by decide) h6 q327 (Or.inl rfl) rfl rfl rfl rfl rfl dX3_init_12 rfl ?_
  refine P.aload_n 0 (pc' := 16) dX3_init_15 rfl rfl rfl ?_
  obtain ⟨μ7, e8, hf⟩ := nm_i hf
  refine P.newE (pc' := 19) ci20 q277 q278 q165 dfJ2_ok e8 dX3_init_16 rfl ?_
  refine P.dup (pc' := 20) dX3_init_19 rfl rfl ?_
  obtain ⟨q9, h10, hf⟩ := ob hf
  refine P.callI (pc' := 23) (As := []) 0 (ok_J2_init F μ5.2.1 μ7 h10) (Nat.le_of_ble_eq_true rfl) q281 q165 q279 q280 rfl yok_J2_init rfl (Nat.le_of_ble_eq_true rfl) (Nat.le_of_ble_eq_true rfl) rfl dX3_init_20 rfl ?_
  obtain ⟨μ11, h12, hf⟩ := ob hf
  refine P.putF (v := .ref μ5.2.1) (pc' := 26) ci3 1 (by decide) h12 q330 (Or.inl rfl) rfl rfl rfl rfl rfl dX3_init_23 rfl ?_
  refine P.aload_n 0 (pc' := 27) dX3_init_26 rfl rfl rfl ?_
  obtain ⟨μ13, e14, hf⟩ := nm_i hf
  refine P.newE (pc' := 30) ci20 q277 q278 q165 dfJ2_ok e14 dX3_init_27 rfl ?_
  refine P.dup (pc' := 31) dX3_init_30 rfl rfl ?_
  obtain ⟨q15, h16, hf⟩ := ob hf
  refine P.callI (pc' := 34) (As := []) 0 (ok_J2_init F μ11.2.1 μ13 h16) (Nat.le_of_ble_eq_true rfl) q281 q165 q279 q280 rfl yok_J2_init rfl (Nat.le_of_ble_eq_true rfl) (Nat.le_of_ble_eq_true rfl) rfl dX3_init_31 rfl ?_
  obtain ⟨μ17, h18, hf⟩ := ob hf
  refine P.putF (v := .ref μ11.2.1) (pc' := 37) ci3 2 (by decide) h18 q333 (Or.inl rfl) rfl rfl rfl rfl rfl dX3_init_34 rfl ?_
  refine P.aload_n 0 (pc' := 38) dX3_init_37 rfl rfl rfl ?_
  obtain ⟨μ19, e20, hf⟩ := nm_i hf
  refine P.newE (pc' := 41) ci20 q277 q278 q165 dfJ2_ok e20 dX3_init_38 rfl ?_
  refine P.dup (pc' := 42) dX3_init_41 rfl rfl ?_
  obtain ⟨q21, h22, hf⟩ := ob hf
  refine P.callI (pc' := 45) (As := []) 0 (ok_J2_init F μ17.2.1 μ19 h22) (Nat.le_of_ble_eq_true rfl) q281 q165 q279 q280 rfl yok_J2_init rfl (Nat.le_of_ble_eq_true rfl) (Nat.le_of_ble_eq_true rfl) rfl dX3_init_42 rfl ?_
  obtain ⟨μ23, h24, hf⟩ := ob hf
  refine P.putF (v := .ref μ17.2.1) (pc' := 48) ci3 3 (by decide) h24 q336 (Or.inl rfl) rfl rfl rfl rfl rfl dX3_init_45 rfl ?_
  refine P.aload_n 0 (pc' := 49) dX3_init_48 rfl rfl rfl ?_
  obtain ⟨μ25, e26, hf⟩ := nm_i hf
  refine P.newE (pc' := 52) ci20 q277 q278 q165 dfJ2_ok e26 dX3_init_49 rfl ?_
  refine P.dup (pc' := 53) dX3_init_52 rfl rfl ?_
  obtain ⟨q27, h28, hf⟩ := ob hf
  refine P.callI (pc' := 56) (As := []) 0 (ok_J2_init F μ23.2.1 μ25 h28) (Nat.le_of_ble_eq_true rfl) q281 q165 q279 q280 rfl yok_J2_init rfl (Nat.le_of_ble_eq_true rfl) (Nat.le_of_ble_eq_true rfl) rfl dX3_init_53 rfl ?_
  obtain ⟨μ29, h30, hf⟩ := ob hf
  refine P.putF (v := .ref μ23.2.1) (pc' := 59) ci3 4 (by decide) h30 q339 (Or.inl rfl) rfl rfl rfl rfl rfl dX3_init_56 rfl ?_
  refine P.aload_n 0 (pc' := 60) dX3_init_59 rfl rfl rfl ?_
  refine P.bipush (v := 12) (pc' := 62) dX3_init_60 rfl (by decide) ?_
  obtain ⟨μ31, e32, hf⟩ := nm_i hf
  refine P.newarrE (t := 0) (atype := .int) (N := 12) (pc' := 64) q270 rfl (by decide) (fun _ _ h => h) rfl (fun _ => rfl) (by decide) (by decide) (Nat.le_of_ble_eq_true rfl) e32 dX3_init_62 rfl ?_
  obtain ⟨μ33, h34, hf⟩ := ob hf
  refine P.putF (v := .ref μ29.2.1) (pc' := 67) ci3 5 (by decide) h34 q342 (Or.inl rfl) rfl rfl rfl rfl rfl dX3_init_64 rfl ?_
  refine P.aload_n 0 (pc' := 68) dX3_init_67 rfl rfl rfl ?_
  refine P.bipush (v := 16) (pc' := 70) dX3_init_68 rfl (by decide) ?_
  obtain ⟨μ35, e36, hf⟩ := nm_i hf
  refine P.newarrE (t := 0) (atype := .int) (N := 16) (pc' := 72) q270 rfl (by decide) (fun _ _ h => h) rfl (fun _ => rfl) (by decide) (by decide) (Nat.le_of_ble_eq_true rfl) e36 dX3_init_70 rfl ?_
  obtain ⟨μ37, h38, hf⟩ := ob hf
  refine P.putF (v := .ref μ33.2.1) (pc' := 75) ci3 7 (by decide) h38 q347 (Or.inl rfl) rfl rfl rfl rfl rfl dX3_init_72 rfl ?_
  refine P.aload_n 0 (pc' := 76) dX3_init_75 rfl rfl rfl ?_
  refine P.bipush (v := 16) (pc' := 78) dX3_init_76 rfl (by decide) ?_
  obtain ⟨μ39, e40, hf⟩ := nm_i hf
  refine P.newarrE (t := 4) (atype := .boolean) (N := 16) (pc' := 80) q316 rfl (by decide) (fun _ _ h => h) rfl (fun _ => rfl) (by decide) (by decide) (Nat.le_of_ble_eq_true rfl) e40 dX3_init_78 rfl ?_
  obtain ⟨μ41, h42, hf⟩ := ob hf
  refine P.putF (v := .ref μ37.2.1) (pc' := 83) ci3 9 (by decide) h42 q351 (Or.inl rfl) rfl rfl rfl rfl rfl dX3_init_80 rfl ?_
  refine P.aload_n 0 (pc' := 84) dX3_init_83 rfl rfl rfl ?_
  refine P.iconst (v := 2) (pc' := 85) dX3_init_84 rfl (by decide) ?_
  obtain ⟨μ43, h44, hf⟩ := ob hf
  refine P.put (v := .int 2) (pc' := 88) ci3 11 (by decide) h44 q356 (Or.inl rfl) rfl rfl rfl dX3_init_85 rfl ?_
  refine P.aload_n 0 (pc' := 89) dX3_init_88 rfl rfl rfl ?_
  refine P.bipush (v := 10) (pc' := 91) dX3_init_89 rfl (by decide) ?_
  obtain ⟨μ45, h46, hf⟩ := ob hf
  refine P.put (v := .int 10) (pc' := 94) ci3 12 (by decide) h46 q359 (Or.inl rfl) rfl rfl rfl dX3_init_91 rfl ?_
  refine P.aload_n 0 (pc' := 95) dX3_init_94 rfl rfl rfl ?_
  obtain ⟨μ47, e48, hf⟩ := nm_i hf
  refine P.newE (pc' := 98) ci4 q303 q304 q167 dfX4_ok e48 dX3_init_95 rfl ?_
  refine P.dup (pc' := 99) dX3_init_98 rfl rfl ?_
  refine P.iconst (v := 0) (pc' := 100) dX3_init_99 rfl (by decide) ?_
  obtain ⟨q49, h50, hf⟩ := ob hf
  refine P.callIN (pc' := 103) (As := [.int 0]) 1 (ok_X4_init F μ45.2.1 0 μ47 h50) (Nat.le_of_ble_eq_true rfl) q307 q167 q305 q306 rfl yok_X4_init rfl (Nat.le_of_ble_eq_true rfl) (Nat.le_of_ble_eq_true rfl) rfl dX3_init_100 rfl ?_
  obtain ⟨μ51, h52, hf⟩ := ob hf
  refine P.put (v := .ref μ45.2.1) (pc' := 106) ci3 13 (by decide) h52 q362 (Or.inl rfl) rfl rfl rfl dX3_init_103 rfl ?_
  refine P.aload_n 0 (pc' := 107) dX3_init_106 rfl rfl rfl ?_
  obtain ⟨μ53, e54, hf⟩ := nm_i hf
  refine P.newE (pc' := 110) ci5 q317 q318 q168 dfX5_ok e54 dX3_init_107 rfl ?_
  refine P.dup (pc' := 111) dX3_init_110 rfl rfl ?_
  refine P.iconst (v := 1) (pc' := 112) dX3_init_111 rfl (by decide) ?_
  obtain ⟨q55, h56, hf⟩ := ob hf
  refine P.callIN (pc' := 115) (As := [.int 1]) 1 (ok_X5_init F μ51.2.1 1 μ53 h56) (Nat.le_of_ble_eq_true rfl) q321 q168 q319 q320 rfl yok_X5_init rfl (Nat.le_of_ble_eq_true rfl) (Nat.le_of_ble_eq_true rfl) rfl dX3_init_112 rfl ?_
  obtain ⟨μ57, h58, hf⟩ := ob hf
  refine P.put (v := .ref μ51.2.1) (pc' := 118) ci3 14 (by decide) h58 q365 (Or.inl rfl) rfl rfl rfl dX3_init_115 rfl ?_
  refine P.aload_n 0 (pc' := 119) dX3_init_118 rfl rfl rfl ?_
  obtain ⟨μ59, e60, hf⟩ := nm_i hf
  refine P.newE (pc' := 122) ci4 q303 q304 q167 dfX4_ok e60 dX3_init_119 rfl ?_
  refine P.dup (pc' := 123) dX3_init_122 rfl rfl ?_
  refine P.iconst (v := 0) (pc' := 124) dX3_init_123 rfl (by decide) ?_
  obtain ⟨q61, h62, hf⟩ := ob hf
  refine P.callIN (pc' := 127) (As := [.int 0]) 1 (ok_X4_init F μ57.2.1 0 μ59 h62) (Nat.le_of_ble_eq_true rfl) q307 q167 q305 q306 rfl yok_X4_init rfl (Nat.le_of_ble_eq_true rfl) (Nat.le_of_ble_eq_true rfl) rfl dX3_init_124 rfl ?_
  obtain ⟨μ63, h64, hf⟩ := ob hf
  refine P.put (v := .ref μ57.2.1) (pc' := 130) ci3 15 (by decide) h64 q368 (Or.inl rfl) rfl rfl rfl dX3_init_127 rfl ?_
  refine P.iconst (v := 0) (pc' := 131) dX3_init_130 rfl (by decide) ?_
  refine P.istore_n (pc' := 132) (lv' := [(1, .int 0), (0, .ref this)]) dX3_init_131 rfl rfl (Nat.le_of_ble_eq_true rfl) rfl ?_
  exact PW.sub [1, 0] rfl (ok_f_X3_init_L132 F this F _ _ hf)
abbrev mX6_init : Ym := (RX6, cX6_init, 1, none, true, [])
noncomputable def f_X6_init (F : Nat) (this : Nat) (μ : Sw) : Option Sw :=
  nm (nw μ (.inl (0, (16, .inl fun _ => 0))) 16) fun μ1 =>
  Option.bind (pf μ1 this 6 0 (.ref μ.2.1)) fun μ3 =>
  nm (nw μ3 (.inl (0, (16, .inl fun _ => 0))) 16) fun μ5 =>
  Option.bind (pf μ5 this 6 1 (.ref μ3.2.1)) fun μ7 =>
  nm (nw μ7 (.inl (0, (8, .inl fun _ => 0))) 8) fun μ9 =>
  Option.bind (pf μ9 this 6 2 (.ref μ7.2.1)) fun μ11 =>
  nm (nw μ11 (.inr (20, dfJ2)) 3) fun μ13 =>
  Option.bind (f_J2_init F μ11.2.1 μ13) fun q15 =>
  Option.bind (pf q15 this 6 4 (.ref μ11.2.1)) fun μ17 =>
  nm (nw μ17 (.inr (20, dfJ2)) 3) fun μ19 =>
  Option.bind (f_J2_init F μ17.2.1 μ19) fun q21 =>
  Option.bind (pf q21 this 6 5 (.ref μ17.2.1)) fun μ23 =>
  some μ23
set_option maxHeartbeats 4000000 in
theorem ok_X6_init {g : Gx} (F : Nat) (this : Nat) (μ : Sw) {μF : Sw} (hf : f_X6_init F this μ = some μF) : Cl g 4 yX6_init cX6_init 1 none [.ref this] μ none μF := by
  unfold f_X6_init at hf
  refine Cl.of (own := RX6) (ini := true) (by decide +kernel) rfl (by decide) (Nat.le_of_ble_eq_true rfl) ?_
  show PW g mX6_init 4 μ μF (QN g none μ μF) 0 [(0, .ref this)] [] μ
  refine P.aload_n 0 (pc' := 1) dX6_init_0 rfl rfl rfl ?_
  refine P.objInit (pc' := 4) q409 q202 q203 (by decide) (by decide) dX6_init_1 rfl ?_
  refine P.aload_n 0 (pc' := 5) dX6_init_4 rfl rfl rfl ?_
  refine P.bipush (v := 16) (pc' := 7) dX6_init_5 rfl (by decide) ?_
  obtain ⟨μ1, e2, hf⟩ := nm_i hf
  refine P.newarrE (t := 0) (atype := .int) (N := 16) (pc' := 9) q270 rfl (by decide) (fun _ _ h => h) rfl (fun _ => rfl) (by decide) (by decide) (Nat.le_of_ble_eq_true rfl) e2 dX6_init_7 rfl ?_
  obtain ⟨μ3, h4, hf⟩ := ob hf
  refine P.putF (v := .ref μ.2.1) (pc' := 12) ci6 0 (by decide) h4 q412 (Or.inl rfl) rfl rfl rfl rfl rfl dX6_init_9 rfl ?_
  refine P.aload_n 0 (pc' := 13) dX6_init_12 rfl rfl rfl ?_
  refine P.bipush (v := 16) (pc' := 15) dX6_init_13 rfl (by decide) ?_
  obtain ⟨μ5, e6, hf⟩ := nm_i hf
  refine P.newarrE (t := 0) (atype := .int) (N := 16) (pc' := 17) q270 rfl (by decide) (fun _ _ h => h) rfl (fun _ => rfl) (by decide) (by decide) (Nat.le_of_ble_eq_true rfl) e6 dX6_init_15 rfl ?_
  obtain ⟨μ7, h8, hf⟩ := ob hf
  refine P.putF (v := .ref μ3.2.1) (pc' := 20) ci6 1 (by decide) h8 q415 (Or.inl rfl) rfl rfl rfl rfl rfl dX6_init_17 rfl ?_
  refine P.aload_n 0 (pc' := 21) dX6_init_20 rfl rfl rfl ?_
  refine P.bipush (v := 8) (pc' := 23) dX6_init_21 rfl (by decide) ?_
  obtain ⟨μ9, e10, hf⟩ := nm_i hf
  refine P.newarrE (t := 0) (atype := .int) (N := 8) (pc' := 25) q270 rfl (by decide) (fun _ _ h => h) rfl (fun _ => rfl) (by decide) (by decide) (Nat.le_of_ble_eq_true rfl) e10 dX6_init_23 rfl ?_
  obtain ⟨μ11, h12, hf⟩ := ob hf
  refine P.putF (v := .ref μ7.2.1) (pc' := 28) ci6 2 (by decide) h12 q417 (Or.inl rfl) rfl rfl rfl rfl rfl dX6_init_25 rfl ?_
  refine P.aload_n 0 (pc' := 29) dX6_init_28 rfl rfl rfl ?_
  obtain ⟨μ13, e14, hf⟩ := nm_i hf
  refine P.newE (pc' := 32) ci20 q410 q278 q165 dfJ2_ok e14 dX6_init_29 rfl ?_
  refine P.dup (pc' := 33) dX6_init_32 rfl rfl ?_
  obtain ⟨q15, h16, hf⟩ := ob hf
  refine P.callI (pc' := 36) (As := []) 0 (ok_J2_init F μ11.2.1 μ13 h16) (Nat.le_of_ble_eq_true rfl) q281 q165 q411 q280 rfl yok_J2_init rfl (Nat.le_of_ble_eq_true rfl) (Nat.le_of_ble_eq_true rfl) rfl dX6_init_33 rfl ?_
  obtain ⟨μ17, h18, hf⟩ := ob hf
  refine P.putF (v := .ref μ11.2.1) (pc' := 39) ci6 4 (by decide) h18 q422 (Or.inl rfl) rfl rfl rfl rfl rfl dX6_init_36 rfl ?_
  refine P.aload_n 0 (pc' := 40) dX6_init_39 rfl rfl rfl ?_
  obtain ⟨μ19, e20, hf⟩ := nm_i hf
  refine P.newE (pc' := 43) ci20 q410 q278 q165 dfJ2_ok e20 dX6_init_40 rfl ?_
  refine P.dup (pc' := 44) dX6_init_43 rfl rfl ?_
  obtain ⟨q21, h22, hf⟩ := ob hf
  refine P.callI (pc' := 47) (As := []) 0 (ok_J2_init F μ17.2.1 μ19 h22) (Nat.le_of_ble_eq_true rfl) q281 q165 q411 q280 rfl yok_J2_init rfl (Nat.le_of_ble_eq_true rfl) (Nat.le_of_ble_eq_true rfl) rfl dX6_init_44 rfl ?_
  obtain ⟨μ23, h24, hf⟩ := ob hf
  refine P.putF (v := .ref μ17.2.1) (pc' := 50) ci6 5 (by decide) h24 q424 (Or.inl rfl) rfl rfl rfl rfl rfl dX6_init_47 rfl ?_
  cases hf; exact P.vret rfl dX6_init_50
abbrev mX7_init : Ym := (RX7, cX7_init, 1, none, true, [])
noncomputable def f_X7_init (F : Nat) (this : Nat) (μ : Sw) : Option Sw :=
  nm (nw μ (.inl (0, (9, .inl fun _ => 0))) 9) fun μ1 =>
  Option.bind (pf μ1 this 7 0 (.ref μ.2.1)) fun μ3 =>
  some μ3
set_option maxHeartbeats 4000000 in
theorem ok_X7_init {g : Gx} (F : Nat) (this : Nat) (μ : Sw) {μF : Sw} (hf : f_X7_init F this μ = some μF) : Cl g 1 yX7_init cX7_init 1 none [.ref this] μ none μF := by
  unfold f_X7_init at hf
  refine Cl.of (own := RX7) (ini := true) (by decide +kernel) rfl (by decide) (Nat.le_of_ble_eq_true rfl) ?_
  show PW g mX7_init 1 μ μF (QN g none μ μF) 0 [(0, .ref this)] [] μ
  refine P.aload_n 0 (pc' := 1) dX7_init_0 rfl rfl rfl ?_
  refine P.objInit (pc' := 4) q445 q202 q203 (by decide) (by decide) dX7_init_1 rfl ?_
  refine P.aload_n 0 (pc' := 5) dX7_init_4 rfl rfl rfl ?_
  refine P.bipush (v := 9) (pc' := 7) dX7_init_5 rfl (by decide) ?_
  obtain ⟨μ1, e2, hf⟩ := nm_i hf
  refine P.newarrE (t := 0) (atype := .int) (N := 9) (pc' := 9) q270 rfl (by decide) (fun _ _ h => h) rfl (fun _ => rfl) (by decide) (by decide) (Nat.le_of_ble_eq_true rfl) e2 dX7_init_7 rfl ?_
  obtain ⟨μ3, h4, hf⟩ := ob hf
  refine P.putF (v := .ref μ.2.1) (pc' := 12) ci7 0 (by decide) h4 q446 (Or.inl rfl) rfl rfl rfl rfl rfl dX7_init_9 rfl ?_
  cases hf; exact P.vret rfl dX7_init_12
abbrev mX8_init : Ym := (RX8, cX8_init, 1, none, true, [])
noncomputable def f_X8_init (F : Nat) (this : Nat) (μ : Sw) : Option Sw :=
  nm (nw μ (.inl (0, (16, .inl fun _ => 0))) 16) fun μ1 =>
  Option.bind (pf μ1 this 8 0 (.ref μ.2.1)) fun μ3 =>
  nm (nw μ3 (.inl (0, (8, .inl fun _ => 0))) 8) fun μ5 =>
  Option.bind (pf μ5 this 8 1 (.ref μ3.2.1)) fun μ7 =>
  some μ7
set_option maxHeartbeats 4000000 in
theorem ok_X8_init {g : Gx} (F : Nat) (this : Nat) (μ : Sw) {μF : Sw} (hf : f_X8_init F this μ = some μF) : Cl g 1 yX8_init cX8_init 1 none [.ref this] μ none μF := by
  unfold f_X8_init at hf
  refine Cl.of (own := RX8) (ini := true) (by decide +kernel) rfl (by decide) (Nat.le_of_ble_eq_true rfl) ?_
  show PW g mX8_init 1 μ μF (QN g none μ μF) 0 [(0, .ref this)] [] μ
  refine P.aload_n 0 (pc' := 1) dX8_init_0 rfl rfl rfl ?_
  refine P.objInit (pc' := 4) q462 q202 q203 (by decide) (by decide) dX8_init_1 rfl ?_
  refine P.aload_n 0 (pc' := 5) dX8_init_4 rfl rfl rfl ?_
  refine P.bipush (v := 16) (pc' := 7) dX8_init_5 rfl (by decide) ?_
  obtain ⟨μ1, e2, hf⟩ := nm_i hf
  refine P.newarrE (t := 0) (atype := .int) (N := 16) (pc' := 9) q270 rfl (by decide) (fun _ _ h => h) rfl (fun _ => rfl) (by decide) (by decide) (Nat.le_of_ble_eq_true rfl) e2 dX8_init_7 rfl ?_
  obtain ⟨μ3, h4, hf⟩ := ob hf
  refine P.putF (v := .ref μ.2.1) (pc' := 12) ci8 0 (by decide) h4 q463 (Or.inl rfl) rfl rfl rfl rfl rfl dX8_init_9 rfl ?_
  refine P.aload_n 0 (pc' := 13) dX8_init_12 rfl rfl rfl ?_
  refine P.bipush (v := 8) (pc' := 15) dX8_init_13 rfl (by decide) ?_
  obtain ⟨μ5, e6, hf⟩ := nm_i hf
  refine P.newarrE (t := 0) (atype := .int) (N := 8) (pc' := 17) q270 rfl (by decide) (fun _ _ h => h) rfl (fun _ => rfl) (by decide) (by decide) (Nat.le_of_ble_eq_true rfl) e6 dX8_init_15 rfl ?_
  obtain ⟨μ7, h8, hf⟩ := ob hf
  refine P.putF (v := .ref μ3.2.1) (pc' := 20) ci8 1 (by decide) h8 q465 (Or.inl rfl) rfl rfl rfl rfl rfl dX8_init_17 rfl ?_
  cases hf; exact P.vret rfl dX8_init_20
theorem yok_X1_init : yOK yX1_init 0 := ⟨by decide +kernel, by decide +kernel, by decide +kernel⟩
theorem yok_X2_init : yOK yX2_init 1 := ⟨by decide +kernel, by decide +kernel, by decide +kernel⟩
theorem yok_X3_init : yOK yX3_init 0 := ⟨by decide +kernel, by decide +kernel, by decide +kernel⟩
theorem yok_X6_init : yOK yX6_init 0 := ⟨by decide +kernel, by decide +kernel, by decide +kernel⟩
theorem yok_X7_init : yOK yX7_init 0 := ⟨by decide +kernel, by decide +kernel, by decide +kernel⟩
theorem yok_X8_init : yOK yX8_init 0 := ⟨by decide +kernel, by decide +kernel, by decide +kernel⟩
abbrev mX0_init : Ym := (RX0, cX0_init, 2, none, true, [])
noncomputable def f_X0_init_L172_b (F : Nat) (k197 : Sw → Option Sw) (c0 : Nat) (self : Int32 → Sw → Option Sw) (v1 : Int32) (μ : Sw) : Option Sw :=
  if 20 ≤ v1 then
    k197 μ
  else
    Option.bind (gfR μ c0 0 8) fun x2 =>
    nm (nw μ (.inr (8, dfX8)) 2) fun μ4 =>
    Option.bind (f_X8_init F μ.2.1 μ4) fun q6 =>
    Option.bind (sQ q6 8 x2 v1 (some μ.2.1)) fun μ9 =>
    Option.bind (oc q6 μ.2.1 8) fun u11 =>
    nm (v1 + 1) fun x12 =>
    self x12 μ9
noncomputable def f_X0_init_L172 (F : Nat) (k197 : Sw → Option Sw) (c0 : Nat) (n : Nat) : Int32 → Sw → Option Sw := Nat.rec (motive := fun _ => Int32 → Sw → Option Sw) (fun _ _ => none) (fun _ self => f_X0_init_L172_b F k197 c0 self) n
set_option maxHeartbeats 4000000 in
theorem ok_f_X0_init_L172 {g : Gx} {μ0 : Sw} {μF : Sw} (F : Nat) (c0 : Nat) (k197 : Sw → Option Sw) (hk197 : ∀ (μ : Sw), k197 μ = some μF → PW g mX0_init 5 μ0 μF (QN g none μ0 μF) 197 [(0, .ref c0)] [] μ) : ∀ (n : Nat) (v1 : Int32) (μ : Sw), f_X0_init_L172 F k197 c0 n v1 μ = some μF → PW g mX0_init 5 μ0 μF (QN g none μ0 μF) 172 [(0, .ref c0), (1, .int v1)] [] μ := by
  intro n
  induction n with
  | zero =>
    intro v1 μ hf
    have hf : (none : Option Sw) = some _ := hf
    cases hf
  | succ n ih =>
    intro v1 μ hf
    have hf : f_X0_init_L172_b F k197 c0 (f_X0_init_L172 F k197 c0 n) v1 μ = some μF := hf
    unfold f_X0_init_L172_b at hf
    refine P.iload_n 1 (pc' := 173) dX0_init_172 rfl rfl rfl ?_
    refine P.bipush (v := 20) (pc' := 175) dX0_init_173 rfl (by decide) ?_
    refine P.icmp_ge (tgt := 197) (pc' := 178) dX0_init_175 (by decide) rfl (fun y1 => ?_) (fun y1 => ?_)
    · have hf := (if_pos y1).symm.trans hf
      exact PW.sub [0] rfl (hk197 _ hf)
    · have hf := (if_neg y1).symm.trans hf
      refine P.aload_n 0 (pc' := 179) dX0_init_178 rfl rfl rfl ?_
      obtain ⟨x2, h3, hf⟩ := ob hf
      refine P.get (pc' := 182) ci0 8 (by decide) (gfR_spec h3) q483 (Or.inl rfl) dX0_init_179 rfl ?_
      refine P.iload_n 1 (pc' := 183) dX0_init_182 rfl rfl rfl ?_
      obtain ⟨μ4, e5, hf⟩ := nm_i hf
      refine P.newE (pc' := 186) ci8 q457 q458 q171 dfX8_ok e5 dX0_init_183 rfl ?_
      refine P.dup (pc' := 187) dX0_init_186 rfl rfl ?_
      obtain ⟨q6, h7, hf⟩ := ob hf
      refine P.callIN (pc' := 190) (As := []) 0 (ok_X8_init F μ.2.1 μ4 h7) (Nat.le_of_ble_eq_true rfl) q461 q171 q459 q460 rfl yok_X8_init rfl (Nat.le_of_ble_eq_true rfl) (Nat.le_of_ble_eq_true rfl) rfl dX0_init_187 rfl ?_
      obtain ⟨μ9, h8, hf⟩ := ob hf
      obtain ⟨u11, h10, hf⟩ := ob hf
      refine P.aast (t := 8) (pc' := 191) ci8 rfl (by decide) (oc_spec h10).choose_spec h8 dX0_init_190 rfl ?_
      obtain ⟨x12, e13, hf⟩ := nm_i hf
      refine P.iinc 1 (pc' := 194) (lv' := [(1, .int x12), (0, .ref c0)]) dX0_init_191 rfl rfl (by decide) e13 (Nat.le_of_ble_eq_true rfl) rfl ?_
      refine P.goto (tgt := 172) dX0_init_194 (by decide) ?_
      exact PW.sub [1, 0] rfl (ih _ _ hf)
noncomputable def f_X0_init_L199_b (F : Nat) (c0 : Nat) (self : Int32 → Sw → Option Sw) (v1 : Int32) (μ : Sw) : Option Sw :=
  if 16 ≤ v1 then
    some μ
  else
    Option.bind (gfR μ c0 0 4) fun x2 =>
    Option.bind (gfR μ x2 6 1) fun x4 =>
    Option.bind (sI μ 0 x4 v1 (-1)) fun μ7 =>
    nm (v1 + 1) fun x8 =>
    self x8 μ7
noncomputable def f_X0_init_L199 (F : Nat) (c0 : Nat) (n : Nat) : Int32 → Sw → Option Sw := Nat.rec (motive := fun _ => Int32 → Sw → Option Sw) (fun _ _ => none) (fun _ self => f_X0_init_L199_b F c0 self) n
set_option maxHeartbeats 4000000 in
theorem ok_f_X0_init_L199 {g : Gx} {μ0 : Sw} {μF : Sw} (F : Nat) (c0 : Nat) : ∀ (n : Nat) (v1 : Int32) (μ : Sw), f_X0_init_L199 F c0 n v1 μ = some μF → PW g mX0_init 5 μ0 μF (QN g none μ0 μF) 199 [(0, .ref c0), (1, .int v1)] [] μ := by
  intro n
  induction n with
  | zero =>
    intro v1 μ hf
    have hf : (none : Option Sw) = some _ := hf
    cases hf
  | succ n ih =>
    intro v1 μ hf
    have hf : f_X0_init_L199_b F c0 (f_X0_init_L199 F c0 n) v1 μ = some μF := hf
    unfold f_X0_init_L199_b at hf
    refine P.iload_n 1 (pc' := 200) dX0_init_199 rfl rfl rfl ?_
    refine P.bipush (v := 16) (pc' := 202) dX0_init_200 rfl (by decide) ?_
    refine P.icmp_ge (tgt := 221) (pc' := 205) dX0_init_202 (by decide) rfl (fun y1 => ?_) (fun y1 => ?_)
    · have hf := (if_pos y1).symm.trans hf
      cases hf; exact P.vret rfl dX0_init_221
    · have hf := (if_neg y1).symm.trans hf
      refine P.aload_n 0 (pc' := 206) dX0_init_205 rfl rfl rfl ?_
      obtain ⟨x2, h3, hf⟩ := ob hf
      refine P.get (pc' := 209) ci0 4 (by decide) (gfR_spec h3) q479 (Or.inl rfl) dX0_init_206 rfl ?_
      obtain ⟨x4, h5, hf⟩ := ob hf
      refine P.getN (pc' := 212) ci6 1 (by decide) (gfR_spec h5) q416 (Or.inl rfl) dX0_init_209 rfl ?_
      refine P.iload_n 1 (pc' := 213) dX0_init_212 rfl rfl rfl ?_
      refine P.iconst (v := (-1)) (pc' := 214) dX0_init_213 rfl (by decide) ?_
      obtain ⟨μ7, h6, hf⟩ := ob hf
      refine P.iast (pc' := 215) h6 dX0_init_214 rfl ?_
      obtain ⟨x8, e9, hf⟩ := nm_i hf
      refine P.iinc 1 (pc' := 218) (lv' := [(1, .int x8), (0, .ref c0)]) dX0_init_215 rfl rfl (by decide) e9 (Nat.le_of_ble_eq_true rfl) rfl ?_
      refine P.goto (tgt := 199) dX0_init_218 (by decide) ?_
      exact PW.sub [1, 0] rfl (ih _ _ hf)
noncomputable def f_X0_init (F : Nat) (this : Nat) (μ : Sw) : Option Sw :=
  nm (nw μ (.inr (1, dfX1)) 6) fun μ1 =>
  Option.bind (f_X1_init F μ.2.1 μ1) fun q3 =>
  Option.bind (pf q3 this 0 0 (.ref μ.2.1)) fun μ5 =>
  nm (nw μ5 (.inr (2, dfX2)) 9) fun μ7 =>
  Option.bind (gfR μ7 this 0 0) fun x9 =>
  Option.bind (f_X2_init F μ5.2.1 x9 μ7) fun q11 =>
  Option.bind (pf q11 this 0 1 (.ref μ5.2.1)) fun μ13 =>
  Option.bind (pf μ13 this 0 2 (.int (-1))) fun μ15 =>
  nm (nw μ15 (.inr (3, dfX3)) 16) fun μ17 =>
  Option.bind (f_X3_init F μ15.2.1 μ17) fun q19 =>
  Option.bind (pf q19 this 0 3 (.ref μ15.2.1)) fun μ21 =>
  nm (nw μ21 (.inr (6, dfX6)) 6) fun μ23 =>
  Option.bind (f_X6_init F μ21.2.1 μ23) fun q25 =>
  Option.bind (pf q25 this 0 4 (.ref μ21.2.1)) fun μ27 =>
  nm (nw μ27 (.inl (7, (2, .inr (.inr fun _ => none)))) 2) fun μ29 =>
  Option.bind (pf μ29 this 0 5 (.ref μ27.2.1)) fun μ31 =>
  nm (nw μ31 (.inr (7, dfX7)) 2) fun μ33 =>
  Option.bind (f_X7_init F μ31.2.1 μ33) fun q35 =>
  Option.bind (pf q35 this 0 6 (.ref μ31.2.1)) fun μ37 =>
  nm (nw μ37 (.inr (8, dfX8)) 2) fun μ39 =>
  Option.bind (f_X8_init F μ37.2.1 μ39) fun q41 =>
  Option.bind (pf q41 this 0 7 (.ref μ37.2.1)) fun μ43 =>
  nm (nw μ43 (.inl (8, (20, .inr (.inr fun _ => none)))) 20) fun μ45 =>
  Option.bind (pf μ45 this 0 8 (.ref μ43.2.1)) fun μ47 =>
  nm (nw μ47 (.inl (0, (12, .inl fun _ => 0))) 12) fun μ49 =>
  Option.bind (pf μ49 this 0 10 (.ref μ47.2.1)) fun μ51 =>
  nm (nwG μ51 9 100) fun μ53 =>
  Option.bind (pf μ53 this 0 12 (.ref μ51.2.1)) fun μ55 =>
  nm (nw μ55 (.inl (0, (8, .inl fun _ => 0))) 8) fun μ57 =>
  Option.bind (pf μ57 this 0 14 (.ref μ55.2.1)) fun μ59 =>
  nm (nw μ59 (.inl (0, (8, .inl fun _ => 0))) 8) fun μ61 =>
  Option.bind (pf μ61 this 0 15 (.ref μ59.2.1)) fun μ63 =>
  nm (nw μ63 (.inl (2, (256, .inl fun _ => 0))) 256) fun μ65 =>
  Option.bind (pf μ65 this 0 16 (.ref μ63.2.1)) fun μ67 =>
  nm (nw μ67 (.inl (4, (256, .inl fun _ => 0))) 256) fun μ69 =>
  Option.bind (pf μ69 this 0 17 (.ref μ67.2.1)) fun μ71 =>
  nm (nw μ71 (.inl (0, (16, .inl fun _ => 0))) 16) fun μ73 =>
  Option.bind (pf μ73 this 0 18 (.ref μ71.2.1)) fun μ75 =>
  nm (nwG μ75 13 100) fun μ77 =>
  Option.bind (pf μ77 this 0 19 (.ref μ75.2.1)) fun μ79 =>
  f_X0_init_L172 F
    (fun μ81 =>
      f_X0_init_L199 F this F 0 μ81)
    this F 0 μ79
set_option maxHeartbeats 4000000 in
theorem ok_X0_init {g : Gx} (F : Nat) (this : Nat) (μ : Sw) {μF : Sw} (hf : f_X0_init F this μ = some μF) : Cl g 5 yX0_init cX0_init 2 none [.ref this] μ none μF := by
  unfold f_X0_init at hf
  refine Cl.of (own := RX0) (ini := true) (by decide +kernel) rfl (by decide) (Nat.le_of_ble_eq_true rfl) ?_
  show PW g mX0_init 5 μ μF (QN g none μ μF) 0 [(0, .ref this)] [] μ
  refine P.aload_n 0 (pc' := 1) dX0_init_0 rfl rfl rfl ?_
  refine P.objInit (pc' := 4) q201 q202 q203 (by decide) (by decide) dX0_init_1 rfl ?_
  refine P.aload_n 0 (pc' := 5) dX0_init_4 rfl rfl rfl ?_
  obtain ⟨μ1, e2, hf⟩ := nm_i hf
  refine P.newE (pc' := 8) ci1 q204 q205 q160 dfX1_ok e2 dX0_init_5 rfl ?_
  refine P.dup (pc' := 9) dX0_init_8 rfl rfl ?_
  obtain ⟨q3, h4, hf⟩ := ob hf
  refine P.callIN (pc' := 12) (As := []) 0 (ok_X1_init F μ.2.1 μ1 h4) (Nat.le_of_ble_eq_true rfl) q208 q160 q206 q207 rfl yok_X1_init rfl (Nat.le_of_ble_eq_true rfl) (Nat.le_of_ble_eq_true rfl) rfl dX0_init_9 rfl ?_
  obtain ⟨μ5, h6, hf⟩ := ob hf
  refine P.putF (v := .ref μ.2.1) (pc' := 15) ci0 0 (by decide) h6 q475 (Or.inl rfl) rfl rfl rfl rfl rfl dX0_init_12 rfl ?_
  refine P.aload_n 0 (pc' := 16) dX0_init_15 rfl rfl rfl ?_
  obtain ⟨μ7, e8, hf⟩ := nm_i hf
  refine P.newE (pc' := 19) ci2 q236 q237 q161 dfX2_ok e8 dX0_init_16 rfl ?_
  refine P.dup (pc' := 20) dX0_init_19 rfl rfl ?_
  refine P.aload_n 0 (pc' := 21) dX0_init_20 rfl rfl rfl ?_
  obtain ⟨x9, h10, hf⟩ := ob hf
  refine P.get (pc' := 24) ci0 0 (by decide) (gfR_spec h10) q475 (Or.inl rfl) dX0_init_21 rfl ?_
  obtain ⟨q11, h12, hf⟩ := ob hf
  refine P.callI (pc' := 27) (As := [.ref x9]) 1 (ok_X2_init F μ5.2.1 x9 μ7 h12) (Nat.le_of_ble_eq_true rfl) q240 q161 q238 q239 rfl yok_X2_init rfl (Nat.le_of_ble_eq_true rfl) (Nat.le_of_ble_eq_true rfl) rfl dX0_init_24 rfl ?_
  obtain ⟨μ13, h14, hf⟩ := ob hf
  refine P.putF (v := .ref μ5.2.1) (pc' := 30) ci0 1 (by decide) h14 q476 (Or.inl rfl) rfl rfl rfl rfl rfl dX0_init_27 rfl ?_
  refine P.aload_n 0 (pc' := 31) dX0_init_30 rfl rfl rfl ?_
  refine P.iconst (v := (-1)) (pc' := 32) dX0_init_31 rfl (by decide) ?_
  obtain ⟨μ15, h16, hf⟩ := ob hf
  refine P.put (v := .int (-1)) (pc' := 35) ci0 2 (by decide) h16 q477 (Or.inl rfl) rfl rfl rfl dX0_init_32 rfl ?_
  refine P.aload_n 0 (pc' := 36) dX0_init_35 rfl rfl rfl ?_
  obtain ⟨μ17, e18, hf⟩ := nm_i hf
  refine P.newE (pc' := 39) ci3 q271 q272 q162 dfX3_ok e18 dX0_init_36 rfl ?_
  refine P.dup (pc' := 40) dX0_init_39 rfl rfl ?_
  obtain ⟨q19, h20, hf⟩ := ob hf
  refine P.callI (pc' := 43) (As := []) 0 (ok_X3_init F μ15.2.1 μ17 h20) (Nat.le_of_ble_eq_true rfl) q275 q162 q273 q274 rfl yok_X3_init rfl (Nat.le_of_ble_eq_true rfl) (Nat.le_of_ble_eq_true rfl) rfl dX0_init_40 rfl ?_
  obtain ⟨μ21, h22, hf⟩ := ob hf
  refine P.put (v := .ref μ15.2.1) (pc' := 46) ci0 3 (by decide) h22 q478 (Or.inl rfl) rfl rfl rfl dX0_init_43 rfl ?_
  refine P.aload_n 0 (pc' := 47) dX0_init_46 rfl rfl rfl ?_
  obtain ⟨μ23, e24, hf⟩ := nm_i hf
  refine P.newE (pc' := 50) ci6 q404 q405 q169 dfX6_ok e24 dX0_init_47 rfl ?_
  refine P.dup (pc' := 51) dX0_init_50 rfl rfl ?_
  obtain ⟨q25, h26, hf⟩ := ob hf
  refine P.callIN (pc' := 54) (As := []) 0 (ok_X6_init F μ21.2.1 μ23 h26) (Nat.le_of_ble_eq_true rfl) q408 q169 q406 q407 rfl yok_X6_init rfl (Nat.le_of_ble_eq_true rfl) (Nat.le_of_ble_eq_true rfl) rfl dX0_init_51 rfl ?_
  obtain ⟨μ27, h28, hf⟩ := ob hf
  refine P.put (v := .ref μ21.2.1) (pc' := 57) ci0 4 (by decide) h28 q479 (Or.inl rfl) rfl rfl rfl dX0_init_54 rfl ?_
  refine P.aload_n 0 (pc' := 58) dX0_init_57 rfl rfl rfl ?_
  refine P.iconst (v := 2) (pc' := 59) dX0_init_58 rfl (by decide) ?_
  obtain ⟨μ29, e30, hf⟩ := nm_i hf
  refine P.anewE (t := 7) (N := 2) (C := "StiltTown$State") (pc' := 62) q404 (by decide) rfl (by decide) (by decide) (by decide) (Nat.le_of_ble_eq_true rfl) e30 dX0_init_59 rfl ?_
  obtain ⟨μ31, h32, hf⟩ := ob hf
  refine P.putF (v := .ref μ27.2.1) (pc' := 65) ci0 5 (by decide) h32 q480 (Or.inl rfl) rfl rfl rfl rfl rfl dX0_init_62 rfl ?_
  refine P.aload_n 0 (pc' := 66) dX0_init_65 rfl rfl rfl ?_
  obtain ⟨μ33, e34, hf⟩ := nm_i hf
  refine P.newE (pc' := 69) ci7 q440 q441 q170 dfX7_ok e34 dX0_init_66 rfl ?_
  refine P.dup (pc' := 70) dX0_init_69 rfl rfl ?_
  obtain ⟨q35, h36, hf⟩ := ob hf
  refine P.callIN (pc' := 73) (As := []) 0 (ok_X7_init F μ31.2.1 μ33 h36) (Nat.le_of_ble_eq_true rfl) q444 q170 q442 q443 rfl yok_X7_init rfl (Nat.le_of_ble_eq_true rfl) (Nat.le_of_ble_eq_true rfl) rfl dX0_init_70 rfl ?_
  obtain ⟨μ37, h38, hf⟩ := ob hf
  refine P.putF (v := .ref μ31.2.1) (pc' := 76) ci0 6 (by decide) h38 q481 (Or.inl rfl) rfl rfl rfl rfl rfl dX0_init_73 rfl ?_
  refine P.aload_n 0 (pc' := 77) dX0_init_76 rfl rfl rfl ?_
  obtain ⟨μ39, e40, hf⟩ := nm_i hf
  refine P.newE (pc' := 80) ci8 q457 q458 q171 dfX8_ok e40 dX0_init_77 rfl ?_
  refine P.dup (pc' := 81) dX0_init_80 rfl rfl ?_
  obtain ⟨q41, h42, hf⟩ := ob hf
  refine P.callIN (pc' := 84) (As := []) 0 (ok_X8_init F μ37.2.1 μ39 h42) (Nat.le_of_ble_eq_true rfl) q461 q171 q459 q460 rfl yok_X8_init rfl (Nat.le_of_ble_eq_true rfl) (Nat.le_of_ble_eq_true rfl) rfl dX0_init_81 rfl ?_
  obtain ⟨μ43, h44, hf⟩ := ob hf
  refine P.putF (v := .ref μ37.2.1) (pc' := 87) ci0 7 (by decide) h44 q482 (Or.inl rfl) rfl rfl rfl rfl rfl dX0_init_84 rfl ?_
  refine P.aload_n 0 (pc' := 88) dX0_init_87 rfl rfl rfl ?_
  refine P.bipush (v := 20) (pc' := 90) dX0_init_88 rfl (by decide) ?_
  obtain ⟨μ45, e46, hf⟩ := nm_i hf
  refine P.anewE (t := 8) (N := 20) (C := "StiltTown$Kept") (pc' := 93) q457 (by decide) rfl (by decide) (by decide) (by decide) (Nat.le_of_ble_eq_true rfl) e46 dX0_init_90 rfl ?_
  obtain ⟨μ47, h48, hf⟩ := ob hf
  refine P.putF (v := .ref μ43.2.1) (pc' := 96) ci0 8 (by decide) h48 q483 (Or.inl rfl) rfl rfl rfl rfl rfl dX0_init_93 rfl ?_
  refine P.aload_n 0 (pc' := 97) dX0_init_96 rfl rfl rfl ?_
  refine P.bipush (v := 12) (pc' := 99) dX0_init_97 rfl (by decide) ?_
  obtain ⟨μ49, e50, hf⟩ := nm_i hf
  refine P.newarrE (t := 0) (atype := .int) (N := 12) (pc' := 101) q270 rfl (by decide) (fun _ _ h => h) rfl (fun _ => rfl) (by decide) (by decide) (Nat.le_of_ble_eq_true rfl) e50 dX0_init_99 rfl ?_
  obtain ⟨μ51, h52, hf⟩ := ob hf
  refine P.putF (v := .ref μ47.2.1) (pc' := 104) ci0 10 (by decide) h52 q485 (Or.inl rfl) rfl rfl rfl rfl rfl dX0_init_101 rfl ?_
  refine P.aload_n 0 (pc' := 105) dX0_init_104 rfl rfl rfl ?_
  refine P.bipush (v := 9) (pc' := 107) dX0_init_105 rfl (by decide) ?_
  refine P.bipush (v := 100) (pc' := 109) dX0_init_107 rfl (by decide) ?_
  obtain ⟨μ53, e54, hf⟩ := nm_i hf
  refine P.multi (n2 := 9) (k2 := 100) (pc' := 113) q473 q270 (by decide) (by decide) (by decide) (by decide) (Nat.le_of_ble_eq_true rfl) (Nat.le_of_ble_eq_true rfl) (Nat.le_of_ble_eq_true rfl) e54 dX0_init_109 rfl ?_
  obtain ⟨μ55, h56, hf⟩ := ob hf
  refine P.putF (v := .ref μ51.2.1) (pc' := 116) ci0 12 (by decide) h56 q487 (Or.inl rfl) rfl rfl rfl rfl rfl dX0_init_113 rfl ?_
  refine P.aload_n 0 (pc' := 117) dX0_init_116 rfl rfl rfl ?_
  refine P.bipush (v := 8) (pc' := 119) dX0_init_117 rfl (by decide) ?_
  obtain ⟨μ57, e58, hf⟩ := nm_i hf
  refine P.newarrE (t := 0) (atype := .int) (N := 8) (pc' := 121) q270 rfl (by decide) (fun _ _ h => h) rfl (fun _ => rfl) (by decide) (by decide) (Nat.le_of_ble_eq_true rfl) e58 dX0_init_119 rfl ?_
  obtain ⟨μ59, h60, hf⟩ := ob hf
  refine P.putF (v := .ref μ55.2.1) (pc' := 124) ci0 14 (by decide) h60 q489 (Or.inl rfl) rfl rfl rfl rfl rfl dX0_init_121 rfl ?_
  refine P.aload_n 0 (pc' := 125) dX0_init_124 rfl rfl rfl ?_
  refine P.bipush (v := 8) (pc' := 127) dX0_init_125 rfl (by decide) ?_
  obtain ⟨μ61, e62, hf⟩ := nm_i hf
  refine P.newarrE (t := 0) (atype := .int) (N := 8) (pc' := 129) q270 rfl (by decide) (fun _ _ h => h) rfl (fun _ => rfl) (by decide) (by decide) (Nat.le_of_ble_eq_true rfl) e62 dX0_init_127 rfl ?_
  obtain ⟨μ63, h64, hf⟩ := ob hf
  refine P.putF (v := .ref μ59.2.1) (pc' := 132) ci0 15 (by decide) h64 q490 (Or.inl rfl) rfl rfl rfl rfl rfl dX0_init_129 rfl ?_
  refine P.aload_n 0 (pc' := 133) dX0_init_132 rfl rfl rfl ?_
  refine P.sipush (v := 256) (pc' := 136) dX0_init_133 rfl (by decide) ?_
  obtain ⟨μ65, e66, hf⟩ := nm_i hf
  refine P.newarrE (t := 2) (atype := .byte) (N := 256) (pc' := 138) q233 rfl (by decide) (fun _ _ h => h) rfl (fun _ => rfl) (by decide) (by decide) (Nat.le_of_ble_eq_true rfl) e66 dX0_init_136 rfl ?_
  obtain ⟨μ67, h68, hf⟩ := ob hf
  refine P.putF (v := .ref μ63.2.1) (pc' := 141) ci0 16 (by decide) h68 q491 (Or.inl rfl) rfl rfl rfl rfl rfl dX0_init_138 rfl ?_
  refine P.aload_n 0 (pc' := 142) dX0_init_141 rfl rfl rfl ?_
  refine P.sipush (v := 256) (pc' := 145) dX0_init_142 rfl (by decide) ?_
  obtain ⟨μ69, e70, hf⟩ := nm_i hf
  refine P.newarrE (t := 4) (atype := .boolean) (N := 256) (pc' := 147) q316 rfl (by decide) (fun _ _ h => h) rfl (fun _ => rfl) (by decide) (by decide) (Nat.le_of_ble_eq_true rfl) e70 dX0_init_145 rfl ?_
  obtain ⟨μ71, h72, hf⟩ := ob hf
  refine P.putF (v := .ref μ67.2.1) (pc' := 150) ci0 17 (by decide) h72 q492 (Or.inl rfl) rfl rfl rfl rfl rfl dX0_init_147 rfl ?_
  refine P.aload_n 0 (pc' := 151) dX0_init_150 rfl rfl rfl ?_
  refine P.bipush (v := 16) (pc' := 153) dX0_init_151 rfl (by decide) ?_
  obtain ⟨μ73, e74, hf⟩ := nm_i hf
  refine P.newarrE (t := 0) (atype := .int) (N := 16) (pc' := 155) q270 rfl (by decide) (fun _ _ h => h) rfl (fun _ => rfl) (by decide) (by decide) (Nat.le_of_ble_eq_true rfl) e74 dX0_init_153 rfl ?_
  obtain ⟨μ75, h76, hf⟩ := ob hf
  refine P.putF (v := .ref μ71.2.1) (pc' := 158) ci0 18 (by decide) h76 q493 (Or.inl rfl) rfl rfl rfl rfl rfl dX0_init_155 rfl ?_
  refine P.aload_n 0 (pc' := 159) dX0_init_158 rfl rfl rfl ?_
  refine P.bipush (v := 13) (pc' := 161) dX0_init_159 rfl (by decide) ?_
  refine P.bipush (v := 100) (pc' := 163) dX0_init_161 rfl (by decide) ?_
  obtain ⟨μ77, e78, hf⟩ := nm_i hf
  refine P.multi (n2 := 13) (k2 := 100) (pc' := 167) q473 q270 (by decide) (by decide) (by decide) (by decide) (Nat.le_of_ble_eq_true rfl) (Nat.le_of_ble_eq_true rfl) (Nat.le_of_ble_eq_true rfl) e78 dX0_init_163 rfl ?_
  obtain ⟨μ79, h80, hf⟩ := ob hf
  refine P.putF (v := .ref μ75.2.1) (pc' := 170) ci0 19 (by decide) h80 q494 (Or.inl rfl) rfl rfl rfl rfl rfl dX0_init_167 rfl ?_
  refine P.iconst (v := 0) (pc' := 171) dX0_init_170 rfl (by decide) ?_
  refine P.istore_n (pc' := 172) (lv' := [(1, .int 0), (0, .ref this)]) dX0_init_171 rfl rfl (Nat.le_of_ble_eq_true rfl) rfl ?_
  refine PW.sub [1, 0] rfl (ok_f_X0_init_L172 F this _ ?_ F _ _ hf)
  · intro μ81 hf
    refine P.iconst (v := 0) (pc' := 198) dX0_init_197 rfl (by decide) ?_
    refine P.istore_n (pc' := 199) (lv' := [(1, .int 0), (0, .ref this)]) dX0_init_198 rfl rfl (Nat.le_of_ble_eq_true rfl) rfl ?_
    exact PW.sub [1, 0] rfl (ok_f_X0_init_L199 F this F _ _ hf)
abbrev mX1_put : Ym := (RX1, cX1_put, 3, none, false, [])
noncomputable def f_X1_put_L3_b (F : Nat) (c0 : Nat) (c1 : Int32) (self : Int32 → Sw → Option Sw) (v2 : Int32) (μ : Sw) : Option Sw :=
  if v2 < 0 then
    some μ
  else
    Option.bind (gfR μ c0 1 0) fun x2 =>
    Option.bind (gfI μ c0 1 1) fun x4 =>
    Option.bind (sI μ 2 x2 x4 (((c1.toUInt32 >>> (v2.toUInt32 &&& Int32.toUInt32 31)).toInt32).toInt8.toInt32)) fun μ7 =>
    Option.bind (gfI μ7 c0 1 1) fun x8 =>
    Option.bind (pf μ7 c0 1 1 (.int (x8 + 1))) fun μ10 =>
    nm (v2 + (-8)) fun x12 =>
    self x12 μ10
noncomputable def f_X1_put_L3 (F : Nat) (c0 : Nat) (c1 : Int32) (n : Nat) : Int32 → Sw → Option Sw := Nat.rec (motive := fun _ => Int32 → Sw → Option Sw) (fun _ _ => none) (fun _ self => f_X1_put_L3_b F c0 c1 self) n
set_option maxHeartbeats 4000000 in
theorem ok_f_X1_put_L3 {g : Gx} {μ0 : Sw} {μF : Sw} (F : Nat) (c0 : Nat) (c1 : Int32) : ∀ (n : Nat) (v2 : Int32) (μ : Sw), f_X1_put_L3 F c0 c1 n v2 μ = some μF → PW g mX1_put 1 μ0 μF (QN g none μ0 μF) 3 [(0, .ref c0), (1, .int c1), (2, .int v2)] [] μ := by
  intro n
  induction n with
  | zero =>
    intro v2 μ hf
    have hf : (none : Option Sw) = some _ := hf
    cases hf
  | succ n ih =>
    intro v2 μ hf
    have hf : f_X1_put_L3_b F c0 c1 (f_X1_put_L3 F c0 c1 n) v2 μ = some μF := hf
    unfold f_X1_put_L3_b at hf
    refine P.iload_n 2 (pc' := 4) dX1_put_3 rfl rfl rfl ?_
    refine P.if_lt (tgt := 36) (pc' := 7) dX1_put_4 (by decide) rfl (fun y1 => ?_) (fun y1 => ?_)
    · have hf := (if_pos y1).symm.trans hf
      cases hf; exact P.vret rfl dX1_put_36
    · have hf := (if_neg y1).symm.trans hf
      refine P.aload_n 0 (pc' := 8) dX1_put_7 rfl rfl rfl ?_
      obtain ⟨x2, h3, hf⟩ := ob hf
      refine P.get (pc' := 11) ci1 0 (by decide) (gfR_spec h3) q210 (Or.inl rfl) dX1_put_8 rfl ?_
      refine P.aload_n 0 (pc' := 12) dX1_put_11 rfl rfl rfl ?_
      obtain ⟨x4, h5, hf⟩ := ob hf
      refine P.get (pc' := 15) ci1 1 (by decide) (gfI_spec h5) q211 (Or.inl rfl) dX1_put_12 rfl ?_
      refine P.iload_n 1 (pc' := 16) dX1_put_15 rfl rfl rfl ?_
      refine P.iload_n 2 (pc' := 17) dX1_put_16 rfl rfl rfl ?_
      refine P.iushr (pc' := 18) dX1_put_17 rfl ?_
      refine P.i2b (pc' := 19) dX1_put_18 rfl ?_
      obtain ⟨μ7, h6, hf⟩ := ob hf
      refine P.bast (pc' := 20) h6 dX1_put_19 rfl ?_
      refine P.aload_n 0 (pc' := 21) dX1_put_20 rfl rfl rfl ?_
      refine P.dup (pc' := 22) dX1_put_21 rfl rfl ?_
      obtain ⟨x8, h9, hf⟩ := ob hf
      refine P.get (pc' := 25) ci1 1 (by decide) (gfI_spec h9) q211 (Or.inl rfl) dX1_put_22 rfl ?_
      refine P.iconst (v := 1) (pc' := 26) dX1_put_25 rfl (by decide) ?_
      refine P.iadd (pc' := 27) dX1_put_26 rfl ?_
      obtain ⟨μ10, h11, hf⟩ := ob hf
      refine P.put (v := .int (x8 + 1)) (pc' := 30) ci1 1 (by decide) h11 q211 (Or.inl rfl) rfl rfl rfl dX1_put_27 rfl ?_
      obtain ⟨x12, e13, hf⟩ := nm_i hf
      refine P.iinc 2 (pc' := 33) (lv' := [(2, .int x12), (0, .ref c0), (1, .int c1)]) dX1_put_30 rfl rfl (by decide) e13 (Nat.le_of_ble_eq_true rfl) rfl ?_
      refine P.goto (tgt := 3) dX1_put_33 (by decide) ?_
      exact PW.sub [1, 2, 0] rfl (ih _ _ hf)
noncomputable def f_X1_put (F : Nat) (this : Nat) (p1 : Int32) (μ : Sw) : Option Sw :=
  f_X1_put_L3 F this p1 F 24 μ
set_option maxHeartbeats 4000000 in
theorem ok_X1_put {g : Gx} (F : Nat) (this : Nat) (p1 : Int32) (μ : Sw) {μF : Sw} (hf : f_X1_put F this p1 μ = some μF) : Cl g 1 yX1_put cX1_put 3 none [.ref this, .int p1] μ none μF := by
  unfold f_X1_put at hf
  refine Cl.of (own := RX1) (ini := false) (by decide +kernel) rfl (by decide) (Nat.le_of_ble_eq_true rfl) ?_
  show PW g mX1_put 1 μ μF (QN g none μ μF) 0 [(0, .ref this), (1, .int p1)] [] μ
  refine P.bipush (v := 24) (pc' := 2) dX1_put_0 rfl (by decide) ?_
  refine P.istore_n (pc' := 3) (lv' := [(2, .int 24), (0, .ref this), (1, .int p1)]) dX1_put_2 rfl rfl (Nat.le_of_ble_eq_true rfl) rfl ?_
  exact PW.sub [1, 2, 0] rfl (ok_f_X1_put_L3 F this p1 F _ _ hf)
theorem yok_X1_put : yOK yX1_put 1 := ⟨by decide +kernel, by decide +kernel, by decide +kernel⟩
abbrev mX1_feed : Ym := (RX1, cX1_feed, 6, (some Jvm.ClassFile.FieldType.int), false, [])
noncomputable def f_X1_feed (F : Nat) (this : Nat) (p1 : Int32) (p2 : Int32) (p3 : Int32) (p4 : Int32) (p5 : Int32) (μ : Sw) : Option (Int32 × Sw) :=
  Option.bind (gfI μ this 1 1) fun x1 =>
  if (x1 + 20) ≤ 2000 then
    Option.bind (oc μ this 1) fun u6 =>
    Option.bind (f_X1_put F this p1 μ) fun q4 =>
    Option.bind (oc q4 this 1) fun u10 =>
    Option.bind (f_X1_put F this p2 q4) fun q8 =>
    Option.bind (oc q8 this 1) fun u14 =>
    Option.bind (f_X1_put F this p3 q8) fun q12 =>
    Option.bind (oc q12 this 1) fun u18 =>
    Option.bind (f_X1_put F this p4 q12) fun q16 =>
    Option.bind (oc q16 this 1) fun u22 =>
    Option.bind (f_X1_put F this p5 q16) fun q20 =>
    Option.bind (gfI q20 this 1 1) fun x24 =>
    some (x24, q20)
  else
    some ((-1), μ)
set_option maxHeartbeats 4000000 in
theorem ok_X1_feed {g : Gx} (F : Nat) (this : Nat) (p1 : Int32) (p2 : Int32) (p3 : Int32) (p4 : Int32) (p5 : Int32) (μ : Sw) {rv : Int32} {μF : Sw} (hf : f_X1_feed F this p1 p2 p3 p4 p5 μ = some (rv, μF)) : Cl g 2 yX1_feed cX1_feed 6 (some Jvm.ClassFile.FieldType.int) [.ref this, .int p1, .int p2, .int p3, .int p4, .int p5] μ (some (.int rv)) μF := by
  unfold f_X1_feed at hf
  refine Cl.of (own := RX1) (ini := false) (by decide +kernel) rfl (by decide) (Nat.le_of_ble_eq_true rfl) ?_
  show PW g mX1_feed 2 μ μF (QN g (some (.int rv)) μ μF) 0 [(0, .ref this), (1, .int p1), (2, .int p2), (3, .int p3), (4, .int p4), (5, .int p5)] [] μ
  refine P.aload_n 0 (pc' := 1) dX1_feed_0 rfl rfl rfl ?_
  obtain ⟨x1, h2, hf⟩ := ob hf
  refine P.get (pc' := 4) ci1 1 (by decide) (gfI_spec h2) q211 (Or.inl rfl) dX1_feed_1 rfl ?_
  refine P.bipush (v := 20) (pc' := 6) dX1_feed_4 rfl (by decide) ?_
  refine P.iadd (pc' := 7) dX1_feed_6 rfl ?_
  refine P.sipush (v := 2000) (pc' := 10) dX1_feed_7 rfl (by decide) ?_
  refine P.icmp_le (tgt := 15) (pc' := 13) dX1_feed_10 (by decide) rfl (fun y3 => ?_) (fun y3 => ?_)
  · have hf := (if_pos y3).symm.trans hf
    refine P.aload_n 0 (pc' := 16) dX1_feed_15 rfl rfl rfl ?_
    refine P.iload_n 1 (pc' := 17) dX1_feed_16 rfl rfl rfl ?_
    obtain ⟨u6, h7, hf⟩ := ob hf
    obtain ⟨q4, h5, hf⟩ := ob hf
    refine P.callV (pc' := 20) (As := [.int p1]) 1 (ok_X1_put F this p1 μ h5) (Nat.le_of_ble_eq_true rfl) (lw_V q544 q546 qs0 q160 q547) rfl yok_X1_put rfl (Nat.le_of_ble_eq_true rfl) ci1 h7 (by decide) rfl dX1_feed_17 rfl ?_
    refine P.aload_n 0 (pc' := 21) dX1_feed_20 rfl rfl rfl ?_
    refine P.iload_n 2 (pc' := 22) dX1_feed_21 rfl rfl rfl ?_
    obtain ⟨u10, h11, hf⟩ := ob hf
    obtain ⟨q8, h9, hf⟩ := ob hf
    refine P.callV (pc' := 25) (As := [.int p2]) 1 (ok_X1_put F this p2 q4 h9) (Nat.le_of_ble_eq_true rfl) (lw_V q544 q546 qs0 q160 q547) rfl yok_X1_put rfl (Nat.le_of_ble_eq_true rfl) ci1 h11 (by decide) rfl dX1_feed_22 rfl ?_
    refine P.aload_n 0 (pc' := 26) dX1_feed_25 rfl rfl rfl ?_
    refine P.iload_n 3 (pc' := 27) dX1_feed_26 rfl rfl rfl ?_
    obtain ⟨u14, h15, hf⟩ := ob hf
    obtain ⟨q12, h13, hf⟩ := ob hf
    refine P.callV (pc' := 30) (As := [.int p3]) 1 (ok_X1_put F this p3 q8 h13) (Nat.le_of_ble_eq_true rfl) (lw_V q544 q546 qs0 q160 q547) rfl yok_X1_put rfl (Nat.le_of_ble_eq_true rfl) ci1 h15 (by decide) rfl dX1_feed_27 rfl ?_
    refine P.aload_n 0 (pc' := 31) dX1_feed_30 rfl rfl rfl ?_
    refine P.iload 4 (pc' := 33) dX1_feed_31 rfl rfl ?_
    obtain ⟨u18, h19, hf⟩ := ob hf
    obtain ⟨q16, h17, hf⟩ := ob hf
    refine P.callV (pc' := 36) (As := [.int p4]) 1 (ok_X1_put F this p4 q12 h17) (Nat.le_of_ble_eq_true rfl) (lw_V q544 q546 qs0 q160 q547) rfl yok_X1_put rfl (Nat.le_of_ble_eq_true rfl) ci1 h19 (by decide) rfl dX1_feed_33 rfl ?_
    refine P.aload_n 0 (pc' := 37) dX1_feed_36 rfl rfl rfl ?_
    refine P.iload 5 (pc' := 39) dX1_feed_37 rfl rfl ?_
    obtain ⟨u22, h23, hf⟩ := ob hf
    obtain ⟨q20, h21, hf⟩ := ob hf
    refine P.callV (pc' := 42) (As := [.int p5]) 1 (ok_X1_put F this p5 q16 h21) (Nat.le_of_ble_eq_true rfl) (lw_V q544 q546 qs0 q160 q547) rfl yok_X1_put rfl (Nat.le_of_ble_eq_true rfl) ci1 h23 (by decide) rfl dX1_feed_39 rfl ?_
    refine P.aload_n 0 (pc' := 43) dX1_feed_42 rfl rfl rfl ?_
    obtain ⟨x24, h25, hf⟩ := ob hf
    refine P.get (pc' := 46) ci1 1 (by decide) (gfI_spec h25) q211 (Or.inl rfl) dX1_feed_43 rfl ?_
    cases hf; exact P.iret rfl dX1_feed_46
  · have hf := (if_neg y3).symm.trans hf
    refine P.iconst (v := (-1)) (pc' := 14) dX1_feed_13 rfl (by decide) ?_
    cases hf; exact P.iret rfl dX1_feed_14
theorem yok_X1_feed : yOK yX1_feed 5 := ⟨by decide +kernel, by decide +kernel, by decide +kernel⟩
abbrev mX0_feed : Ym := (RX0, cX0_feed, 6, (some Jvm.ClassFile.FieldType.int), false, [])
noncomputable def f_X0_feed (F : Nat) (this : Nat) (p1 : Int32) (p2 : Int32) (p3 : Int32) (p4 : Int32) (p5 : Int32) (μ : Sw) : Option (Int32 × Sw) :=
  Option.bind (gfR μ this 0 0) fun x1 =>
  Option.bind (oc μ x1 1) fun u5 =>
  Option.bind (f_X1_feed F x1 p1 p2 p3 p4 p5 μ) fun q3 =>
  some (q3.1, q3.2)
set_option maxHeartbeats 4000000 in
theorem ok_X0_feed {g : Gx} (F : Nat) (this : Nat) (p1 : Int32) (p2 : Int32) (p3 : Int32) (p4 : Int32) (p5 : Int32) (μ : Sw) {rv : Int32} {μF : Sw} (hf : f_X0_feed F this p1 p2 p3 p4 p5 μ = some (rv, μF)) : Cl g 3 yX0_feed cX0_feed 6 (some Jvm.ClassFile.FieldType.int) [.ref this, .int p1, .int p2, .int p3, .int p4, .int p5] μ (some (.int rv)) μF := by
  unfold f_X0_feed at hf
  refine Cl.of (own := RX0) (ini := false) (by decide +kernel) rfl (by decide) (Nat.le_of_ble_eq_true rfl) ?_
  show PW g mX0_feed 3 μ μF (QN g (some (.int rv)) μ μF) 0 [(0, .ref this), (1, .int p1), (2, .int p2), (3, .int p3), (4, .int p4), (5, .int p5)] [] μ
  refine P.aload_n 0 (pc' := 1) dX0_feed_0 rfl rfl rfl ?_
  obtain ⟨x1, h2, hf⟩ := ob hf
  refine P.get (pc' := 4) ci0 0 (by decide) (gfR_spec h2) q475 (Or.inl rfl) dX0_feed_1 rfl ?_
  refine P.iload_n 1 (pc' := 5) dX0_feed_4 rfl rfl rfl ?_
  refine P.iload_n 2 (pc' := 6) dX0_feed_5 rfl rfl rfl ?_
  refine P.iload_n 3 (pc' := 7) dX0_feed_6 rfl rfl rfl ?_
  refine P.iload 4 (pc' := 9) dX0_feed_7 rfl rfl ?_
  refine P.iload 5 (pc' := 11) dX0_feed_9 rfl rfl ?_
  obtain ⟨u5, h6, hf⟩ := ob hf
  obtain ⟨q3, h4, hf⟩ := ob hf
  refine P.callV (pc' := 14) (As := [.int p1, .int p2, .int p3, .int p4, .int p5]) 5 (ok_X1_feed F x1 p1 p2 p3 p4 p5 μ h4) (Nat.le_of_ble_eq_true rfl) (lw_V q540 q541 q542 q160 q543) rfl yok_X1_feed rfl (Nat.le_of_ble_eq_true rfl) ci1 h6 (by decide) rfl dX0_feed_11 rfl ?_
  cases hf; exact P.iret rfl dX0_feed_14
abbrev mX1_back : Ym := (RX1, cX1_back, 2, (some Jvm.ClassFile.FieldType.int), false, [])
noncomputable def f_X1_back (F : Nat) (this : Nat) (p1 : Int32) (μ : Sw) : Option (Int32 × Sw) :=
  Option.bind (gfI μ this 1 1) fun x1 =>
  Option.bind (p_X0_within F p1 0 x1) fun q3 =>
  if q3 = 0 then
    some ((-1), μ)
  else
    Option.bind (gfI μ this 1 1) fun x6 =>
    Option.bind (pf μ this 1 1 (.int (x6 - p1))) fun μ8 =>
    Option.bind (gfI μ8 this 1 1) fun x10 =>
    some (x10, μ8)
set_option maxHeartbeats 4000000 in
theorem ok_X1_back {g : Gx} (F : Nat) (this : Nat) (p1 : Int32) (μ : Sw) {rv : Int32} {μF : Sw} (hf : f_X1_back F this p1 μ = some (rv, μF)) : Cl g 2 yX1_back cX1_back 2 (some Jvm.ClassFile.FieldType.int) [.ref this, .int p1] μ (some (.int rv)) μF := by
  unfold f_X1_back at hf
  refine Cl.of (own := RX1) (ini := false) (by decide +kernel) rfl (by decide) (Nat.le_of_ble_eq_true rfl) ?_
  show PW g mX1_back 2 μ μF (QN g (some (.int rv)) μ μF) 0 [(0, .ref this), (1, .int p1)] [] μ
  refine P.iload_n 1 (pc' := 1) dX1_back_0 rfl rfl rfl ?_
  refine P.iconst (v := 0) (pc' := 2) dX1_back_1 rfl (by decide) ?_
  refine P.aload_n 0 (pc' := 3) dX1_back_2 rfl rfl rfl ?_
  obtain ⟨x1, h2, hf⟩ := ob hf
  refine P.get (pc' := 6) ci1 1 (by decide) (gfI_spec h2) q211 (Or.inl rfl) dX1_back_3 rfl ?_
  obtain ⟨q3, h4, hf⟩ := ob hf
  refine P.callSN (pc' := 9) (As := [.int p1, .int 0, .int x1]) 3 (ok_X0_within F p1 0 x1 μ h4) (Nat.le_of_ble_eq_true rfl) q558 q159 q556 q557 yok_X0_within rfl (Nat.le_of_ble_eq_true rfl) (by decide) rfl dX1_back_6 rfl ?_
  refine P.if_ne (tgt := 14) (pc' := 12) dX1_back_9 (by decide) rfl (fun y5 => ?_) (fun y5 => ?_)
  · have hf := (if_neg y5).symm.trans hf
    refine P.aload_n 0 (pc' := 15) dX1_back_14 rfl rfl rfl ?_
    refine P.dup (pc' := 16) dX1_back_15 rfl rfl ?_
    obtain ⟨x6, h7, hf⟩ := ob hf
    refine P.get (pc' := 19) ci1 1 (by decide) (gfI_spec h7) q211 (Or.inl rfl) dX1_back_16 rfl ?_
    refine P.iload_n 1 (pc' := 20) dX1_back_19 rfl rfl rfl ?_
    refine P.isub (pc' := 21) dX1_back_20 rfl ?_
    obtain ⟨μ8, h9, hf⟩ := ob hf
    refine P.put (v := .int (x6 - p1)) (pc' := 24) ci1 1 (by decide) h9 q211 (Or.inl rfl) rfl rfl rfl dX1_back_21 rfl ?_
    refine P.aload_n 0 (pc' := 25) dX1_back_24 rfl rfl rfl ?_
    obtain ⟨x10, h11, hf⟩ := ob hf
    refine P.get (pc' := 28) ci1 1 (by decide) (gfI_spec h11) q211 (Or.inl rfl) dX1_back_25 rfl ?_
    cases hf; exact P.iret rfl dX1_back_28
  · have hf := (if_pos y5).symm.trans hf
    refine P.iconst (v := (-1)) (pc' := 13) dX1_back_12 rfl (by decide) ?_
    cases hf; exact P.iret rfl dX1_back_13
theorem yok_X1_back : yOK yX1_back 1 := ⟨by decide +kernel, by decide +kernel, by decide +kernel⟩
abbrev mX0_back : Ym := (RX0, cX0_back, 2, (some Jvm.ClassFile.FieldType.int), false, [])
noncomputable def f_X0_back (F : Nat) (this : Nat) (p1 : Int32) (μ : Sw) : Option (Int32 × Sw) :=
  Option.bind (gfR μ this 0 0) fun x1 =>
  Option.bind (oc μ x1 1) fun u5 =>
  Option.bind (f_X1_back F x1 p1 μ) fun q3 =>
  some (q3.1, q3.2)
set_option maxHeartbeats 4000000 in
theorem ok_X0_back {g : Gx} (F : Nat) (this : Nat) (p1 : Int32) (μ : Sw) {rv : Int32} {μF : Sw} (hf : f_X0_back F this p1 μ = some (rv, μF)) : Cl g 3 yX0_back cX0_back 2 (some Jvm.ClassFile.FieldType.int) [.ref this, .int p1] μ (some (.int rv)) μF := by
  unfold f_X0_back at hf
  refine Cl.of (own := RX0) (ini := false) (by decide +kernel) rfl (by decide) (Nat.le_of_ble_eq_true rfl) ?_
  show PW g mX0_back 3 μ μF (QN g (some (.int rv)) μ μF) 0 [(0, .ref this), (1, .int p1)] [] μ
  refine P.aload_n 0 (pc' := 1) dX0_back_0 rfl rfl rfl ?_
  obtain ⟨x1, h2, hf⟩ := ob hf
  refine P.get (pc' := 4) ci0 0 (by decide) (gfR_spec h2) q475 (Or.inl rfl) dX0_back_1 rfl ?_
  refine P.iload_n 1 (pc' := 5) dX0_back_4 rfl rfl rfl ?_
  obtain ⟨u5, h6, hf⟩ := ob hf
  obtain ⟨q3, h4, hf⟩ := ob hf
  refine P.callV (pc' := 8) (As := [.int p1]) 1 (ok_X1_back F x1 p1 μ h4) (Nat.le_of_ble_eq_true rfl) (lw_V q552 q553 q554 q160 q555) rfl yok_X1_back rfl (Nat.le_of_ble_eq_true rfl) ci1 h6 (by decide) rfl dX0_back_5 rfl ?_
  cases hf; exact P.iret rfl dX0_back_8
abbrev mX1_byteAt : Ym := (RX1, cX1_byteAt, 2, (some Jvm.ClassFile.FieldType.int), false, [])
noncomputable def f_X1_byteAt (F : Nat) (this : Nat) (p1 : Int32) (μ : Sw) : Option Int32 :=
  Option.bind (gfI μ this 1 1) fun x1 =>
  if x1 ≤ p1 then
    some 0
  else
    Option.bind (gfR μ this 1 0) fun x4 =>
    Option.bind (aI μ 2 x4 p1) fun x6 =>
    some x6
set_option maxHeartbeats 4000000 in
theorem ok_X1_byteAt {g : Gx} (F : Nat) (this : Nat) (p1 : Int32) (μ : Sw) {rv : Int32} (hf : f_X1_byteAt F this p1 μ = some rv) : Cl g 1 yX1_byteAt cX1_byteAt 2 (some Jvm.ClassFile.FieldType.int) [.ref this, .int p1] μ (some (.int rv)) μ := by
  unfold f_X1_byteAt at hf
  refine Cl.of (own := RX1) (ini := false) (by decide +kernel) rfl (by decide) (Nat.le_of_ble_eq_true rfl) ?_
  show PW g mX1_byteAt 1 μ μ (QN g (some (.int rv)) μ μ) 0 [(0, .ref this), (1, .int p1)] [] μ
  refine P.iload_n 1 (pc' := 1) dX1_byteAt_0 rfl rfl rfl ?_
  refine P.aload_n 0 (pc' := 2) dX1_byteAt_1 rfl rfl rfl ?_
  obtain ⟨x1, h2, hf⟩ := ob hf
  refine P.get (pc' := 5) ci1 1 (by decide) (gfI_spec h2) q211 (Or.inl rfl) dX1_byteAt_2 rfl ?_
  refine P.icmp_ge (tgt := 17) (pc' := 8) dX1_byteAt_5 (by decide) rfl (fun y3 => ?_) (fun y3 => ?_)
  · have hf := (if_pos y3).symm.trans hf
    refine P.iconst (v := 0) (pc' := 18) dX1_byteAt_17 rfl (by decide) ?_
    cases hf; exact P.iret rfl dX1_byteAt_18
  · have hf := (if_neg y3).symm.trans hf
    refine P.aload_n 0 (pc' := 9) dX1_byteAt_8 rfl rfl rfl ?_
    obtain ⟨x4, h5, hf⟩ := ob hf
    refine P.get (pc' := 12) ci1 0 (by decide) (gfR_spec h5) q210 (Or.inl rfl) dX1_byteAt_9 rfl ?_
    refine P.iload_n 1 (pc' := 13) dX1_byteAt_12 rfl rfl rfl ?_
    obtain ⟨x6, h7, hf⟩ := ob hf
    refine P.bald (t := 2) (pc' := 14) rfl h7 dX1_byteAt_13 rfl ?_
    refine P.goto (tgt := 18) dX1_byteAt_14 (by decide) ?_
    cases hf; exact P.iret rfl dX1_byteAt_18
abbrev mX1_add : Ym := (RX1, cX1_add, 5, none, false, [])
noncomputable def f_X1_add (F : Nat) (this : Nat) (p1 : Int32) (p2 : Int32) (p3 : Int64) (μ : Sw) : Option Sw :=
  Option.bind (gfR μ this 1 2) fun x1 =>
  Option.bind (gfI μ this 1 5) fun x3 =>
  Option.bind (sI μ 3 x1 x3 p1.toInt16.toInt32) fun μ6 =>
  Option.bind (gfR μ6 this 1 3) fun x7 =>
  Option.bind (gfI μ6 this 1 5) fun x9 =>
  Option.bind (sI μ6 3 x7 x9 p2.toInt16.toInt32) fun μ12 =>
  Option.bind (gfR μ12 this 1 4) fun x13 =>
  Option.bind (gfI μ12 this 1 5) fun x15 =>
  Option.bind (sL μ12 1 x13 x15 p3) fun μ18 =>
  Option.bind (gfI μ18 this 1 5) fun x19 =>
  Option.bind (pf μ18 this 1 5 (.int (x19 + 1))) fun μ21 =>
  some μ21
set_option maxHeartbeats 4000000 in
theorem ok_X1_add {g : Gx} (F : Nat) (this : Nat) (p1 : Int32) (p2 : Int32) (p3 : Int64) (μ : Sw) {μF : Sw} (hf : f_X1_add F this p1 p2 p3 μ = some μF) : Cl g 1 yX1_add cX1_add 5 none [.ref this, .int p1, .int p2, .long p3] μ none μF := by
  unfold f_X1_add at hf
  refine Cl.of (own := RX1) (ini := false) (by decide +kernel) rfl (by decide) (Nat.le_of_ble_eq_true rfl) ?_
  show PW g mX1_add 1 μ μF (QN g none μ μF) 0 [(0, .ref this), (1, .int p1), (2, .int p2), (3, .long p3)] [] μ
  refine P.aload_n 0 (pc' := 1) dX1_add_0 rfl rfl rfl ?_
  obtain ⟨x1, h2, hf⟩ := ob hf
  refine P.get (pc' := 4) ci1 2 (by decide) (gfR_spec h2) q213 (Or.inl rfl) dX1_add_1 rfl ?_
  refine P.aload_n 0 (pc' := 5) dX1_add_4 rfl rfl rfl ?_
  obtain ⟨x3, h4, hf⟩ := ob hf
  refine P.get (pc' := 8) ci1 5 (by decide) (gfI_spec h4) q219 (Or.inl rfl) dX1_add_5 rfl ?_
  refine P.iload_n 1 (pc' := 9) dX1_add_8 rfl rfl rfl ?_
  refine P.i2s (pc' := 10) dX1_add_9 rfl ?_
  obtain ⟨μ6, h5, hf⟩ := ob hf
  refine P.sast (pc' := 11) h5 dX1_add_10 rfl ?_
  refine P.aload_n 0 (pc' := 12) dX1_add_11 rfl rfl rfl ?_
  obtain ⟨x7, h8, hf⟩ := ob hf
  refine P.get (pc' := 15) ci1 3 (by decide) (gfR_spec h8) q215 (Or.inl rfl) dX1_add_12 rfl ?_
  refine P.aload_n 0 (pc' := 16) dX1_add_15 rfl rfl rfl ?_
  obtain ⟨x9, h10, hf⟩ := ob hf
  refine P.get (pc' := 19) ci1 5 (by decide) (gfI_spec h10) q219 (Or.inl rfl) dX1_add_16 rfl ?_
  refine P.iload_n 2 (pc' := 20) dX1_add_19 rfl rfl rfl ?_
  refine P.i2s (pc' := 21) dX1_add_20 rfl ?_
  obtain ⟨μ12, h11, hf⟩ := ob hf
  refine P.sast (pc' := 22) h11 dX1_add_21 rfl ?_
  refine P.aload_n 0 (pc' := 23) dX1_add_22 rfl rfl rfl ?_
  obtain ⟨x13, h14, hf⟩ := ob hf
  refine P.get (pc' := 26) ci1 4 (by decide) (gfR_spec h14) q217 (Or.inl rfl) dX1_add_23 rfl ?_
  refine P.aload_n 0 (pc' := 27) dX1_add_26 rfl rfl rfl ?_
  obtain ⟨x15, h16, hf⟩ := ob hf
  refine P.get (pc' := 30) ci1 5 (by decide) (gfI_spec h16) q219 (Or.inl rfl) dX1_add_27 rfl ?_
  refine P.lload_n 3 (pc' := 31) dX1_add_30 rfl rfl rfl ?_
  obtain ⟨μ18, h17, hf⟩ := ob hf
  refine P.last (pc' := 32) h17 dX1_add_31 rfl ?_
  refine P.aload_n 0 (pc' := 33) dX1_add_32 rfl rfl rfl ?_
  refine P.dup (pc' := 34) dX1_add_33 rfl rfl ?_
  obtain ⟨x19, h20, hf⟩ := ob hf
  refine P.get (pc' := 37) ci1 5 (by decide) (gfI_spec h20) q219 (Or.inl rfl) dX1_add_34 rfl ?_
  refine P.iconst (v := 1) (pc' := 38) dX1_add_37 rfl (by decide) ?_
  refine P.iadd (pc' := 39) dX1_add_38 rfl ?_
  obtain ⟨μ21, h22, hf⟩ := ob hf
  refine P.put (v := .int (x19 + 1)) (pc' := 42) ci1 5 (by decide) h22 q219 (Or.inl rfl) rfl rfl rfl dX1_add_39 rfl ?_
  cases hf; exact P.vret rfl dX1_add_42
theorem yok_X1_add : yOK yX1_add 3 := ⟨by decide +kernel, by decide +kernel, by decide +kernel⟩
theorem yok_X1_byteAt : yOK yX1_byteAt 1 := ⟨by decide +kernel, by decide +kernel, by decide +kernel⟩
abbrev mX1_sign : Ym := (RX1, cX1_sign, 4, (some Jvm.ClassFile.FieldType.int), false, [])
noncomputable def f_X1_sign_j130 (F : Nat) (v0 : Nat) (v1 : Int32) (v2 : Int32) (s0 : Int32) (μ : Sw) : Option (Int32 × Sw) :=
  if s0 = 0 then
    Option.bind (oc μ v0 1) fun u4 =>
    Option.bind (f_X1_add F v0 3 v1 0 μ) fun q2 =>
    some (v1 + 1, q2)
  else
    Option.bind (oc μ v0 1) fun u8 =>
    Option.bind (f_X1_add F v0 v2 v1 0 μ) fun q6 =>
    some (v1 + 1, q6)
set_option maxHeartbeats 4000000 in
theorem ok_f_X1_sign_j130 {g : Gx} {μ0 : Sw} {rv : Int32} {μF : Sw} (F : Nat) (v0 : Nat) (v1 : Int32) (v2 : Int32) (s0 : Int32) (μ : Sw) (hf : f_X1_sign_j130 F v0 v1 v2 s0 μ = some (rv, μF)) : PW g mX1_sign 2 μ0 μF (QN g (some (.int rv)) μ0 μF) 130 [(0, .ref v0), (1, .int v1), (2, .int v2)] [.int s0] μ := by
  unfold f_X1_sign_j130 at hf
  refine P.istore_n (pc' := 131) (lv' := [(3, .int s0), (0, .ref v0), (1, .int v1), (2, .int v2)]) dX1_sign_130 rfl rfl (Nat.le_of_ble_eq_true rfl) rfl ?_
  refine P.aload_n 1 (pc' := 132) dX1_sign_131 rfl rfl rfl ?_
  refine P.iload_n 0 (pc' := 133) dX1_sign_132 rfl rfl rfl ?_
  refine P.if_eq (tgt := 140) (pc' := 136) dX1_sign_133 (by decide) rfl (fun y1 => ?_) (fun y1 => ?_)
  · have hf := (if_pos y1).symm.trans hf
    refine P.iconst (v := 3) (pc' := 141) dX1_sign_140 rfl (by decide) ?_
    refine P.iload_n 2 (pc' := 142) dX1_sign_141 rfl rfl rfl ?_
    refine P.lconst (v := 0) (pc' := 143) dX1_sign_142 rfl (by decide) ?_
    obtain ⟨u4, h5, hf⟩ := ob hf
    obtain ⟨q2, h3, hf⟩ := ob hf
    refine P.callV (pc' := 146) (As := [.int 3, .int v1, .long 0]) 3 (ok_X1_add F v0 3 v1 0 μ h3) (Nat.le_of_ble_eq_true rfl) (lw_V q568 q570 qs1 q160 q571) rfl yok_X1_add rfl (Nat.le_of_ble_eq_true rfl) ci1 h5 (by decide) rfl dX1_sign_143 rfl ?_
    refine P.iload_n 2 (pc' := 147) dX1_sign_146 rfl rfl rfl ?_
    refine P.iconst (v := 1) (pc' := 148) dX1_sign_147 rfl (by decide) ?_
    refine P.iadd (pc' := 149) dX1_sign_148 rfl ?_
    cases hf; exact P.iret rfl dX1_sign_149
  · have hf := (if_neg y1).symm.trans hf
    refine P.iload_n 3 (pc' := 137) dX1_sign_136 rfl rfl rfl ?_
    refine P.goto (tgt := 141) dX1_sign_137 (by decide) ?_
    refine P.iload_n 2 (pc' := 142) dX1_sign_141 rfl rfl rfl ?_
    refine P.lconst (v := 0) (pc' := 143) dX1_sign_142 rfl (by decide) ?_
    obtain ⟨u8, h9, hf⟩ := ob hf
    obtain ⟨q6, h7, hf⟩ := ob hf
    refine P.callV (pc' := 146) (As := [.int v2, .int v1, .long 0]) 3 (ok_X1_add F v0 v2 v1 0 μ h7) (Nat.le_of_ble_eq_true rfl) (lw_V q568 q570 qs1 q160 q571) rfl yok_X1_add rfl (Nat.le_of_ble_eq_true rfl) ci1 h9 (by decide) rfl dX1_sign_143 rfl ?_
    refine P.iload_n 2 (pc' := 147) dX1_sign_146 rfl rfl rfl ?_
    refine P.iconst (v := 1) (pc' := 148) dX1_sign_147 rfl (by decide) ?_
    refine P.iadd (pc' := 149) dX1_sign_148 rfl ?_
    cases hf; exact P.iret rfl dX1_sign_149
noncomputable def f_X1_sign_j125 (F : Nat) (v0 : Nat) (v1 : Int32) (v2 : Int32) (μ : Sw) : Option (Int32 × Sw) :=
  f_X1_sign_j130 F v0 v1 v2 1 μ
set_option maxHeartbeats 4000000 in
theorem ok_f_X1_sign_j125 {g : Gx} {μ0 : Sw} {rv : Int32} {μF : Sw} (F : Nat) (v0 : Nat) (v1 : Int32) (v2 : Int32) (μ : Sw) (hf : f_X1_sign_j125 F v0 v1 v2 μ = some (rv, μF)) : PW g mX1_sign 2 μ0 μF (QN g (some (.int rv)) μ0 μF) 125 [(0, .ref v0), (1, .int v1), (2, .int v2)] [] μ := by
  unfold f_X1_sign_j125 at hf
  refine P.iconst (v := 1) (pc' := 126) dX1_sign_125 rfl (by decide) ?_
  refine P.goto (tgt := 130) dX1_sign_126 (by decide) ?_
  exact PW.sub [0, 1, 2] rfl (ok_f_X1_sign_j130 F v0 v1 v2 1 μ hf)
noncomputable def f_X1_sign_j71 (F : Nat) (v0 : Nat) (v1 : Int32) (v2 : Int32) (μ : Sw) : Option (Int32 × Sw) :=
  if v2 = 59 then
    f_X1_sign_j125 F v0 v1 v2 μ
  else
    if v2 = 61 then
      f_X1_sign_j125 F v0 v1 v2 μ
    else
      if v2 = 43 then
        f_X1_sign_j125 F v0 v1 v2 μ
      else
        if v2 = 45 then
          f_X1_sign_j125 F v0 v1 v2 μ
        else
          if v2 = 42 then
            f_X1_sign_j125 F v0 v1 v2 μ
          else
            if v2 = 47 then
              f_X1_sign_j125 F v0 v1 v2 μ
            else
              if v2 = 60 then
                f_X1_sign_j125 F v0 v1 v2 μ
              else
                if v2 = 40 then
                  f_X1_sign_j125 F v0 v1 v2 μ
                else
                  if v2 = 41 then
                    f_X1_sign_j125 F v0 v1 v2 μ
                  else
                    f_X1_sign_j130 F v0 v1 v2 0 μ
set_option maxHeartbeats 4000000 in
theorem ok_f_X1_sign_j71 {g : Gx} {μ0 : Sw} {rv : Int32} {μF : Sw} (F : Nat) (v0 : Nat) (v1 : Int32) (v2 : Int32) (μ : Sw) (hf : f_X1_sign_j71 F v0 v1 v2 μ = some (rv, μF)) : PW g mX1_sign 2 μ0 μF (QN g (some (.int rv)) μ0 μF) 71 [(0, .ref v0), (1, .int v1), (2, .int v2)] [] μ := by
  unfold f_X1_sign_j71 at hf
  refine P.iload_n 2 (pc' := 72) dX1_sign_71 rfl rfl rfl ?_
  refine P.bipush (v := 59) (pc' := 74) dX1_sign_72 rfl (by decide) ?_
  refine P.icmp_eq (tgt := 125) (pc' := 77) dX1_sign_74 (by decide) rfl (fun y1 => ?_) (fun y1 => ?_)
  · have hf := (if_pos y1).symm.trans hf
    exact PW.sub [0, 1, 2] rfl (ok_f_X1_sign_j125 F v0 v1 v2 μ hf)
  · have hf := (if_neg y1).symm.trans hf
    refine P.iload_n 2 (pc' := 78) dX1_sign_77 rfl rfl rfl ?_
    refine P.bipush (v := 61) (pc' := 80) dX1_sign_78 rfl (by decide) ?_
    refine P.icmp_eq (tgt := 125) (pc' := 83) dX1_sign_80 (by decide) rfl (fun y2 => ?_) (fun y2 => ?_)
    · have hf := (if_pos y2).symm.trans hf
      exact PW.sub [0, 1, 2] rfl (ok_f_X1_sign_j125 F v0 v1 v2 μ hf)
    · have hf := (if_neg y2).symm.trans hf
      refine P.iload_n 2 (pc' := 84) dX1_sign_83 rfl rfl rfl ?_
      refine P.bipush (v := 43) (pc' := 86) dX1_sign_84 rfl (by decide) ?_
      refine P.icmp_eq (tgt := 125) (pc' := 89) dX1_sign_86 (by decide) rfl (fun y3 => ?_) (fun y3 => ?_)
      · have hf := (if_pos y3).symm.trans hf
        exact PW.sub [0, 1, 2] rfl (ok_f_X1_sign_j125 F v0 v1 v2 μ hf)
      · have hf := (if_neg y3).symm.trans hf
        refine P.iload_n 2 (pc' := 90) dX1_sign_89 rfl rfl rfl ?_
        refine P.bipush (v := 45) (pc' := 92) dX1_sign_90 rfl (by decide) ?_
        refine P.icmp_eq (tgt := 125) (pc' := 95) dX1_sign_92 (by decide) rfl (fun y4 => ?_) (fun y4 => ?_)
        · have hf := (if_pos y4).symm.trans hf
          exact PW.sub [0, 1, 2] rfl (ok_f_X1_sign_j125 F v0 v1 v2 μ hf)
        · have hf := (if_neg y4).symm.trans hf
          refine P.iload_n 2 (pc' := 96) dX1_sign_95 rfl rfl rfl ?_
          refine P.bipush (v := 42) (pc' := 98) dX1_sign_96 rfl (by decide) ?_
          refine P.icmp_eq (tgt := 125) (pc' := 101) dX1_sign_98 (by decide) rfl (fun y5 => ?_) (fun y5 => ?_)
          · have hf := (if_pos y5).symm.trans hf
            exact PW.sub [0, 1, 2] rfl (ok_f_X1_sign_j125 F v0 v1 v2 μ hf)
          · have hf := (if_neg y5).symm.trans hf
            refine P.iload_n 2 (pc' := 102) dX1_sign_101 rfl rfl rfl ?_
            refine P.bipush (v := 47) (pc' := 104) dX1_sign_102 rfl (by decide) ?_
            refine P.icmp_eq (tgt := 125) (pc' := 107) dX1_sign_104 (by decide) rfl (fun y6 => ?_) (fun y6 => ?_)
            · have hf := (if_pos y6).symm.trans hf
              exact PW.sub [0, 1, 2] rfl (ok_f_X1_sign_j125 F v0 v1 v2 μ hf)
            · have hf := (if_neg y6).symm.trans hf
              refine P.iload_n 2 (pc' := 108) dX1_sign_107 rfl rfl rfl ?_
              refine P.bipush (v := 60) (pc' := 110) dX1_sign_108 rfl (by decide) ?_
              refine P.icmp_eq (tgt := 125) (pc' := 113) dX1_sign_110 (by decide) rfl (fun y7 => ?_) (fun y7 => ?_)
              · have hf := (if_pos y7).symm.trans hf
                exact PW.sub [0, 1, 2] rfl (ok_f_X1_sign_j125 F v0 v1 v2 μ hf)
              · have hf := (if_neg y7).symm.trans hf
                refine P.iload_n 2 (pc' := 114) dX1_sign_113 rfl rfl rfl ?_
                refine P.bipush (v := 40) (pc' := 116) dX1_sign_114 rfl (by decide) ?_
                refine P.icmp_eq (tgt := 125) (pc' := 119) dX1_sign_116 (by decide) rfl (fun y8 => ?_) (fun y8 => ?_)
                · have hf := (if_pos y8).symm.trans hf
                  exact PW.sub [0, 1, 2] rfl (ok_f_X1_sign_j125 F v0 v1 v2 μ hf)
                · have hf := (if_neg y8).symm.trans hf
                  refine P.iload_n 2 (pc' := 120) dX1_sign_119 rfl rfl rfl ?_
                  refine P.bipush (v := 41) (pc' := 122) dX1_sign_120 rfl (by decide) ?_
                  refine P.icmp_ne (tgt := 129) (pc' := 125) dX1_sign_122 (by decide) rfl (fun y9 => ?_) (fun y9 => ?_)
                  · have hf := (if_neg y9).symm.trans hf
                    refine P.iconst (v := 0) (pc' := 130) dX1_sign_129 rfl (by decide) ?_
                    exact PW.sub [0, 1, 2] rfl (ok_f_X1_sign_j130 F v0 v1 v2 0 μ hf)
                  · have hf := (if_pos y9).symm.trans hf
                    exact PW.sub [0, 1, 2] rfl (ok_f_X1_sign_j125 F v0 v1 v2 μ hf)
noncomputable def f_X1_sign_j37 (F : Nat) (v0 : Nat) (v1 : Int32) (v2 : Int32) (μ : Sw) : Option (Int32 × Sw) :=
  if v2 = 61 then
    Option.bind (oc μ v0 1) fun u13 =>
    Option.bind (f_X1_add F v0 101 v1 0 μ) fun q11 =>
    some (v1 + 2, q11)
  else
    if v2 = 33 then
      Option.bind (oc μ v0 1) fun u9 =>
      Option.bind (f_X1_add F v0 110 v1 0 μ) fun q7 =>
      some (v1 + 2, q7)
    else
      Option.bind (oc μ v0 1) fun u5 =>
      Option.bind (f_X1_add F v0 109 v1 0 μ) fun q3 =>
      some (v1 + 2, q3)
set_option maxHeartbeats 4000000 in
theorem ok_f_X1_sign_j37 {g : Gx} {μ0 : Sw} {rv : Int32} {μF : Sw} (F : Nat) (v0 : Nat) (v1 : Int32) (v2 : Int32) (μ : Sw) (hf : f_X1_sign_j37 F v0 v1 v2 μ = some (rv, μF)) : PW g mX1_sign 2 μ0 μF (QN g (some (.int rv)) μ0 μF) 37 [(0, .ref v0), (1, .int v1), (2, .int v2)] [] μ := by
  unfold f_X1_sign_j37 at hf
  refine P.aload_n 0 (pc' := 38) dX1_sign_37 rfl rfl rfl ?_
  refine P.iload_n 2 (pc' := 39) dX1_sign_38 rfl rfl rfl ?_
  refine P.bipush (v := 61) (pc' := 41) dX1_sign_39 rfl (by decide) ?_
  refine P.icmp_ne (tgt := 49) (pc' := 44) dX1_sign_41 (by decide) rfl (fun y1 => ?_) (fun y1 => ?_)
  · have hf := (if_neg y1).symm.trans hf
    refine P.iload_n 2 (pc' := 50) dX1_sign_49 rfl rfl rfl ?_
    refine P.bipush (v := 33) (pc' := 52) dX1_sign_50 rfl (by decide) ?_
    refine P.icmp_ne (tgt := 60) (pc' := 55) dX1_sign_52 (by decide) rfl (fun y2 => ?_) (fun y2 => ?_)
    · have hf := (if_neg y2).symm.trans hf
      refine P.bipush (v := 109) (pc' := 62) dX1_sign_60 rfl (by decide) ?_
      refine P.iload_n 1 (pc' := 63) dX1_sign_62 rfl rfl rfl ?_
      refine P.lconst (v := 0) (pc' := 64) dX1_sign_63 rfl (by decide) ?_
      obtain ⟨u5, h6, hf⟩ := ob hf
      obtain ⟨q3, h4, hf⟩ := ob hf
      refine P.callV (pc' := 67) (As := [.int 109, .int v1, .long 0]) 3 (ok_X1_add F v0 109 v1 0 μ h4) (Nat.le_of_ble_eq_true rfl) (lw_V q568 q570 qs1 q160 q571) rfl yok_X1_add rfl (Nat.le_of_ble_eq_true rfl) ci1 h6 (by decide) rfl dX1_sign_64 rfl ?_
      refine P.iload_n 1 (pc' := 68) dX1_sign_67 rfl rfl rfl ?_
      refine P.iconst (v := 2) (pc' := 69) dX1_sign_68 rfl (by decide) ?_
      refine P.iadd (pc' := 70) dX1_sign_69 rfl ?_
      cases hf; exact P.iret rfl dX1_sign_70
    · have hf := (if_pos y2).symm.trans hf
      refine P.bipush (v := 110) (pc' := 57) dX1_sign_55 rfl (by decide) ?_
      refine P.goto (tgt := 62) dX1_sign_57 (by decide) ?_
      refine P.iload_n 1 (pc' := 63) dX1_sign_62 rfl rfl rfl ?_
      refine P.lconst (v := 0) (pc' := 64) dX1_sign_63 rfl (by decide) ?_
      obtain ⟨u9, h10, hf⟩ := ob hf
      obtain ⟨q7, h8, hf⟩ := ob hf
      refine P.callV (pc' := 67) (As := [.int 110, .int v1, .long 0]) 3 (ok_X1_add F v0 110 v1 0 μ h8) (Nat.le_of_ble_eq_true rfl) (lw_V q568 q570 qs1 q160 q571) rfl yok_X1_add rfl (Nat.le_of_ble_eq_true rfl) ci1 h10 (by decide) rfl dX1_sign_64 rfl ?_
      refine P.iload_n 1 (pc' := 68) dX1_sign_67 rfl rfl rfl ?_
      refine P.iconst (v := 2) (pc' := 69) dX1_sign_68 rfl (by decide) ?_
      refine P.iadd (pc' := 70) dX1_sign_69 rfl ?_
      cases hf; exact P.iret rfl dX1_sign_70
  · have hf := (if_pos y1).symm.trans hf
    refine P.bipush (v := 101) (pc' := 46) dX1_sign_44 rfl (by decide) ?_
    refine P.goto (tgt := 62) dX1_sign_46 (by decide) ?_
    refine P.iload_n 1 (pc' := 63) dX1_sign_62 rfl rfl rfl ?_
    refine P.lconst (v := 0) (pc' := 64) dX1_sign_63 rfl (by decide) ?_
    obtain ⟨u13, h14, hf⟩ := ob hf
    obtain ⟨q11, h12, hf⟩ := ob hf
    refine P.callV (pc' := 67) (As := [.int 101, .int v1, .long 0]) 3 (ok_X1_add F v0 101 v1 0 μ h12) (Nat.le_of_ble_eq_true rfl) (lw_V q568 q570 qs1 q160 q571) rfl yok_X1_add rfl (Nat.le_of_ble_eq_true rfl) ci1 h14 (by decide) rfl dX1_sign_64 rfl ?_
    refine P.iload_n 1 (pc' := 68) dX1_sign_67 rfl rfl rfl ?_
    refine P.iconst (v := 2) (pc' := 69) dX1_sign_68 rfl (by decide) ?_
    refine P.iadd (pc' := 70) dX1_sign_69 rfl ?_
    cases hf; exact P.iret rfl dX1_sign_70
noncomputable def f_X1_sign (F : Nat) (this : Nat) (p1 : Int32) (μ : Sw) : Option (Int32 × Sw) :=
  Option.bind (gfR μ this 1 0) fun x1 =>
  Option.bind (aI μ 2 x1 p1) fun x3 =>
  Option.bind (oc μ this 1) fun u7 =>
  Option.bind (f_X1_byteAt F this (p1 + 1) μ) fun q5 =>
  if q5 = 61 then
    if x3 = 61 then
      f_X1_sign_j37 F this p1 x3 μ
    else
      if x3 = 33 then
        f_X1_sign_j37 F this p1 x3 μ
      else
        if x3 = 60 then
          f_X1_sign_j37 F this p1 x3 μ
        else
          f_X1_sign_j71 F this p1 x3 μ
  else
    f_X1_sign_j71 F this p1 x3 μ
set_option maxHeartbeats 4000000 in
theorem ok_X1_sign {g : Gx} (F : Nat) (this : Nat) (p1 : Int32) (μ : Sw) {rv : Int32} {μF : Sw} (hf : f_X1_sign F this p1 μ = some (rv, μF)) : Cl g 2 yX1_sign cX1_sign 4 (some Jvm.ClassFile.FieldType.int) [.ref this, .int p1] μ (some (.int rv)) μF := by
  unfold f_X1_sign at hf
  refine Cl.of (own := RX1) (ini := false) (by decide +kernel) rfl (by decide) (Nat.le_of_ble_eq_true rfl) ?_
  show PW g mX1_sign 2 μ μF (QN g (some (.int rv)) μ μF) 0 [(0, .ref this), (1, .int p1)] [] μ
  refine P.aload_n 0 (pc' := 1) dX1_sign_0 rfl rfl rfl ?_
  obtain ⟨x1, h2, hf⟩ := ob hf
  refine P.get (pc' := 4) ci1 0 (by decide) (gfR_spec h2) q210 (Or.inl rfl) dX1_sign_1 rfl ?_
  refine P.iload_n 1 (pc' := 5) dX1_sign_4 rfl rfl rfl ?_
  obtain ⟨x3, h4, hf⟩ := ob hf
  refine P.bald (t := 2) (pc' := 6) rfl h4 dX1_sign_5 rfl ?_
  refine P.istore_n (pc' := 7) (lv' := [(2, .int x3), (0, .ref this), (1, .int p1)]) dX1_sign_6 rfl rfl (Nat.le_of_ble_eq_true rfl) rfl ?_
  refine P.aload_n 1 (pc' := 8) dX1_sign_7 rfl rfl rfl ?_
  refine P.iload_n 2 (pc' := 9) dX1_sign_8 rfl rfl rfl ?_
  refine P.iconst (v := 1) (pc' := 10) dX1_sign_9 rfl (by decide) ?_
  refine P.iadd (pc' := 11) dX1_sign_10 rfl ?_
  obtain ⟨u7, h8, hf⟩ := ob hf
  obtain ⟨q5, h6, hf⟩ := ob hf
  refine P.callV (pc' := 14) (As := [.int (p1 + 1)]) 1 (ok_X1_byteAt F this (p1 + 1) μ h6) (Nat.le_of_ble_eq_true rfl) (lw_V q579 q581 qs3 q160 q582) rfl yok_X1_byteAt rfl (Nat.le_of_ble_eq_true rfl) ci1 h8 (by decide) rfl dX1_sign_11 rfl ?_
  refine P.bipush (v := 61) (pc' := 16) dX1_sign_14 rfl (by decide) ?_
  refine P.icmp_ne (tgt := 71) (pc' := 19) dX1_sign_16 (by decide) rfl (fun y9 => ?_) (fun y9 => ?_)
  · have hf := (if_neg y9).symm.trans hf
    exact PW.sub [1, 2, 0] rfl (ok_f_X1_sign_j71 F this p1 x3 μ hf)
  · have hf := (if_pos y9).symm.trans hf
    refine P.iload_n 0 (pc' := 20) dX1_sign_19 rfl rfl rfl ?_
    refine P.bipush (v := 61) (pc' := 22) dX1_sign_20 rfl (by decide) ?_
    refine P.icmp_eq (tgt := 37) (pc' := 25) dX1_sign_22 (by decide) rfl (fun y10 => ?_) (fun y10 => ?_)
    · have hf := (if_pos y10).symm.trans hf
      exact PW.sub [1, 2, 0] rfl (ok_f_X1_sign_j37 F this p1 x3 μ hf)
    · have hf := (if_neg y10).symm.trans hf
      refine P.iload_n 0 (pc' := 26) dX1_sign_25 rfl rfl rfl ?_
      refine P.bipush (v := 33) (pc' := 28) dX1_sign_26 rfl (by decide) ?_
      refine P.icmp_eq (tgt := 37) (pc' := 31) dX1_sign_28 (by decide) rfl (fun y11 => ?_) (fun y11 => ?_)
      · have hf := (if_pos y11).symm.trans hf
        exact PW.sub [1, 2, 0] rfl (ok_f_X1_sign_j37 F this p1 x3 μ hf)
      · have hf := (if_neg y11).symm.trans hf
        refine P.iload_n 0 (pc' := 32) dX1_sign_31 rfl rfl rfl ?_
        refine P.bipush (v := 60) (pc' := 34) dX1_sign_32 rfl (by decide) ?_
        refine P.icmp_ne (tgt := 71) (pc' := 37) dX1_sign_34 (by decide) rfl (fun y12 => ?_) (fun y12 => ?_)
        · have hf := (if_neg y12).symm.trans hf
          exact PW.sub [1, 2, 0] rfl (ok_f_X1_sign_j71 F this p1 x3 μ hf)
        · have hf := (if_pos y12).symm.trans hf
          exact PW.sub [1, 2, 0] rfl (ok_f_X1_sign_j37 F this p1 x3 μ hf)
theorem yok_X1_isDigit : yOK yX1_isDigit 1 := ⟨by decide +kernel, by decide +kernel, by decide +kernel⟩
abbrev mX1_number : Ym := (RX1, cX1_number, 4, (some Jvm.ClassFile.FieldType.int), false, [])
noncomputable def f_X1_number_L4_b (F : Nat) (k43 : Int32 → Int32 → Option (Int32 × Sw)) (c0 : Nat) (c1 : Int32) (μ : Sw) (self : Int32 → Int32 → Option (Int32 × Sw)) (v2 : Int32) (v3 : Int32) : Option (Int32 × Sw) :=
  Option.bind (oc μ c0 1) fun u3 =>
  Option.bind (f_X1_byteAt F c0 v2 μ) fun q1 =>
  Option.bind (p_X1_isDigit F q1) fun q5 =>
  if q5 = 0 then
    k43 v2 v3
  else
    if (c1 + 4) ≤ v2 then
      nm (v2 + 1) fun x9 =>
      self x9 v3
    else
      Option.bind (gfR μ c0 1 0) fun x11 =>
      Option.bind (aI μ 2 x11 v2) fun x13 =>
      nm (((10 * v3) + x13) - 48) fun x15 =>
      nm (v2 + 1) fun x17 =>
      self x17 x15
noncomputable def f_X1_number_L4 (F : Nat) (k43 : Int32 → Int32 → Option (Int32 × Sw)) (c0 : Nat) (c1 : Int32) (μ : Sw) (n : Nat) : Int32 → Int32 → Option (Int32 × Sw) := Nat.rec (motive := fun _ => Int32 → Int32 → Option (Int32 × Sw)) (fun _ _ => none) (fun _ self => f_X1_number_L4_b F k43 c0 c1 μ self) n
set_option maxHeartbeats 4000000 in
theorem ok_f_X1_number_L4 {g : Gx} {μ0 : Sw} {rv : Int32} {μF : Sw} (F : Nat) (c0 : Nat) (c1 : Int32) (μ : Sw) (k43 : Int32 → Int32 → Option (Int32 × Sw)) (hk43 : ∀ (w2 : Int32) (w3 : Int32), k43 w2 w3 = some (rv, μF) → PW g mX1_number 2 μ0 μF (QN g (some (.int rv)) μ0 μF) 43 [(0, .ref c0), (1, .int c1), (2, .int w2), (3, .int w3)] [] μ) : ∀ (n : Nat) (v2 : Int32) (v3 : Int32), f_X1_number_L4 F k43 c0 c1 μ n v2 v3 = some (rv, μF) → PW g mX1_number 2 μ0 μF (QN g (some (.int rv)) μ0 μF) 4 [(0, .ref c0), (1, .int c1), (2, .int v2), (3, .int v3)] [] μ := by
  intro n
  induction n with
  | zero =>
    intro v2 v3 hf
    have hf : (none : Option (Int32 × Sw)) = some _ := hf
    cases hf
  | succ n ih =>
    intro v2 v3 hf
    have hf : f_X1_number_L4_b F k43 c0 c1 μ (f_X1_number_L4 F k43 c0 c1 μ n) v2 v3 = some (rv, μF) := hf
    unfold f_X1_number_L4_b at hf
    refine P.aload_n 0 (pc' := 5) dX1_number_4 rfl rfl rfl ?_
    refine P.iload_n 2 (pc' := 6) dX1_number_5 rfl rfl rfl ?_
    obtain ⟨u3, h4, hf⟩ := ob hf
    obtain ⟨q1, h2, hf⟩ := ob hf
    refine P.callV (pc' := 9) (As := [.int v2]) 1 (ok_X1_byteAt F c0 v2 μ h2) (Nat.le_of_ble_eq_true rfl) (lw_V q579 q581 qs3 q160 q582) rfl yok_X1_byteAt rfl (Nat.le_of_ble_eq_true rfl) ci1 h4 (by decide) rfl dX1_number_6 rfl ?_
    obtain ⟨q5, h6, hf⟩ := ob hf
    refine P.callS (pc' := 12) (As := [.int q1]) 1 (ok_X1_isDigit F q1 μ h6) (Nat.le_of_ble_eq_true rfl) (lw_S q639 q640 q160 q641) yok_X1_isDigit rfl (Nat.le_of_ble_eq_true rfl) (by decide) rfl dX1_number_9 rfl ?_
    refine P.if_eq (tgt := 43) (pc' := 15) dX1_number_12 (by decide) rfl (fun y7 => ?_) (fun y7 => ?_)
    · have hf := (if_pos y7).symm.trans hf
      exact PW.sub [0, 1, 2, 3] rfl (hk43 _ _ hf)
    · have hf := (if_neg y7).symm.trans hf
      refine P.iload_n 2 (pc' := 16) dX1_number_15 rfl rfl rfl ?_
      refine P.iload_n 1 (pc' := 17) dX1_number_16 rfl rfl rfl ?_
      refine P.iconst (v := 4) (pc' := 18) dX1_number_17 rfl (by decide) ?_
      refine P.iadd (pc' := 19) dX1_number_18 rfl ?_
      refine P.icmp_ge (tgt := 37) (pc' := 22) dX1_number_19 (by decide) rfl (fun y8 => ?_) (fun y8 => ?_)
      · have hf := (if_pos y8).symm.trans hf
        obtain ⟨x9, e10, hf⟩ := nm_i hf
        refine P.iinc 2 (pc' := 40) (lv' := [(2, .int x9), (0, .ref c0), (1, .int c1), (3, .int v3)]) dX1_number_37 rfl rfl (by decide) e10 (Nat.le_of_ble_eq_true rfl) rfl ?_
        refine P.goto (tgt := 4) dX1_number_40 (by decide) ?_
        exact PW.sub [1, 2, 0, 3] rfl (ih _ _ hf)
      · have hf := (if_neg y8).symm.trans hf
        refine P.bipush (v := 10) (pc' := 24) dX1_number_22 rfl (by decide) ?_
        refine P.iload_n 3 (pc' := 25) dX1_number_24 rfl rfl rfl ?_
        refine P.imul (pc' := 26) dX1_number_25 rfl ?_
        refine P.aload_n 0 (pc' := 27) dX1_number_26 rfl rfl rfl ?_
        obtain ⟨x11, h12, hf⟩ := ob hf
        refine P.get (pc' := 30) ci1 0 (by decide) (gfR_spec h12) q210 (Or.inl rfl) dX1_number_27 rfl ?_
        refine P.iload_n 2 (pc' := 31) dX1_number_30 rfl rfl rfl ?_
        obtain ⟨x13, h14, hf⟩ := ob hf
        refine P.bald (t := 2) (pc' := 32) rfl h14 dX1_number_31 rfl ?_
        refine P.iadd (pc' := 33) dX1_number_32 rfl ?_
        refine P.bipush (v := 48) (pc' := 35) dX1_number_33 rfl (by decide) ?_
        refine P.isub (pc' := 36) dX1_number_35 rfl ?_
        obtain ⟨x15, e16, hf⟩ := nm_i hf
        refine P.nmi e16 ?_
        refine P.istore_n (pc' := 37) (lv' := [(3, .int x15), (0, .ref c0), (1, .int c1), (2, .int v2)]) dX1_number_36 rfl rfl (Nat.le_of_ble_eq_true rfl) rfl ?_
        obtain ⟨x17, e18, hf⟩ := nm_i hf
        refine P.iinc 3 (pc' := 40) (lv' := [(2, .int x17), (3, .int x15), (0, .ref c0), (1, .int c1)]) dX1_number_37 rfl rfl (by decide) e18 (Nat.le_of_ble_eq_true rfl) rfl ?_
        refine P.goto (tgt := 4) dX1_number_40 (by decide) ?_
        exact PW.sub [2, 3, 0, 1] rfl (ih _ _ hf)
noncomputable def f_X1_number (F : Nat) (this : Nat) (p1 : Int32) (μ : Sw) : Option (Int32 × Sw) :=
  f_X1_number_L4 F
    (fun w1 w2 =>
      if (w1 - p1) ≤ 4 then
        Option.bind (oc μ this 1) fun u6 =>
        Option.bind (f_X1_add F this 2 p1 w2.toInt64 μ) fun q4 =>
        some (w1, q4)
      else
        Option.bind (oc μ this 1) fun u10 =>
        Option.bind (f_X1_add F this 3 p1 w2.toInt64 μ) fun q8 =>
        some (w1, q8))
    this p1 μ F p1 0
set_option maxHeartbeats 4000000 in
theorem ok_X1_number {g : Gx} (F : Nat) (this : Nat) (p1 : Int32) (μ : Sw) {rv : Int32} {μF : Sw} (hf : f_X1_number F this p1 μ = some (rv, μF)) : Cl g 2 yX1_number cX1_number 4 (some Jvm.ClassFile.FieldType.int) [.ref this, .int p1] μ (some (.int rv)) μF := by
  unfold f_X1_number at hf
  refine Cl.of (own := RX1) (ini := false) (by decide +kernel) rfl (by decide) (Nat.le_of_ble_eq_true rfl) ?_
  show PW g mX1_number 2 μ μF (QN g (some (.int rv)) μ μF) 0 [(0, .ref this), (1, .int p1)] [] μ
  refine P.iload_n 1 (pc' := 1) dX1_number_0 rfl rfl rfl ?_
  refine P.istore_n (pc' := 2) (lv' := [(2, .int p1), (0, .ref this), (1, .int p1)]) dX1_number_1 rfl rfl (Nat.le_of_ble_eq_true rfl) rfl ?_
  refine P.iconst (v := 0) (pc' := 3) dX1_number_2 rfl (by decide) ?_
  refine P.istore_n (pc' := 4) (lv' := [(3, .int 0), (2, .int p1), (0, .ref this), (1, .int p1)]) dX1_number_3 rfl rfl (Nat.le_of_ble_eq_true rfl) rfl ?_
  refine PW.sub [2, 3, 1, 0] rfl (ok_f_X1_number_L4 F this p1 μ _ ?_ F _ _ hf)
  · intro w1 w2 hf
    refine P.aload_n 0 (pc' := 44) dX1_number_43 rfl rfl rfl ?_
    refine P.iload_n 2 (pc' := 45) dX1_number_44 rfl rfl rfl ?_
    refine P.iload_n 1 (pc' := 46) dX1_number_45 rfl rfl rfl ?_
    refine P.isub (pc' := 47) dX1_number_46 rfl ?_
    refine P.iconst (v := 4) (pc' := 48) dX1_number_47 rfl (by decide) ?_
    refine P.icmp_le (tgt := 55) (pc' := 51) dX1_number_48 (by decide) rfl (fun y3 => ?_) (fun y3 => ?_)
    · have hf := (if_pos y3).symm.trans hf
      refine P.iconst (v := 2) (pc' := 56) dX1_number_55 rfl (by decide) ?_
      refine P.iload_n 1 (pc' := 57) dX1_number_56 rfl rfl rfl ?_
      refine P.iload_n 3 (pc' := 58) dX1_number_57 rfl rfl rfl ?_
      refine P.i2l (pc' := 59) dX1_number_58 rfl ?_
      obtain ⟨u6, h7, hf⟩ := ob hf
      obtain ⟨q4, h5, hf⟩ := ob hf
      refine P.callV (pc' := 62) (As := [.int 2, .int p1, .long w2.toInt64]) 3 (ok_X1_add F this 2 p1 w2.toInt64 μ h5) (Nat.le_of_ble_eq_true rfl) (lw_V q568 q570 qs1 q160 q571) rfl yok_X1_add rfl (Nat.le_of_ble_eq_true rfl) ci1 h7 (by decide) rfl dX1_number_59 rfl ?_
      refine P.iload_n 2 (pc' := 63) dX1_number_62 rfl rfl rfl ?_
      cases hf; exact P.iret rfl dX1_number_63
    · have hf := (if_neg y3).symm.trans hf
      refine P.iconst (v := 3) (pc' := 52) dX1_number_51 rfl (by decide) ?_
      refine P.goto (tgt := 56) dX1_number_52 (by decide) ?_
      refine P.iload_n 1 (pc' := 57) dX1_number_56 rfl rfl rfl ?_
      refine P.iload_n 3 (pc' := 58) dX1_number_57 rfl rfl rfl ?_
      refine P.i2l (pc' := 59) dX1_number_58 rfl ?_
      obtain ⟨u10, h11, hf⟩ := ob hf
      obtain ⟨q8, h9, hf⟩ := ob hf
      refine P.callV (pc' := 62) (As := [.int 3, .int p1, .long w2.toInt64]) 3 (ok_X1_add F this 3 p1 w2.toInt64 μ h9) (Nat.le_of_ble_eq_true rfl) (lw_V q568 q570 qs1 q160 q571) rfl yok_X1_add rfl (Nat.le_of_ble_eq_true rfl) ci1 h11 (by decide) rfl dX1_number_59 rfl ?_
      refine P.iload_n 2 (pc' := 63) dX1_number_62 rfl rfl rfl ?_
      cases hf; exact P.iret rfl dX1_number_63
theorem yok_J4_charAt : yOK yJ4_charAt 1 := ⟨by decide +kernel, by decide +kernel, by decide +kernel⟩
theorem yok_J4_length : yOK yJ4_length 0 := ⟨by decide +kernel, by decide +kernel, by decide +kernel⟩
abbrev mX1_is : Ym := (RX1, cX1_is, 6, (some Jvm.ClassFile.FieldType.boolean), false, [])
noncomputable def f_X1_is_L20_b (F : Nat) (c0 : Nat) (c1 : Nat) (c2 : Int32) (self : Int32 → Int32 → Sw → Option (Int32 × Sw)) (v4 : Int32) (v5 : Int32) (μ : Sw) : Option (Int32 × Sw) :=
  Option.bind (sLen c1) fun x1 =>
  if x1 ≤ v5 then
    if v4 = 0 ∨ v4 = 1 then
      some (v4, μ)
    else
      none
  else
    if v4 = 0 then
      if v4 = 0 ∨ v4 = 1 then
        some (v4, μ)
      else
        none
    else
      Option.bind (sChr c1 v5) fun x7 =>
      Option.bind (gfR μ c0 1 0) fun x9 =>
      Option.bind (aI μ 2 x9 (c2 + v5)) fun x11 =>
      if x7 = x11 then
        nm (v5 + 1) fun x16 =>
        self 1 x16 μ
      else
        nm (v5 + 1) fun x14 =>
        self 0 x14 μ
noncomputable def f_X1_is_L20 (F : Nat) (c0 : Nat) (c1 : Nat) (c2 : Int32) (n : Nat) : Int32 → Int32 → Sw → Option (Int32 × Sw) := Nat.rec (motive := fun _ => Int32 → Int32 → Sw → Option (Int32 × Sw)) (fun _ _ _ => none) (fun _ self => f_X1_is_L20_b F c0 c1 c2 self) n
set_option maxHeartbeats 4000000 in
theorem ok_f_X1_is_L20 {g : Gx} {μ0 : Sw} {rv : Int32} {μF : Sw} (F : Nat) (c0 : Nat) (c1 : Nat) (c2 : Int32) : ∀ (n : Nat) (v4 : Int32) (v5 : Int32) (μ : Sw), f_X1_is_L20 F c0 c1 c2 n v4 v5 μ = some (rv, μF) → PW g mX1_is 9 μ0 μF (QN g (some (.int rv)) μ0 μF) 20 [(0, .ref c0), (1, .ref (μ.2.2.2 (10 + c1))), (2, .int c2), (4, .int v4), (5, .int v5)] [] μ := by
  intro n
  induction n with
  | zero =>
    intro v4 v5 μ hf
    have hf : (none : Option (Int32 × Sw)) = some _ := hf
    cases hf
  | succ n ih =>
    intro v4 v5 μ hf
    have hf : f_X1_is_L20_b F c0 c1 c2 (f_X1_is_L20 F c0 c1 c2 n) v4 v5 μ = some (rv, μF) := hf
    unfold f_X1_is_L20_b at hf
    refine P.iload 4 (pc' := 22) dX1_is_20 rfl rfl ?_
    refine P.aload_n 1 (pc' := 23) dX1_is_22 rfl rfl rfl ?_
    obtain ⟨x1, h2, hf⟩ := ob hf
    refine P.callO (As := []) (pc' := 26) 0 (ok_J4_length h2) (Nat.le_of_ble_eq_true rfl) (lw_V q591 q592 q593 q173 q594) rfl yok_J4_length rfl (Nat.le_of_ble_eq_true rfl) (sRecvL h2) (Nat.le_of_ble_eq_true rfl) rfl dX1_is_23 rfl ?_
    refine P.icmp_ge (tgt := 65) (pc' := 29) dX1_is_26 (by decide) rfl (fun y3 => ?_) (fun y3 => ?_)
    · have hf := (if_pos y3).symm.trans hf
      refine P.iload 3 (pc' := 67) dX1_is_65 rfl rfl ?_
      by_cases y4 : v4 = 0 ∨ v4 = 1
      · have hf := (if_pos y4).symm.trans hf
        cases hf; exact P.zret rfl y4 dX1_is_67
      · have hf := (if_neg y4).symm.trans hf
        cases hf
    · have hf := (if_neg y3).symm.trans hf
      refine P.iload 3 (pc' := 31) dX1_is_29 rfl rfl ?_
      refine P.if_eq (tgt := 65) (pc' := 34) dX1_is_31 (by decide) rfl (fun y5 => ?_) (fun y5 => ?_)
      · have hf := (if_pos y5).symm.trans hf
        refine P.iload 3 (pc' := 67) dX1_is_65 rfl rfl ?_
        by_cases y6 : v4 = 0 ∨ v4 = 1
        · have hf := (if_pos y6).symm.trans hf
          cases hf; exact P.zret rfl y6 dX1_is_67
        · have hf := (if_neg y6).symm.trans hf
          cases hf
      · have hf := (if_neg y5).symm.trans hf
        refine P.aload_n 1 (pc' := 35) dX1_is_34 rfl rfl rfl ?_
        refine P.iload 4 (pc' := 37) dX1_is_35 rfl rfl ?_
        obtain ⟨x7, h8, hf⟩ := ob hf
        refine P.callO (As := [.int v5]) (pc' := 40) 1 (ok_J4_charAt h8) (Nat.le_of_ble_eq_true rfl) (lw_V q601 q602 q603 q173 q604) rfl yok_J4_charAt rfl (Nat.le_of_ble_eq_true rfl) (sRecvC h8) (by decide) rfl dX1_is_37 rfl ?_
        refine P.aload_n 0 (pc' := 41) dX1_is_40 rfl rfl rfl ?_
        obtain ⟨x9, h10, hf⟩ := ob hf
        refine P.get (pc' := 44) ci1 0 (by decide) (gfR_spec h10) q210 (Or.inl rfl) dX1_is_41 rfl ?_
        refine P.iload_n 2 (pc' := 45) dX1_is_44 rfl rfl rfl ?_
        refine P.iload 4 (pc' := 47) dX1_is_45 rfl rfl ?_
        refine P.iadd (pc' := 48) dX1_is_47 rfl ?_
        obtain ⟨x11, h12, hf⟩ := ob hf
        refine P.bald (t := 2) (pc' := 49) rfl h12 dX1_is_48 rfl ?_
        refine P.icmp_ne (tgt := 56) (pc' := 52) dX1_is_49 (by decide) rfl (fun y13 => ?_) (fun y13 => ?_)
        · have hf := (if_neg y13).symm.trans hf
          refine P.iconst (v := 0) (pc' := 57) dX1_is_56 rfl (by decide) ?_
          refine P.istore (pc' := 59) (lv' := [(4, .int 0), (0, .ref c0), (1, .ref (μ.2.2.2 (10 + c1))), (2, .int c2), (5, .int v5)]) dX1_is_57 rfl (Nat.le_of_ble_eq_true rfl) rfl ?_
          obtain ⟨x14, e15, hf⟩ := nm_i hf
          refine P.iinc 4 (pc' := 62) (lv' := [(5, .int x14), (4, .int 0), (0, .ref c0), (1, .ref (μ.2.2.2 (10 + c1))), (2, .int c2)]) dX1_is_59 rfl rfl (by decide) e15 (Nat.le_of_ble_eq_true rfl) rfl ?_
          refine P.goto (tgt := 20) dX1_is_62 (by decide) ?_
          exact PW.sub [2, 3, 4, 1, 0] rfl (ih _ _ _ hf)
        · have hf := (if_pos y13).symm.trans hf
          refine P.iconst (v := 1) (pc' := 53) dX1_is_52 rfl (by decide) ?_
          refine P.goto (tgt := 57) dX1_is_53 (by decide) ?_
          refine P.istore (pc' := 59) (lv' := [(4, .int 1), (0, .ref c0), (1, .ref (μ.2.2.2 (10 + c1))), (2, .int c2), (5, .int v5)]) dX1_is_57 rfl (Nat.le_of_ble_eq_true rfl) rfl ?_
          obtain ⟨x16, e17, hf⟩ := nm_i hf
          refine P.iinc 4 (pc' := 62) (lv' := [(5, .int x16), (4, .int 1), (0, .ref c0), (1, .ref (μ.2.2.2 (10 + c1))), (2, .int c2)]) dX1_is_59 rfl rfl (by decide) e17 (Nat.le_of_ble_eq_true rfl) rfl ?_
          refine P.goto (tgt := 20) dX1_is_62 (by decide) ?_
          exact PW.sub [2, 3, 4, 1, 0] rfl (ih _ _ _ hf)
noncomputable def f_X1_is (F : Nat) (this : Nat) (p1 : Nat) (p2 : Int32) (p3 : Int32) (μ : Sw) : Option (Int32 × Sw) :=
  Option.bind (sLen p1) fun x1 =>
  if x1 = (p3 - p2) then
    f_X1_is_L20 F this p1 p2 F 1 0 μ
  else
    f_X1_is_L20 F this p1 p2 F 0 0 μ
set_option maxHeartbeats 4000000 in
theorem ok_X1_is {g : Gx} (F : Nat) (this : Nat) (p1 : Nat) (p2 : Int32) (p3 : Int32) (μ : Sw) {rv : Int32} {μF : Sw} (hf : f_X1_is F this p1 p2 p3 μ = some (rv, μF)) : Cl g 9 yX1_is cX1_is 6 (some Jvm.ClassFile.FieldType.boolean) [.ref this, .ref (μ.2.2.2 (10 + p1)), .int p2, .int p3] μ (some (.int rv)) μF := by
  unfold f_X1_is at hf
  refine Cl.of (own := RX1) (ini := false) (by decide +kernel) rfl (by decide) (Nat.le_of_ble_eq_true rfl) ?_
  show PW g mX1_is 9 μ μF (QN g (some (.int rv)) μ μF) 0 [(0, .ref this), (1, .ref (μ.2.2.2 (10 + p1))), (2, .int p2), (3, .int p3)] [] μ
  refine P.aload_n 1 (pc' := 1) dX1_is_0 rfl rfl rfl ?_
  obtain ⟨x1, h2, hf⟩ := ob hf
  refine P.callO (As := []) (pc' := 4) 0 (ok_J4_length h2) (Nat.le_of_ble_eq_true rfl) (lw_V q591 q592 q593 q173 q594) rfl yok_J4_length rfl (Nat.le_of_ble_eq_true rfl) (sRecvL h2) (by decide) rfl dX1_is_1 rfl ?_
  refine P.iload_n 3 (pc' := 5) dX1_is_4 rfl rfl rfl ?_
  refine P.iload_n 2 (pc' := 6) dX1_is_5 rfl rfl rfl ?_
  refine P.isub (pc' := 7) dX1_is_6 rfl ?_
  refine P.icmp_ne (tgt := 14) (pc' := 10) dX1_is_7 (by decide) rfl (fun y3 => ?_) (fun y3 => ?_)
  · have hf := (if_neg y3).symm.trans hf
    refine P.iconst (v := 0) (pc' := 15) dX1_is_14 rfl (by decide) ?_
    refine P.istore (pc' := 17) (lv' := [(4, .int 0), (0, .ref this), (1, .ref (μ.2.2.2 (10 + p1))), (2, .int p2), (3, .int p3)]) dX1_is_15 rfl (Nat.le_of_ble_eq_true rfl) rfl ?_
    refine P.iconst (v := 0) (pc' := 18) dX1_is_17 rfl (by decide) ?_
    refine P.istore (pc' := 20) (lv' := [(5, .int 0), (4, .int 0), (0, .ref this), (1, .ref (μ.2.2.2 (10 + p1))), (2, .int p2), (3, .int p3)]) dX1_is_18 rfl (Nat.le_of_ble_eq_true rfl) rfl ?_
    exact PW.sub [2, 3, 4, 1, 0] rfl (ok_f_X1_is_L20 F this p1 p2 F _ _ _ hf)
  · have hf := (if_pos y3).symm.trans hf
    refine P.iconst (v := 1) (pc' := 11) dX1_is_10 rfl (by decide) ?_
    refine P.goto (tgt := 15) dX1_is_11 (by decide) ?_
    refine P.istore (pc' := 17) (lv' := [(4, .int 1), (0, .ref this), (1, .ref (μ.2.2.2 (10 + p1))), (2, .int p2), (3, .int p3)]) dX1_is_15 rfl (Nat.le_of_ble_eq_true rfl) rfl ?_
    refine P.iconst (v := 0) (pc' := 18) dX1_is_17 rfl (by decide) ?_
    refine P.istore (pc' := 20) (lv' := [(5, .int 0), (4, .int 1), (0, .ref this), (1, .ref (μ.2.2.2 (10 + p1))), (2, .int p2), (3, .int p3)]) dX1_is_18 rfl (Nat.le_of_ble_eq_true rfl) rfl ?_
    exact PW.sub [2, 3, 4, 1, 0] rfl (ok_f_X1_is_L20 F this p1 p2 F _ _ _ hf)
theorem yok_X1_is : yOK yX1_is 3 := ⟨by decide +kernel, by decide +kernel, by decide +kernel⟩
theorem yok_X1_isLetter : yOK yX1_isLetter 1 := ⟨by decide +kernel, by decide +kernel, by decide +kernel⟩
abbrev mX1_word : Ym := (RX1, cX1_word, 7, (some Jvm.ClassFile.FieldType.int), false, [])
noncomputable def f_X1_word_L4_b (F : Nat) (k49 : Int32 → Int64 → Option (Int32 × Sw)) (c0 : Nat) (c1 : Int32) (μ : Sw) (self : Int32 → Int64 → Option (Int32 × Sw)) (v2 : Int32) (v3 : Int64) : Option (Int32 × Sw) :=
  Option.bind (oc μ c0 1) fun u3 =>
  Option.bind (f_X1_byteAt F c0 v2 μ) fun q1 =>
  Option.bind (p_X1_isLetter F q1) fun q5 =>
  if q5 = 0 then
    k49 v2 v3
  else
    if (c1 + 8) ≤ v2 then
      nm (v2 + 1) fun x9 =>
      self x9 v3
    else
      Option.bind (gfR μ c0 1 0) fun x11 =>
      Option.bind (aI μ 2 x11 v2) fun x13 =>
      nm ((((v3 * 27) + x13.toInt64) - 97) + 1) fun x15 =>
      nm (v2 + 1) fun x17 =>
      self x17 x15
noncomputable def f_X1_word_L4 (F : Nat) (k49 : Int32 → Int64 → Option (Int32 × Sw)) (c0 : Nat) (c1 : Int32) (μ : Sw) (n : Nat) : Int32 → Int64 → Option (Int32 × Sw) := Nat.rec (motive := fun _ => Int32 → Int64 → Option (Int32 × Sw)) (fun _ _ => none) (fun _ self => f_X1_word_L4_b F k49 c0 c1 μ self) n
set_option maxHeartbeats 4000000 in
theorem ok_f_X1_word_L4 {g : Gx} {μ0 : Sw} {rv : Int32} {μF : Sw} (F : Nat) (c0 : Nat) (c1 : Int32) (μ : Sw) (k49 : Int32 → Int64 → Option (Int32 × Sw)) (hk49 : ∀ (w2 : Int32) (w3 : Int64), k49 w2 w3 = some (rv, μF) → PW g mX1_word 10 μ0 μF (QN g (some (.int rv)) μ0 μF) 49 [(0, .ref c0), (1, .int c1), (2, .int w2), (3, .long w3)] [] μ) : ∀ (n : Nat) (v2 : Int32) (v3 : Int64), f_X1_word_L4 F k49 c0 c1 μ n v2 v3 = some (rv, μF) → PW g mX1_word 10 μ0 μF (QN g (some (.int rv)) μ0 μF) 4 [(0, .ref c0), (1, .int c1), (2, .int v2), (3, .long v3)] [] μ := by
  intro n
  induction n with
  | zero =>
    intro v2 v3 hf
    have hf : (none : Option (Int32 × Sw)) = some _ := hf
    cases hf
  | succ n ih =>
    intro v2 v3 hf
    have hf : f_X1_word_L4_b F k49 c0 c1 μ (f_X1_word_L4 F k49 c0 c1 μ n) v2 v3 = some (rv, μF) := hf
    unfold f_X1_word_L4_b at hf
    refine P.aload_n 0 (pc' := 5) dX1_word_4 rfl rfl rfl ?_
    refine P.iload_n 2 (pc' := 6) dX1_word_5 rfl rfl rfl ?_
    obtain ⟨u3, h4, hf⟩ := ob hf
    obtain ⟨q1, h2, hf⟩ := ob hf
    refine P.callV (pc' := 9) (As := [.int v2]) 1 (ok_X1_byteAt F c0 v2 μ h2) (Nat.le_of_ble_eq_true rfl) (lw_V q579 q581 qs3 q160 q582) rfl yok_X1_byteAt rfl (Nat.le_of_ble_eq_true rfl) ci1 h4 (by decide) rfl dX1_word_6 rfl ?_
    obtain ⟨q5, h6, hf⟩ := ob hf
    refine P.callS (pc' := 12) (As := [.int q1]) 1 (ok_X1_isLetter F q1 μ h6) (Nat.le_of_ble_eq_true rfl) (lw_S q572 q573 q160 q574) yok_X1_isLetter rfl (Nat.le_of_ble_eq_true rfl) (by decide) rfl dX1_word_9 rfl ?_
    refine P.if_eq (tgt := 49) (pc' := 15) dX1_word_12 (by decide) rfl (fun y7 => ?_) (fun y7 => ?_)
    · have hf := (if_pos y7).symm.trans hf
      exact PW.sub [0, 1, 2, 3] rfl (hk49 _ _ hf)
    · have hf := (if_neg y7).symm.trans hf
      refine P.iload_n 2 (pc' := 16) dX1_word_15 rfl rfl rfl ?_
      refine P.iload_n 1 (pc' := 17) dX1_word_16 rfl rfl rfl ?_
      refine P.bipush (v := 8) (pc' := 19) dX1_word_17 rfl (by decide) ?_
      refine P.iadd (pc' := 20) dX1_word_19 rfl ?_
      refine P.icmp_ge (tgt := 43) (pc' := 23) dX1_word_20 (by decide) rfl (fun y8 => ?_) (fun y8 => ?_)
      · have hf := (if_pos y8).symm.trans hf
        obtain ⟨x9, e10, hf⟩ := nm_i hf
        refine P.iinc 2 (pc' := 46) (lv' := [(2, .int x9), (0, .ref c0), (1, .int c1), (3, .long v3)]) dX1_word_43 rfl rfl (by decide) e10 (Nat.le_of_ble_eq_true rfl) rfl ?_
        refine P.goto (tgt := 4) dX1_word_46 (by decide) ?_
        exact PW.sub [1, 2, 0, 3] rfl (ih _ _ hf)
      · have hf := (if_neg y8).symm.trans hf
        refine P.lload_n 3 (pc' := 24) dX1_word_23 rfl rfl rfl ?_
        refine P.ldc2_w (v := 27) (pc' := 27) dX1_word_24 rfl q583 ?_
        refine P.lmul (pc' := 28) dX1_word_27 rfl ?_
        refine P.aload_n 0 (pc' := 29) dX1_word_28 rfl rfl rfl ?_
        obtain ⟨x11, h12, hf⟩ := ob hf
        refine P.get (pc' := 32) ci1 0 (by decide) (gfR_spec h12) q210 (Or.inl rfl) dX1_word_29 rfl ?_
        refine P.iload_n 2 (pc' := 33) dX1_word_32 rfl rfl rfl ?_
        obtain ⟨x13, h14, hf⟩ := ob hf
        refine P.bald (t := 2) (pc' := 34) rfl h14 dX1_word_33 rfl ?_
        refine P.i2l (pc' := 35) dX1_word_34 rfl ?_
        refine P.ladd (pc' := 36) dX1_word_35 rfl ?_
        refine P.ldc2_w (v := 97) (pc' := 39) dX1_word_36 rfl q584 ?_
        refine P.lsub (pc' := 40) dX1_word_39 rfl ?_
        refine P.lconst (v := 1) (pc' := 41) dX1_word_40 rfl (by decide) ?_
        refine P.ladd (pc' := 42) dX1_word_41 rfl ?_
        obtain ⟨x15, e16, hf⟩ := nm_i hf
        refine P.nml e16 ?_
        refine P.lstore_n (pc' := 43) (lv' := [(3, .long x15), (0, .ref c0), (1, .int c1), (2, .int v2)]) dX1_word_42 rfl rfl (Nat.le_of_ble_eq_true rfl) rfl ?_
        obtain ⟨x17, e18, hf⟩ := nm_i hf
        refine P.iinc 3 (pc' := 46) (lv' := [(2, .int x17), (3, .long x15), (0, .ref c0), (1, .int c1)]) dX1_word_43 rfl rfl (by decide) e18 (Nat.le_of_ble_eq_true rfl) rfl ?_
        refine P.goto (tgt := 4) dX1_word_46 (by decide) ?_
        exact PW.sub [2, 3, 0, 1] rfl (ih _ _ hf)
noncomputable def f_X1_word_L67_b (F : Nat) (c0 : Nat) (c1 : Int32) (c2 : Int32) (c3 : Int64) (self : Int32 → Int32 → Sw → Option (Int32 × Sw)) (v5 : Int32) (v6 : Int32) (μ : Sw) : Option (Int32 × Sw) :=
  Option.bind (aN μ (μ.2.2.2 1)) fun x1 =>
  if x1 ≤ v6 then
    Option.bind (oc μ c0 1) fun u6 =>
    Option.bind (f_X1_add F c0 v5 c1 c3 μ) fun q4 =>
    some (c2, q4)
  else
    if v5 = 1 then
      Option.bind (aW μ (μ.2.2.2 1) v6) fun x13 =>
      Option.bind (oc μ c0 1) fun u17 =>
      Option.bind (f_X1_is F c0 x13 c1 c2 μ) fun q15 =>
      if q15.1 = 0 then
        nm (v6 + 1) fun x20 =>
        self v5 x20 q15.2
      else
        nm (200 + v6) fun x22 =>
        nm (v6 + 1) fun x24 =>
        self x22 x24 q15.2
    else
      Option.bind (oc μ c0 1) fun u11 =>
      Option.bind (f_X1_add F c0 v5 c1 c3 μ) fun q9 =>
      some (c2, q9)
noncomputable def f_X1_word_L67 (F : Nat) (c0 : Nat) (c1 : Int32) (c2 : Int32) (c3 : Int64) (n : Nat) : Int32 → Int32 → Sw → Option (Int32 × Sw) := Nat.rec (motive := fun _ => Int32 → Int32 → Sw → Option (Int32 × Sw)) (fun _ _ _ => none) (fun _ self => f_X1_word_L67_b F c0 c1 c2 c3 self) n
set_option maxHeartbeats 4000000 in
theorem ok_f_X1_word_L67 {g : Gx} {μ0 : Sw} {rv : Int32} {μF : Sw} (F : Nat) (c0 : Nat) (c1 : Int32) (c2 : Int32) (c3 : Int64) : ∀ (n : Nat) (v5 : Int32) (v6 : Int32) (μ : Sw), f_X1_word_L67 F c0 c1 c2 c3 n v5 v6 μ = some (rv, μF) → PW g mX1_word 10 μ0 μF (QN g (some (.int rv)) μ0 μF) 67 [(0, .ref c0), (1, .int c1), (2, .int c2), (3, .long c3), (5, .int v5), (6, .int v6)] [] μ := by
  intro n
  induction n with
  | zero =>
    intro v5 v6 μ hf
    have hf : (none : Option (Int32 × Sw)) = some _ := hf
    cases hf
  | succ n ih =>
    intro v5 v6 μ hf
    have hf : f_X1_word_L67_b F c0 c1 c2 c3 (f_X1_word_L67 F c0 c1 c2 c3 n) v5 v6 μ = some (rv, μF) := hf
    unfold f_X1_word_L67_b at hf
    refine P.iload 5 (pc' := 69) dX1_word_67 rfl rfl ?_
    refine P.getsR (pc' := 72) 1 (zs1 g) q585 dX1_word_69 rfl ?_
    obtain ⟨x1, h2, hf⟩ := ob hf
    refine P.alen (pc' := 73) h2 dX1_word_72 rfl ?_
    refine P.icmp_ge (tgt := 111) (pc' := 76) dX1_word_73 (by decide) rfl (fun y3 => ?_) (fun y3 => ?_)
    · have hf := (if_pos y3).symm.trans hf
      refine P.aload_n 0 (pc' := 112) dX1_word_111 rfl rfl rfl ?_
      refine P.iload 4 (pc' := 114) dX1_word_112 rfl rfl ?_
      refine P.iload_n 1 (pc' := 115) dX1_word_114 rfl rfl rfl ?_
      refine P.lload_n 3 (pc' := 116) dX1_word_115 rfl rfl rfl ?_
      obtain ⟨u6, h7, hf⟩ := ob hf
      obtain ⟨q4, h5, hf⟩ := ob hf
      refine P.callV (pc' := 119) (As := [.int v5, .int c1, .long c3]) 3 (ok_X1_add F c0 v5 c1 c3 μ h5) (Nat.le_of_ble_eq_true rfl) (lw_V q568 q570 qs1 q160 q571) rfl yok_X1_add rfl (Nat.le_of_ble_eq_true rfl) ci1 h7 (by decide) rfl dX1_word_116 rfl ?_
      refine P.iload_n 2 (pc' := 120) dX1_word_119 rfl rfl rfl ?_
      cases hf; exact P.iret rfl dX1_word_120
    · have hf := (if_neg y3).symm.trans hf
      refine P.iload 4 (pc' := 78) dX1_word_76 rfl rfl ?_
      refine P.iconst (v := 1) (pc' := 79) dX1_word_78 rfl (by decide) ?_
      refine P.icmp_ne (tgt := 111) (pc' := 82) dX1_word_79 (by decide) rfl (fun y8 => ?_) (fun y8 => ?_)
      · have hf := (if_neg y8).symm.trans hf
        refine P.aload_n 0 (pc' := 112) dX1_word_111 rfl rfl rfl ?_
        refine P.iload 4 (pc' := 114) dX1_word_112 rfl rfl ?_
        refine P.iload_n 1 (pc' := 115) dX1_word_114 rfl rfl rfl ?_
        refine P.lload_n 3 (pc' := 116) dX1_word_115 rfl rfl rfl ?_
        obtain ⟨u11, h12, hf⟩ := ob hf
        obtain ⟨q9, h10, hf⟩ := ob hf
        refine P.callV (pc' := 119) (As := [.int v5, .int c1, .long c3]) 3 (ok_X1_add F c0 v5 c1 c3 μ h10) (Nat.le_of_ble_eq_true rfl) (lw_V q568 q570 qs1 q160 q571) rfl yok_X1_add rfl (Nat.le_of_ble_eq_true rfl) ci1 h12 (by decide) rfl dX1_word_116 rfl ?_
        refine P.iload_n 2 (pc' := 120) dX1_word_119 rfl rfl rfl ?_
        cases hf; exact P.iret rfl dX1_word_120
      · have hf := (if_pos y8).symm.trans hf
        refine P.aload_n 0 (pc' := 83) dX1_word_82 rfl rfl rfl ?_
        refine P.getsR (pc' := 86) 1 (zs1 g) q585 dX1_word_83 rfl ?_
        refine P.iload 5 (pc' := 88) dX1_word_86 rfl rfl ?_
        obtain ⟨x13, h14, hf⟩ := ob hf
        refine P.aald (t := 11) (pc' := 89) rfl (aW_spec h14) dX1_word_88 rfl ?_
        refine P.iload_n 1 (pc' := 90) dX1_word_89 rfl rfl rfl ?_
        refine P.iload_n 2 (pc' := 91) dX1_word_90 rfl rfl rfl ?_
        obtain ⟨u17, h18, hf⟩ := ob hf
        obtain ⟨q15, h16, hf⟩ := ob hf
        refine P.callV (pc' := 94) (As := [.ref (μ.2.2.2 (10 + x13)), .int c1, .int c2]) 3 (ok_X1_is F c0 x13 c1 c2 μ h16) (Nat.le_of_ble_eq_true rfl) (lw_V q587 q589 qs4 q160 q590) rfl yok_X1_is rfl (Nat.le_of_ble_eq_true rfl) ci1 h18 (by decide) rfl dX1_word_91 rfl ?_
        refine P.if_eq (tgt := 105) (pc' := 97) dX1_word_94 (by decide) rfl (fun y19 => ?_) (fun y19 => ?_)
        · have hf := (if_pos y19).symm.trans hf
          obtain ⟨x20, e21, hf⟩ := nm_i hf
          refine P.iinc 5 (pc' := 108) (lv' := [(6, .int x20), (0, .ref c0), (1, .int c1), (2, .int c2), (3, .long c3), (5, .int v5)]) dX1_word_105 rfl rfl (by decide) e21 (Nat.le_of_ble_eq_true rfl) rfl ?_
          refine P.goto (tgt := 67) dX1_word_108 (by decide) ?_
          exact PW.sub [1, 2, 3, 4, 5, 0] rfl (ih _ _ _ hf)
        · have hf := (if_neg y19).symm.trans hf
          refine P.sipush (v := 200) (pc' := 100) dX1_word_97 rfl (by decide) ?_
          refine P.iload 5 (pc' := 102) dX1_word_100 rfl rfl ?_
          refine P.iadd (pc' := 103) dX1_word_102 rfl ?_
          obtain ⟨x22, e23, hf⟩ := nm_i hf
          refine P.nmi e23 ?_
          refine P.istore (pc' := 105) (lv' := [(5, .int x22), (0, .ref c0), (1, .int c1), (2, .int c2), (3, .long c3), (6, .int v6)]) dX1_word_103 rfl (Nat.le_of_ble_eq_true rfl) rfl ?_
          obtain ⟨x24, e25, hf⟩ := nm_i hf
          refine P.iinc 5 (pc' := 108) (lv' := [(6, .int x24), (5, .int x22), (0, .ref c0), (1, .int c1), (2, .int c2), (3, .long c3)]) dX1_word_105 rfl rfl (by decide) e25 (Nat.le_of_ble_eq_true rfl) rfl ?_
          refine P.goto (tgt := 67) dX1_word_108 (by decide) ?_
          exact PW.sub [2, 3, 4, 5, 1, 0] rfl (ih _ _ _ hf)
noncomputable def f_X1_word (F : Nat) (this : Nat) (p1 : Int32) (μ : Sw) : Option (Int32 × Sw) :=
  f_X1_word_L4 F
    (fun w1 w2 =>
      if (w1 - p1) ≤ 8 then
        f_X1_word_L67 F this p1 w1 w2 F 1 0 μ
      else
        f_X1_word_L67 F this p1 w1 w2 F 3 0 μ)
    this p1 μ F p1 0
set_option maxHeartbeats 4000000 in
theorem ok_X1_word {g : Gx} (F : Nat) (this : Nat) (p1 : Int32) (μ : Sw) {rv : Int32} {μF : Sw} (hf : f_X1_word F this p1 μ = some (rv, μF)) : Cl g 10 yX1_word cX1_word 7 (some Jvm.ClassFile.FieldType.int) [.ref this, .int p1] μ (some (.int rv)) μF := by
  unfold f_X1_word at hf
  refine Cl.of (own := RX1) (ini := false) (by decide +kernel) rfl (by decide) (Nat.le_of_ble_eq_true rfl) ?_
  show PW g mX1_word 10 μ μF (QN g (some (.int rv)) μ μF) 0 [(0, .ref this), (1, .int p1)] [] μ
  refine P.iload_n 1 (pc' := 1) dX1_word_0 rfl rfl rfl ?_
  refine P.istore_n (pc' := 2) (lv' := [(2, .int p1), (0, .ref this), (1, .int p1)]) dX1_word_1 rfl rfl (Nat.le_of_ble_eq_true rfl) rfl ?_
  refine P.lconst (v := 0) (pc' := 3) dX1_word_2 rfl (by decide) ?_
  refine P.lstore_n (pc' := 4) (lv' := [(3, .long 0), (2, .int p1), (0, .ref this), (1, .int p1)]) dX1_word_3 rfl rfl (Nat.le_of_ble_eq_true rfl) rfl ?_
  refine PW.sub [2, 3, 1, 0] rfl (ok_f_X1_word_L4 F this p1 μ _ ?_ F _ _ hf)
  · intro w1 w2 hf
    refine P.iload_n 2 (pc' := 50) dX1_word_49 rfl rfl rfl ?_
    refine P.iload_n 1 (pc' := 51) dX1_word_50 rfl rfl rfl ?_
    refine P.isub (pc' := 52) dX1_word_51 rfl ?_
    refine P.bipush (v := 8) (pc' := 54) dX1_word_52 rfl (by decide) ?_
    refine P.icmp_le (tgt := 61) (pc' := 57) dX1_word_54 (by decide) rfl (fun y3 => ?_) (fun y3 => ?_)
    · have hf := (if_pos y3).symm.trans hf
      refine P.iconst (v := 1) (pc' := 62) dX1_word_61 rfl (by decide) ?_
      refine P.istore (pc' := 64) (lv' := [(5, .int 1), (0, .ref this), (1, .int p1), (2, .int w1), (3, .long w2)]) dX1_word_62 rfl (Nat.le_of_ble_eq_true rfl) rfl ?_
      refine P.iconst (v := 0) (pc' := 65) dX1_word_64 rfl (by decide) ?_
      refine P.istore (pc' := 67) (lv' := [(6, .int 0), (5, .int 1), (0, .ref this), (1, .int p1), (2, .int w1), (3, .long w2)]) dX1_word_65 rfl (Nat.le_of_ble_eq_true rfl) rfl ?_
      exact PW.sub [2, 3, 4, 5, 1, 0] rfl (ok_f_X1_word_L67 F this p1 w1 w2 F _ _ _ hf)
    · have hf := (if_neg y3).symm.trans hf
      refine P.iconst (v := 3) (pc' := 58) dX1_word_57 rfl (by decide) ?_
      refine P.goto (tgt := 62) dX1_word_58 (by decide) ?_
      refine P.istore (pc' := 64) (lv' := [(5, .int 3), (0, .ref this), (1, .int p1), (2, .int w1), (3, .long w2)]) dX1_word_62 rfl (Nat.le_of_ble_eq_true rfl) rfl ?_
      refine P.iconst (v := 0) (pc' := 65) dX1_word_64 rfl (by decide) ?_
      refine P.istore (pc' := 67) (lv' := [(6, .int 0), (5, .int 3), (0, .ref this), (1, .int p1), (2, .int w1), (3, .long w2)]) dX1_word_65 rfl (Nat.le_of_ble_eq_true rfl) rfl ?_
      exact PW.sub [2, 3, 4, 5, 1, 0] rfl (ok_f_X1_word_L67 F this p1 w1 w2 F _ _ _ hf)
theorem yok_X1_number : yOK yX1_number 1 := ⟨by decide +kernel, by decide +kernel, by decide +kernel⟩
theorem yok_X1_sign : yOK yX1_sign 1 := ⟨by decide +kernel, by decide +kernel, by decide +kernel⟩
theorem yok_X1_word : yOK yX1_word 1 := ⟨by decide +kernel, by decide +kernel, by decide +kernel⟩
abbrev mX1_cut : Ym := (RX1, cX1_cut, 2, none, false, [])
noncomputable def f_X1_cut_L17_b (F : Nat) (k75 : Int32 → Option Sw) (c0 : Nat) (μ : Sw) (self : Int32 → Option Sw) (v1 : Int32) : Option Sw :=
  Option.bind (gfI μ c0 1 1) fun x1 =>
  if x1 ≤ v1 then
    k75 v1
  else
    Option.bind (gfR μ c0 1 0) fun x4 =>
    Option.bind (aI μ 2 x4 v1) fun x6 =>
    if x6 = 9 then
      nm (v1 + 1) fun x9 =>
      self x9
    else
      Option.bind (gfR μ c0 1 0) fun x11 =>
      Option.bind (aI μ 2 x11 v1) fun x13 =>
      if x13 = 10 then
        nm (v1 + 1) fun x16 =>
        self x16
      else
        Option.bind (gfR μ c0 1 0) fun x18 =>
        Option.bind (aI μ 2 x18 v1) fun x20 =>
        if x20 = 13 then
          nm (v1 + 1) fun x23 =>
          self x23
        else
          Option.bind (gfR μ c0 1 0) fun x25 =>
          Option.bind (aI μ 2 x25 v1) fun x27 =>
          if x27 = 32 then
            nm (v1 + 1) fun x30 =>
            self x30
          else
            k75 v1
noncomputable def f_X1_cut_L17 (F : Nat) (k75 : Int32 → Option Sw) (c0 : Nat) (μ : Sw) (n : Nat) : Int32 → Option Sw := Nat.rec (motive := fun _ => Int32 → Option Sw) (fun _ => none) (fun _ self => f_X1_cut_L17_b F k75 c0 μ self) n
set_option maxHeartbeats 4000000 in
theorem ok_f_X1_cut_L17 {g : Gx} {μ0 : Sw} {μF : Sw} (F : Nat) (c0 : Nat) (μ : Sw) (k75 : Int32 → Option Sw) (hk75 : ∀ (w1 : Int32), k75 w1 = some μF → PW g mX1_cut 11 μ0 μF (QN g none μ0 μF) 75 [(0, .ref c0), (1, .int w1)] [] μ) : ∀ (n : Nat) (v1 : Int32), f_X1_cut_L17 F k75 c0 μ n v1 = some μF → PW g mX1_cut 11 μ0 μF (QN g none μ0 μF) 17 [(0, .ref c0), (1, .int v1)] [] μ := by
  intro n
  induction n with
  | zero =>
    intro v1 hf
    have hf : (none : Option Sw) = some _ := hf
    cases hf
  | succ n ih =>
    intro v1 hf
    have hf : f_X1_cut_L17_b F k75 c0 μ (f_X1_cut_L17 F k75 c0 μ n) v1 = some μF := hf
    unfold f_X1_cut_L17_b at hf
    refine P.iload_n 1 (pc' := 18) dX1_cut_17 rfl rfl rfl ?_
    refine P.aload_n 0 (pc' := 19) dX1_cut_18 rfl rfl rfl ?_
    obtain ⟨x1, h2, hf⟩ := ob hf
    refine P.get (pc' := 22) ci1 1 (by decide) (gfI_spec h2) q211 (Or.inl rfl) dX1_cut_19 rfl ?_
    refine P.icmp_ge (tgt := 75) (pc' := 25) dX1_cut_22 (by decide) rfl (fun y3 => ?_) (fun y3 => ?_)
    · have hf := (if_pos y3).symm.trans hf
      exact PW.sub [0, 1] rfl (hk75 _ hf)
    · have hf := (if_neg y3).symm.trans hf
      refine P.aload_n 0 (pc' := 26) dX1_cut_25 rfl rfl rfl ?_
      obtain ⟨x4, h5, hf⟩ := ob hf
      refine P.get (pc' := 29) ci1 0 (by decide) (gfR_spec h5) q210 (Or.inl rfl) dX1_cut_26 rfl ?_
      refine P.iload_n 1 (pc' := 30) dX1_cut_29 rfl rfl rfl ?_
      obtain ⟨x6, h7, hf⟩ := ob hf
      refine P.bald (t := 2) (pc' := 31) rfl h7 dX1_cut_30 rfl ?_
      refine P.bipush (v := 9) (pc' := 33) dX1_cut_31 rfl (by decide) ?_
      refine P.icmp_eq (tgt := 69) (pc' := 36) dX1_cut_33 (by decide) rfl (fun y8 => ?_) (fun y8 => ?_)
      · have hf := (if_pos y8).symm.trans hf
        obtain ⟨x9, e10, hf⟩ := nm_i hf
        refine P.iinc 1 (pc' := 72) (lv' := [(1, .int x9), (0, .ref c0)]) dX1_cut_69 rfl rfl (by decide) e10 (Nat.le_of_ble_eq_true rfl) rfl ?_
        refine P.goto (tgt := 17) dX1_cut_72 (by decide) ?_
        exact PW.sub [1, 0] rfl (ih _ hf)
      · have hf := (if_neg y8).symm.trans hf
        refine P.aload_n 0 (pc' := 37) dX1_cut_36 rfl rfl rfl ?_
        obtain ⟨x11, h12, hf⟩ := ob hf
        refine P.get (pc' := 40) ci1 0 (by decide) (gfR_spec h12) q210 (Or.inl rfl) dX1_cut_37 rfl ?_
        refine P.iload_n 1 (pc' := 41) dX1_cut_40 rfl rfl rfl ?_
        obtain ⟨x13, h14, hf⟩ := ob hf
        refine P.bald (t := 2) (pc' := 42) rfl h14 dX1_cut_41 rfl ?_
        refine P.bipush (v := 10) (pc' := 44) dX1_cut_42 rfl (by decide) ?_
        refine P.icmp_eq (tgt := 69) (pc' := 47) dX1_cut_44 (by decide) rfl (fun y15 => ?_) (fun y15 => ?_)
        · have hf := (if_pos y15).symm.trans hf
          obtain ⟨x16, e17, hf⟩ := nm_i hf
          refine P.iinc 1 (pc' := 72) (lv' := [(1, .int x16), (0, .ref c0)]) dX1_cut_69 rfl rfl (by decide) e17 (Nat.le_of_ble_eq_true rfl) rfl ?_
          refine P.goto (tgt := 17) dX1_cut_72 (by decide) ?_
          exact PW.sub [1, 0] rfl (ih _ hf)
        · have hf := (if_neg y15).symm.trans hf
          refine P.aload_n 0 (pc' := 48) dX1_cut_47 rfl rfl rfl ?_
          obtain ⟨x18, h19, hf⟩ := ob hf
          refine P.get (pc' := 51) ci1 0 (by decide) (gfR_spec h19) q210 (Or.inl rfl) dX1_cut_48 rfl ?_
          refine P.iload_n 1 (pc' := 52) dX1_cut_51 rfl rfl rfl ?_
          obtain ⟨x20, h21, hf⟩ := ob hf
          refine P.bald (t := 2) (pc' := 53) rfl h21 dX1_cut_52 rfl ?_
          refine P.bipush (v := 13) (pc' := 55) dX1_cut_53 rfl (by decide) ?_
          refine P.icmp_eq (tgt := 69) (pc' := 58) dX1_cut_55 (by decide) rfl (fun y22 => ?_) (fun y22 => ?_)
          · have hf := (if_pos y22).symm.trans hf
            obtain ⟨x23, e24, hf⟩ := nm_i hf
            refine P.iinc 1 (pc' := 72) (lv' := [(1, .int x23), (0, .ref c0)]) dX1_cut_69 rfl rfl (by decide) e24 (Nat.le_of_ble_eq_true rfl) rfl ?_
            refine P.goto (tgt := 17) dX1_cut_72 (by decide) ?_
            exact PW.sub [1, 0] rfl (ih _ hf)
          · have hf := (if_neg y22).symm.trans hf
            refine P.aload_n 0 (pc' := 59) dX1_cut_58 rfl rfl rfl ?_
            obtain ⟨x25, h26, hf⟩ := ob hf
            refine P.get (pc' := 62) ci1 0 (by decide) (gfR_spec h26) q210 (Or.inl rfl) dX1_cut_59 rfl ?_
            refine P.iload_n 1 (pc' := 63) dX1_cut_62 rfl rfl rfl ?_
            obtain ⟨x27, h28, hf⟩ := ob hf
            refine P.bald (t := 2) (pc' := 64) rfl h28 dX1_cut_63 rfl ?_
            refine P.bipush (v := 32) (pc' := 66) dX1_cut_64 rfl (by decide) ?_
            refine P.icmp_ne (tgt := 75) (pc' := 69) dX1_cut_66 (by decide) rfl (fun y29 => ?_) (fun y29 => ?_)
            · have hf := (if_neg y29).symm.trans hf
              exact PW.sub [0, 1] rfl (hk75 _ hf)
            · have hf := (if_pos y29).symm.trans hf
              obtain ⟨x30, e31, hf⟩ := nm_i hf
              refine P.iinc 1 (pc' := 72) (lv' := [(1, .int x30), (0, .ref c0)]) dX1_cut_69 rfl rfl (by decide) e31 (Nat.le_of_ble_eq_true rfl) rfl ?_
              refine P.goto (tgt := 17) dX1_cut_72 (by decide) ?_
              exact PW.sub [1, 0] rfl (ih _ hf)
noncomputable def f_X1_cut_j75 (F : Nat) (self : Int32 → Sw → Option Sw) (v0 : Nat) (v1 : Int32) (μ : Sw) : Option Sw :=
  Option.bind (gfI μ v0 1 1) fun x1 =>
  if v1 < x1 then
    Option.bind (gfR μ v0 1 0) fun x4 =>
    Option.bind (aI μ 2 x4 v1) fun x6 =>
    Option.bind (p_X1_isLetter F x6) fun q8 =>
    if q8 = 0 then
      Option.bind (gfR μ v0 1 0) fun x11 =>
      Option.bind (aI μ 2 x11 v1) fun x13 =>
      Option.bind (p_X1_isDigit F x13) fun q15 =>
      if q15 = 0 then
        Option.bind (oc μ v0 1) fun u20 =>
        Option.bind (f_X1_sign F v0 v1 μ) fun q18 =>
        self q18.1 q18.2
      else
        Option.bind (oc μ v0 1) fun u24 =>
        Option.bind (f_X1_number F v0 v1 μ) fun q22 =>
        self q22.1 q22.2
    else
      Option.bind (oc μ v0 1) fun u28 =>
      Option.bind (f_X1_word F v0 v1 μ) fun q26 =>
      self q26.1 q26.2
  else
    Option.bind (gfI μ v0 1 1) fun x30 =>
    Option.bind (oc μ v0 1) fun u34 =>
    Option.bind (f_X1_add F v0 0 x30 0 μ) fun q32 =>
    Option.bind (pf q32 v0 1 1 (.int 0)) fun μ36 =>
    some μ36
set_option maxHeartbeats 4000000 in
theorem ok_f_X1_cut_j75 {g : Gx} {μ0 : Sw} {μF : Sw} (F : Nat) (v0 : Nat) (v1 : Int32) (μ : Sw) (self : Int32 → Sw → Option Sw) (ih : ∀ (w1 : Int32) (μ : Sw), self w1 μ = some μF → PW g mX1_cut 11 μ0 μF (QN g none μ0 μF) 7 [(0, .ref v0), (1, .int w1)] [] μ) (hf : f_X1_cut_j75 F self v0 v1 μ = some μF) : PW g mX1_cut 11 μ0 μF (QN g none μ0 μF) 75 [(0, .ref v0), (1, .int v1)] [] μ := by
  unfold f_X1_cut_j75 at hf
  refine P.iload_n 1 (pc' := 76) dX1_cut_75 rfl rfl rfl ?_
  refine P.aload_n 0 (pc' := 77) dX1_cut_76 rfl rfl rfl ?_
  obtain ⟨x1, h2, hf⟩ := ob hf
  refine P.get (pc' := 80) ci1 1 (by decide) (gfI_spec h2) q211 (Or.inl rfl) dX1_cut_77 rfl ?_
  refine P.icmp_lt (tgt := 96) (pc' := 83) dX1_cut_80 (by decide) rfl (fun y3 => ?_) (fun y3 => ?_)
  · have hf := (if_pos y3).symm.trans hf
    refine P.aload_n 0 (pc' := 97) dX1_cut_96 rfl rfl rfl ?_
    obtain ⟨x4, h5, hf⟩ := ob hf
    refine P.get (pc' := 100) ci1 0 (by decide) (gfR_spec h5) q210 (Or.inl rfl) dX1_cut_97 rfl ?_
    refine P.iload_n 1 (pc' := 101) dX1_cut_100 rfl rfl rfl ?_
    obtain ⟨x6, h7, hf⟩ := ob hf
    refine P.bald (t := 2) (pc' := 102) rfl h7 dX1_cut_101 rfl ?_
    obtain ⟨q8, h9, hf⟩ := ob hf
    refine P.callS (pc' := 105) (As := [.int x6]) 1 (ok_X1_isLetter F x6 μ h9) (Nat.le_of_ble_eq_true rfl) (lw_S q572 q573 q160 q574) yok_X1_isLetter rfl (Nat.le_of_ble_eq_true rfl) (by decide) rfl dX1_cut_102 rfl ?_
    refine P.if_eq (tgt := 116) (pc' := 108) dX1_cut_105 (by decide) rfl (fun y10 => ?_) (fun y10 => ?_)
    · have hf := (if_pos y10).symm.trans hf
      refine P.aload_n 0 (pc' := 117) dX1_cut_116 rfl rfl rfl ?_
      obtain ⟨x11, h12, hf⟩ := ob hf
      refine P.get (pc' := 120) ci1 0 (by decide) (gfR_spec h12) q210 (Or.inl rfl) dX1_cut_117 rfl ?_
      refine P.iload_n 1 (pc' := 121) dX1_cut_120 rfl rfl rfl ?_
      obtain ⟨x13, h14, hf⟩ := ob hf
      refine P.bald (t := 2) (pc' := 122) rfl h14 dX1_cut_121 rfl ?_
      obtain ⟨q15, h16, hf⟩ := ob hf
      refine P.callS (pc' := 125) (As := [.int x13]) 1 (ok_X1_isDigit F x13 μ h16) (Nat.le_of_ble_eq_true rfl) (lw_S q639 q640 q160 q641) yok_X1_isDigit rfl (Nat.le_of_ble_eq_true rfl) (by decide) rfl dX1_cut_122 rfl ?_
      refine P.if_eq (tgt := 136) (pc' := 128) dX1_cut_125 (by decide) rfl (fun y17 => ?_) (fun y17 => ?_)
      · have hf := (if_pos y17).symm.trans hf
        refine P.aload_n 0 (pc' := 137) dX1_cut_136 rfl rfl rfl ?_
        refine P.iload_n 1 (pc' := 138) dX1_cut_137 rfl rfl rfl ?_
        obtain ⟨u20, h21, hf⟩ := ob hf
        obtain ⟨q18, h19, hf⟩ := ob hf
        refine P.callV (pc' := 141) (As := [.int v1]) 1 (ok_X1_sign F v0 v1 μ h19) (Nat.le_of_ble_eq_true rfl) (lw_V q646 q648 qs6 q160 q649) rfl yok_X1_sign rfl (Nat.le_of_ble_eq_true rfl) ci1 h21 (by decide) rfl dX1_cut_138 rfl ?_
        refine P.istore_n (pc' := 142) (lv' := [(1, .int q18.1), (0, .ref v0)]) dX1_cut_141 rfl rfl (Nat.le_of_ble_eq_true rfl) rfl ?_
        refine P.goto (tgt := 7) dX1_cut_142 (by decide) ?_
        exact PW.sub [1, 0] rfl (ih _ _ hf)
      · have hf := (if_neg y17).symm.trans hf
        refine P.aload_n 0 (pc' := 129) dX1_cut_128 rfl rfl rfl ?_
        refine P.iload_n 1 (pc' := 130) dX1_cut_129 rfl rfl rfl ?_
        obtain ⟨u24, h25, hf⟩ := ob hf
        obtain ⟨q22, h23, hf⟩ := ob hf
        refine P.callV (pc' := 133) (As := [.int v1]) 1 (ok_X1_number F v0 v1 μ h23) (Nat.le_of_ble_eq_true rfl) (lw_V q642 q644 qs5 q160 q645) rfl yok_X1_number rfl (Nat.le_of_ble_eq_true rfl) ci1 h25 (by decide) rfl dX1_cut_130 rfl ?_
        refine P.goto (tgt := 141) dX1_cut_133 (by decide) ?_
        refine P.istore_n (pc' := 142) (lv' := [(1, .int q22.1), (0, .ref v0)]) dX1_cut_141 rfl rfl (Nat.le_of_ble_eq_true rfl) rfl ?_
        refine P.goto (tgt := 7) dX1_cut_142 (by decide) ?_
        exact PW.sub [1, 0] rfl (ih _ _ hf)
    · have hf := (if_neg y10).symm.trans hf
      refine P.aload_n 0 (pc' := 109) dX1_cut_108 rfl rfl rfl ?_
      refine P.iload_n 1 (pc' := 110) dX1_cut_109 rfl rfl rfl ?_
      obtain ⟨u28, h29, hf⟩ := ob hf
      obtain ⟨q26, h27, hf⟩ := ob hf
      refine P.callV (pc' := 113) (As := [.int v1]) 1 (ok_X1_word F v0 v1 μ h27) (Nat.le_of_ble_eq_true rfl) (lw_V q575 q577 qs2 q160 q578) rfl yok_X1_word rfl (Nat.le_of_ble_eq_true rfl) ci1 h29 (by decide) rfl dX1_cut_110 rfl ?_
      refine P.goto (tgt := 141) dX1_cut_113 (by decide) ?_
      refine P.istore_n (pc' := 142) (lv' := [(1, .int q26.1), (0, .ref v0)]) dX1_cut_141 rfl rfl (Nat.le_of_ble_eq_true rfl) rfl ?_
      refine P.goto (tgt := 7) dX1_cut_142 (by decide) ?_
      exact PW.sub [1, 0] rfl (ih _ _ hf)
  · have hf := (if_neg y3).symm.trans hf
    refine P.aload_n 0 (pc' := 84) dX1_cut_83 rfl rfl rfl ?_
    refine P.iconst (v := 0) (pc' := 85) dX1_cut_84 rfl (by decide) ?_
    refine P.aload_n 0 (pc' := 86) dX1_cut_85 rfl rfl rfl ?_
    obtain ⟨x30, h31, hf⟩ := ob hf
    refine P.get (pc' := 89) ci1 1 (by decide) (gfI_spec h31) q211 (Or.inl rfl) dX1_cut_86 rfl ?_
    refine P.lconst (v := 0) (pc' := 90) dX1_cut_89 rfl (by decide) ?_
    obtain ⟨u34, h35, hf⟩ := ob hf
    obtain ⟨q32, h33, hf⟩ := ob hf
    refine P.callV (pc' := 93) (As := [.int 0, .int x30, .long 0]) 3 (ok_X1_add F v0 0 x30 0 μ h33) (Nat.le_of_ble_eq_true rfl) (lw_V q568 q570 qs1 q160 q571) rfl yok_X1_add rfl (Nat.le_of_ble_eq_true rfl) ci1 h35 (by decide) rfl dX1_cut_90 rfl ?_
    refine P.goto (tgt := 145) dX1_cut_93 (by decide) ?_
    refine P.aload_n 0 (pc' := 146) dX1_cut_145 rfl rfl rfl ?_
    refine P.iconst (v := 0) (pc' := 147) dX1_cut_146 rfl (by decide) ?_
    obtain ⟨μ36, h37, hf⟩ := ob hf
    refine P.put (v := .int 0) (pc' := 150) ci1 1 (by decide) h37 q211 (Or.inl rfl) rfl rfl rfl dX1_cut_147 rfl ?_
    cases hf; exact P.vret rfl dX1_cut_150
noncomputable def f_X1_cut_L7_b (F : Nat) (c0 : Nat) (self : Int32 → Sw → Option Sw) (v1 : Int32) (μ : Sw) : Option Sw :=
  Option.bind (gfI μ c0 1 5) fun x1 =>
  if 400 < x1 then
    Option.bind (pf μ c0 1 1 (.int 0)) fun μ4 =>
    some μ4
  else
    f_X1_cut_L17 F
      (fun w6 =>
        f_X1_cut_j75 F self c0 w6 μ)
      c0 μ F v1
noncomputable def f_X1_cut_L7 (F : Nat) (c0 : Nat) (n : Nat) : Int32 → Sw → Option Sw := Nat.rec (motive := fun _ => Int32 → Sw → Option Sw) (fun _ _ => none) (fun _ self => f_X1_cut_L7_b F c0 self) n
set_option maxHeartbeats 4000000 in
theorem ok_f_X1_cut_L7 {g : Gx} {μ0 : Sw} {μF : Sw} (F : Nat) (c0 : Nat) : ∀ (n : Nat) (v1 : Int32) (μ : Sw), f_X1_cut_L7 F c0 n v1 μ = some μF → PW g mX1_cut 11 μ0 μF (QN g none μ0 μF) 7 [(0, .ref c0), (1, .int v1)] [] μ := by
  intro n
  induction n with
  | zero =>
    intro v1 μ hf
    have hf : (none : Option Sw) = some _ := hf
    cases hf
  | succ n ih =>
    intro v1 μ hf
    have hf : f_X1_cut_L7_b F c0 (f_X1_cut_L7 F c0 n) v1 μ = some μF := hf
    unfold f_X1_cut_L7_b at hf
    refine P.aload_n 0 (pc' := 8) dX1_cut_7 rfl rfl rfl ?_
    obtain ⟨x1, h2, hf⟩ := ob hf
    refine P.get (pc' := 11) ci1 5 (by decide) (gfI_spec h2) q219 (Or.inl rfl) dX1_cut_8 rfl ?_
    refine P.sipush (v := 400) (pc' := 14) dX1_cut_11 rfl (by decide) ?_
    refine P.icmp_gt (tgt := 145) (pc' := 17) dX1_cut_14 (by decide) rfl (fun y3 => ?_) (fun y3 => ?_)
    · have hf := (if_pos y3).symm.trans hf
      refine P.aload_n 0 (pc' := 146) dX1_cut_145 rfl rfl rfl ?_
      refine P.iconst (v := 0) (pc' := 147) dX1_cut_146 rfl (by decide) ?_
      obtain ⟨μ4, h5, hf⟩ := ob hf
      refine P.put (v := .int 0) (pc' := 150) ci1 1 (by decide) h5 q211 (Or.inl rfl) rfl rfl rfl dX1_cut_147 rfl ?_
      cases hf; exact P.vret rfl dX1_cut_150
    · have hf := (if_neg y3).symm.trans hf
      refine PW.sub [0, 1] rfl (ok_f_X1_cut_L17 F c0 μ _ ?_ F _ hf)
      · intro w6 hf
        exact PW.sub [0, 1] rfl (ok_f_X1_cut_j75 F c0 w6 μ _ ih hf)
noncomputable def f_X1_cut (F : Nat) (this : Nat) (μ : Sw) : Option Sw :=
  Option.bind (pf μ this 1 5 (.int 0)) fun μ1 =>
  f_X1_cut_L7 F this F 0 μ1
set_option maxHeartbeats 4000000 in
theorem ok_X1_cut {g : Gx} (F : Nat) (this : Nat) (μ : Sw) {μF : Sw} (hf : f_X1_cut F this μ = some μF) : Cl g 11 yX1_cut cX1_cut 2 none [.ref this] μ none μF := by
  unfold f_X1_cut at hf
  refine Cl.of (own := RX1) (ini := false) (by decide +kernel) rfl (by decide) (Nat.le_of_ble_eq_true rfl) ?_
  show PW g mX1_cut 11 μ μF (QN g none μ μF) 0 [(0, .ref this)] [] μ
  refine P.aload_n 0 (pc' := 1) dX1_cut_0 rfl rfl rfl ?_
  refine P.iconst (v := 0) (pc' := 2) dX1_cut_1 rfl (by decide) ?_
  obtain ⟨μ1, h2, hf⟩ := ob hf
  refine P.put (v := .int 0) (pc' := 5) ci1 5 (by decide) h2 q219 (Or.inl rfl) rfl rfl rfl dX1_cut_2 rfl ?_
  refine P.iconst (v := 0) (pc' := 6) dX1_cut_5 rfl (by decide) ?_
  refine P.istore_n (pc' := 7) (lv' := [(1, .int 0), (0, .ref this)]) dX1_cut_6 rfl rfl (Nat.le_of_ble_eq_true rfl) rfl ?_
  exact PW.sub [1, 0] rfl (ok_f_X1_cut_L7 F this F _ _ hf)
abbrev mX2_is : Ym := (RX2, cX2_is, 2, (some Jvm.ClassFile.FieldType.boolean), false, [])
noncomputable def f_X2_is (F : Nat) (this : Nat) (p1 : Int32) (μ : Sw) : Option Int32 :=
  Option.bind (gfR μ this 2 0) fun x1 =>
  Option.bind (gfR μ x1 1 2) fun x3 =>
  Option.bind (gfI μ this 2 1) fun x5 =>
  Option.bind (aI μ 3 x3 x5) fun x7 =>
  if x7 = p1 then
    some 1
  else
    some 0
set_option maxHeartbeats 4000000 in
theorem ok_X2_is {g : Gx} (F : Nat) (this : Nat) (p1 : Int32) (μ : Sw) {rv : Int32} (hf : f_X2_is F this p1 μ = some rv) : Cl g 1 yX2_is cX2_is 2 (some Jvm.ClassFile.FieldType.boolean) [.ref this, .int p1] μ (some (.int rv)) μ := by
  unfold f_X2_is at hf
  refine Cl.of (own := RX2) (ini := false) (by decide +kernel) rfl (by decide) (Nat.le_of_ble_eq_true rfl) ?_
  show PW g mX2_is 1 μ μ (QN g (some (.int rv)) μ μ) 0 [(0, .ref this), (1, .int p1)] [] μ
  refine P.aload_n 0 (pc' := 1) dX2_is_0 rfl rfl rfl ?_
  obtain ⟨x1, h2, hf⟩ := ob hf
  refine P.get (pc' := 4) ci2 0 (by decide) (gfR_spec h2) q242 (Or.inl rfl) dX2_is_1 rfl ?_
  obtain ⟨x3, h4, hf⟩ := ob hf
  refine P.getN (pc' := 7) ci1 2 (by decide) (gfR_spec h4) q214 (Or.inl rfl) dX2_is_4 rfl ?_
  refine P.aload_n 0 (pc' := 8) dX2_is_7 rfl rfl rfl ?_
  obtain ⟨x5, h6, hf⟩ := ob hf
  refine P.get (pc' := 11) ci2 1 (by decide) (gfI_spec h6) q243 (Or.inl rfl) dX2_is_8 rfl ?_
  obtain ⟨x7, h8, hf⟩ := ob hf
  refine P.sald (t := 3) (pc' := 12) rfl h8 dX2_is_11 rfl ?_
  refine P.iload_n 1 (pc' := 13) dX2_is_12 rfl rfl rfl ?_
  refine P.icmp_ne (tgt := 20) (pc' := 16) dX2_is_13 (by decide) rfl (fun y9 => ?_) (fun y9 => ?_)
  · have hf := (if_neg y9).symm.trans hf
    refine P.iconst (v := 0) (pc' := 21) dX2_is_20 rfl (by decide) ?_
    cases hf; exact P.zret rfl (Or.inl rfl) dX2_is_21
  · have hf := (if_pos y9).symm.trans hf
    refine P.iconst (v := 1) (pc' := 17) dX2_is_16 rfl (by decide) ?_
    refine P.goto (tgt := 21) dX2_is_17 (by decide) ?_
    cases hf; exact P.zret rfl (Or.inr rfl) dX2_is_21
abbrev mJ8_init_2 : Ym := (RJ8, cJ8_init_2, 5, none, true, [])
noncomputable def f_J8_init_2_j41 (F : Nat) (v0 : Nat) (v3 : Int32) (μ : Sw) : Option Sw :=
  Option.bind (pf μ v0 10 3 (.null)) fun μ1 =>
  Option.bind (pf μ1 v0 10 0 (.null)) fun μ3 =>
  if v3 = 0 then
    Option.bind (pf μ3 v0 10 2 (.null)) fun μ6 =>
    some μ6
  else
    some μ3
set_option maxHeartbeats 4000000 in
theorem ok_f_J8_init_2_j41 {g : Gx} {μ0 : Sw} {μF : Sw} (F : Nat) (v0 : Nat) (v3 : Int32) (μ : Sw) (hf : f_J8_init_2_j41 F v0 v3 μ = some μF) : PW g mJ8_init_2 1 μ0 μF (QN g none μ0 μF) 41 [(0, .ref v0), (1, .null), (2, .null), (3, .int v3)] [] μ := by
  unfold f_J8_init_2_j41 at hf
  refine P.aload_n 0 (pc' := 42) dJ8_init_2_41 rfl rfl rfl ?_
  refine P.aloadN_n 1 (pc' := 43) dJ8_init_2_42 rfl rfl rfl ?_
  obtain ⟨μ1, h2, hf⟩ := ob hf
  refine P.put (v := .null) (pc' := 46) ci10 3 (by decide) h2 q736 (Or.inl rfl) rfl rfl rfl dJ8_init_2_43 rfl ?_
  refine P.aload_n 0 (pc' := 47) dJ8_init_2_46 rfl rfl rfl ?_
  refine P.aloadN_n 2 (pc' := 48) dJ8_init_2_47 rfl rfl rfl ?_
  obtain ⟨μ3, h4, hf⟩ := ob hf
  refine P.put (v := .null) (pc' := 51) ci10 0 (by decide) h4 q737 (Or.inl rfl) rfl rfl rfl dJ8_init_2_48 rfl ?_
  refine P.iload_n 3 (pc' := 52) dJ8_init_2_51 rfl rfl rfl ?_
  refine P.if_ne (tgt := 60) (pc' := 55) dJ8_init_2_52 (by decide) rfl (fun y5 => ?_) (fun y5 => ?_)
  · have hf := (if_neg y5).symm.trans hf
    cases hf; exact P.vret rfl dJ8_init_2_60
  · have hf := (if_pos y5).symm.trans hf
    refine P.aload_n 0 (pc' := 56) dJ8_init_2_55 rfl rfl rfl ?_
    refine P.null (pc' := 57) dJ8_init_2_56 rfl ?_
    obtain ⟨μ6, h7, hf⟩ := ob hf
    refine P.put (v := .null) (pc' := 60) ci10 2 (by decide) h7 q739 (Or.inl rfl) rfl rfl rfl dJ8_init_2_57 rfl ?_
    cases hf; exact P.vret rfl dJ8_init_2_60
noncomputable def f_J8_init_2 (F : Nat) (this : Nat) (p3 : Int32) (p4 : Int32) (μ : Sw) : Option Sw :=
  Option.bind (pf μ this 10 0 (.ref this)) fun μ1 =>
  Option.bind (pf μ1 this 10 1 (cV (μ1.2.2.2 3))) fun μ3 =>
  Option.bind (pf μ3 this 10 2 (cV (μ3.2.2.2 4))) fun μ5 =>
  if p4 = 0 then
    Option.bind (pf μ5 this 10 1 (.null)) fun μ8 =>
    f_J8_init_2_j41 F this p3 μ8
  else
    none
set_option maxHeartbeats 4000000 in
theorem ok_J8_init_2 {g : Gx} (F : Nat) (this : Nat) (p3 : Int32) (p4 : Int32) (μ : Sw) {μF : Sw} (hf : f_J8_init_2 F this p3 p4 μ = some μF) : Cl g 1 yJ8_init_2 cJ8_init_2 5 none [.ref this, .null, .null, .int p3, .int p4] μ none μF := by
  unfold f_J8_init_2 at hf
  refine Cl.of (own := RJ8) (ini := true) (by decide +kernel) rfl (by decide) (Nat.le_of_ble_eq_true rfl) ?_
  show PW g mJ8_init_2 1 μ μF (QN g none μ μF) 0 [(0, .ref this), (1, .null), (2, .null), (3, .int p3), (4, .int p4)] [] μ
  refine P.aload_n 0 (pc' := 1) dJ8_init_2_0 rfl rfl rfl ?_
  refine P.objInit (pc' := 4) q705 q202 q203 (by decide) (by decide) dJ8_init_2_1 rfl ?_
  refine P.aload_n 0 (pc' := 5) dJ8_init_2_4 rfl rfl rfl ?_
  refine P.aload_n 0 (pc' := 6) dJ8_init_2_5 rfl rfl rfl ?_
  obtain ⟨μ1, h2, hf⟩ := ob hf
  refine P.put (v := .ref this) (pc' := 9) ci10 0 (by decide) h2 q737 (Or.inl rfl) rfl rfl rfl dJ8_init_2_6 rfl ?_
  refine P.aload_n 0 (pc' := 10) dJ8_init_2_9 rfl rfl rfl ?_
  refine P.getsC (pc' := 13) 3 (zs3 g) q706 dJ8_init_2_10 rfl ?_
  obtain ⟨μ3, h4, hf⟩ := ob hf
  refine P.put (v := cV (μ1.2.2.2 3)) (pc' := 16) ci10 1 (by decide) h4 q738 (Or.inl rfl) rfl (cV_nar rfl _) (cV_fit rfl _) dJ8_init_2_13 rfl ?_
  refine P.aload_n 0 (pc' := 17) dJ8_init_2_16 rfl rfl rfl ?_
  refine P.getsC (pc' := 20) 4 (zs4 g) q708 dJ8_init_2_17 rfl ?_
  obtain ⟨μ5, h6, hf⟩ := ob hf
  refine P.put (v := cV (μ3.2.2.2 4)) (pc' := 23) ci10 2 (by decide) h6 q739 (Or.inl rfl) rfl (cV_nar rfl _) (cV_fit rfl _) dJ8_init_2_20 rfl ?_
  refine P.iload 4 (pc' := 25) dJ8_init_2_23 rfl rfl ?_
  refine P.if_eq (tgt := 36) (pc' := 28) dJ8_init_2_25 (by decide) rfl (fun y7 => ?_) (fun y7 => ?_)
  · have hf := (if_pos y7).symm.trans hf
    refine P.aload_n 0 (pc' := 37) dJ8_init_2_36 rfl rfl rfl ?_
    refine P.null (pc' := 38) dJ8_init_2_37 rfl ?_
    obtain ⟨μ8, h9, hf⟩ := ob hf
    refine P.put (v := .null) (pc' := 41) ci10 1 (by decide) h9 q738 (Or.inl rfl) rfl rfl rfl dJ8_init_2_38 rfl ?_
    exact PW.sub [0, 1, 2, 3] rfl (ok_f_J8_init_2_j41 F this p3 μ8 hf)
  · have hf := (if_neg y7).symm.trans hf
    refine P.aload_n 0 (pc' := 29) dJ8_init_2_28 rfl rfl rfl ?_
    cases hf
theorem yok_J8_init_2 : yOK yJ8_init_2 4 := ⟨by decide +kernel, by decide +kernel, by decide +kernel⟩
abbrev mJ9_init : Ym := (RJ9, cJ9_init, 5, none, true, [])
noncomputable def f_J9_init (F : Nat) (this : Nat) (p3 : Int32) (p4 : Int32) (μ : Sw) : Option Sw :=
  Option.bind (f_J8_init_2 F this p3 p4 μ) fun q1 =>
  some q1
set_option maxHeartbeats 4000000 in
theorem ok_J9_init {g : Gx} (F : Nat) (this : Nat) (p3 : Int32) (p4 : Int32) (μ : Sw) {μF : Sw} (hf : f_J9_init F this p3 p4 μ = some μF) : Cl g 2 yJ9_init cJ9_init 5 none [.ref this, .null, .null, .int p3, .int p4] μ none μF := by
  unfold f_J9_init at hf
  refine Cl.of (own := RJ9) (ini := true) (by decide +kernel) rfl (by decide) (Nat.le_of_ble_eq_true rfl) ?_
  show PW g mJ9_init 2 μ μF (QN g none μ μF) 0 [(0, .ref this), (1, .null), (2, .null), (3, .int p3), (4, .int p4)] [] μ
  refine P.aload_n 0 (pc' := 1) dJ9_init_0 rfl rfl rfl ?_
  refine P.aloadN_n 1 (pc' := 2) dJ9_init_1 rfl rfl rfl ?_
  refine P.aloadN_n 2 (pc' := 3) dJ9_init_2 rfl rfl rfl ?_
  refine P.iload_n 3 (pc' := 4) dJ9_init_3 rfl rfl rfl ?_
  refine P.iload 4 (pc' := 6) dJ9_init_4 rfl rfl ?_
  obtain ⟨q1, h2, hf⟩ := ob hf
  refine P.callI (pc' := 9) (As := [.null, .null, .int p3, .int p4]) 4 (ok_J8_init_2 F this p3 p4 μ h2) (Nat.le_of_ble_eq_true rfl) q730 q177 q728 q729 rfl yok_J8_init_2 rfl (Nat.le_of_ble_eq_true rfl) (by decide) rfl dJ9_init_6 rfl ?_
  cases hf; exact P.vret rfl dJ9_init_9
theorem yok_J9_init : yOK yJ9_init 4 := ⟨by decide +kernel, by decide +kernel, by decide +kernel⟩
abbrev mJ10_init : Ym := (RJ10, cJ10_init, 5, none, true, [])
noncomputable def f_J10_init (F : Nat) (this : Nat) (p3 : Int32) (p4 : Int32) (μ : Sw) : Option Sw :=
  Option.bind (f_J9_init F this p3 p4 μ) fun q1 =>
  some q1
set_option maxHeartbeats 4000000 in
theorem ok_J10_init {g : Gx} (F : Nat) (this : Nat) (p3 : Int32) (p4 : Int32) (μ : Sw) {μF : Sw} (hf : f_J10_init F this p3 p4 μ = some μF) : Cl g 3 yJ10_init cJ10_init 5 none [.ref this, .null, .null, .int p3, .int p4] μ none μF := by
  unfold f_J10_init at hf
  refine Cl.of (own := RJ10) (ini := true) (by decide +kernel) rfl (by decide) (Nat.le_of_ble_eq_true rfl) ?_
  show PW g mJ10_init 3 μ μF (QN g none μ μF) 0 [(0, .ref this), (1, .null), (2, .null), (3, .int p3), (4, .int p4)] [] μ
  refine P.aload_n 0 (pc' := 1) dJ10_init_0 rfl rfl rfl ?_
  refine P.aloadN_n 1 (pc' := 2) dJ10_init_1 rfl rfl rfl ?_
  refine P.aloadN_n 2 (pc' := 3) dJ10_init_2 rfl rfl rfl ?_
  refine P.iload_n 3 (pc' := 4) dJ10_init_3 rfl rfl rfl ?_
  refine P.iload 4 (pc' := 6) dJ10_init_4 rfl rfl ?_
  obtain ⟨q1, h2, hf⟩ := ob hf
  refine P.callI (pc' := 9) (As := [.null, .null, .int p3, .int p4]) 4 (ok_J9_init F this p3 p4 μ h2) (Nat.le_of_ble_eq_true rfl) q727 q178 q725 q726 rfl yok_J9_init rfl (Nat.le_of_ble_eq_true rfl) (by decide) rfl dJ10_init_6 rfl ?_
  cases hf; exact P.vret rfl dJ10_init_9
theorem yok_J10_init : yOK yJ10_init 4 := ⟨by decide +kernel, by decide +kernel, by decide +kernel⟩
abbrev mX10_init : Ym := (RX10, cX10_init, 3, none, true, [])
noncomputable def f_X10_init (F : Nat) (this : Nat) (p1 : Int32) (p2 : Int32) (μ : Sw) : Option Sw :=
  Option.bind (f_J10_init F this 0 0 μ) fun q1 =>
  Option.bind (pf q1 this 10 6 (.int p1)) fun μ3 =>
  Option.bind (pf μ3 this 10 7 (.int p2)) fun μ5 =>
  some μ5
set_option maxHeartbeats 4000000 in
theorem ok_X10_init {g : Gx} (F : Nat) (this : Nat) (p1 : Int32) (p2 : Int32) (μ : Sw) {μF : Sw} (hf : f_X10_init F this p1 p2 μ = some μF) : Cl g 4 yX10_init cX10_init 3 none [.ref this, .int p1, .int p2] μ none μF := by
  unfold f_X10_init at hf
  refine Cl.of (own := RX10) (ini := true) (by decide +kernel) rfl (by decide) (Nat.le_of_ble_eq_true rfl) ?_
  show PW g mX10_init 4 μ μF (QN g none μ μF) 0 [(0, .ref this), (1, .int p1), (2, .int p2)] [] μ
  refine P.aload_n 0 (pc' := 1) dX10_init_0 rfl rfl rfl ?_
  refine P.null (pc' := 2) dX10_init_1 rfl ?_
  refine P.null (pc' := 3) dX10_init_2 rfl ?_
  refine P.iconst (v := 0) (pc' := 4) dX10_init_3 rfl (by decide) ?_
  refine P.iconst (v := 0) (pc' := 5) dX10_init_4 rfl (by decide) ?_
  obtain ⟨q1, h2, hf⟩ := ob hf
  refine P.callI (pc' := 8) (As := [.null, .null, .int 0, .int 0]) 4 (ok_J10_init F this 0 0 μ h2) (Nat.le_of_ble_eq_true rfl) q724 q179 q722 q723 rfl yok_J10_init rfl (Nat.le_of_ble_eq_true rfl) (by decide) rfl dX10_init_5 rfl ?_
  refine P.aload_n 0 (pc' := 9) dX10_init_8 rfl rfl rfl ?_
  refine P.iload_n 1 (pc' := 10) dX10_init_9 rfl rfl rfl ?_
  obtain ⟨μ3, h4, hf⟩ := ob hf
  refine P.putF (v := .int p1) (pc' := 13) ci10 6 (by decide) h4 q731 (Or.inl rfl) rfl rfl rfl rfl rfl dX10_init_10 rfl ?_
  refine P.aload_n 0 (pc' := 14) dX10_init_13 rfl rfl rfl ?_
  refine P.iload_n 2 (pc' := 15) dX10_init_14 rfl rfl rfl ?_
  obtain ⟨μ5, h6, hf⟩ := ob hf
  refine P.putF (v := .int p2) (pc' := 18) ci10 7 (by decide) h6 q733 (Or.inl rfl) rfl rfl rfl rfl rfl dX10_init_15 rfl ?_
  cases hf; exact P.vret rfl dX10_init_18
abbrev mX2_kind : Ym := (RX2, cX2_kind, 1, (some Jvm.ClassFile.FieldType.int), false, [])
noncomputable def f_X2_kind (F : Nat) (this : Nat) (μ : Sw) : Option Int32 :=
  Option.bind (gfR μ this 2 0) fun x1 =>
  Option.bind (gfR μ x1 1 2) fun x3 =>
  Option.bind (gfI μ this 2 1) fun x5 =>
  Option.bind (aI μ 3 x3 x5) fun x7 =>
  some x7
set_option maxHeartbeats 4000000 in
theorem ok_X2_kind {g : Gx} (F : Nat) (this : Nat) (μ : Sw) {rv : Int32} (hf : f_X2_kind F this μ = some rv) : Cl g 1 yX2_kind cX2_kind 1 (some Jvm.ClassFile.FieldType.int) [.ref this] μ (some (.int rv)) μ := by
  unfold f_X2_kind at hf
  refine Cl.of (own := RX2) (ini := false) (by decide +kernel) rfl (by decide) (Nat.le_of_ble_eq_true rfl) ?_
  show PW g mX2_kind 1 μ μ (QN g (some (.int rv)) μ μ) 0 [(0, .ref this)] [] μ
  refine P.aload_n 0 (pc' := 1) dX2_kind_0 rfl rfl rfl ?_
  obtain ⟨x1, h2, hf⟩ := ob hf
  refine P.get (pc' := 4) ci2 0 (by decide) (gfR_spec h2) q242 (Or.inl rfl) dX2_kind_1 rfl ?_
  obtain ⟨x3, h4, hf⟩ := ob hf
  refine P.getN (pc' := 7) ci1 2 (by decide) (gfR_spec h4) q214 (Or.inl rfl) dX2_kind_4 rfl ?_
  refine P.aload_n 0 (pc' := 8) dX2_kind_7 rfl rfl rfl ?_
  obtain ⟨x5, h6, hf⟩ := ob hf
  refine P.get (pc' := 11) ci2 1 (by decide) (gfI_spec h6) q243 (Or.inl rfl) dX2_kind_8 rfl ?_
  obtain ⟨x7, h8, hf⟩ := ob hf
  refine P.sald (t := 3) (pc' := 12) rfl h8 dX2_kind_11 rfl ?_
  cases hf; exact P.iret rfl dX2_kind_12
