set_option maxRecDepth 100000
theorem yok_X0_falls : yOK yX0_falls 3 := ⟨by decide +kernel, by decide +kernel, by decide +kernel⟩
abbrev mX0_chains : Ym := (RX0, cX0_chains, 7, (some Jvm.ClassFile.FieldType.int), false, [])
noncomputable def f_X0_chains_L2_b (F : Nat) (k32 : Sw → Option (Int32 × Sw)) (c0 : Nat) (c1 : Int32) (c2 : Int32) (self : Int32 → Sw → Option (Int32 × Sw)) (v3 : Int32) (μ : Sw) : Option (Int32 × Sw) :=
  Option.bind (oc μ c0 0) fun u3 =>
  Option.bind (f_X0_houses F c0 μ) fun q1 =>
  if q1 ≤ v3 then
    k32 μ
  else
    Option.bind (gfR μ c0 0 18) fun x6 =>
    if v3 = c1 then
      Option.bind (sI μ 0 x6 v3 0) fun μ14 =>
      nm (v3 + 1) fun x15 =>
      self x15 μ14
    else
      Option.bind (sI μ 0 x6 v3 (-1)) fun μ10 =>
      nm (v3 + 1) fun x11 =>
      self x11 μ10
noncomputable def f_X0_chains_L2 (F : Nat) (k32 : Sw → Option (Int32 × Sw)) (c0 : Nat) (c1 : Int32) (c2 : Int32) (n : Nat) : Int32 → Sw → Option (Int32 × Sw) := Nat.rec (motive := fun _ => Int32 → Sw → Option (Int32 × Sw)) (fun _ _ => none) (fun _ self => f_X0_chains_L2_b F k32 c0 c1 c2 self) n
set_option maxHeartbeats 4000000 in
theorem ok_f_X0_chains_L2 {g : Gx} {μ0 : Sw} {rv : Int32} {μF : Sw} (F : Nat) (c0 : Nat) (c1 : Int32) (c2 : Int32) (k32 : Sw → Option (Int32 × Sw)) (hk32 : ∀ (μ : Sw), k32 μ = some (rv, μF) → PW g mX0_chains 422 μ0 μF (QN g (some (.int rv)) μ0 μF) 32 [(0, .ref c0), (1, .int c1), (2, .int c2)] [] μ) : ∀ (n : Nat) (v3 : Int32) (μ : Sw), f_X0_chains_L2 F k32 c0 c1 c2 n v3 μ = some (rv, μF) → PW g mX0_chains 422 μ0 μF (QN g (some (.int rv)) μ0 μF) 2 [(0, .ref c0), (1, .int c1), (2, .int c2), (3, .int v3)] [] μ := by
  intro n
  induction n with
  | zero =>
    intro v3 μ hf
    have hf : (none : Option (Int32 × Sw)) = some _ := hf
    cases hf
  | succ n ih =>
    intro v3 μ hf
    have hf : f_X0_chains_L2_b F k32 c0 c1 c2 (f_X0_chains_L2 F k32 c0 c1 c2 n) v3 μ = some (rv, μF) := hf
    unfold f_X0_chains_L2_b at hf
    refine P.iload_n 3 (pc' := 3) dX0_chains_2 rfl rfl rfl ?_
    refine P.aload_n 0 (pc' := 4) dX0_chains_3 rfl rfl rfl ?_
    obtain ⟨u3, h4, hf⟩ := ob hf
    obtain ⟨q1, h2, hf⟩ := ob hf
    refine P.callV (pc' := 7) (As := []) 0 (ok_X0_houses F c0 μ h2) (Nat.le_of_ble_eq_true rfl) (lw_V q1034 q1036 qs34 q159 q1037) rfl yok_X0_houses rfl (Nat.le_of_ble_eq_true rfl) ci0 h4 (Nat.le_of_ble_eq_true rfl) rfl dX0_chains_4 rfl ?_
    refine P.icmp_ge (tgt := 32) (pc' := 10) dX0_chains_7 (by decide) rfl (fun y5 => ?_) (fun y5 => ?_)
    · have hf := (if_pos y5).symm.trans hf
      exact PW.sub [0, 1, 2] rfl (hk32 _ hf)
    · have hf := (if_neg y5).symm.trans hf
      refine P.aload_n 0 (pc' := 11) dX0_chains_10 rfl rfl rfl ?_
      obtain ⟨x6, h7, hf⟩ := ob hf
      refine P.get (pc' := 14) ci0 18 (by decide) (gfR_spec h7) q493 (Or.inl rfl) dX0_chains_11 rfl ?_
      refine P.iload_n 3 (pc' := 15) dX0_chains_14 rfl rfl rfl ?_
      refine P.iload_n 3 (pc' := 16) dX0_chains_15 rfl rfl rfl ?_
      refine P.iload_n 1 (pc' := 17) dX0_chains_16 rfl rfl rfl ?_
      refine P.icmp_ne (tgt := 24) (pc' := 20) dX0_chains_17 (by decide) rfl (fun y8 => ?_) (fun y8 => ?_)
      · have hf := (if_neg y8).symm.trans hf
        refine P.iconst (v := (-1)) (pc' := 25) dX0_chains_24 rfl (by decide) ?_
        obtain ⟨μ10, h9, hf⟩ := ob hf
        refine P.iast (pc' := 26) h9 dX0_chains_25 rfl ?_
        obtain ⟨x11, e12, hf⟩ := nm_i hf
        refine P.iinc 3 (pc' := 29) (lv' := [(3, .int x11), (0, .ref c0), (1, .int c1), (2, .int c2)]) dX0_chains_26 rfl rfl (by decide) e12 (Nat.le_of_ble_eq_true rfl) rfl ?_
        refine P.goto (tgt := 2) dX0_chains_29 (by decide) ?_
        exact PW.sub [1, 2, 3, 0] rfl (ih _ _ hf)
      · have hf := (if_pos y8).symm.trans hf
        refine P.iconst (v := 0) (pc' := 21) dX0_chains_20 rfl (by decide) ?_
        refine P.goto (tgt := 25) dX0_chains_21 (by decide) ?_
        obtain ⟨μ14, h13, hf⟩ := ob hf
        refine P.iast (pc' := 26) h13 dX0_chains_25 rfl ?_
        obtain ⟨x15, e16, hf⟩ := nm_i hf
        refine P.iinc 3 (pc' := 29) (lv' := [(3, .int x15), (0, .ref c0), (1, .int c1), (2, .int c2)]) dX0_chains_26 rfl rfl (by decide) e16 (Nat.le_of_ble_eq_true rfl) rfl ?_
        refine P.goto (tgt := 2) dX0_chains_29 (by decide) ?_
        exact PW.sub [1, 2, 3, 0] rfl (ih _ _ hf)
noncomputable def f_X0_chains_L54_b (F : Nat) (k111 : Int32 → Sw → Option (Int32 × Sw)) (c0 : Nat) (c2 : Int32) (c4 : Int32) (c5 : Int32) (self : Int32 → Int32 → Sw → Option (Int32 × Sw)) (v3 : Int32) (v6 : Int32) (μ : Sw) : Option (Int32 × Sw) :=
  Option.bind (oc μ c0 0) fun u3 =>
  Option.bind (f_X0_houses F c0 μ) fun q1 =>
  if q1 ≤ v6 then
    k111 v3 μ
  else
    Option.bind (gfR μ c0 0 18) fun x6 =>
    Option.bind (aI μ 0 x6 v6) fun x8 =>
    if x8 = (-1) then
      Option.bind (oc μ c0 0) fun u15 =>
      Option.bind (f_X0_falls F c0 v6 c2 c4 μ) fun q13 =>
      if q13.1 = 0 then
        nm (v6 + 1) fun x26 =>
        self v3 x26 q13.2
      else
        Option.bind (gfR q13.2 c0 0 18) fun x18 =>
        Option.bind (sI q13.2 0 x18 v6 c5) fun μ21 =>
        nm (v3 ||| ((1 : Int32) <<< (v6 &&& 31))) fun x22 =>
        nm (v6 + 1) fun x24 =>
        self x22 x24 μ21
    else
      nm (v6 + 1) fun x11 =>
      self v3 x11 μ
noncomputable def f_X0_chains_L54 (F : Nat) (k111 : Int32 → Sw → Option (Int32 × Sw)) (c0 : Nat) (c2 : Int32) (c4 : Int32) (c5 : Int32) (n : Nat) : Int32 → Int32 → Sw → Option (Int32 × Sw) := Nat.rec (motive := fun _ => Int32 → Int32 → Sw → Option (Int32 × Sw)) (fun _ _ _ => none) (fun _ self => f_X0_chains_L54_b F k111 c0 c2 c4 c5 self) n
set_option maxHeartbeats 4000000 in
theorem ok_f_X0_chains_L54 {g : Gx} {μ0 : Sw} {rv : Int32} {μF : Sw} (F : Nat) (c0 : Nat) (c2 : Int32) (c4 : Int32) (c5 : Int32) (k111 : Int32 → Sw → Option (Int32 × Sw)) (hk111 : ∀ (w3 : Int32) (μ : Sw), k111 w3 μ = some (rv, μF) → PW g mX0_chains 422 μ0 μF (QN g (some (.int rv)) μ0 μF) 111 [(0, .ref c0), (2, .int c2), (3, .int w3), (4, .int c4), (5, .int c5)] [] μ) : ∀ (n : Nat) (v3 : Int32) (v6 : Int32) (μ : Sw), f_X0_chains_L54 F k111 c0 c2 c4 c5 n v3 v6 μ = some (rv, μF) → PW g mX0_chains 422 μ0 μF (QN g (some (.int rv)) μ0 μF) 54 [(0, .ref c0), (2, .int c2), (3, .int v3), (4, .int c4), (5, .int c5), (6, .int v6)] [] μ := by
  intro n
  induction n with
  | zero =>
    intro v3 v6 μ hf
    have hf : (none : Option (Int32 × Sw)) = some _ := hf
    cases hf
  | succ n ih =>
    intro v3 v6 μ hf
    have hf : f_X0_chains_L54_b F k111 c0 c2 c4 c5 (f_X0_chains_L54 F k111 c0 c2 c4 c5 n) v3 v6 μ = some (rv, μF) := hf
    unfold f_X0_chains_L54_b at hf
    refine P.iload 5 (pc' := 56) dX0_chains_54 rfl rfl ?_
    refine P.aload_n 0 (pc' := 57) dX0_chains_56 rfl rfl rfl ?_
    obtain ⟨u3, h4, hf⟩ := ob hf
    obtain ⟨q1, h2, hf⟩ := ob hf
    refine P.callV (pc' := 60) (As := []) 0 (ok_X0_houses F c0 μ h2) (Nat.le_of_ble_eq_true rfl) (lw_V q1034 q1036 qs34 q159 q1037) rfl yok_X0_houses rfl (Nat.le_of_ble_eq_true rfl) ci0 h4 (Nat.le_of_ble_eq_true rfl) rfl dX0_chains_57 rfl ?_
    refine P.icmp_ge (tgt := 111) (pc' := 63) dX0_chains_60 (by decide) rfl (fun y5 => ?_) (fun y5 => ?_)
    · have hf := (if_pos y5).symm.trans hf
      exact PW.sub [0, 1, 2, 3, 4] rfl (hk111 _ _ hf)
    · have hf := (if_neg y5).symm.trans hf
      refine P.aload_n 0 (pc' := 64) dX0_chains_63 rfl rfl rfl ?_
      obtain ⟨x6, h7, hf⟩ := ob hf
      refine P.get (pc' := 67) ci0 18 (by decide) (gfR_spec h7) q493 (Or.inl rfl) dX0_chains_64 rfl ?_
      refine P.iload 5 (pc' := 69) dX0_chains_67 rfl rfl ?_
      obtain ⟨x8, h9, hf⟩ := ob hf
      refine P.iald (t := 0) (pc' := 70) rfl h9 dX0_chains_69 rfl ?_
      refine P.iconst (v := (-1)) (pc' := 71) dX0_chains_70 rfl (by decide) ?_
      refine P.icmp_ne (tgt := 105) (pc' := 74) dX0_chains_71 (by decide) rfl (fun y10 => ?_) (fun y10 => ?_)
      · have hf := (if_neg y10).symm.trans hf
        obtain ⟨x11, e12, hf⟩ := nm_i hf
        refine P.iinc 5 (pc' := 108) (lv' := [(6, .int x11), (0, .ref c0), (2, .int c2), (3, .int v3), (4, .int c4), (5, .int c5)]) dX0_chains_105 rfl rfl (by decide) e12 (Nat.le_of_ble_eq_true rfl) rfl ?_
        refine P.goto (tgt := 54) dX0_chains_108 (by decide) ?_
        exact PW.sub [1, 2, 3, 4, 5, 0] rfl (ih _ _ _ hf)
      · have hf := (if_pos y10).symm.trans hf
        refine P.aload_n 0 (pc' := 75) dX0_chains_74 rfl rfl rfl ?_
        refine P.iload 5 (pc' := 77) dX0_chains_75 rfl rfl ?_
        refine P.iload_n 1 (pc' := 78) dX0_chains_77 rfl rfl rfl ?_
        refine P.iload 3 (pc' := 80) dX0_chains_78 rfl rfl ?_
        obtain ⟨u15, h16, hf⟩ := ob hf
        obtain ⟨q13, h14, hf⟩ := ob hf
        refine P.callV (pc' := 83) (As := [.int v6, .int c2, .int c4]) 3 (ok_X0_falls F c0 v6 c2 c4 μ h14) (Nat.le_of_ble_eq_true rfl) (lw_V q1363 q1365 qs62 q159 q1366) rfl yok_X0_falls rfl (Nat.le_of_ble_eq_true rfl) ci0 h16 (by decide) rfl dX0_chains_80 rfl ?_
        refine P.if_ne (tgt := 89) (pc' := 86) dX0_chains_83 (by decide) rfl (fun y17 => ?_) (fun y17 => ?_)
        · have hf := (if_neg y17).symm.trans hf
          refine P.aload_n 0 (pc' := 90) dX0_chains_89 rfl rfl rfl ?_
          obtain ⟨x18, h19, hf⟩ := ob hf
          refine P.get (pc' := 93) ci0 18 (by decide) (gfR_spec h19) q493 (Or.inl rfl) dX0_chains_90 rfl ?_
          refine P.iload 5 (pc' := 95) dX0_chains_93 rfl rfl ?_
          refine P.iload 4 (pc' := 97) dX0_chains_95 rfl rfl ?_
          obtain ⟨μ21, h20, hf⟩ := ob hf
          refine P.iast (pc' := 98) h20 dX0_chains_97 rfl ?_
          refine P.iload_n 2 (pc' := 99) dX0_chains_98 rfl rfl rfl ?_
          refine P.iconst (v := 1) (pc' := 100) dX0_chains_99 rfl (by decide) ?_
          refine P.iload 5 (pc' := 102) dX0_chains_100 rfl rfl ?_
          refine P.ishl (pc' := 103) dX0_chains_102 rfl ?_
          refine P.ior (pc' := 104) dX0_chains_103 rfl ?_
          obtain ⟨x22, e23, hf⟩ := nm_i hf
          refine P.nmi e23 ?_
          refine P.istore_n (pc' := 105) (lv' := [(3, .int x22), (0, .ref c0), (2, .int c2), (4, .int c4), (5, .int c5), (6, .int v6)]) dX0_chains_104 rfl rfl (Nat.le_of_ble_eq_true rfl) rfl ?_
          obtain ⟨x24, e25, hf⟩ := nm_i hf
          refine P.iinc 5 (pc' := 108) (lv' := [(6, .int x24), (3, .int x22), (0, .ref c0), (2, .int c2), (4, .int c4), (5, .int c5)]) dX0_chains_105 rfl rfl (by decide) e25 (Nat.le_of_ble_eq_true rfl) rfl ?_
          refine P.goto (tgt := 54) dX0_chains_108 (by decide) ?_
          exact PW.sub [2, 3, 1, 4, 5, 0] rfl (ih _ _ _ hf)
        · have hf := (if_pos y17).symm.trans hf
          refine P.goto (tgt := 105) dX0_chains_86 (by decide) ?_
          obtain ⟨x26, e27, hf⟩ := nm_i hf
          refine P.iinc 5 (pc' := 108) (lv' := [(6, .int x26), (0, .ref c0), (2, .int c2), (3, .int v3), (4, .int c4), (5, .int c5)]) dX0_chains_105 rfl rfl (by decide) e27 (Nat.le_of_ble_eq_true rfl) rfl ?_
          refine P.goto (tgt := 54) dX0_chains_108 (by decide) ?_
          exact PW.sub [1, 2, 3, 4, 5, 0] rfl (ih _ _ _ hf)
noncomputable def f_X0_chains_L42_b (F : Nat) (c0 : Nat) (c2 : Int32) (self : Int32 → Int32 → Int32 → Sw → Option (Int32 × Sw)) (v3 : Int32) (v4 : Int32) (v5 : Int32) (μ : Sw) : Option (Int32 × Sw) :=
  if v4 = v3 then
    Option.bind (p_J15_bitCount F v3) fun q2 =>
    some (q2, μ)
  else
    f_X0_chains_L54 F
      (fun w4 μ5 =>
        nm (v5 + 1) fun x6 =>
        self w4 v3 x6 μ5)
      c0 c2 v3 v5 F v3 0 μ
noncomputable def f_X0_chains_L42 (F : Nat) (c0 : Nat) (c2 : Int32) (n : Nat) : Int32 → Int32 → Int32 → Sw → Option (Int32 × Sw) := Nat.rec (motive := fun _ => Int32 → Int32 → Int32 → Sw → Option (Int32 × Sw)) (fun _ _ _ _ => none) (fun _ self => f_X0_chains_L42_b F c0 c2 self) n
set_option maxHeartbeats 4000000 in
theorem ok_f_X0_chains_L42 {g : Gx} {μ0 : Sw} {rv : Int32} {μF : Sw} (F : Nat) (c0 : Nat) (c2 : Int32) : ∀ (n : Nat) (v3 : Int32) (v4 : Int32) (v5 : Int32) (μ : Sw), f_X0_chains_L42 F c0 c2 n v3 v4 v5 μ = some (rv, μF) → PW g mX0_chains 422 μ0 μF (QN g (some (.int rv)) μ0 μF) 42 [(0, .ref c0), (2, .int c2), (3, .int v3), (4, .int v4), (5, .int v5)] [] μ := by
  intro n
  induction n with
  | zero =>
    intro v3 v4 v5 μ hf
    have hf : (none : Option (Int32 × Sw)) = some _ := hf
    cases hf
  | succ n ih =>
    intro v3 v4 v5 μ hf
    have hf : f_X0_chains_L42_b F c0 c2 (f_X0_chains_L42 F c0 c2 n) v3 v4 v5 μ = some (rv, μF) := hf
    unfold f_X0_chains_L42_b at hf
    refine P.iload 3 (pc' := 44) dX0_chains_42 rfl rfl ?_
    refine P.iload_n 2 (pc' := 45) dX0_chains_44 rfl rfl rfl ?_
    refine P.icmp_eq (tgt := 117) (pc' := 48) dX0_chains_45 (by decide) rfl (fun y1 => ?_) (fun y1 => ?_)
    · have hf := (if_pos y1).symm.trans hf
      refine P.iload_n 2 (pc' := 118) dX0_chains_117 rfl rfl rfl ?_
      obtain ⟨q2, h3, hf⟩ := ob hf
      refine P.callS (pc' := 121) (As := [.int v3]) 1 (ok_J15_bitCount F v3 μ h3) (Nat.le_of_ble_eq_true rfl) (lw_S q1168 q1169 q193 q1170) yok_J15_bitCount rfl (Nat.le_of_ble_eq_true rfl) (by decide) rfl dX0_chains_118 rfl ?_
      cases hf; exact P.iret rfl dX0_chains_121
    · have hf := (if_neg y1).symm.trans hf
      refine P.iload_n 2 (pc' := 49) dX0_chains_48 rfl rfl rfl ?_
      refine P.istore (pc' := 51) (lv' := [(4, .int v3), (0, .ref c0), (2, .int c2), (3, .int v3), (5, .int v5)]) dX0_chains_49 rfl (Nat.le_of_ble_eq_true rfl) rfl ?_
      refine P.iconst (v := 0) (pc' := 52) dX0_chains_51 rfl (by decide) ?_
      refine P.istore (pc' := 54) (lv' := [(6, .int 0), (4, .int v3), (0, .ref c0), (2, .int c2), (3, .int v3), (5, .int v5)]) dX0_chains_52 rfl (Nat.le_of_ble_eq_true rfl) rfl ?_
      refine PW.sub [2, 3, 4, 1, 5, 0] rfl (ok_f_X0_chains_L54 F c0 c2 v3 v5 _ ?_ F _ _ _ hf)
      · intro w4 μ5 hf
        obtain ⟨x6, e7, hf⟩ := nm_i hf
        refine P.iinc 4 (pc' := 114) (lv' := [(5, .int x6), (0, .ref c0), (2, .int c2), (3, .int w4), (4, .int v3)]) dX0_chains_111 rfl rfl (by decide) e7 (Nat.le_of_ble_eq_true rfl) rfl ?_
        refine P.goto (tgt := 42) dX0_chains_114 (by decide) ?_
        exact PW.sub [1, 2, 3, 4, 0] rfl (ih _ _ _ _ hf)
noncomputable def f_X0_chains (F : Nat) (this : Nat) (p1 : Int32) (p2 : Int32) (μ : Sw) : Option (Int32 × Sw) :=
  f_X0_chains_L2 F
    (fun μ1 =>
      nm ((1 : Int32) <<< (p1 &&& 31)) fun x2 =>
      f_X0_chains_L42 F this p2 F x2 0 1 μ1)
    this p1 p2 F 0 μ
set_option maxHeartbeats 4000000 in
theorem ok_X0_chains {g : Gx} (F : Nat) (this : Nat) (p1 : Int32) (p2 : Int32) (μ : Sw) {rv : Int32} {μF : Sw} (hf : f_X0_chains F this p1 p2 μ = some (rv, μF)) : Cl g 422 yX0_chains cX0_chains 7 (some Jvm.ClassFile.FieldType.int) [.ref this, .int p1, .int p2] μ (some (.int rv)) μF := by
  unfold f_X0_chains at hf
  refine Cl.of (own := RX0) (ini := false) (by decide +kernel) rfl (by decide) (Nat.le_of_ble_eq_true rfl) ?_
  show PW g mX0_chains 422 μ μF (QN g (some (.int rv)) μ μF) 0 [(0, .ref this), (1, .int p1), (2, .int p2)] [] μ
  refine P.iconst (v := 0) (pc' := 1) dX0_chains_0 rfl (by decide) ?_
  refine P.istore_n (pc' := 2) (lv' := [(3, .int 0), (0, .ref this), (1, .int p1), (2, .int p2)]) dX0_chains_1 rfl rfl (Nat.le_of_ble_eq_true rfl) rfl ?_
  refine PW.sub [1, 2, 3, 0] rfl (ok_f_X0_chains_L2 F this p1 p2 _ ?_ F _ _ hf)
  · intro μ1 hf
    refine P.iconst (v := 1) (pc' := 33) dX0_chains_32 rfl (by decide) ?_
    refine P.iload_n 1 (pc' := 34) dX0_chains_33 rfl rfl rfl ?_
    refine P.ishl (pc' := 35) dX0_chains_34 rfl ?_
    obtain ⟨x2, e3, hf⟩ := nm_i hf
    refine P.nmi e3 ?_
    refine P.istore_n (pc' := 36) (lv' := [(3, .int x2), (0, .ref this), (1, .int p1), (2, .int p2)]) dX0_chains_35 rfl rfl (Nat.le_of_ble_eq_true rfl) rfl ?_
    refine P.iconst (v := 0) (pc' := 37) dX0_chains_36 rfl (by decide) ?_
    refine P.istore (pc' := 39) (lv' := [(4, .int 0), (3, .int x2), (0, .ref this), (1, .int p1), (2, .int p2)]) dX0_chains_37 rfl (Nat.le_of_ble_eq_true rfl) rfl ?_
    refine P.iconst (v := 1) (pc' := 40) dX0_chains_39 rfl (by decide) ?_
    refine P.istore (pc' := 42) (lv' := [(5, .int 1), (4, .int 0), (3, .int x2), (0, .ref this), (1, .int p1), (2, .int p2)]) dX0_chains_40 rfl (Nat.le_of_ble_eq_true rfl) rfl ?_
    exact PW.sub [3, 5, 2, 1, 0] rfl (ok_f_X0_chains_L42 F this p2 F _ _ _ _ hf)
theorem yok_X0_chains : yOK yX0_chains 2 := ⟨by decide +kernel, by decide +kernel, by decide +kernel⟩
abbrev mX0_chain : Ym := (RX0, cX0_chain, 7, (some Jvm.ClassFile.FieldType.int), false, [])
noncomputable def f_X0_chain_L91_b (F : Nat) (c0 : Nat) (μ : Sw) (self : Int32 → Int32 → Option (Int32 × Sw)) (v5 : Int32) (v6 : Int32) : Option (Int32 × Sw) :=
  Option.bind (oc μ c0 0) fun u3 =>
  Option.bind (f_X0_houses F c0 μ) fun q1 =>
  if q1 ≤ v6 then
    some (v5, μ)
  else
    Option.bind (gfR μ c0 0 18) fun x6 =>
    Option.bind (aI μ 0 x6 v6) fun x8 =>
    nm (mx v5 x8) fun x10 =>
    nm (v6 + 1) fun x12 =>
    self x10 x12
noncomputable def f_X0_chain_L91 (F : Nat) (c0 : Nat) (μ : Sw) (n : Nat) : Int32 → Int32 → Option (Int32 × Sw) := Nat.rec (motive := fun _ => Int32 → Int32 → Option (Int32 × Sw)) (fun _ _ => none) (fun _ self => f_X0_chain_L91_b F c0 μ self) n
set_option maxHeartbeats 4000000 in
theorem ok_f_X0_chain_L91 {g : Gx} {μ0 : Sw} {rv : Int32} {μF : Sw} (F : Nat) (c0 : Nat) (μ : Sw) : ∀ (n : Nat) (v5 : Int32) (v6 : Int32), f_X0_chain_L91 F c0 μ n v5 v6 = some (rv, μF) → PW g mX0_chain 423 μ0 μF (QN g (some (.int rv)) μ0 μF) 91 [(0, .ref c0), (5, .int v5), (6, .int v6)] [] μ := by
  intro n
  induction n with
  | zero =>
    intro v5 v6 hf
    have hf : (none : Option (Int32 × Sw)) = some _ := hf
    cases hf
  | succ n ih =>
    intro v5 v6 hf
    have hf : f_X0_chain_L91_b F c0 μ (f_X0_chain_L91 F c0 μ n) v5 v6 = some (rv, μF) := hf
    unfold f_X0_chain_L91_b at hf
    refine P.iload 2 (pc' := 93) dX0_chain_91 rfl rfl ?_
    refine P.aload_n 0 (pc' := 94) dX0_chain_93 rfl rfl rfl ?_
    obtain ⟨u3, h4, hf⟩ := ob hf
    obtain ⟨q1, h2, hf⟩ := ob hf
    refine P.callV (pc' := 97) (As := []) 0 (ok_X0_houses F c0 μ h2) (Nat.le_of_ble_eq_true rfl) (lw_V q1034 q1036 qs34 q159 q1037) rfl yok_X0_houses rfl (Nat.le_of_ble_eq_true rfl) ci0 h4 (Nat.le_of_ble_eq_true rfl) rfl dX0_chain_94 rfl ?_
    refine P.icmp_ge (tgt := 120) (pc' := 100) dX0_chain_97 (by decide) rfl (fun y5 => ?_) (fun y5 => ?_)
    · have hf := (if_pos y5).symm.trans hf
      refine P.iload 1 (pc' := 122) dX0_chain_120 rfl rfl ?_
      cases hf; exact P.iret rfl dX0_chain_122
    · have hf := (if_neg y5).symm.trans hf
      refine P.iload 1 (pc' := 102) dX0_chain_100 rfl rfl ?_
      refine P.aload_n 0 (pc' := 103) dX0_chain_102 rfl rfl rfl ?_
      obtain ⟨x6, h7, hf⟩ := ob hf
      refine P.get (pc' := 106) ci0 18 (by decide) (gfR_spec h7) q493 (Or.inl rfl) dX0_chain_103 rfl ?_
      refine P.iload 2 (pc' := 108) dX0_chain_106 rfl rfl ?_
      obtain ⟨x8, h9, hf⟩ := ob hf
      refine P.iald (t := 0) (pc' := 109) rfl h9 dX0_chain_108 rfl ?_
      refine P.mmax (pc' := 112) q1086 q816 q183 q817 (Nat.le_of_ble_eq_true rfl) (by decide) dX0_chain_109 rfl ?_
      obtain ⟨x10, e11, hf⟩ := nm_i hf
      refine P.nmi e11 ?_
      refine P.istore (pc' := 114) (lv' := [(5, .int x10), (0, .ref c0), (6, .int v6)]) dX0_chain_112 rfl (Nat.le_of_ble_eq_true rfl) rfl ?_
      obtain ⟨x12, e13, hf⟩ := nm_i hf
      refine P.iinc 2 (pc' := 117) (lv' := [(6, .int x12), (5, .int x10), (0, .ref c0)]) dX0_chain_114 rfl rfl (by decide) e13 (Nat.le_of_ble_eq_true rfl) rfl ?_
      refine P.goto (tgt := 91) dX0_chain_117 (by decide) ?_
      exact PW.sub [2, 1, 0] rfl (ih _ _ hf)
noncomputable def f_X0_chain_j37 (F : Nat) (v0 : Nat) (v1 : Int32) (v2 : Int32) (v3 : Int32) (μ : Sw) : Option (Int32 × Sw) :=
  Option.bind (oc μ v0 0) fun u3 =>
  Option.bind (f_X0_chains F v0 v1 v2 μ) fun q1 =>
  if v3 = 0 then
    some (q1.1, q1.2)
  else
    if v3 ≤ 1 then
      f_X0_chain_L91 F v0 q1.2 F 0 0
    else
      Option.bind (gfR q1.2 v0 0 18) fun x7 =>
      Option.bind (aI q1.2 0 x7 (v3 - 10)) fun x9 =>
      if x9 = (-1) then
        some ((-2), q1.2)
      else
        Option.bind (gfR q1.2 v0 0 18) fun x12 =>
        Option.bind (aI q1.2 0 x12 (v3 - 10)) fun x14 =>
        some (x14, q1.2)
set_option maxHeartbeats 4000000 in
theorem ok_f_X0_chain_j37 {g : Gx} {μ0 : Sw} {rv : Int32} {μF : Sw} (F : Nat) (v0 : Nat) (v1 : Int32) (v2 : Int32) (v3 : Int32) (μ : Sw) (hf : f_X0_chain_j37 F v0 v1 v2 v3 μ = some (rv, μF)) : PW g mX0_chain 423 μ0 μF (QN g (some (.int rv)) μ0 μF) 37 [(0, .ref v0), (1, .int v1), (2, .int v2), (3, .int v3)] [] μ := by
  unfold f_X0_chain_j37 at hf
  refine P.aload_n 0 (pc' := 38) dX0_chain_37 rfl rfl rfl ?_
  refine P.iload_n 1 (pc' := 39) dX0_chain_38 rfl rfl rfl ?_
  refine P.iload_n 2 (pc' := 40) dX0_chain_39 rfl rfl rfl ?_
  obtain ⟨u3, h4, hf⟩ := ob hf
  obtain ⟨q1, h2, hf⟩ := ob hf
  refine P.callV (pc' := 43) (As := [.int v1, .int v2]) 2 (ok_X0_chains F v0 v1 v2 μ h2) (Nat.le_of_ble_eq_true rfl) (lw_V q1359 q1361 qs61 q159 q1362) rfl yok_X0_chains rfl (Nat.le_of_ble_eq_true rfl) ci0 h4 (by decide) rfl dX0_chain_40 rfl ?_
  refine P.istore (pc' := 45) (lv' := [(4, .int q1.1), (0, .ref v0), (1, .int v1), (2, .int v2), (3, .int v3)]) dX0_chain_43 rfl (Nat.le_of_ble_eq_true rfl) rfl ?_
  refine P.iload_n 4 (pc' := 46) dX0_chain_45 rfl rfl rfl ?_
  refine P.if_ne (tgt := 52) (pc' := 49) dX0_chain_46 (by decide) rfl (fun y5 => ?_) (fun y5 => ?_)
  · have hf := (if_neg y5).symm.trans hf
    refine P.iload_n 4 (pc' := 53) dX0_chain_52 rfl rfl rfl ?_
    refine P.iconst (v := 1) (pc' := 54) dX0_chain_53 rfl (by decide) ?_
    refine P.icmp_le (tgt := 85) (pc' := 57) dX0_chain_54 (by decide) rfl (fun y6 => ?_) (fun y6 => ?_)
    · have hf := (if_pos y6).symm.trans hf
      refine P.iconst (v := 0) (pc' := 86) dX0_chain_85 rfl (by decide) ?_
      refine P.istore (pc' := 88) (lv' := [(5, .int 0), (4, .int q1.1), (0, .ref v0), (1, .int v1), (2, .int v2), (3, .int v3)]) dX0_chain_86 rfl (Nat.le_of_ble_eq_true rfl) rfl ?_
      refine P.iconst (v := 0) (pc' := 89) dX0_chain_88 rfl (by decide) ?_
      refine P.istore (pc' := 91) (lv' := [(6, .int 0), (5, .int 0), (4, .int q1.1), (0, .ref v0), (1, .int v1), (2, .int v2), (3, .int v3)]) dX0_chain_89 rfl (Nat.le_of_ble_eq_true rfl) rfl ?_
      exact PW.sub [3, 1, 0] rfl (ok_f_X0_chain_L91 F v0 q1.2 F _ _ hf)
    · have hf := (if_neg y6).symm.trans hf
      refine P.aload_n 1 (pc' := 58) dX0_chain_57 rfl rfl rfl ?_
      obtain ⟨x7, h8, hf⟩ := ob hf
      refine P.get (pc' := 61) ci0 18 (by decide) (gfR_spec h8) q493 (Or.inl rfl) dX0_chain_58 rfl ?_
      refine P.iload_n 4 (pc' := 62) dX0_chain_61 rfl rfl rfl ?_
      refine P.bipush (v := 10) (pc' := 64) dX0_chain_62 rfl (by decide) ?_
      refine P.isub (pc' := 65) dX0_chain_64 rfl ?_
      obtain ⟨x9, h10, hf⟩ := ob hf
      refine P.iald (t := 0) (pc' := 66) rfl h10 dX0_chain_65 rfl ?_
      refine P.iconst (v := (-1)) (pc' := 67) dX0_chain_66 rfl (by decide) ?_
      refine P.icmp_ne (tgt := 75) (pc' := 70) dX0_chain_67 (by decide) rfl (fun y11 => ?_) (fun y11 => ?_)
      · have hf := (if_neg y11).symm.trans hf
        refine P.aload_n 1 (pc' := 76) dX0_chain_75 rfl rfl rfl ?_
        obtain ⟨x12, h13, hf⟩ := ob hf
        refine P.get (pc' := 79) ci0 18 (by decide) (gfR_spec h13) q493 (Or.inl rfl) dX0_chain_76 rfl ?_
        refine P.iload_n 4 (pc' := 80) dX0_chain_79 rfl rfl rfl ?_
        refine P.bipush (v := 10) (pc' := 82) dX0_chain_80 rfl (by decide) ?_
        refine P.isub (pc' := 83) dX0_chain_82 rfl ?_
        obtain ⟨x14, h15, hf⟩ := ob hf
        refine P.iald (t := 0) (pc' := 84) rfl h15 dX0_chain_83 rfl ?_
        cases hf; exact P.iret rfl dX0_chain_84
      · have hf := (if_pos y11).symm.trans hf
        refine P.bipush (v := (-2)) (pc' := 72) dX0_chain_70 rfl (by decide) ?_
        refine P.goto (tgt := 84) dX0_chain_72 (by decide) ?_
        cases hf; exact P.iret rfl dX0_chain_84
  · have hf := (if_pos y5).symm.trans hf
    refine P.iload 0 (pc' := 51) dX0_chain_49 rfl rfl ?_
    cases hf; exact P.iret rfl dX0_chain_51
noncomputable def f_X0_chain (F : Nat) (this : Nat) (p1 : Int32) (p2 : Int32) (p3 : Int32) (μ : Sw) : Option (Int32 × Sw) :=
  Option.bind (oc μ this 0) fun u3 =>
  Option.bind (f_X0_isHouse F this p1 μ) fun q1 =>
  if q1 = 0 then
    some ((-1), μ)
  else
    Option.bind (p_X0_isWind F p2) fun q6 =>
    if q6 = 0 then
      some ((-1), μ)
    else
      if p3 = 0 then
        f_X0_chain_j37 F this p1 p2 p3 μ
      else
        if p3 = 1 then
          f_X0_chain_j37 F this p1 p2 p3 μ
        else
          Option.bind (oc μ this 0) fun u13 =>
          Option.bind (f_X0_isHouse F this (p3 - 10) μ) fun q11 =>
          if q11 = 0 then
            some ((-1), μ)
          else
            f_X0_chain_j37 F this p1 p2 p3 μ
set_option maxHeartbeats 4000000 in
theorem ok_X0_chain {g : Gx} (F : Nat) (this : Nat) (p1 : Int32) (p2 : Int32) (p3 : Int32) (μ : Sw) {rv : Int32} {μF : Sw} (hf : f_X0_chain F this p1 p2 p3 μ = some (rv, μF)) : Cl g 423 yX0_chain cX0_chain 7 (some Jvm.ClassFile.FieldType.int) [.ref this, .int p1, .int p2, .int p3] μ (some (.int rv)) μF := by
  unfold f_X0_chain at hf
  refine Cl.of (own := RX0) (ini := false) (by decide +kernel) rfl (by decide) (Nat.le_of_ble_eq_true rfl) ?_
  show PW g mX0_chain 423 μ μF (QN g (some (.int rv)) μ μF) 0 [(0, .ref this), (1, .int p1), (2, .int p2), (3, .int p3)] [] μ
  refine P.aload_n 0 (pc' := 1) dX0_chain_0 rfl rfl rfl ?_
  refine P.iload_n 1 (pc' := 2) dX0_chain_1 rfl rfl rfl ?_
  obtain ⟨u3, h4, hf⟩ := ob hf
  obtain ⟨q1, h2, hf⟩ := ob hf
  refine P.callV (pc' := 5) (As := [.int p1]) 1 (ok_X0_isHouse F this p1 μ h2) (Nat.le_of_ble_eq_true rfl) (lw_V q1030 q1032 qs33 q159 q1033) rfl yok_X0_isHouse rfl (Nat.le_of_ble_eq_true rfl) ci0 h4 (by decide) rfl dX0_chain_2 rfl ?_
  refine P.if_eq (tgt := 35) (pc' := 8) dX0_chain_5 (by decide) rfl (fun y5 => ?_) (fun y5 => ?_)
  · have hf := (if_pos y5).symm.trans hf
    refine P.iconst (v := (-1)) (pc' := 36) dX0_chain_35 rfl (by decide) ?_
    cases hf; exact P.iret rfl dX0_chain_36
  · have hf := (if_neg y5).symm.trans hf
    refine P.iload_n 2 (pc' := 9) dX0_chain_8 rfl rfl rfl ?_
    obtain ⟨q6, h7, hf⟩ := ob hf
    refine P.callS (pc' := 12) (As := [.int p2]) 1 (ok_X0_isWind F p2 μ h7) (Nat.le_of_ble_eq_true rfl) (lw_S q1352 q1353 q159 q1354) yok_X0_isWind rfl (Nat.le_of_ble_eq_true rfl) (by decide) rfl dX0_chain_9 rfl ?_
    refine P.if_eq (tgt := 35) (pc' := 15) dX0_chain_12 (by decide) rfl (fun y8 => ?_) (fun y8 => ?_)
    · have hf := (if_pos y8).symm.trans hf
      refine P.iconst (v := (-1)) (pc' := 36) dX0_chain_35 rfl (by decide) ?_
      cases hf; exact P.iret rfl dX0_chain_36
    · have hf := (if_neg y8).symm.trans hf
      refine P.iload_n 3 (pc' := 16) dX0_chain_15 rfl rfl rfl ?_
      refine P.if_eq (tgt := 37) (pc' := 19) dX0_chain_16 (by decide) rfl (fun y9 => ?_) (fun y9 => ?_)
      · have hf := (if_pos y9).symm.trans hf
        exact PW.sub [0, 1, 2, 3] rfl (ok_f_X0_chain_j37 F this p1 p2 p3 μ hf)
      · have hf := (if_neg y9).symm.trans hf
        refine P.iload_n 3 (pc' := 20) dX0_chain_19 rfl rfl rfl ?_
        refine P.iconst (v := 1) (pc' := 21) dX0_chain_20 rfl (by decide) ?_
        refine P.icmp_eq (tgt := 37) (pc' := 24) dX0_chain_21 (by decide) rfl (fun y10 => ?_) (fun y10 => ?_)
        · have hf := (if_pos y10).symm.trans hf
          exact PW.sub [0, 1, 2, 3] rfl (ok_f_X0_chain_j37 F this p1 p2 p3 μ hf)
        · have hf := (if_neg y10).symm.trans hf
          refine P.aload_n 0 (pc' := 25) dX0_chain_24 rfl rfl rfl ?_
          refine P.iload_n 3 (pc' := 26) dX0_chain_25 rfl rfl rfl ?_
          refine P.bipush (v := 10) (pc' := 28) dX0_chain_26 rfl (by decide) ?_
          refine P.isub (pc' := 29) dX0_chain_28 rfl ?_
          obtain ⟨u13, h14, hf⟩ := ob hf
          obtain ⟨q11, h12, hf⟩ := ob hf
          refine P.callV (pc' := 32) (As := [.int (p3 - 10)]) 1 (ok_X0_isHouse F this (p3 - 10) μ h12) (Nat.le_of_ble_eq_true rfl) (lw_V q1030 q1032 qs33 q159 q1033) rfl yok_X0_isHouse rfl (Nat.le_of_ble_eq_true rfl) ci0 h14 (by decide) rfl dX0_chain_29 rfl ?_
          refine P.if_ne (tgt := 37) (pc' := 35) dX0_chain_32 (by decide) rfl (fun y15 => ?_) (fun y15 => ?_)
          · have hf := (if_neg y15).symm.trans hf
            exact PW.sub [0, 1, 2, 3] rfl (ok_f_X0_chain_j37 F this p1 p2 p3 μ hf)
          · have hf := (if_pos y15).symm.trans hf
            refine P.iconst (v := (-1)) (pc' := 36) dX0_chain_35 rfl (by decide) ?_
            cases hf; exact P.iret rfl dX0_chain_36
abbrev mX0_dread : Ym := (RX0, cX0_dread, 6, (some Jvm.ClassFile.FieldType.int), false, [])
noncomputable def f_X0_dread_L17_b (F : Nat) (c0 : Nat) (c1 : Int32) (self : Int32 → Int32 → Int32 → Sw → Option (Int32 × Sw)) (v2 : Int32) (v3 : Int32) (v4 : Int32) (μ : Sw) : Option (Int32 × Sw) :=
  Option.bind (oc μ c0 0) fun u3 =>
  Option.bind (f_X0_houses F c0 μ) fun q1 =>
  if q1 ≤ v4 then
    some (v2, μ)
  else
    Option.bind (oc μ c0 0) fun u8 =>
    Option.bind (f_X0_chains F c0 v4 c1 μ) fun q6 =>
    if v3 < q6.1 then
      nm (v4 + 1) fun x11 =>
      self v4 q6.1 x11 q6.2
    else
      nm (v4 + 1) fun x13 =>
      self v2 v3 x13 q6.2
noncomputable def f_X0_dread_L17 (F : Nat) (c0 : Nat) (c1 : Int32) (n : Nat) : Int32 → Int32 → Int32 → Sw → Option (Int32 × Sw) := Nat.rec (motive := fun _ => Int32 → Int32 → Int32 → Sw → Option (Int32 × Sw)) (fun _ _ _ _ => none) (fun _ self => f_X0_dread_L17_b F c0 c1 self) n
set_option maxHeartbeats 4000000 in
theorem ok_f_X0_dread_L17 {g : Gx} {μ0 : Sw} {rv : Int32} {μF : Sw} (F : Nat) (c0 : Nat) (c1 : Int32) : ∀ (n : Nat) (v2 : Int32) (v3 : Int32) (v4 : Int32) (μ : Sw), f_X0_dread_L17 F c0 c1 n v2 v3 v4 μ = some (rv, μF) → PW g mX0_dread 423 μ0 μF (QN g (some (.int rv)) μ0 μF) 17 [(0, .ref c0), (1, .int c1), (2, .int v2), (3, .int v3), (4, .int v4)] [] μ := by
  intro n
  induction n with
  | zero =>
    intro v2 v3 v4 μ hf
    have hf : (none : Option (Int32 × Sw)) = some _ := hf
    cases hf
  | succ n ih =>
    intro v2 v3 v4 μ hf
    have hf : f_X0_dread_L17_b F c0 c1 (f_X0_dread_L17 F c0 c1 n) v2 v3 v4 μ = some (rv, μF) := hf
    unfold f_X0_dread_L17_b at hf
    refine P.iload 4 (pc' := 19) dX0_dread_17 rfl rfl ?_
    refine P.aload_n 0 (pc' := 20) dX0_dread_19 rfl rfl rfl ?_
    obtain ⟨u3, h4, hf⟩ := ob hf
    obtain ⟨q1, h2, hf⟩ := ob hf
    refine P.callV (pc' := 23) (As := []) 0 (ok_X0_houses F c0 μ h2) (Nat.le_of_ble_eq_true rfl) (lw_V q1034 q1036 qs34 q159 q1037) rfl yok_X0_houses rfl (Nat.le_of_ble_eq_true rfl) ci0 h4 (Nat.le_of_ble_eq_true rfl) rfl dX0_dread_20 rfl ?_
    refine P.icmp_ge (tgt := 56) (pc' := 26) dX0_dread_23 (by decide) rfl (fun y5 => ?_) (fun y5 => ?_)
    · have hf := (if_pos y5).symm.trans hf
      refine P.iload_n 2 (pc' := 57) dX0_dread_56 rfl rfl rfl ?_
      cases hf; exact P.iret rfl dX0_dread_57
    · have hf := (if_neg y5).symm.trans hf
      refine P.aload_n 0 (pc' := 27) dX0_dread_26 rfl rfl rfl ?_
      refine P.iload 4 (pc' := 29) dX0_dread_27 rfl rfl ?_
      refine P.iload_n 1 (pc' := 30) dX0_dread_29 rfl rfl rfl ?_
      obtain ⟨u8, h9, hf⟩ := ob hf
      obtain ⟨q6, h7, hf⟩ := ob hf
      refine P.callV (pc' := 33) (As := [.int v4, .int c1]) 2 (ok_X0_chains F c0 v4 c1 μ h7) (Nat.le_of_ble_eq_true rfl) (lw_V q1359 q1361 qs61 q159 q1362) rfl yok_X0_chains rfl (Nat.le_of_ble_eq_true rfl) ci0 h9 (by decide) rfl dX0_dread_30 rfl ?_
      refine P.istore (pc' := 35) (lv' := [(5, .int q6.1), (0, .ref c0), (1, .int c1), (2, .int v2), (3, .int v3), (4, .int v4)]) dX0_dread_33 rfl (Nat.le_of_ble_eq_true rfl) rfl ?_
      refine P.iload 0 (pc' := 37) dX0_dread_35 rfl rfl ?_
      refine P.iload_n 4 (pc' := 38) dX0_dread_37 rfl rfl rfl ?_
      refine P.icmp_gt (tgt := 44) (pc' := 41) dX0_dread_38 (by decide) rfl (fun y10 => ?_) (fun y10 => ?_)
      · have hf := (if_pos y10).symm.trans hf
        refine P.iload 5 (pc' := 46) dX0_dread_44 rfl rfl ?_
        refine P.istore_n (pc' := 47) (lv' := [(2, .int v4), (5, .int q6.1), (0, .ref c0), (1, .int c1), (3, .int v3), (4, .int v4)]) dX0_dread_46 rfl rfl (Nat.le_of_ble_eq_true rfl) rfl ?_
        refine P.iload 1 (pc' := 49) dX0_dread_47 rfl rfl ?_
        refine P.istore_n (pc' := 50) (lv' := [(3, .int q6.1), (2, .int v4), (5, .int q6.1), (0, .ref c0), (1, .int c1), (4, .int v4)]) dX0_dread_49 rfl rfl (Nat.le_of_ble_eq_true rfl) rfl ?_
        obtain ⟨x11, e12, hf⟩ := nm_i hf
        refine P.iinc 5 (pc' := 53) (lv' := [(4, .int x11), (3, .int q6.1), (2, .int v4), (5, .int q6.1), (0, .ref c0), (1, .int c1)]) dX0_dread_50 rfl rfl (by decide) e12 (Nat.le_of_ble_eq_true rfl) rfl ?_
        refine P.goto (tgt := 17) dX0_dread_53 (by decide) ?_
        exact PW.sub [4, 5, 2, 1, 0] rfl (ih _ _ _ _ hf)
      · have hf := (if_neg y10).symm.trans hf
        refine P.goto (tgt := 50) dX0_dread_41 (by decide) ?_
        obtain ⟨x13, e14, hf⟩ := nm_i hf
        refine P.iinc 5 (pc' := 53) (lv' := [(4, .int x13), (5, .int q6.1), (0, .ref c0), (1, .int c1), (2, .int v2), (3, .int v3)]) dX0_dread_50 rfl rfl (by decide) e14 (Nat.le_of_ble_eq_true rfl) rfl ?_
        refine P.goto (tgt := 17) dX0_dread_53 (by decide) ?_
        exact PW.sub [2, 3, 4, 5, 0] rfl (ih _ _ _ _ hf)
noncomputable def f_X0_dread (F : Nat) (this : Nat) (p1 : Int32) (μ : Sw) : Option (Int32 × Sw) :=
  Option.bind (p_X0_isWind F p1) fun q1 =>
  if q1 = 0 then
    some ((-1), μ)
  else
    f_X0_dread_L17 F this p1 F (-2) 0 0 μ
set_option maxHeartbeats 4000000 in
theorem ok_X0_dread {g : Gx} (F : Nat) (this : Nat) (p1 : Int32) (μ : Sw) {rv : Int32} {μF : Sw} (hf : f_X0_dread F this p1 μ = some (rv, μF)) : Cl g 423 yX0_dread cX0_dread 6 (some Jvm.ClassFile.FieldType.int) [.ref this, .int p1] μ (some (.int rv)) μF := by
  unfold f_X0_dread at hf
  refine Cl.of (own := RX0) (ini := false) (by decide +kernel) rfl (by decide) (Nat.le_of_ble_eq_true rfl) ?_
  show PW g mX0_dread 423 μ μF (QN g (some (.int rv)) μ μF) 0 [(0, .ref this), (1, .int p1)] [] μ
  refine P.iload_n 1 (pc' := 1) dX0_dread_0 rfl rfl rfl ?_
  obtain ⟨q1, h2, hf⟩ := ob hf
  refine P.callS (pc' := 4) (As := [.int p1]) 1 (ok_X0_isWind F p1 μ h2) (Nat.le_of_ble_eq_true rfl) (lw_S q1352 q1353 q159 q1354) yok_X0_isWind rfl (Nat.le_of_ble_eq_true rfl) (by decide) rfl dX0_dread_1 rfl ?_
  refine P.if_ne (tgt := 9) (pc' := 7) dX0_dread_4 (by decide) rfl (fun y3 => ?_) (fun y3 => ?_)
  · have hf := (if_neg y3).symm.trans hf
    refine P.bipush (v := (-2)) (pc' := 11) dX0_dread_9 rfl (by decide) ?_
    refine P.istore_n (pc' := 12) (lv' := [(2, .int (-2)), (0, .ref this), (1, .int p1)]) dX0_dread_11 rfl rfl (Nat.le_of_ble_eq_true rfl) rfl ?_
    refine P.iconst (v := 0) (pc' := 13) dX0_dread_12 rfl (by decide) ?_
    refine P.istore_n (pc' := 14) (lv' := [(3, .int 0), (2, .int (-2)), (0, .ref this), (1, .int p1)]) dX0_dread_13 rfl rfl (Nat.le_of_ble_eq_true rfl) rfl ?_
    refine P.iconst (v := 0) (pc' := 15) dX0_dread_14 rfl (by decide) ?_
    refine P.istore (pc' := 17) (lv' := [(4, .int 0), (3, .int 0), (2, .int (-2)), (0, .ref this), (1, .int p1)]) dX0_dread_15 rfl (Nat.le_of_ble_eq_true rfl) rfl ?_
    exact PW.sub [3, 4, 2, 1, 0] rfl (ok_f_X0_dread_L17 F this p1 F _ _ _ _ hf)
  · have hf := (if_pos y3).symm.trans hf
    refine P.iconst (v := (-1)) (pc' := 8) dX0_dread_7 rfl (by decide) ?_
    cases hf; exact P.iret rfl dX0_dread_8
abbrev mX0_year : Ym := (RX0, cX0_year, 2, (some Jvm.ClassFile.FieldType.int), false, [])
noncomputable def f_X0_year (F : Nat) (this : Nat) (p1 : Int32) (μ : Sw) : Option (Int32 × Sw) :=
  Option.bind (gfI μ this 0 11) fun x1 =>
  Option.bind (gfR μ this 0 10) fun x3 =>
  Option.bind (aN μ x3) fun x5 =>
  if x1 = x5 then
    some ((-1), μ)
  else
    Option.bind (p_X0_within F p1 0 99) fun q8 =>
    if q8 = 0 then
      some ((-1), μ)
    else
      Option.bind (gfR μ this 0 10) fun x11 =>
      Option.bind (gfI μ this 0 11) fun x13 =>
      Option.bind (sI μ 0 x11 x13 p1) fun μ16 =>
      Option.bind (gfI μ16 this 0 11) fun x17 =>
      Option.bind (pf μ16 this 0 11 (.int (x17 + 1))) fun μ19 =>
      Option.bind (gfI μ19 this 0 11) fun x21 =>
      some (x21, μ19)
set_option maxHeartbeats 4000000 in
theorem ok_X0_year {g : Gx} (F : Nat) (this : Nat) (p1 : Int32) (μ : Sw) {rv : Int32} {μF : Sw} (hf : f_X0_year F this p1 μ = some (rv, μF)) : Cl g 2 yX0_year cX0_year 2 (some Jvm.ClassFile.FieldType.int) [.ref this, .int p1] μ (some (.int rv)) μF := by
  unfold f_X0_year at hf
  refine Cl.of (own := RX0) (ini := false) (by decide +kernel) rfl (by decide) (Nat.le_of_ble_eq_true rfl) ?_
  show PW g mX0_year 2 μ μF (QN g (some (.int rv)) μ μF) 0 [(0, .ref this), (1, .int p1)] [] μ
  refine P.aload_n 0 (pc' := 1) dX0_year_0 rfl rfl rfl ?_
  obtain ⟨x1, h2, hf⟩ := ob hf
  refine P.get (pc' := 4) ci0 11 (by decide) (gfI_spec h2) q486 (Or.inl rfl) dX0_year_1 rfl ?_
  refine P.aload_n 0 (pc' := 5) dX0_year_4 rfl rfl rfl ?_
  obtain ⟨x3, h4, hf⟩ := ob hf
  refine P.get (pc' := 8) ci0 10 (by decide) (gfR_spec h4) q485 (Or.inl rfl) dX0_year_5 rfl ?_
  obtain ⟨x5, h6, hf⟩ := ob hf
  refine P.alen (pc' := 9) h6 dX0_year_8 rfl ?_
  refine P.icmp_eq (tgt := 22) (pc' := 12) dX0_year_9 (by decide) rfl (fun y7 => ?_) (fun y7 => ?_)
  · have hf := (if_pos y7).symm.trans hf
    refine P.iconst (v := (-1)) (pc' := 23) dX0_year_22 rfl (by decide) ?_
    cases hf; exact P.iret rfl dX0_year_23
  · have hf := (if_neg y7).symm.trans hf
    refine P.iload_n 1 (pc' := 13) dX0_year_12 rfl rfl rfl ?_
    refine P.iconst (v := 0) (pc' := 14) dX0_year_13 rfl (by decide) ?_
    refine P.bipush (v := 99) (pc' := 16) dX0_year_14 rfl (by decide) ?_
    obtain ⟨q8, h9, hf⟩ := ob hf
    refine P.callS (pc' := 19) (As := [.int p1, .int 0, .int 99]) 3 (ok_X0_within F p1 0 99 μ h9) (Nat.le_of_ble_eq_true rfl) (lw_S q1038 q557 q159 q558) yok_X0_within rfl (Nat.le_of_ble_eq_true rfl) (by decide) rfl dX0_year_16 rfl ?_
    refine P.if_ne (tgt := 24) (pc' := 22) dX0_year_19 (by decide) rfl (fun y10 => ?_) (fun y10 => ?_)
    · have hf := (if_neg y10).symm.trans hf
      refine P.aload_n 0 (pc' := 25) dX0_year_24 rfl rfl rfl ?_
      obtain ⟨x11, h12, hf⟩ := ob hf
      refine P.get (pc' := 28) ci0 10 (by decide) (gfR_spec h12) q485 (Or.inl rfl) dX0_year_25 rfl ?_
      refine P.aload_n 0 (pc' := 29) dX0_year_28 rfl rfl rfl ?_
      obtain ⟨x13, h14, hf⟩ := ob hf
      refine P.get (pc' := 32) ci0 11 (by decide) (gfI_spec h14) q486 (Or.inl rfl) dX0_year_29 rfl ?_
      refine P.iload_n 1 (pc' := 33) dX0_year_32 rfl rfl rfl ?_
      obtain ⟨μ16, h15, hf⟩ := ob hf
      refine P.iast (pc' := 34) h15 dX0_year_33 rfl ?_
      refine P.aload_n 0 (pc' := 35) dX0_year_34 rfl rfl rfl ?_
      refine P.dup (pc' := 36) dX0_year_35 rfl rfl ?_
      obtain ⟨x17, h18, hf⟩ := ob hf
      refine P.get (pc' := 39) ci0 11 (by decide) (gfI_spec h18) q486 (Or.inl rfl) dX0_year_36 rfl ?_
      refine P.iconst (v := 1) (pc' := 40) dX0_year_39 rfl (by decide) ?_
      refine P.iadd (pc' := 41) dX0_year_40 rfl ?_
      obtain ⟨μ19, h20, hf⟩ := ob hf
      refine P.put (v := .int (x17 + 1)) (pc' := 44) ci0 11 (by decide) h20 q486 (Or.inl rfl) rfl rfl rfl dX0_year_41 rfl ?_
      refine P.aload_n 0 (pc' := 45) dX0_year_44 rfl rfl rfl ?_
      obtain ⟨x21, h22, hf⟩ := ob hf
      refine P.get (pc' := 48) ci0 11 (by decide) (gfI_spec h22) q486 (Or.inl rfl) dX0_year_45 rfl ?_
      cases hf; exact P.iret rfl dX0_year_48
    · have hf := (if_pos y10).symm.trans hf
      refine P.iconst (v := (-1)) (pc' := 23) dX0_year_22 rfl (by decide) ?_
      cases hf; exact P.iret rfl dX0_year_23
abbrev mX0_clear : Ym := (RX0, cX0_clear, 2, (some Jvm.ClassFile.FieldType.int), false, [])
noncomputable def f_X0_clear (F : Nat) (this : Nat) (μ : Sw) : Option (Int32 × Sw) :=
  Option.bind (gfI μ this 0 11) fun x1 =>
  Option.bind (pf μ this 0 11 (.int 0)) fun μ3 =>
  some (x1, μ3)
set_option maxHeartbeats 4000000 in
theorem ok_X0_clear {g : Gx} (F : Nat) (this : Nat) (μ : Sw) {rv : Int32} {μF : Sw} (hf : f_X0_clear F this μ = some (rv, μF)) : Cl g 1 yX0_clear cX0_clear 2 (some Jvm.ClassFile.FieldType.int) [.ref this] μ (some (.int rv)) μF := by
  unfold f_X0_clear at hf
  refine Cl.of (own := RX0) (ini := false) (by decide +kernel) rfl (by decide) (Nat.le_of_ble_eq_true rfl) ?_
  show PW g mX0_clear 1 μ μF (QN g (some (.int rv)) μ μF) 0 [(0, .ref this)] [] μ
  refine P.aload_n 0 (pc' := 1) dX0_clear_0 rfl rfl rfl ?_
  obtain ⟨x1, h2, hf⟩ := ob hf
  refine P.get (pc' := 4) ci0 11 (by decide) (gfI_spec h2) q486 (Or.inl rfl) dX0_clear_1 rfl ?_
  refine P.istore_n (pc' := 5) (lv' := [(1, .int x1), (0, .ref this)]) dX0_clear_4 rfl rfl (Nat.le_of_ble_eq_true rfl) rfl ?_
  refine P.aload_n 1 (pc' := 6) dX0_clear_5 rfl rfl rfl ?_
  refine P.iconst (v := 0) (pc' := 7) dX0_clear_6 rfl (by decide) ?_
  obtain ⟨μ3, h4, hf⟩ := ob hf
  refine P.put (v := .int 0) (pc' := 10) ci0 11 (by decide) h4 q486 (Or.inl rfl) rfl rfl rfl dX0_clear_7 rfl ?_
  refine P.iload_n 0 (pc' := 11) dX0_clear_10 rfl rfl rfl ?_
  cases hf; exact P.iret rfl dX0_clear_11
theorem yok_X0_change : yOK yX0_change 5 := ⟨by decide +kernel, by decide +kernel, by decide +kernel⟩
abbrev mX0_fillPosts : Ym := (RX0, cX0_fillPosts, 8, none, false, [])
noncomputable def f_X0_fillPosts_L3_b (F : Nat) (k29 : Sw → Option Sw) (c0 : Nat) (c1 : Int32) (c2 : Int32) (c3 : Int32) (c4 : Int32) (self : Int32 → Sw → Option Sw) (v5 : Int32) (μ : Sw) : Option Sw :=
  if 99 < v5 then
    k29 μ
  else
    Option.bind (gfR μ c0 0 19) fun x2 =>
    Option.bind (gfI μ c0 0 11) fun x4 =>
    Option.bind (aR μ 5 x2 x4) fun x6 =>
    Option.bind (sI μ 0 x6 v5 0) fun μ9 =>
    nm (v5 + 1) fun x10 =>
    self x10 μ9
noncomputable def f_X0_fillPosts_L3 (F : Nat) (k29 : Sw → Option Sw) (c0 : Nat) (c1 : Int32) (c2 : Int32) (c3 : Int32) (c4 : Int32) (n : Nat) : Int32 → Sw → Option Sw := Nat.rec (motive := fun _ => Int32 → Sw → Option Sw) (fun _ _ => none) (fun _ self => f_X0_fillPosts_L3_b F k29 c0 c1 c2 c3 c4 self) n
set_option maxHeartbeats 4000000 in
theorem ok_f_X0_fillPosts_L3 {g : Gx} {μ0 : Sw} {μF : Sw} (F : Nat) (c0 : Nat) (c1 : Int32) (c2 : Int32) (c3 : Int32) (c4 : Int32) (k29 : Sw → Option Sw) (hk29 : ∀ (μ : Sw), k29 μ = some μF → PW g mX0_fillPosts 2 μ0 μF (QN g none μ0 μF) 29 [(0, .ref c0), (1, .int c1), (2, .int c2), (3, .int c3), (4, .int c4)] [] μ) : ∀ (n : Nat) (v5 : Int32) (μ : Sw), f_X0_fillPosts_L3 F k29 c0 c1 c2 c3 c4 n v5 μ = some μF → PW g mX0_fillPosts 2 μ0 μF (QN g none μ0 μF) 3 [(0, .ref c0), (1, .int c1), (2, .int c2), (3, .int c3), (4, .int c4), (5, .int v5)] [] μ := by
  intro n
  induction n with
  | zero =>
    intro v5 μ hf
    have hf : (none : Option Sw) = some _ := hf
    cases hf
  | succ n ih =>
    intro v5 μ hf
    have hf : f_X0_fillPosts_L3_b F k29 c0 c1 c2 c3 c4 (f_X0_fillPosts_L3 F k29 c0 c1 c2 c3 c4 n) v5 μ = some μF := hf
    unfold f_X0_fillPosts_L3_b at hf
    refine P.iload 5 (pc' := 5) dX0_fillPosts_3 rfl rfl ?_
    refine P.bipush (v := 99) (pc' := 7) dX0_fillPosts_5 rfl (by decide) ?_
    refine P.icmp_gt (tgt := 29) (pc' := 10) dX0_fillPosts_7 (by decide) rfl (fun y1 => ?_) (fun y1 => ?_)
    · have hf := (if_pos y1).symm.trans hf
      exact PW.sub [0, 1, 2, 3, 4] rfl (hk29 _ hf)
    · have hf := (if_neg y1).symm.trans hf
      refine P.aload_n 0 (pc' := 11) dX0_fillPosts_10 rfl rfl rfl ?_
      obtain ⟨x2, h3, hf⟩ := ob hf
      refine P.get (pc' := 14) ci0 19 (by decide) (gfR_spec h3) q494 (Or.inl rfl) dX0_fillPosts_11 rfl ?_
      refine P.aload_n 0 (pc' := 15) dX0_fillPosts_14 rfl rfl rfl ?_
      obtain ⟨x4, h5, hf⟩ := ob hf
      refine P.get (pc' := 18) ci0 11 (by decide) (gfI_spec h5) q486 (Or.inl rfl) dX0_fillPosts_15 rfl ?_
      obtain ⟨x6, h7, hf⟩ := ob hf
      refine P.aald (t := 5) (pc' := 19) rfl h7 dX0_fillPosts_18 rfl ?_
      refine P.iload 5 (pc' := 21) dX0_fillPosts_19 rfl rfl ?_
      refine P.iconst (v := 0) (pc' := 22) dX0_fillPosts_21 rfl (by decide) ?_
      obtain ⟨μ9, h8, hf⟩ := ob hf
      refine P.iast (pc' := 23) h8 dX0_fillPosts_22 rfl ?_
      obtain ⟨x10, e11, hf⟩ := nm_i hf
      refine P.iinc 5 (pc' := 26) (lv' := [(5, .int x10), (0, .ref c0), (1, .int c1), (2, .int c2), (3, .int c3), (4, .int c4)]) dX0_fillPosts_23 rfl rfl (by decide) e11 (Nat.le_of_ble_eq_true rfl) rfl ?_
      refine P.goto (tgt := 3) dX0_fillPosts_26 (by decide) ?_
      exact PW.sub [1, 2, 3, 4, 5, 0] rfl (ih _ _ hf)
noncomputable def f_X0_fillPosts_L74_b (F : Nat) (k146 : Sw → Option Sw) (c0 : Nat) (c1 : Int32) (c2 : Int32) (c3 : Int32) (c4 : Int32) (c5 : Int32) (c6 : Int32) (self : Int32 → Sw → Option Sw) (v7 : Int32) (μ : Sw) : Option Sw :=
  Option.bind (gfR μ c0 0 10) fun x1 =>
  Option.bind (aI μ 0 x1 c5) fun x3 =>
  if (mn 99 (x3 + c1)) < v7 then
    k146 μ
  else
    Option.bind (gfR μ c0 0 19) fun x6 =>
    Option.bind (aR μ 5 x6 c5) fun x8 =>
    Option.bind (gfR μ c0 0 19) fun x10 =>
    Option.bind (aR μ 5 x10 c5) fun x12 =>
    Option.bind (aI μ 0 x12 c6) fun x14 =>
    Option.bind (p_X0_change F c6 v7 c2 c3 c4) fun q16 =>
    Option.bind (gfR μ c0 0 19) fun x18 =>
    Option.bind (aR μ 5 x18 (c5 + 1)) fun x20 =>
    Option.bind (aI μ 0 x20 v7) fun x22 =>
    Option.bind (sI μ 0 x8 c6 (mn x14 (q16 + x22))) fun μ25 =>
    nm (v7 + 1) fun x26 =>
    self x26 μ25
noncomputable def f_X0_fillPosts_L74 (F : Nat) (k146 : Sw → Option Sw) (c0 : Nat) (c1 : Int32) (c2 : Int32) (c3 : Int32) (c4 : Int32) (c5 : Int32) (c6 : Int32) (n : Nat) : Int32 → Sw → Option Sw := Nat.rec (motive := fun _ => Int32 → Sw → Option Sw) (fun _ _ => none) (fun _ self => f_X0_fillPosts_L74_b F k146 c0 c1 c2 c3 c4 c5 c6 self) n
set_option maxHeartbeats 4000000 in
theorem ok_f_X0_fillPosts_L74 {g : Gx} {μ0 : Sw} {μF : Sw} (F : Nat) (c0 : Nat) (c1 : Int32) (c2 : Int32) (c3 : Int32) (c4 : Int32) (c5 : Int32) (c6 : Int32) (k146 : Sw → Option Sw) (hk146 : ∀ (μ : Sw), k146 μ = some μF → PW g mX0_fillPosts 2 μ0 μF (QN g none μ0 μF) 146 [(0, .ref c0), (1, .int c1), (2, .int c2), (3, .int c3), (4, .int c4), (5, .int c5), (6, .int c6)] [] μ) : ∀ (n : Nat) (v7 : Int32) (μ : Sw), f_X0_fillPosts_L74 F k146 c0 c1 c2 c3 c4 c5 c6 n v7 μ = some μF → PW g mX0_fillPosts 2 μ0 μF (QN g none μ0 μF) 74 [(0, .ref c0), (1, .int c1), (2, .int c2), (3, .int c3), (4, .int c4), (5, .int c5), (6, .int c6), (7, .int v7)] [] μ := by
  intro n
  induction n with
  | zero =>
    intro v7 μ hf
    have hf : (none : Option Sw) = some _ := hf
    cases hf
  | succ n ih =>
    intro v7 μ hf
    have hf : f_X0_fillPosts_L74_b F k146 c0 c1 c2 c3 c4 c5 c6 (f_X0_fillPosts_L74 F k146 c0 c1 c2 c3 c4 c5 c6 n) v7 μ = some μF := hf
    unfold f_X0_fillPosts_L74_b at hf
    refine P.iload 7 (pc' := 76) dX0_fillPosts_74 rfl rfl ?_
    refine P.bipush (v := 99) (pc' := 78) dX0_fillPosts_76 rfl (by decide) ?_
    refine P.aload_n 0 (pc' := 79) dX0_fillPosts_78 rfl rfl rfl ?_
    obtain ⟨x1, h2, hf⟩ := ob hf
    refine P.get (pc' := 82) ci0 10 (by decide) (gfR_spec h2) q485 (Or.inl rfl) dX0_fillPosts_79 rfl ?_
    refine P.iload 5 (pc' := 84) dX0_fillPosts_82 rfl rfl ?_
    obtain ⟨x3, h4, hf⟩ := ob hf
    refine P.iald (t := 0) (pc' := 85) rfl h4 dX0_fillPosts_84 rfl ?_
    refine P.iload_n 1 (pc' := 86) dX0_fillPosts_85 rfl rfl rfl ?_
    refine P.iadd (pc' := 87) dX0_fillPosts_86 rfl ?_
    refine P.mmin (pc' := 90) q1087 q857 q183 q858 (Nat.le_of_ble_eq_true rfl) (Nat.le_of_ble_eq_true rfl) dX0_fillPosts_87 rfl ?_
    refine P.icmp_gt (tgt := 146) (pc' := 93) dX0_fillPosts_90 (by decide) rfl (fun y5 => ?_) (fun y5 => ?_)
    · have hf := (if_pos y5).symm.trans hf
      exact PW.sub [0, 1, 2, 3, 4, 5, 6] rfl (hk146 _ hf)
    · have hf := (if_neg y5).symm.trans hf
      refine P.aload_n 0 (pc' := 94) dX0_fillPosts_93 rfl rfl rfl ?_
      obtain ⟨x6, h7, hf⟩ := ob hf
      refine P.get (pc' := 97) ci0 19 (by decide) (gfR_spec h7) q494 (Or.inl rfl) dX0_fillPosts_94 rfl ?_
      refine P.iload 5 (pc' := 99) dX0_fillPosts_97 rfl rfl ?_
      obtain ⟨x8, h9, hf⟩ := ob hf
      refine P.aald (t := 5) (pc' := 100) rfl h9 dX0_fillPosts_99 rfl ?_
      refine P.iload 6 (pc' := 102) dX0_fillPosts_100 rfl rfl ?_
      refine P.aload_n 0 (pc' := 103) dX0_fillPosts_102 rfl rfl rfl ?_
      obtain ⟨x10, h11, hf⟩ := ob hf
      refine P.get (pc' := 106) ci0 19 (by decide) (gfR_spec h11) q494 (Or.inl rfl) dX0_fillPosts_103 rfl ?_
      refine P.iload 5 (pc' := 108) dX0_fillPosts_106 rfl rfl ?_
      obtain ⟨x12, h13, hf⟩ := ob hf
      refine P.aald (t := 5) (pc' := 109) rfl h13 dX0_fillPosts_108 rfl ?_
      refine P.iload 6 (pc' := 111) dX0_fillPosts_109 rfl rfl ?_
      obtain ⟨x14, h15, hf⟩ := ob hf
      refine P.iald (t := 0) (pc' := 112) rfl h15 dX0_fillPosts_111 rfl ?_
      refine P.iload 6 (pc' := 114) dX0_fillPosts_112 rfl rfl ?_
      refine P.iload 7 (pc' := 116) dX0_fillPosts_114 rfl rfl ?_
      refine P.iload_n 2 (pc' := 117) dX0_fillPosts_116 rfl rfl rfl ?_
      refine P.iload_n 3 (pc' := 118) dX0_fillPosts_117 rfl rfl rfl ?_
      refine P.iload 4 (pc' := 120) dX0_fillPosts_118 rfl rfl ?_
      obtain ⟨q16, h17, hf⟩ := ob hf
      refine P.callS (pc' := 123) (As := [.int c6, .int v7, .int c2, .int c3, .int c4]) 5 (ok_X0_change F c6 v7 c2 c3 c4 μ h17) (Nat.le_of_ble_eq_true rfl) (lw_S q1402 q1403 q159 q1404) yok_X0_change rfl (Nat.le_of_ble_eq_true rfl) (Nat.le_of_ble_eq_true rfl) rfl dX0_fillPosts_120 rfl ?_
      refine P.aload_n 0 (pc' := 124) dX0_fillPosts_123 rfl rfl rfl ?_
      obtain ⟨x18, h19, hf⟩ := ob hf
      refine P.get (pc' := 127) ci0 19 (by decide) (gfR_spec h19) q494 (Or.inl rfl) dX0_fillPosts_124 rfl ?_
      refine P.iload 5 (pc' := 129) dX0_fillPosts_127 rfl rfl ?_
      refine P.iconst (v := 1) (pc' := 130) dX0_fillPosts_129 rfl (by decide) ?_
      refine P.iadd (pc' := 131) dX0_fillPosts_130 rfl ?_
      obtain ⟨x20, h21, hf⟩ := ob hf
      refine P.aald (t := 5) (pc' := 132) rfl h21 dX0_fillPosts_131 rfl ?_
      refine P.iload 7 (pc' := 134) dX0_fillPosts_132 rfl rfl ?_
      obtain ⟨x22, h23, hf⟩ := ob hf
      refine P.iald (t := 0) (pc' := 135) rfl h23 dX0_fillPosts_134 rfl ?_
      refine P.iadd (pc' := 136) dX0_fillPosts_135 rfl ?_
      refine P.mmin (pc' := 139) q1087 q857 q183 q858 (Nat.le_of_ble_eq_true rfl) (Nat.le_of_ble_eq_true rfl) dX0_fillPosts_136 rfl ?_
      obtain ⟨μ25, h24, hf⟩ := ob hf
      refine P.iast (pc' := 140) h24 dX0_fillPosts_139 rfl ?_
      obtain ⟨x26, e27, hf⟩ := nm_i hf
      refine P.iinc 7 (pc' := 143) (lv' := [(7, .int x26), (0, .ref c0), (1, .int c1), (2, .int c2), (3, .int c3), (4, .int c4), (5, .int c5), (6, .int c6)]) dX0_fillPosts_140 rfl rfl (by decide) e27 (Nat.le_of_ble_eq_true rfl) rfl ?_
      refine P.goto (tgt := 74) dX0_fillPosts_143 (by decide) ?_
      exact PW.sub [1, 2, 3, 4, 5, 6, 7, 0] rfl (ih _ _ hf)
noncomputable def f_X0_fillPosts_L45_b (F : Nat) (k152 : Sw → Option Sw) (c0 : Nat) (c1 : Int32) (c2 : Int32) (c3 : Int32) (c4 : Int32) (c5 : Int32) (self : Int32 → Sw → Option Sw) (v6 : Int32) (μ : Sw) : Option Sw :=
  if 99 < v6 then
    k152 μ
  else
    Option.bind (gfR μ c0 0 19) fun x2 =>
    Option.bind (aR μ 5 x2 c5) fun x4 =>
    Option.bind (sI μ 0 x4 v6 1000000000) fun μ7 =>
    Option.bind (gfR μ7 c0 0 10) fun x8 =>
    Option.bind (aI μ7 0 x8 c5) fun x10 =>
    f_X0_fillPosts_L74 F
      (fun μ12 =>
        nm (v6 + 1) fun x13 =>
        self x13 μ12)
      c0 c1 c2 c3 c4 c5 v6 F x10 μ7
noncomputable def f_X0_fillPosts_L45 (F : Nat) (k152 : Sw → Option Sw) (c0 : Nat) (c1 : Int32) (c2 : Int32) (c3 : Int32) (c4 : Int32) (c5 : Int32) (n : Nat) : Int32 → Sw → Option Sw := Nat.rec (motive := fun _ => Int32 → Sw → Option Sw) (fun _ _ => none) (fun _ self => f_X0_fillPosts_L45_b F k152 c0 c1 c2 c3 c4 c5 self) n
set_option maxHeartbeats 4000000 in
theorem ok_f_X0_fillPosts_L45 {g : Gx} {μ0 : Sw} {μF : Sw} (F : Nat) (c0 : Nat) (c1 : Int32) (c2 : Int32) (c3 : Int32) (c4 : Int32) (c5 : Int32) (k152 : Sw → Option Sw) (hk152 : ∀ (μ : Sw), k152 μ = some μF → PW g mX0_fillPosts 2 μ0 μF (QN g none μ0 μF) 152 [(0, .ref c0), (1, .int c1), (2, .int c2), (3, .int c3), (4, .int c4), (5, .int c5)] [] μ) : ∀ (n : Nat) (v6 : Int32) (μ : Sw), f_X0_fillPosts_L45 F k152 c0 c1 c2 c3 c4 c5 n v6 μ = some μF → PW g mX0_fillPosts 2 μ0 μF (QN g none μ0 μF) 45 [(0, .ref c0), (1, .int c1), (2, .int c2), (3, .int c3), (4, .int c4), (5, .int c5), (6, .int v6)] [] μ := by
  intro n
  induction n with
  | zero =>
    intro v6 μ hf
    have hf : (none : Option Sw) = some _ := hf
    cases hf
  | succ n ih =>
    intro v6 μ hf
    have hf : f_X0_fillPosts_L45_b F k152 c0 c1 c2 c3 c4 c5 (f_X0_fillPosts_L45 F k152 c0 c1 c2 c3 c4 c5 n) v6 μ = some μF := hf
    unfold f_X0_fillPosts_L45_b at hf
    refine P.iload 6 (pc' := 47) dX0_fillPosts_45 rfl rfl ?_
    refine P.bipush (v := 99) (pc' := 49) dX0_fillPosts_47 rfl (by decide) ?_
    refine P.icmp_gt (tgt := 152) (pc' := 52) dX0_fillPosts_49 (by decide) rfl (fun y1 => ?_) (fun y1 => ?_)
    · have hf := (if_pos y1).symm.trans hf
      exact PW.sub [0, 1, 2, 3, 4, 5] rfl (hk152 _ hf)
    · have hf := (if_neg y1).symm.trans hf
      refine P.aload_n 0 (pc' := 53) dX0_fillPosts_52 rfl rfl rfl ?_
      obtain ⟨x2, h3, hf⟩ := ob hf
      refine P.get (pc' := 56) ci0 19 (by decide) (gfR_spec h3) q494 (Or.inl rfl) dX0_fillPosts_53 rfl ?_
      refine P.iload 5 (pc' := 58) dX0_fillPosts_56 rfl rfl ?_
      obtain ⟨x4, h5, hf⟩ := ob hf
      refine P.aald (t := 5) (pc' := 59) rfl h5 dX0_fillPosts_58 rfl ?_
      refine P.iload 6 (pc' := 61) dX0_fillPosts_59 rfl rfl ?_
      refine P.ldc_w (v := 1000000000) (pc' := 64) dX0_fillPosts_61 rfl q1246 ?_
      obtain ⟨μ7, h6, hf⟩ := ob hf
      refine P.iast (pc' := 65) h6 dX0_fillPosts_64 rfl ?_
      refine P.aload_n 0 (pc' := 66) dX0_fillPosts_65 rfl rfl rfl ?_
      obtain ⟨x8, h9, hf⟩ := ob hf
      refine P.get (pc' := 69) ci0 10 (by decide) (gfR_spec h9) q485 (Or.inl rfl) dX0_fillPosts_66 rfl ?_
      refine P.iload 5 (pc' := 71) dX0_fillPosts_69 rfl rfl ?_
      obtain ⟨x10, h11, hf⟩ := ob hf
      refine P.iald (t := 0) (pc' := 72) rfl h11 dX0_fillPosts_71 rfl ?_
      refine P.istore (pc' := 74) (lv' := [(7, .int x10), (0, .ref c0), (1, .int c1), (2, .int c2), (3, .int c3), (4, .int c4), (5, .int c5), (6, .int v6)]) dX0_fillPosts_72 rfl (Nat.le_of_ble_eq_true rfl) rfl ?_
      refine PW.sub [1, 2, 3, 4, 5, 6, 7, 0] rfl (ok_f_X0_fillPosts_L74 F c0 c1 c2 c3 c4 c5 v6 _ ?_ F _ _ hf)
      · intro μ12 hf
        obtain ⟨x13, e14, hf⟩ := nm_i hf
        refine P.iinc 6 (pc' := 149) (lv' := [(6, .int x13), (0, .ref c0), (1, .int c1), (2, .int c2), (3, .int c3), (4, .int c4), (5, .int c5)]) dX0_fillPosts_146 rfl rfl (by decide) e14 (Nat.le_of_ble_eq_true rfl) rfl ?_
        refine P.goto (tgt := 45) dX0_fillPosts_149 (by decide) ?_
        exact PW.sub [1, 2, 3, 4, 5, 6, 0] rfl (ih _ _ hf)
noncomputable def f_X0_fillPosts_L37_b (F : Nat) (c0 : Nat) (c1 : Int32) (c2 : Int32) (c3 : Int32) (c4 : Int32) (self : Int32 → Sw → Option Sw) (v5 : Int32) (μ : Sw) : Option Sw :=
  if v5 < 0 then
    some μ
  else
    f_X0_fillPosts_L45 F
      (fun μ2 =>
        nm (v5 + (-1)) fun x3 =>
        self x3 μ2)
      c0 c1 c2 c3 c4 v5 F 0 μ
noncomputable def f_X0_fillPosts_L37 (F : Nat) (c0 : Nat) (c1 : Int32) (c2 : Int32) (c3 : Int32) (c4 : Int32) (n : Nat) : Int32 → Sw → Option Sw := Nat.rec (motive := fun _ => Int32 → Sw → Option Sw) (fun _ _ => none) (fun _ self => f_X0_fillPosts_L37_b F c0 c1 c2 c3 c4 self) n
set_option maxHeartbeats 4000000 in
theorem ok_f_X0_fillPosts_L37 {g : Gx} {μ0 : Sw} {μF : Sw} (F : Nat) (c0 : Nat) (c1 : Int32) (c2 : Int32) (c3 : Int32) (c4 : Int32) : ∀ (n : Nat) (v5 : Int32) (μ : Sw), f_X0_fillPosts_L37 F c0 c1 c2 c3 c4 n v5 μ = some μF → PW g mX0_fillPosts 2 μ0 μF (QN g none μ0 μF) 37 [(0, .ref c0), (1, .int c1), (2, .int c2), (3, .int c3), (4, .int c4), (5, .int v5)] [] μ := by
  intro n
  induction n with
  | zero =>
    intro v5 μ hf
    have hf : (none : Option Sw) = some _ := hf
    cases hf
  | succ n ih =>
    intro v5 μ hf
    have hf : f_X0_fillPosts_L37_b F c0 c1 c2 c3 c4 (f_X0_fillPosts_L37 F c0 c1 c2 c3 c4 n) v5 μ = some μF := hf
    unfold f_X0_fillPosts_L37_b at hf
    refine P.iload 5 (pc' := 39) dX0_fillPosts_37 rfl rfl ?_
    refine P.if_lt (tgt := 158) (pc' := 42) dX0_fillPosts_39 (by decide) rfl (fun y1 => ?_) (fun y1 => ?_)
    · have hf := (if_pos y1).symm.trans hf
      cases hf; exact P.vret rfl dX0_fillPosts_158
    · have hf := (if_neg y1).symm.trans hf
      refine P.iconst (v := 0) (pc' := 43) dX0_fillPosts_42 rfl (by decide) ?_
      refine P.istore (pc' := 45) (lv' := [(6, .int 0), (0, .ref c0), (1, .int c1), (2, .int c2), (3, .int c3), (4, .int c4), (5, .int v5)]) dX0_fillPosts_43 rfl (Nat.le_of_ble_eq_true rfl) rfl ?_
      refine PW.sub [1, 2, 3, 4, 5, 6, 0] rfl (ok_f_X0_fillPosts_L45 F c0 c1 c2 c3 c4 v5 _ ?_ F _ _ hf)
      · intro μ2 hf
        obtain ⟨x3, e4, hf⟩ := nm_i hf
        refine P.iinc 5 (pc' := 155) (lv' := [(5, .int x3), (0, .ref c0), (1, .int c1), (2, .int c2), (3, .int c3), (4, .int c4)]) dX0_fillPosts_152 rfl rfl (by decide) e4 (Nat.le_of_ble_eq_true rfl) rfl ?_
        refine P.goto (tgt := 37) dX0_fillPosts_155 (by decide) ?_
        exact PW.sub [1, 2, 3, 4, 5, 0] rfl (ih _ _ hf)
noncomputable def f_X0_fillPosts (F : Nat) (this : Nat) (p1 : Int32) (p2 : Int32) (p3 : Int32) (p4 : Int32) (μ : Sw) : Option Sw :=
  f_X0_fillPosts_L3 F
    (fun μ1 =>
      Option.bind (gfI μ1 this 0 11) fun x2 =>
      nm (x2 - 1) fun x4 =>
      f_X0_fillPosts_L37 F this p1 p2 p3 p4 F x4 μ1)
    this p1 p2 p3 p4 F 0 μ
set_option maxHeartbeats 4000000 in
theorem ok_X0_fillPosts {g : Gx} (F : Nat) (this : Nat) (p1 : Int32) (p2 : Int32) (p3 : Int32) (p4 : Int32) (μ : Sw) {μF : Sw} (hf : f_X0_fillPosts F this p1 p2 p3 p4 μ = some μF) : Cl g 2 yX0_fillPosts cX0_fillPosts 8 none [.ref this, .int p1, .int p2, .int p3, .int p4] μ none μF := by
  unfold f_X0_fillPosts at hf
  refine Cl.of (own := RX0) (ini := false) (by decide +kernel) rfl (by decide) (Nat.le_of_ble_eq_true rfl) ?_
  show PW g mX0_fillPosts 2 μ μF (QN g none μ μF) 0 [(0, .ref this), (1, .int p1), (2, .int p2), (3, .int p3), (4, .int p4)] [] μ
  refine P.iconst (v := 0) (pc' := 1) dX0_fillPosts_0 rfl (by decide) ?_
  refine P.istore (pc' := 3) (lv' := [(5, .int 0), (0, .ref this), (1, .int p1), (2, .int p2), (3, .int p3), (4, .int p4)]) dX0_fillPosts_1 rfl (Nat.le_of_ble_eq_true rfl) rfl ?_
  refine PW.sub [1, 2, 3, 4, 5, 0] rfl (ok_f_X0_fillPosts_L3 F this p1 p2 p3 p4 _ ?_ F _ _ hf)
  · intro μ1 hf
    refine P.aload_n 0 (pc' := 30) dX0_fillPosts_29 rfl rfl rfl ?_
    obtain ⟨x2, h3, hf⟩ := ob hf
    refine P.get (pc' := 33) ci0 11 (by decide) (gfI_spec h3) q486 (Or.inl rfl) dX0_fillPosts_30 rfl ?_
    refine P.iconst (v := 1) (pc' := 34) dX0_fillPosts_33 rfl (by decide) ?_
    refine P.isub (pc' := 35) dX0_fillPosts_34 rfl ?_
    obtain ⟨x4, e5, hf⟩ := nm_i hf
    refine P.nmi e5 ?_
    refine P.istore (pc' := 37) (lv' := [(5, .int x4), (0, .ref this), (1, .int p1), (2, .int p2), (3, .int p3), (4, .int p4)]) dX0_fillPosts_35 rfl (Nat.le_of_ble_eq_true rfl) rfl ?_
    exact PW.sub [1, 2, 3, 4, 5, 0] rfl (ok_f_X0_fillPosts_L37 F this p1 p2 p3 p4 F _ _ hf)
theorem yok_X0_arePosts : yOK yX0_arePosts 5 := ⟨by decide +kernel, by decide +kernel, by decide +kernel⟩
theorem yok_X0_fillPosts : yOK yX0_fillPosts 4 := ⟨by decide +kernel, by decide +kernel, by decide +kernel⟩
abbrev mX0_posts : Ym := (RX0, cX0_posts, 6, (some Jvm.ClassFile.FieldType.int), false, [])
noncomputable def f_X0_posts (F : Nat) (this : Nat) (p1 : Int32) (p2 : Int32) (p3 : Int32) (p4 : Int32) (p5 : Int32) (μ : Sw) : Option (Int32 × Sw) :=
  Option.bind (p_X0_arePosts F p1 p2 p3 p4 p5) fun q1 =>
  if q1 = 0 then
    some ((-1), μ)
  else
    Option.bind (oc μ this 0) fun u6 =>
    Option.bind (f_X0_fillPosts F this p2 p3 p4 p5 μ) fun q4 =>
    Option.bind (gfR q4 this 0 19) fun x8 =>
    Option.bind (aR q4 5 x8 0) fun x10 =>
    Option.bind (aI q4 0 x10 p1) fun x12 =>
    some (x12, q4)
set_option maxHeartbeats 4000000 in
theorem ok_X0_posts {g : Gx} (F : Nat) (this : Nat) (p1 : Int32) (p2 : Int32) (p3 : Int32) (p4 : Int32) (p5 : Int32) (μ : Sw) {rv : Int32} {μF : Sw} (hf : f_X0_posts F this p1 p2 p3 p4 p5 μ = some (rv, μF)) : Cl g 3 yX0_posts cX0_posts 6 (some Jvm.ClassFile.FieldType.int) [.ref this, .int p1, .int p2, .int p3, .int p4, .int p5] μ (some (.int rv)) μF := by
  unfold f_X0_posts at hf
  refine Cl.of (own := RX0) (ini := false) (by decide +kernel) rfl (by decide) (Nat.le_of_ble_eq_true rfl) ?_
  show PW g mX0_posts 3 μ μF (QN g (some (.int rv)) μ μF) 0 [(0, .ref this), (1, .int p1), (2, .int p2), (3, .int p3), (4, .int p4), (5, .int p5)] [] μ
  refine P.iload_n 1 (pc' := 1) dX0_posts_0 rfl rfl rfl ?_
  refine P.iload_n 2 (pc' := 2) dX0_posts_1 rfl rfl rfl ?_
  refine P.iload_n 3 (pc' := 3) dX0_posts_2 rfl rfl rfl ?_
  refine P.iload 4 (pc' := 5) dX0_posts_3 rfl rfl ?_
  refine P.iload 5 (pc' := 7) dX0_posts_5 rfl rfl ?_
  obtain ⟨q1, h2, hf⟩ := ob hf
  refine P.callS (pc' := 10) (As := [.int p1, .int p2, .int p3, .int p4, .int p5]) 5 (ok_X0_arePosts F p1 p2 p3 p4 p5 μ h2) (Nat.le_of_ble_eq_true rfl) (lw_S q1395 q1396 q159 q1397) yok_X0_arePosts rfl (Nat.le_of_ble_eq_true rfl) (by decide) rfl dX0_posts_7 rfl ?_
  refine P.if_ne (tgt := 15) (pc' := 13) dX0_posts_10 (by decide) rfl (fun y3 => ?_) (fun y3 => ?_)
  · have hf := (if_neg y3).symm.trans hf
    refine P.aload_n 0 (pc' := 16) dX0_posts_15 rfl rfl rfl ?_
    refine P.iload_n 2 (pc' := 17) dX0_posts_16 rfl rfl rfl ?_
    refine P.iload_n 3 (pc' := 18) dX0_posts_17 rfl rfl rfl ?_
    refine P.iload 4 (pc' := 20) dX0_posts_18 rfl rfl ?_
    refine P.iload 5 (pc' := 22) dX0_posts_20 rfl rfl ?_
    obtain ⟨u6, h7, hf⟩ := ob hf
    obtain ⟨q4, h5, hf⟩ := ob hf
    refine P.callV (pc' := 25) (As := [.int p2, .int p3, .int p4, .int p5]) 4 (ok_X0_fillPosts F this p2 p3 p4 p5 μ h5) (Nat.le_of_ble_eq_true rfl) (lw_V q1398 q1400 qs64 q159 q1401) rfl yok_X0_fillPosts rfl (Nat.le_of_ble_eq_true rfl) ci0 h7 (by decide) rfl dX0_posts_22 rfl ?_
    refine P.aload_n 0 (pc' := 26) dX0_posts_25 rfl rfl rfl ?_
    obtain ⟨x8, h9, hf⟩ := ob hf
    refine P.get (pc' := 29) ci0 19 (by decide) (gfR_spec h9) q494 (Or.inl rfl) dX0_posts_26 rfl ?_
    refine P.iconst (v := 0) (pc' := 30) dX0_posts_29 rfl (by decide) ?_
    obtain ⟨x10, h11, hf⟩ := ob hf
    refine P.aald (t := 5) (pc' := 31) rfl h11 dX0_posts_30 rfl ?_
    refine P.iload_n 1 (pc' := 32) dX0_posts_31 rfl rfl rfl ?_
    obtain ⟨x12, h13, hf⟩ := ob hf
    refine P.iald (t := 0) (pc' := 33) rfl h13 dX0_posts_32 rfl ?_
    cases hf; exact P.iret rfl dX0_posts_33
  · have hf := (if_pos y3).symm.trans hf
    refine P.iconst (v := (-1)) (pc' := 14) dX0_posts_13 rfl (by decide) ?_
    cases hf; exact P.iret rfl dX0_posts_14
abbrev mX0_postAt : Ym := (RX0, cX0_postAt, 10, (some Jvm.ClassFile.FieldType.int), false, [])
noncomputable def f_X0_postAt_L62_b (F : Nat) (k106 : Int32 → Option (Int32 × Sw)) (c0 : Nat) (c3 : Int32) (c4 : Int32) (c5 : Int32) (c6 : Int32) (c7 : Int32) (c8 : Int32) (μ : Sw) (self : Int32 → Option (Int32 × Sw)) (v9 : Int32) : Option (Int32 × Sw) :=
  Option.bind (p_X0_change F c7 v9 c3 c4 c5) fun q1 =>
  Option.bind (gfR μ c0 0 19) fun x3 =>
  Option.bind (aR μ 5 x3 (c8 + 1)) fun x5 =>
  Option.bind (aI μ 0 x5 v9) fun x7 =>
  Option.bind (gfR μ c0 0 19) fun x9 =>
  Option.bind (aR μ 5 x9 c8) fun x11 =>
  Option.bind (aI μ 0 x11 c7) fun x13 =>
  if (q1 + x7) = x13 then
    k106 v9
  else
    nm (v9 + 1) fun x16 =>
    self x16
noncomputable def f_X0_postAt_L62 (F : Nat) (k106 : Int32 → Option (Int32 × Sw)) (c0 : Nat) (c3 : Int32) (c4 : Int32) (c5 : Int32) (c6 : Int32) (c7 : Int32) (c8 : Int32) (μ : Sw) (n : Nat) : Int32 → Option (Int32 × Sw) := Nat.rec (motive := fun _ => Int32 → Option (Int32 × Sw)) (fun _ => none) (fun _ self => f_X0_postAt_L62_b F k106 c0 c3 c4 c5 c6 c7 c8 μ self) n
set_option maxHeartbeats 4000000 in
theorem ok_f_X0_postAt_L62 {g : Gx} {μ0 : Sw} {rv : Int32} {μF : Sw} (F : Nat) (c0 : Nat) (c3 : Int32) (c4 : Int32) (c5 : Int32) (c6 : Int32) (c7 : Int32) (c8 : Int32) (μ : Sw) (k106 : Int32 → Option (Int32 × Sw)) (hk106 : ∀ (w9 : Int32), k106 w9 = some (rv, μF) → PW g mX0_postAt 3 μ0 μF (QN g (some (.int rv)) μ0 μF) 106 [(0, .ref c0), (3, .int c3), (4, .int c4), (5, .int c5), (6, .int c6), (8, .int c8), (9, .int w9)] [] μ) : ∀ (n : Nat) (v9 : Int32), f_X0_postAt_L62 F k106 c0 c3 c4 c5 c6 c7 c8 μ n v9 = some (rv, μF) → PW g mX0_postAt 3 μ0 μF (QN g (some (.int rv)) μ0 μF) 62 [(0, .ref c0), (3, .int c3), (4, .int c4), (5, .int c5), (6, .int c6), (7, .int c7), (8, .int c8), (9, .int v9)] [] μ := by
  intro n
  induction n with
  | zero =>
    intro v9 hf
    have hf : (none : Option (Int32 × Sw)) = some _ := hf
    cases hf
  | succ n ih =>
    intro v9 hf
    have hf : f_X0_postAt_L62_b F k106 c0 c3 c4 c5 c6 c7 c8 μ (f_X0_postAt_L62 F k106 c0 c3 c4 c5 c6 c7 c8 μ n) v9 = some (rv, μF) := hf
    unfold f_X0_postAt_L62_b at hf
    refine P.iload 5 (pc' := 64) dX0_postAt_62 rfl rfl ?_
    refine P.iload 7 (pc' := 66) dX0_postAt_64 rfl rfl ?_
    refine P.iload_n 1 (pc' := 67) dX0_postAt_66 rfl rfl rfl ?_
    refine P.iload 2 (pc' := 69) dX0_postAt_67 rfl rfl ?_
    refine P.iload 3 (pc' := 71) dX0_postAt_69 rfl rfl ?_
    obtain ⟨q1, h2, hf⟩ := ob hf
    refine P.callS (pc' := 74) (As := [.int c7, .int v9, .int c3, .int c4, .int c5]) 5 (ok_X0_change F c7 v9 c3 c4 c5 μ h2) (Nat.le_of_ble_eq_true rfl) (lw_S q1402 q1403 q159 q1404) yok_X0_change rfl (Nat.le_of_ble_eq_true rfl) (by decide) rfl dX0_postAt_71 rfl ?_
    refine P.aload_n 0 (pc' := 75) dX0_postAt_74 rfl rfl rfl ?_
    obtain ⟨x3, h4, hf⟩ := ob hf
    refine P.get (pc' := 78) ci0 19 (by decide) (gfR_spec h4) q494 (Or.inl rfl) dX0_postAt_75 rfl ?_
    refine P.iload 6 (pc' := 80) dX0_postAt_78 rfl rfl ?_
    refine P.iconst (v := 1) (pc' := 81) dX0_postAt_80 rfl (by decide) ?_
    refine P.iadd (pc' := 82) dX0_postAt_81 rfl ?_
    obtain ⟨x5, h6, hf⟩ := ob hf
    refine P.aald (t := 5) (pc' := 83) rfl h6 dX0_postAt_82 rfl ?_
    refine P.iload 7 (pc' := 85) dX0_postAt_83 rfl rfl ?_
    obtain ⟨x7, h8, hf⟩ := ob hf
    refine P.iald (t := 0) (pc' := 86) rfl h8 dX0_postAt_85 rfl ?_
    refine P.iadd (pc' := 87) dX0_postAt_86 rfl ?_
    refine P.aload_n 0 (pc' := 88) dX0_postAt_87 rfl rfl rfl ?_
    obtain ⟨x9, h10, hf⟩ := ob hf
    refine P.get (pc' := 91) ci0 19 (by decide) (gfR_spec h10) q494 (Or.inl rfl) dX0_postAt_88 rfl ?_
    refine P.iload 6 (pc' := 93) dX0_postAt_91 rfl rfl ?_
    obtain ⟨x11, h12, hf⟩ := ob hf
    refine P.aald (t := 5) (pc' := 94) rfl h12 dX0_postAt_93 rfl ?_
    refine P.iload 5 (pc' := 96) dX0_postAt_94 rfl rfl ?_
    obtain ⟨x13, h14, hf⟩ := ob hf
    refine P.iald (t := 0) (pc' := 97) rfl h14 dX0_postAt_96 rfl ?_
    refine P.icmp_eq (tgt := 106) (pc' := 100) dX0_postAt_97 (by decide) rfl (fun y15 => ?_) (fun y15 => ?_)
    · have hf := (if_pos y15).symm.trans hf
      exact PW.sub [0, 1, 2, 3, 4, 6, 7] rfl (hk106 _ hf)
    · have hf := (if_neg y15).symm.trans hf
      obtain ⟨x16, e17, hf⟩ := nm_i hf
      refine P.iinc 7 (pc' := 103) (lv' := [(9, .int x16), (0, .ref c0), (3, .int c3), (4, .int c4), (5, .int c5), (6, .int c6), (7, .int c7), (8, .int c8)]) dX0_postAt_100 rfl rfl (by decide) e17 (Nat.le_of_ble_eq_true rfl) rfl ?_
      refine P.goto (tgt := 62) dX0_postAt_103 (by decide) ?_
      exact PW.sub [1, 2, 3, 4, 5, 6, 7, 0] rfl (ih _ hf)
noncomputable def f_X0_postAt_L46_b (F : Nat) (c0 : Nat) (c3 : Int32) (c4 : Int32) (c5 : Int32) (c6 : Int32) (μ : Sw) (self : Int32 → Int32 → Option (Int32 × Sw)) (v7 : Int32) (v8 : Int32) : Option (Int32 × Sw) :=
  if c6 < v8 then
    some (v7, μ)
  else
    Option.bind (gfR μ c0 0 10) fun x2 =>
    Option.bind (aI μ 0 x2 v8) fun x4 =>
    f_X0_postAt_L62 F
      (fun w6 =>
        nm (v8 + 1) fun x7 =>
        self w6 x7)
      c0 c3 c4 c5 c6 v7 v8 μ F x4
noncomputable def f_X0_postAt_L46 (F : Nat) (c0 : Nat) (c3 : Int32) (c4 : Int32) (c5 : Int32) (c6 : Int32) (μ : Sw) (n : Nat) : Int32 → Int32 → Option (Int32 × Sw) := Nat.rec (motive := fun _ => Int32 → Int32 → Option (Int32 × Sw)) (fun _ _ => none) (fun _ self => f_X0_postAt_L46_b F c0 c3 c4 c5 c6 μ self) n
set_option maxHeartbeats 4000000 in
theorem ok_f_X0_postAt_L46 {g : Gx} {μ0 : Sw} {rv : Int32} {μF : Sw} (F : Nat) (c0 : Nat) (c3 : Int32) (c4 : Int32) (c5 : Int32) (c6 : Int32) (μ : Sw) : ∀ (n : Nat) (v7 : Int32) (v8 : Int32), f_X0_postAt_L46 F c0 c3 c4 c5 c6 μ n v7 v8 = some (rv, μF) → PW g mX0_postAt 3 μ0 μF (QN g (some (.int rv)) μ0 μF) 46 [(0, .ref c0), (3, .int c3), (4, .int c4), (5, .int c5), (6, .int c6), (7, .int v7), (8, .int v8)] [] μ := by
  intro n
  induction n with
  | zero =>
    intro v7 v8 hf
    have hf : (none : Option (Int32 × Sw)) = some _ := hf
    cases hf
  | succ n ih =>
    intro v7 v8 hf
    have hf : f_X0_postAt_L46_b F c0 c3 c4 c5 c6 μ (f_X0_postAt_L46 F c0 c3 c4 c5 c6 μ n) v7 v8 = some (rv, μF) := hf
    unfold f_X0_postAt_L46_b at hf
    refine P.iload 6 (pc' := 48) dX0_postAt_46 rfl rfl ?_
    refine P.iload 4 (pc' := 50) dX0_postAt_48 rfl rfl ?_
    refine P.icmp_gt (tgt := 116) (pc' := 53) dX0_postAt_50 (by decide) rfl (fun y1 => ?_) (fun y1 => ?_)
    · have hf := (if_pos y1).symm.trans hf
      refine P.iload 5 (pc' := 118) dX0_postAt_116 rfl rfl ?_
      cases hf; exact P.iret rfl dX0_postAt_118
    · have hf := (if_neg y1).symm.trans hf
      refine P.aload_n 0 (pc' := 54) dX0_postAt_53 rfl rfl rfl ?_
      obtain ⟨x2, h3, hf⟩ := ob hf
      refine P.get (pc' := 57) ci0 10 (by decide) (gfR_spec h3) q485 (Or.inl rfl) dX0_postAt_54 rfl ?_
      refine P.iload 6 (pc' := 59) dX0_postAt_57 rfl rfl ?_
      obtain ⟨x4, h5, hf⟩ := ob hf
      refine P.iald (t := 0) (pc' := 60) rfl h5 dX0_postAt_59 rfl ?_
      refine P.istore (pc' := 62) (lv' := [(9, .int x4), (0, .ref c0), (3, .int c3), (4, .int c4), (5, .int c5), (6, .int c6), (7, .int v7), (8, .int v8)]) dX0_postAt_60 rfl (Nat.le_of_ble_eq_true rfl) rfl ?_
      refine PW.sub [1, 2, 3, 4, 5, 6, 7, 0] rfl (ok_f_X0_postAt_L62 F c0 c3 c4 c5 c6 v7 v8 μ _ ?_ F _ hf)
      · intro w6 hf
        refine P.iload 6 (pc' := 108) dX0_postAt_106 rfl rfl ?_
        refine P.istore (pc' := 110) (lv' := [(7, .int w6), (0, .ref c0), (3, .int c3), (4, .int c4), (5, .int c5), (6, .int c6), (8, .int v8), (9, .int w6)]) dX0_postAt_108 rfl (Nat.le_of_ble_eq_true rfl) rfl ?_
        obtain ⟨x7, e8, hf⟩ := nm_i hf
        refine P.iinc 6 (pc' := 113) (lv' := [(8, .int x7), (7, .int w6), (0, .ref c0), (3, .int c3), (4, .int c4), (5, .int c5), (6, .int c6), (9, .int w6)]) dX0_postAt_110 rfl rfl (by decide) e8 (Nat.le_of_ble_eq_true rfl) rfl ?_
        refine P.goto (tgt := 46) dX0_postAt_113 (by decide) ?_
        exact PW.sub [2, 3, 4, 5, 6, 1, 0] rfl (ih _ _ hf)
noncomputable def f_X0_postAt (F : Nat) (this : Nat) (p1 : Int32) (p2 : Int32) (p3 : Int32) (p4 : Int32) (p5 : Int32) (p6 : Int32) (μ : Sw) : Option (Int32 × Sw) :=
  Option.bind (p_X0_arePosts F p1 p2 p3 p4 p5) fun q1 =>
  if q1 = 0 then
    some ((-1), μ)
  else
    Option.bind (gfI μ this 0 11) fun x4 =>
    Option.bind (p_X0_within F p6 0 (x4 - 1)) fun q6 =>
    if q6 = 0 then
      some ((-1), μ)
    else
      Option.bind (oc μ this 0) fun u11 =>
      Option.bind (f_X0_fillPosts F this p2 p3 p4 p5 μ) fun q9 =>
      f_X0_postAt_L46 F this p3 p4 p5 p6 q9 F p1 0
set_option maxHeartbeats 4000000 in
theorem ok_X0_postAt {g : Gx} (F : Nat) (this : Nat) (p1 : Int32) (p2 : Int32) (p3 : Int32) (p4 : Int32) (p5 : Int32) (p6 : Int32) (μ : Sw) {rv : Int32} {μF : Sw} (hf : f_X0_postAt F this p1 p2 p3 p4 p5 p6 μ = some (rv, μF)) : Cl g 3 yX0_postAt cX0_postAt 10 (some Jvm.ClassFile.FieldType.int) [.ref this, .int p1, .int p2, .int p3, .int p4, .int p5, .int p6] μ (some (.int rv)) μF := by
  unfold f_X0_postAt at hf
  refine Cl.of (own := RX0) (ini := false) (by decide +kernel) rfl (by decide) (Nat.le_of_ble_eq_true rfl) ?_
  show PW g mX0_postAt 3 μ μF (QN g (some (.int rv)) μ μF) 0 [(0, .ref this), (1, .int p1), (2, .int p2), (3, .int p3), (4, .int p4), (5, .int p5), (6, .int p6)] [] μ
  refine P.iload_n 1 (pc' := 1) dX0_postAt_0 rfl rfl rfl ?_
  refine P.iload_n 2 (pc' := 2) dX0_postAt_1 rfl rfl rfl ?_
  refine P.iload_n 3 (pc' := 3) dX0_postAt_2 rfl rfl rfl ?_
  refine P.iload 4 (pc' := 5) dX0_postAt_3 rfl rfl ?_
  refine P.iload 5 (pc' := 7) dX0_postAt_5 rfl rfl ?_
  obtain ⟨q1, h2, hf⟩ := ob hf
  refine P.callS (pc' := 10) (As := [.int p1, .int p2, .int p3, .int p4, .int p5]) 5 (ok_X0_arePosts F p1 p2 p3 p4 p5 μ h2) (Nat.le_of_ble_eq_true rfl) (lw_S q1395 q1396 q159 q1397) yok_X0_arePosts rfl (Nat.le_of_ble_eq_true rfl) (by decide) rfl dX0_postAt_7 rfl ?_
  refine P.if_eq (tgt := 28) (pc' := 13) dX0_postAt_10 (by decide) rfl (fun y3 => ?_) (fun y3 => ?_)
  · have hf := (if_pos y3).symm.trans hf
    refine P.iconst (v := (-1)) (pc' := 29) dX0_postAt_28 rfl (by decide) ?_
    cases hf; exact P.iret rfl dX0_postAt_29
  · have hf := (if_neg y3).symm.trans hf
    refine P.iload 6 (pc' := 15) dX0_postAt_13 rfl rfl ?_
    refine P.iconst (v := 0) (pc' := 16) dX0_postAt_15 rfl (by decide) ?_
    refine P.aload_n 0 (pc' := 17) dX0_postAt_16 rfl rfl rfl ?_
    obtain ⟨x4, h5, hf⟩ := ob hf
    refine P.get (pc' := 20) ci0 11 (by decide) (gfI_spec h5) q486 (Or.inl rfl) dX0_postAt_17 rfl ?_
    refine P.iconst (v := 1) (pc' := 21) dX0_postAt_20 rfl (by decide) ?_
    refine P.isub (pc' := 22) dX0_postAt_21 rfl ?_
    obtain ⟨q6, h7, hf⟩ := ob hf
    refine P.callS (pc' := 25) (As := [.int p6, .int 0, .int (x4 - 1)]) 3 (ok_X0_within F p6 0 (x4 - 1) μ h7) (Nat.le_of_ble_eq_true rfl) (lw_S q1038 q557 q159 q558) yok_X0_within rfl (Nat.le_of_ble_eq_true rfl) (by decide) rfl dX0_postAt_22 rfl ?_
    refine P.if_ne (tgt := 30) (pc' := 28) dX0_postAt_25 (by decide) rfl (fun y8 => ?_) (fun y8 => ?_)
    · have hf := (if_neg y8).symm.trans hf
      refine P.aload_n 0 (pc' := 31) dX0_postAt_30 rfl rfl rfl ?_
      refine P.iload_n 2 (pc' := 32) dX0_postAt_31 rfl rfl rfl ?_
      refine P.iload_n 3 (pc' := 33) dX0_postAt_32 rfl rfl rfl ?_
      refine P.iload 4 (pc' := 35) dX0_postAt_33 rfl rfl ?_
      refine P.iload 5 (pc' := 37) dX0_postAt_35 rfl rfl ?_
      obtain ⟨u11, h12, hf⟩ := ob hf
      obtain ⟨q9, h10, hf⟩ := ob hf
      refine P.callV (pc' := 40) (As := [.int p2, .int p3, .int p4, .int p5]) 4 (ok_X0_fillPosts F this p2 p3 p4 p5 μ h10) (Nat.le_of_ble_eq_true rfl) (lw_V q1398 q1400 qs64 q159 q1401) rfl yok_X0_fillPosts rfl (Nat.le_of_ble_eq_true rfl) ci0 h12 (by decide) rfl dX0_postAt_37 rfl ?_
      refine P.iload_n 1 (pc' := 41) dX0_postAt_40 rfl rfl rfl ?_
      refine P.istore (pc' := 43) (lv' := [(7, .int p1), (0, .ref this), (1, .int p1), (2, .int p2), (3, .int p3), (4, .int p4), (5, .int p5), (6, .int p6)]) dX0_postAt_41 rfl (Nat.le_of_ble_eq_true rfl) rfl ?_
      refine P.iconst (v := 0) (pc' := 44) dX0_postAt_43 rfl (by decide) ?_
      refine P.istore (pc' := 46) (lv' := [(8, .int 0), (7, .int p1), (0, .ref this), (1, .int p1), (2, .int p2), (3, .int p3), (4, .int p4), (5, .int p5), (6, .int p6)]) dX0_postAt_44 rfl (Nat.le_of_ble_eq_true rfl) rfl ?_
      exact PW.sub [2, 5, 6, 7, 8, 1, 0] rfl (ok_f_X0_postAt_L46 F this p3 p4 p5 p6 q9 F _ _ hf)
    · have hf := (if_pos y8).symm.trans hf
      refine P.iconst (v := (-1)) (pc' := 29) dX0_postAt_28 rfl (by decide) ?_
      cases hf; exact P.iret rfl dX0_postAt_29
abbrev mX0_hasRoom : Ym := (RX0, cX0_hasRoom, 1, (some Jvm.ClassFile.FieldType.boolean), false, [])
noncomputable def f_X0_hasRoom (F : Nat) (this : Nat) (μ : Sw) : Option Int32 :=
  Option.bind (gfR μ this 0 4) fun x1 =>
  Option.bind (gfR μ x1 6 5) fun x3 =>
  Option.bind (oc μ x3 20) fun u7 =>
  Option.bind (f_J2_size F x3 μ) fun q5 =>
  if 60 ≤ q5 then
    some 0
  else
    some 1
set_option maxHeartbeats 4000000 in
theorem ok_X0_hasRoom {g : Gx} (F : Nat) (this : Nat) (μ : Sw) {rv : Int32} (hf : f_X0_hasRoom F this μ = some rv) : Cl g 2 yX0_hasRoom cX0_hasRoom 1 (some Jvm.ClassFile.FieldType.boolean) [.ref this] μ (some (.int rv)) μ := by
  unfold f_X0_hasRoom at hf
  refine Cl.of (own := RX0) (ini := false) (by decide +kernel) rfl (by decide) (Nat.le_of_ble_eq_true rfl) ?_
  show PW g mX0_hasRoom 2 μ μ (QN g (some (.int rv)) μ μ) 0 [(0, .ref this)] [] μ
  refine P.aload_n 0 (pc' := 1) dX0_hasRoom_0 rfl rfl rfl ?_
  obtain ⟨x1, h2, hf⟩ := ob hf
  refine P.get (pc' := 4) ci0 4 (by decide) (gfR_spec h2) q479 (Or.inl rfl) dX0_hasRoom_1 rfl ?_
  obtain ⟨x3, h4, hf⟩ := ob hf
  refine P.getN (pc' := 7) ci6 5 (by decide) (gfR_spec h4) q425 (Or.inl rfl) dX0_hasRoom_4 rfl ?_
  obtain ⟨u7, h8, hf⟩ := ob hf
  obtain ⟨q5, h6, hf⟩ := ob hf
  refine P.callV (pc' := 10) (As := []) 0 (ok_J2_size F x3 μ h6) (Nat.le_of_ble_eq_true rfl) (lw_V q1006 q669 q670 q165 q671) rfl yok_J2_size rfl (Nat.le_of_ble_eq_true rfl) ci20 h8 (by decide) rfl dX0_hasRoom_7 rfl ?_
  refine P.bipush (v := 60) (pc' := 12) dX0_hasRoom_10 rfl (by decide) ?_
  refine P.icmp_ge (tgt := 19) (pc' := 15) dX0_hasRoom_12 (by decide) rfl (fun y9 => ?_) (fun y9 => ?_)
  · have hf := (if_pos y9).symm.trans hf
    refine P.iconst (v := 0) (pc' := 20) dX0_hasRoom_19 rfl (by decide) ?_
    cases hf; exact P.zret rfl (Or.inl rfl) dX0_hasRoom_20
  · have hf := (if_neg y9).symm.trans hf
    refine P.iconst (v := 1) (pc' := 16) dX0_hasRoom_15 rfl (by decide) ?_
    refine P.goto (tgt := 20) dX0_hasRoom_16 (by decide) ?_
    cases hf; exact P.zret rfl (Or.inr rfl) dX0_hasRoom_20
abbrev mX19_init : Ym := (RX19, cX19_init, 5, none, true, [])
noncomputable def f_X19_init (F : Nat) (this : Nat) (p1 : Int32) (p2 : Int32) (p3 : Int32) (p4 : Int32) (μ : Sw) : Option Sw :=
  Option.bind (f_J3_init F this μ) fun q1 =>
  Option.bind (pf μ this 19 0 (.int p1)) fun μ3 =>
  Option.bind (pf μ3 this 19 1 (.int p2)) fun μ5 =>
  Option.bind (pf μ5 this 19 2 (.int p3)) fun μ7 =>
  Option.bind (pf μ7 this 19 3 (.int p4)) fun μ9 =>
  some μ9
set_option maxHeartbeats 4000000 in
theorem ok_X19_init {g : Gx} (F : Nat) (this : Nat) (p1 : Int32) (p2 : Int32) (p3 : Int32) (p4 : Int32) (μ : Sw) {μF : Sw} (hf : f_X19_init F this p1 p2 p3 p4 μ = some μF) : Cl g 2 yX19_init cX19_init 5 none [.ref this, .int p1, .int p2, .int p3, .int p4] μ none μF := by
  unfold f_X19_init at hf
  refine Cl.of (own := RX19) (ini := true) (by decide +kernel) rfl (by decide) (Nat.le_of_ble_eq_true rfl) ?_
  show PW g mX19_init 2 μ μF (QN g none μ μF) 0 [(0, .ref this), (1, .int p1), (2, .int p2), (3, .int p3), (4, .int p4)] [] μ
  refine P.aload_n 0 (pc' := 1) dX19_init_0 rfl rfl rfl ?_
  obtain ⟨q1, h2, hf⟩ := ob hf
  refine P.callI (pc' := 4) (As := []) 0 (ok_J3_init F this μ h2) (Nat.le_of_ble_eq_true rfl) q310 q166 q1422 q309 rfl yok_J3_init rfl (Nat.le_of_ble_eq_true rfl) (by decide) rfl dX19_init_1 rfl ?_
  refine P.aload_n 0 (pc' := 5) dX19_init_4 rfl rfl rfl ?_
  refine P.iload_n 1 (pc' := 6) dX19_init_5 rfl rfl rfl ?_
  obtain ⟨μ3, h4, hf⟩ := ob hf
  refine P.putF (v := .int p1) (pc' := 9) ci19 0 (by decide) h4 q1423 (Or.inl rfl) rfl rfl rfl rfl rfl dX19_init_6 rfl ?_
  refine P.aload_n 0 (pc' := 10) dX19_init_9 rfl rfl rfl ?_
  refine P.iload_n 2 (pc' := 11) dX19_init_10 rfl rfl rfl ?_
  obtain ⟨μ5, h6, hf⟩ := ob hf
  refine P.putF (v := .int p2) (pc' := 14) ci19 1 (by decide) h6 q1425 (Or.inl rfl) rfl rfl rfl rfl rfl dX19_init_11 rfl ?_
  refine P.aload_n 0 (pc' := 15) dX19_init_14 rfl rfl rfl ?_
  refine P.iload_n 3 (pc' := 16) dX19_init_15 rfl rfl rfl ?_
  obtain ⟨μ7, h8, hf⟩ := ob hf
  refine P.putF (v := .int p3) (pc' := 19) ci19 2 (by decide) h8 q1427 (Or.inl rfl) rfl rfl rfl rfl rfl dX19_init_16 rfl ?_
  refine P.aload_n 0 (pc' := 20) dX19_init_19 rfl rfl rfl ?_
  refine P.iload 4 (pc' := 22) dX19_init_20 rfl rfl ?_
  obtain ⟨μ9, h10, hf⟩ := ob hf
  refine P.putF (v := .int p4) (pc' := 25) ci19 3 (by decide) h10 q1429 (Or.inl rfl) rfl rfl rfl rfl rfl dX19_init_22 rfl ?_
  cases hf; exact P.vret rfl dX19_init_25
abbrev mX0_writes : Ym := (RX0, cX0_writes, 2, (some Jvm.ClassFile.FieldType.int), false, [])
noncomputable def f_X0_writes (F : Nat) (this : Nat) (p1 : Nat) (μ : Sw) : Option (Int32 × Sw) :=
  Option.bind (gfR μ this 0 4) fun x1 =>
  Option.bind (gfR μ x1 6 5) fun x3 =>
  Option.bind (oc μ x3 20) fun u7 =>
  Option.bind (f_J2_add F x3 p1 μ) fun q5 =>
  Option.bind (gfR q5.2 this 0 4) fun x9 =>
  Option.bind (gfR q5.2 x9 6 5) fun x11 =>
  Option.bind (oc q5.2 x11 20) fun u15 =>
  Option.bind (f_J2_size F x11 q5.2) fun q13 =>
  some (q13 - 1, q5.2)
set_option maxHeartbeats 4000000 in
theorem ok_X0_writes {g : Gx} (F : Nat) (this : Nat) (p1 : Nat) (μ : Sw) {rv : Int32} {μF : Sw} (hf : f_X0_writes F this p1 μ = some (rv, μF)) : Cl g 8 yX0_writes cX0_writes 2 (some Jvm.ClassFile.FieldType.int) [.ref this, .ref p1] μ (some (.int rv)) μF := by
  unfold f_X0_writes at hf
  refine Cl.of (own := RX0) (ini := false) (by decide +kernel) rfl (by decide) (Nat.le_of_ble_eq_true rfl) ?_
  show PW g mX0_writes 8 μ μF (QN g (some (.int rv)) μ μF) 0 [(0, .ref this), (1, .ref p1)] [] μ
  refine P.aload_n 0 (pc' := 1) dX0_writes_0 rfl rfl rfl ?_
  obtain ⟨x1, h2, hf⟩ := ob hf
  refine P.get (pc' := 4) ci0 4 (by decide) (gfR_spec h2) q479 (Or.inl rfl) dX0_writes_1 rfl ?_
  obtain ⟨x3, h4, hf⟩ := ob hf
  refine P.getN (pc' := 7) ci6 5 (by decide) (gfR_spec h4) q425 (Or.inl rfl) dX0_writes_4 rfl ?_
  refine P.aload_n 1 (pc' := 8) dX0_writes_7 rfl rfl rfl ?_
  obtain ⟨u7, h8, hf⟩ := ob hf
  obtain ⟨q5, h6, hf⟩ := ob hf
  refine P.callV (pc' := 11) (As := [.ref p1]) 1 (ok_J2_add F x3 p1 μ h6) (Nat.le_of_ble_eq_true rfl) (lw_V q1274 q797 q798 q165 q799) rfl yok_J2_add rfl (Nat.le_of_ble_eq_true rfl) ci20 h8 (by decide) rfl dX0_writes_8 rfl ?_
  refine P.pop (pc' := 12) dX0_writes_11 rfl rfl ?_
  refine P.aload_n 0 (pc' := 13) dX0_writes_12 rfl rfl rfl ?_
  obtain ⟨x9, h10, hf⟩ := ob hf
  refine P.get (pc' := 16) ci0 4 (by decide) (gfR_spec h10) q479 (Or.inl rfl) dX0_writes_13 rfl ?_
  obtain ⟨x11, h12, hf⟩ := ob hf
  refine P.getN (pc' := 19) ci6 5 (by decide) (gfR_spec h12) q425 (Or.inl rfl) dX0_writes_16 rfl ?_
  obtain ⟨u15, h16, hf⟩ := ob hf
  obtain ⟨q13, h14, hf⟩ := ob hf
  refine P.callV (pc' := 22) (As := []) 0 (ok_J2_size F x11 q5.2 h14) (Nat.le_of_ble_eq_true rfl) (lw_V q1006 q669 q670 q165 q671) rfl yok_J2_size rfl (Nat.le_of_ble_eq_true rfl) ci20 h16 (by decide) rfl dX0_writes_19 rfl ?_
  refine P.iconst (v := 1) (pc' := 23) dX0_writes_22 rfl (by decide) ?_
  refine P.isub (pc' := 24) dX0_writes_23 rfl ?_
  cases hf; exact P.iret rfl dX0_writes_24
theorem yok_X0_hasRoom : yOK yX0_hasRoom 0 := ⟨by decide +kernel, by decide +kernel, by decide +kernel⟩
theorem yok_X0_writes : yOK yX0_writes 1 := ⟨by decide +kernel, by decide +kernel, by decide +kernel⟩
theorem yok_X19_init : yOK yX19_init 4 := ⟨by decide +kernel, by decide +kernel, by decide +kernel⟩
abbrev mX0_vote : Ym := (RX0, cX0_vote, 4, (some Jvm.ClassFile.FieldType.int), false, [])
noncomputable def f_X0_vote (F : Nat) (this : Nat) (p1 : Int32) (p2 : Int32) (p3 : Int32) (μ : Sw) : Option (Int32 × Sw) :=
  Option.bind (oc μ this 0) fun u3 =>
  Option.bind (f_X0_hasRoom F this μ) fun q1 =>
  if q1 = 0 then
    some ((-1), μ)
  else
    Option.bind (oc μ this 0) fun u8 =>
    Option.bind (f_X0_isHouse F this p1 μ) fun q6 =>
    if q6 = 0 then
      some ((-1), μ)
    else
      Option.bind (oc μ this 0) fun u13 =>
      Option.bind (f_X0_isOffice F this p2 μ) fun q11 =>
      if q11 = 0 then
        some ((-1), μ)
      else
        Option.bind (oc μ this 0) fun u18 =>
        Option.bind (f_X0_isHouse F this p3 μ) fun q16 =>
        if q16 = 0 then
          some ((-1), μ)
        else
          nm (nw μ (.inr (19, dfX19)) 4) fun μ21 =>
          Option.bind (f_X19_init F μ.2.1 0 p1 p2 p3 μ21) fun q23 =>
          Option.bind (oc q23 this 0) fun u27 =>
          Option.bind (f_X0_writes F this μ.2.1 q23) fun q25 =>
          some (q25.1, q25.2)
set_option maxHeartbeats 4000000 in
theorem ok_X0_vote {g : Gx} (F : Nat) (this : Nat) (p1 : Int32) (p2 : Int32) (p3 : Int32) (μ : Sw) {rv : Int32} {μF : Sw} (hf : f_X0_vote F this p1 p2 p3 μ = some (rv, μF)) : Cl g 9 yX0_vote cX0_vote 4 (some Jvm.ClassFile.FieldType.int) [.ref this, .int p1, .int p2, .int p3] μ (some (.int rv)) μF := by
  unfold f_X0_vote at hf
  refine Cl.of (own := RX0) (ini := false) (by decide +kernel) rfl (by decide) (Nat.le_of_ble_eq_true rfl) ?_
  show PW g mX0_vote 9 μ μF (QN g (some (.int rv)) μ μF) 0 [(0, .ref this), (1, .int p1), (2, .int p2), (3, .int p3)] [] μ
  refine P.aload_n 0 (pc' := 1) dX0_vote_0 rfl rfl rfl ?_
  obtain ⟨u3, h4, hf⟩ := ob hf
  obtain ⟨q1, h2, hf⟩ := ob hf
  refine P.callV (pc' := 4) (As := []) 0 (ok_X0_hasRoom F this μ h2) (Nat.le_of_ble_eq_true rfl) (lw_V q1413 q1415 qs65 q159 q1416) rfl yok_X0_hasRoom rfl (Nat.le_of_ble_eq_true rfl) ci0 h4 (by decide) rfl dX0_vote_1 rfl ?_
  refine P.if_eq (tgt := 49) (pc' := 7) dX0_vote_4 (by decide) rfl (fun y5 => ?_) (fun y5 => ?_)
  · have hf := (if_pos y5).symm.trans hf
    refine P.iconst (v := (-1)) (pc' := 50) dX0_vote_49 rfl (by decide) ?_
    cases hf; exact P.iret rfl dX0_vote_50
  · have hf := (if_neg y5).symm.trans hf
    refine P.aload_n 0 (pc' := 8) dX0_vote_7 rfl rfl rfl ?_
    refine P.iload_n 1 (pc' := 9) dX0_vote_8 rfl rfl rfl ?_
    obtain ⟨u8, h9, hf⟩ := ob hf
    obtain ⟨q6, h7, hf⟩ := ob hf
    refine P.callV (pc' := 12) (As := [.int p1]) 1 (ok_X0_isHouse F this p1 μ h7) (Nat.le_of_ble_eq_true rfl) (lw_V q1030 q1032 qs33 q159 q1033) rfl yok_X0_isHouse rfl (Nat.le_of_ble_eq_true rfl) ci0 h9 (by decide) rfl dX0_vote_9 rfl ?_
    refine P.if_eq (tgt := 49) (pc' := 15) dX0_vote_12 (by decide) rfl (fun y10 => ?_) (fun y10 => ?_)
    · have hf := (if_pos y10).symm.trans hf
      refine P.iconst (v := (-1)) (pc' := 50) dX0_vote_49 rfl (by decide) ?_
      cases hf; exact P.iret rfl dX0_vote_50
    · have hf := (if_neg y10).symm.trans hf
      refine P.aload_n 0 (pc' := 16) dX0_vote_15 rfl rfl rfl ?_
      refine P.iload_n 2 (pc' := 17) dX0_vote_16 rfl rfl rfl ?_
      obtain ⟨u13, h14, hf⟩ := ob hf
      obtain ⟨q11, h12, hf⟩ := ob hf
      refine P.callV (pc' := 20) (As := [.int p2]) 1 (ok_X0_isOffice F this p2 μ h12) (Nat.le_of_ble_eq_true rfl) (lw_V q1092 q1094 qs38 q159 q1095) rfl yok_X0_isOffice rfl (Nat.le_of_ble_eq_true rfl) ci0 h14 (by decide) rfl dX0_vote_17 rfl ?_
      refine P.if_eq (tgt := 49) (pc' := 23) dX0_vote_20 (by decide) rfl (fun y15 => ?_) (fun y15 => ?_)
      · have hf := (if_pos y15).symm.trans hf
        refine P.iconst (v := (-1)) (pc' := 50) dX0_vote_49 rfl (by decide) ?_
        cases hf; exact P.iret rfl dX0_vote_50
      · have hf := (if_neg y15).symm.trans hf
        refine P.aload_n 0 (pc' := 24) dX0_vote_23 rfl rfl rfl ?_
        refine P.iload_n 3 (pc' := 25) dX0_vote_24 rfl rfl rfl ?_
        obtain ⟨u18, h19, hf⟩ := ob hf
        obtain ⟨q16, h17, hf⟩ := ob hf
        refine P.callV (pc' := 28) (As := [.int p3]) 1 (ok_X0_isHouse F this p3 μ h17) (Nat.le_of_ble_eq_true rfl) (lw_V q1030 q1032 qs33 q159 q1033) rfl yok_X0_isHouse rfl (Nat.le_of_ble_eq_true rfl) ci0 h19 (by decide) rfl dX0_vote_25 rfl ?_
        refine P.if_eq (tgt := 49) (pc' := 31) dX0_vote_28 (by decide) rfl (fun y20 => ?_) (fun y20 => ?_)
        · have hf := (if_pos y20).symm.trans hf
          refine P.iconst (v := (-1)) (pc' := 50) dX0_vote_49 rfl (by decide) ?_
          cases hf; exact P.iret rfl dX0_vote_50
        · have hf := (if_neg y20).symm.trans hf
          refine P.aload_n 0 (pc' := 32) dX0_vote_31 rfl rfl rfl ?_
          obtain ⟨μ21, e22, hf⟩ := nm_i hf
          refine P.newE (pc' := 35) ci19 q1417 q1418 q195 dfX19_ok e22 dX0_vote_32 rfl ?_
          refine P.dup (pc' := 36) dX0_vote_35 rfl rfl ?_
          refine P.iconst (v := 0) (pc' := 37) dX0_vote_36 rfl (by decide) ?_
          refine P.iload_n 1 (pc' := 38) dX0_vote_37 rfl rfl rfl ?_
          refine P.iload_n 2 (pc' := 39) dX0_vote_38 rfl rfl rfl ?_
          refine P.iload_n 3 (pc' := 40) dX0_vote_39 rfl rfl rfl ?_
          obtain ⟨q23, h24, hf⟩ := ob hf
          refine P.callIN (pc' := 43) (As := [.int 0, .int p1, .int p2, .int p3]) 4 (ok_X19_init F μ.2.1 0 p1 p2 p3 μ21 h24) (Nat.le_of_ble_eq_true rfl) q1421 q195 q1419 q1420 rfl yok_X19_init rfl (Nat.le_of_ble_eq_true rfl) (Nat.le_of_ble_eq_true rfl) rfl dX0_vote_40 rfl ?_
          obtain ⟨u27, h28, hf⟩ := ob hf
          obtain ⟨q25, h26, hf⟩ := ob hf
          refine P.callV (pc' := 46) (As := [.ref μ.2.1]) 1 (ok_X0_writes F this μ.2.1 q23 h26) (Nat.le_of_ble_eq_true rfl) (lw_V q1440 q1442 qs66 q159 q1443) rfl yok_X0_writes rfl (Nat.le_of_ble_eq_true rfl) ci0 h28 (by decide) rfl dX0_vote_43 rfl ?_
          refine P.goto (tgt := 50) dX0_vote_46 (by decide) ?_
          cases hf; exact P.iret rfl dX0_vote_50
abbrev mX0_mark : Ym := (RX0, cX0_mark, 4, (some Jvm.ClassFile.FieldType.int), false, [])
noncomputable def f_X0_mark (F : Nat) (this : Nat) (p1 : Int32) (p2 : Int32) (p3 : Int32) (μ : Sw) : Option (Int32 × Sw) :=
  Option.bind (oc μ this 0) fun u3 =>
  Option.bind (f_X0_hasRoom F this μ) fun q1 =>
  if q1 = 0 then
    some ((-1), μ)
  else
    Option.bind (oc μ this 0) fun u8 =>
    Option.bind (f_X0_isHouse F this p1 μ) fun q6 =>
    if q6 = 0 then
      some ((-1), μ)
    else
      Option.bind (p_X0_within F p2 0 99) fun q11 =>
      if q11 = 0 then
        some ((-1), μ)
      else
        Option.bind (p_X0_within F p3 0 99) fun q14 =>
        if q14 = 0 then
          some ((-1), μ)
        else
          nm (nw μ (.inr (19, dfX19)) 4) fun μ17 =>
          Option.bind (f_X19_init F μ.2.1 1 p1 p2 p3 μ17) fun q19 =>
          Option.bind (oc q19 this 0) fun u23 =>
          Option.bind (f_X0_writes F this μ.2.1 q19) fun q21 =>
          some (q21.1, q21.2)
set_option maxHeartbeats 4000000 in
theorem ok_X0_mark {g : Gx} (F : Nat) (this : Nat) (p1 : Int32) (p2 : Int32) (p3 : Int32) (μ : Sw) {rv : Int32} {μF : Sw} (hf : f_X0_mark F this p1 p2 p3 μ = some (rv, μF)) : Cl g 9 yX0_mark cX0_mark 4 (some Jvm.ClassFile.FieldType.int) [.ref this, .int p1, .int p2, .int p3] μ (some (.int rv)) μF := by
  unfold f_X0_mark at hf
  refine Cl.of (own := RX0) (ini := false) (by decide +kernel) rfl (by decide) (Nat.le_of_ble_eq_true rfl) ?_
  show PW g mX0_mark 9 μ μF (QN g (some (.int rv)) μ μF) 0 [(0, .ref this), (1, .int p1), (2, .int p2), (3, .int p3)] [] μ
  refine P.aload_n 0 (pc' := 1) dX0_mark_0 rfl rfl rfl ?_
  obtain ⟨u3, h4, hf⟩ := ob hf
  obtain ⟨q1, h2, hf⟩ := ob hf
  refine P.callV (pc' := 4) (As := []) 0 (ok_X0_hasRoom F this μ h2) (Nat.le_of_ble_eq_true rfl) (lw_V q1413 q1415 qs65 q159 q1416) rfl yok_X0_hasRoom rfl (Nat.le_of_ble_eq_true rfl) ci0 h4 (by decide) rfl dX0_mark_1 rfl ?_
  refine P.if_eq (tgt := 53) (pc' := 7) dX0_mark_4 (by decide) rfl (fun y5 => ?_) (fun y5 => ?_)
  · have hf := (if_pos y5).symm.trans hf
    refine P.iconst (v := (-1)) (pc' := 54) dX0_mark_53 rfl (by decide) ?_
    cases hf; exact P.iret rfl dX0_mark_54
  · have hf := (if_neg y5).symm.trans hf
    refine P.aload_n 0 (pc' := 8) dX0_mark_7 rfl rfl rfl ?_
    refine P.iload_n 1 (pc' := 9) dX0_mark_8 rfl rfl rfl ?_
    obtain ⟨u8, h9, hf⟩ := ob hf
    obtain ⟨q6, h7, hf⟩ := ob hf
    refine P.callV (pc' := 12) (As := [.int p1]) 1 (ok_X0_isHouse F this p1 μ h7) (Nat.le_of_ble_eq_true rfl) (lw_V q1030 q1032 qs33 q159 q1033) rfl yok_X0_isHouse rfl (Nat.le_of_ble_eq_true rfl) ci0 h9 (by decide) rfl dX0_mark_9 rfl ?_
    refine P.if_eq (tgt := 53) (pc' := 15) dX0_mark_12 (by decide) rfl (fun y10 => ?_) (fun y10 => ?_)
    · have hf := (if_pos y10).symm.trans hf
      refine P.iconst (v := (-1)) (pc' := 54) dX0_mark_53 rfl (by decide) ?_
      cases hf; exact P.iret rfl dX0_mark_54
    · have hf := (if_neg y10).symm.trans hf
      refine P.iload_n 2 (pc' := 16) dX0_mark_15 rfl rfl rfl ?_
      refine P.iconst (v := 0) (pc' := 17) dX0_mark_16 rfl (by decide) ?_
      refine P.bipush (v := 99) (pc' := 19) dX0_mark_17 rfl (by decide) ?_
      obtain ⟨q11, h12, hf⟩ := ob hf
      refine P.callS (pc' := 22) (As := [.int p2, .int 0, .int 99]) 3 (ok_X0_within F p2 0 99 μ h12) (Nat.le_of_ble_eq_true rfl) (lw_S q1038 q557 q159 q558) yok_X0_within rfl (Nat.le_of_ble_eq_true rfl) (by decide) rfl dX0_mark_19 rfl ?_
      refine P.if_eq (tgt := 53) (pc' := 25) dX0_mark_22 (by decide) rfl (fun y13 => ?_) (fun y13 => ?_)
      · have hf := (if_pos y13).symm.trans hf
        refine P.iconst (v := (-1)) (pc' := 54) dX0_mark_53 rfl (by decide) ?_
        cases hf; exact P.iret rfl dX0_mark_54
      · have hf := (if_neg y13).symm.trans hf
        refine P.iload_n 3 (pc' := 26) dX0_mark_25 rfl rfl rfl ?_
        refine P.iconst (v := 0) (pc' := 27) dX0_mark_26 rfl (by decide) ?_
        refine P.bipush (v := 99) (pc' := 29) dX0_mark_27 rfl (by decide) ?_
        obtain ⟨q14, h15, hf⟩ := ob hf
        refine P.callS (pc' := 32) (As := [.int p3, .int 0, .int 99]) 3 (ok_X0_within F p3 0 99 μ h15) (Nat.le_of_ble_eq_true rfl) (lw_S q1038 q557 q159 q558) yok_X0_within rfl (Nat.le_of_ble_eq_true rfl) (by decide) rfl dX0_mark_29 rfl ?_
        refine P.if_eq (tgt := 53) (pc' := 35) dX0_mark_32 (by decide) rfl (fun y16 => ?_) (fun y16 => ?_)
        · have hf := (if_pos y16).symm.trans hf
          refine P.iconst (v := (-1)) (pc' := 54) dX0_mark_53 rfl (by decide) ?_
          cases hf; exact P.iret rfl dX0_mark_54
        · have hf := (if_neg y16).symm.trans hf
          refine P.aload_n 0 (pc' := 36) dX0_mark_35 rfl rfl rfl ?_
          obtain ⟨μ17, e18, hf⟩ := nm_i hf
          refine P.newE (pc' := 39) ci19 q1417 q1418 q195 dfX19_ok e18 dX0_mark_36 rfl ?_
          refine P.dup (pc' := 40) dX0_mark_39 rfl rfl ?_
          refine P.iconst (v := 1) (pc' := 41) dX0_mark_40 rfl (by decide) ?_
          refine P.iload_n 1 (pc' := 42) dX0_mark_41 rfl rfl rfl ?_
          refine P.iload_n 2 (pc' := 43) dX0_mark_42 rfl rfl rfl ?_
          refine P.iload_n 3 (pc' := 44) dX0_mark_43 rfl rfl rfl ?_
          obtain ⟨q19, h20, hf⟩ := ob hf
          refine P.callIN (pc' := 47) (As := [.int 1, .int p1, .int p2, .int p3]) 4 (ok_X19_init F μ.2.1 1 p1 p2 p3 μ17 h20) (Nat.le_of_ble_eq_true rfl) q1421 q195 q1419 q1420 rfl yok_X19_init rfl (Nat.le_of_ble_eq_true rfl) (Nat.le_of_ble_eq_true rfl) rfl dX0_mark_44 rfl ?_
          obtain ⟨u23, h24, hf⟩ := ob hf
          obtain ⟨q21, h22, hf⟩ := ob hf
          refine P.callV (pc' := 50) (As := [.ref μ.2.1]) 1 (ok_X0_writes F this μ.2.1 q19 h22) (Nat.le_of_ble_eq_true rfl) (lw_V q1440 q1442 qs66 q159 q1443) rfl yok_X0_writes rfl (Nat.le_of_ble_eq_true rfl) ci0 h24 (by decide) rfl dX0_mark_47 rfl ?_
          refine P.goto (tgt := 54) dX0_mark_50 (by decide) ?_
          cases hf; exact P.iret rfl dX0_mark_54
abbrev mX0_annul : Ym := (RX0, cX0_annul, 2, (some Jvm.ClassFile.FieldType.int), false, [])
noncomputable def f_X0_annul (F : Nat) (this : Nat) (p1 : Int32) (μ : Sw) : Option (Int32 × Sw) :=
  Option.bind (oc μ this 0) fun u3 =>
  Option.bind (f_X0_hasRoom F this μ) fun q1 =>
  if q1 = 0 then
    some ((-1), μ)
  else
    Option.bind (gfR μ this 0 4) fun x6 =>
    Option.bind (gfR μ x6 6 5) fun x8 =>
    Option.bind (oc μ x8 20) fun u12 =>
    Option.bind (f_J2_size F x8 μ) fun q10 =>
    Option.bind (p_X0_within F p1 0 (q10 - 1)) fun q14 =>
    if q14 = 0 then
      some ((-1), μ)
    else
      Option.bind (gfR μ this 0 4) fun x17 =>
      Option.bind (gfR μ x17 6 5) fun x19 =>
      Option.bind (oc μ x19 20) fun u23 =>
      Option.bind (f_J2_get F x19 p1 μ) fun q21 =>
      Option.bind (oc μ q21 19) fun u25 =>
      Option.bind (gfI μ q21 19 0) fun x27 =>
      if x27 = 2 then
        some ((-1), μ)
      else
        nm (nw μ (.inr (19, dfX19)) 4) fun μ30 =>
        Option.bind (f_X19_init F μ.2.1 2 p1 0 0 μ30) fun q32 =>
        Option.bind (oc q32 this 0) fun u36 =>
        Option.bind (f_X0_writes F this μ.2.1 q32) fun q34 =>
        some (q34.1, q34.2)
set_option maxHeartbeats 4000000 in
theorem ok_X0_annul {g : Gx} (F : Nat) (this : Nat) (p1 : Int32) (μ : Sw) {rv : Int32} {μF : Sw} (hf : f_X0_annul F this p1 μ = some (rv, μF)) : Cl g 9 yX0_annul cX0_annul 2 (some Jvm.ClassFile.FieldType.int) [.ref this, .int p1] μ (some (.int rv)) μF := by
  unfold f_X0_annul at hf
  refine Cl.of (own := RX0) (ini := false) (by decide +kernel) rfl (by decide) (Nat.le_of_ble_eq_true rfl) ?_
  show PW g mX0_annul 9 μ μF (QN g (some (.int rv)) μ μF) 0 [(0, .ref this), (1, .int p1)] [] μ
  refine P.aload_n 0 (pc' := 1) dX0_annul_0 rfl rfl rfl ?_
  obtain ⟨u3, h4, hf⟩ := ob hf
  obtain ⟨q1, h2, hf⟩ := ob hf
  refine P.callV (pc' := 4) (As := []) 0 (ok_X0_hasRoom F this μ h2) (Nat.le_of_ble_eq_true rfl) (lw_V q1413 q1415 qs65 q159 q1416) rfl yok_X0_hasRoom rfl (Nat.le_of_ble_eq_true rfl) ci0 h4 (by decide) rfl dX0_annul_1 rfl ?_
  refine P.if_eq (tgt := 66) (pc' := 7) dX0_annul_4 (by decide) rfl (fun y5 => ?_) (fun y5 => ?_)
  · have hf := (if_pos y5).symm.trans hf
    refine P.iconst (v := (-1)) (pc' := 67) dX0_annul_66 rfl (by decide) ?_
    cases hf; exact P.iret rfl dX0_annul_67
  · have hf := (if_neg y5).symm.trans hf
    refine P.iload_n 1 (pc' := 8) dX0_annul_7 rfl rfl rfl ?_
    refine P.iconst (v := 0) (pc' := 9) dX0_annul_8 rfl (by decide) ?_
    refine P.aload_n 0 (pc' := 10) dX0_annul_9 rfl rfl rfl ?_
    obtain ⟨x6, h7, hf⟩ := ob hf
    refine P.get (pc' := 13) ci0 4 (by decide) (gfR_spec h7) q479 (Or.inl rfl) dX0_annul_10 rfl ?_
    obtain ⟨x8, h9, hf⟩ := ob hf
    refine P.getN (pc' := 16) ci6 5 (by decide) (gfR_spec h9) q425 (Or.inl rfl) dX0_annul_13 rfl ?_
    obtain ⟨u12, h13, hf⟩ := ob hf
    obtain ⟨q10, h11, hf⟩ := ob hf
    refine P.callV (pc' := 19) (As := []) 0 (ok_J2_size F x8 μ h11) (Nat.le_of_ble_eq_true rfl) (lw_V q1006 q669 q670 q165 q671) rfl yok_J2_size rfl (Nat.le_of_ble_eq_true rfl) ci20 h13 (Nat.le_of_ble_eq_true rfl) rfl dX0_annul_16 rfl ?_
    refine P.iconst (v := 1) (pc' := 20) dX0_annul_19 rfl (by decide) ?_
    refine P.isub (pc' := 21) dX0_annul_20 rfl ?_
    obtain ⟨q14, h15, hf⟩ := ob hf
    refine P.callS (pc' := 24) (As := [.int p1, .int 0, .int (q10 - 1)]) 3 (ok_X0_within F p1 0 (q10 - 1) μ h15) (Nat.le_of_ble_eq_true rfl) (lw_S q1038 q557 q159 q558) yok_X0_within rfl (Nat.le_of_ble_eq_true rfl) (by decide) rfl dX0_annul_21 rfl ?_
    refine P.if_eq (tgt := 66) (pc' := 27) dX0_annul_24 (by decide) rfl (fun y16 => ?_) (fun y16 => ?_)
    · have hf := (if_pos y16).symm.trans hf
      refine P.iconst (v := (-1)) (pc' := 67) dX0_annul_66 rfl (by decide) ?_
      cases hf; exact P.iret rfl dX0_annul_67
    · have hf := (if_neg y16).symm.trans hf
      refine P.aload_n 0 (pc' := 28) dX0_annul_27 rfl rfl rfl ?_
      obtain ⟨x17, h18, hf⟩ := ob hf
      refine P.get (pc' := 31) ci0 4 (by decide) (gfR_spec h18) q479 (Or.inl rfl) dX0_annul_28 rfl ?_
      obtain ⟨x19, h20, hf⟩ := ob hf
      refine P.getN (pc' := 34) ci6 5 (by decide) (gfR_spec h20) q425 (Or.inl rfl) dX0_annul_31 rfl ?_
      refine P.iload_n 1 (pc' := 35) dX0_annul_34 rfl rfl rfl ?_
      obtain ⟨u23, h24, hf⟩ := ob hf
      obtain ⟨q21, h22, hf⟩ := ob hf
      refine P.callV (pc' := 38) (As := [.int p1]) 1 (ok_J2_get F x19 p1 μ h22) (Nat.le_of_ble_eq_true rfl) (lw_V q1007 q1008 q1009 q165 q1010) rfl yok_J2_get rfl (Nat.le_of_ble_eq_true rfl) ci20 h24 (by decide) rfl dX0_annul_35 rfl ?_
      obtain ⟨u25, h26, hf⟩ := ob hf
      refine P.castS (u := u25) (pc' := 41) ci19 q1417 h26 dX0_annul_38 rfl ?_
      obtain ⟨x27, h28, hf⟩ := ob hf
      refine P.getN (pc' := 44) ci19 0 (by decide) (gfI_spec h28) q1424 (Or.inl rfl) dX0_annul_41 rfl ?_
      refine P.iconst (v := 2) (pc' := 45) dX0_annul_44 rfl (by decide) ?_
      refine P.icmp_eq (tgt := 66) (pc' := 48) dX0_annul_45 (by decide) rfl (fun y29 => ?_) (fun y29 => ?_)
      · have hf := (if_pos y29).symm.trans hf
        refine P.iconst (v := (-1)) (pc' := 67) dX0_annul_66 rfl (by decide) ?_
        cases hf; exact P.iret rfl dX0_annul_67
      · have hf := (if_neg y29).symm.trans hf
        refine P.aload_n 0 (pc' := 49) dX0_annul_48 rfl rfl rfl ?_
        obtain ⟨μ30, e31, hf⟩ := nm_i hf
        refine P.newE (pc' := 52) ci19 q1417 q1418 q195 dfX19_ok e31 dX0_annul_49 rfl ?_
        refine P.dup (pc' := 53) dX0_annul_52 rfl rfl ?_
        refine P.iconst (v := 2) (pc' := 54) dX0_annul_53 rfl (by decide) ?_
        refine P.iload_n 1 (pc' := 55) dX0_annul_54 rfl rfl rfl ?_
        refine P.iconst (v := 0) (pc' := 56) dX0_annul_55 rfl (by decide) ?_
        refine P.iconst (v := 0) (pc' := 57) dX0_annul_56 rfl (by decide) ?_
        obtain ⟨q32, h33, hf⟩ := ob hf
        refine P.callIN (pc' := 60) (As := [.int 2, .int p1, .int 0, .int 0]) 4 (ok_X19_init F μ.2.1 2 p1 0 0 μ30 h33) (Nat.le_of_ble_eq_true rfl) q1421 q195 q1419 q1420 rfl yok_X19_init rfl (Nat.le_of_ble_eq_true rfl) (Nat.le_of_ble_eq_true rfl) rfl dX0_annul_57 rfl ?_
        obtain ⟨u36, h37, hf⟩ := ob hf
        obtain ⟨q34, h35, hf⟩ := ob hf
        refine P.callV (pc' := 63) (As := [.ref μ.2.1]) 1 (ok_X0_writes F this μ.2.1 q32 h35) (Nat.le_of_ble_eq_true rfl) (lw_V q1440 q1442 qs66 q159 q1443) rfl yok_X0_writes rfl (Nat.le_of_ble_eq_true rfl) ci0 h37 (by decide) rfl dX0_annul_60 rfl ?_
        refine P.goto (tgt := 67) dX0_annul_63 (by decide) ?_
        cases hf; exact P.iret rfl dX0_annul_67
abbrev mX0_isKnown : Ym := (RX0, cX0_isKnown, 2, (some Jvm.ClassFile.FieldType.boolean), false, [])
noncomputable def f_X0_isKnown (F : Nat) (this : Nat) (p1 : Int32) (μ : Sw) : Option Int32 :=
  Option.bind (gfR μ this 0 4) fun x1 =>
  Option.bind (gfR μ x1 6 5) fun x3 =>
  Option.bind (oc μ x3 20) fun u7 =>
  Option.bind (f_J2_size F x3 μ) fun q5 =>
  Option.bind (p_X0_within F p1 0 q5) fun q9 =>
  if q9 = 0 ∨ q9 = 1 then
    some q9
  else
    none
set_option maxHeartbeats 4000000 in
theorem ok_X0_isKnown {g : Gx} (F : Nat) (this : Nat) (p1 : Int32) (μ : Sw) {rv : Int32} (hf : f_X0_isKnown F this p1 μ = some rv) : Cl g 2 yX0_isKnown cX0_isKnown 2 (some Jvm.ClassFile.FieldType.boolean) [.ref this, .int p1] μ (some (.int rv)) μ := by
  unfold f_X0_isKnown at hf
  refine Cl.of (own := RX0) (ini := false) (by decide +kernel) rfl (by decide) (Nat.le_of_ble_eq_true rfl) ?_
  show PW g mX0_isKnown 2 μ μ (QN g (some (.int rv)) μ μ) 0 [(0, .ref this), (1, .int p1)] [] μ
  refine P.iload_n 1 (pc' := 1) dX0_isKnown_0 rfl rfl rfl ?_
  refine P.iconst (v := 0) (pc' := 2) dX0_isKnown_1 rfl (by decide) ?_
  refine P.aload_n 0 (pc' := 3) dX0_isKnown_2 rfl rfl rfl ?_
  obtain ⟨x1, h2, hf⟩ := ob hf
  refine P.get (pc' := 6) ci0 4 (by decide) (gfR_spec h2) q479 (Or.inl rfl) dX0_isKnown_3 rfl ?_
  obtain ⟨x3, h4, hf⟩ := ob hf
  refine P.getN (pc' := 9) ci6 5 (by decide) (gfR_spec h4) q425 (Or.inl rfl) dX0_isKnown_6 rfl ?_
  obtain ⟨u7, h8, hf⟩ := ob hf
  obtain ⟨q5, h6, hf⟩ := ob hf
  refine P.callV (pc' := 12) (As := []) 0 (ok_J2_size F x3 μ h6) (Nat.le_of_ble_eq_true rfl) (lw_V q1006 q669 q670 q165 q671) rfl yok_J2_size rfl (Nat.le_of_ble_eq_true rfl) ci20 h8 (Nat.le_of_ble_eq_true rfl) rfl dX0_isKnown_9 rfl ?_
  obtain ⟨q9, h10, hf⟩ := ob hf
  refine P.callS (pc' := 15) (As := [.int p1, .int 0, .int q5]) 3 (ok_X0_within F p1 0 q5 μ h10) (Nat.le_of_ble_eq_true rfl) (lw_S q1038 q557 q159 q558) yok_X0_within rfl (Nat.le_of_ble_eq_true rfl) (by decide) rfl dX0_isKnown_12 rfl ?_
  by_cases y11 : q9 = 0 ∨ q9 = 1
  · have hf := (if_pos y11).symm.trans hf
    cases hf; exact P.zret rfl y11 dX0_isKnown_15
  · have hf := (if_neg y11).symm.trans hf
    cases hf
abbrev mX0_counts : Ym := (RX0, cX0_counts, 4, (some Jvm.ClassFile.FieldType.boolean), false, [])
noncomputable def f_X0_counts_L4_b (F : Nat) (c0 : Nat) (c1 : Int32) (c2 : Int32) (μ : Sw) (self : Int32 → Option Int32) (v3 : Int32) : Option Int32 :=
  if c2 ≤ v3 then
    some 1
  else
    Option.bind (gfR μ c0 0 4) fun x2 =>
    Option.bind (gfR μ x2 6 5) fun x4 =>
    Option.bind (oc μ x4 20) fun u8 =>
    Option.bind (f_J2_get F x4 v3 μ) fun q6 =>
    Option.bind (oc μ q6 19) fun u10 =>
    Option.bind (gfI μ q6 19 0) fun x12 =>
    if x12 = 2 then
      Option.bind (gfR μ c0 0 4) fun x17 =>
      Option.bind (gfR μ x17 6 5) fun x19 =>
      Option.bind (oc μ x19 20) fun u23 =>
      Option.bind (f_J2_get F x19 v3 μ) fun q21 =>
      Option.bind (oc μ q21 19) fun u25 =>
      Option.bind (gfI μ q21 19 1) fun x27 =>
      if x27 = c1 then
        some 0
      else
        nm (v3 + 1) fun x30 =>
        self x30
    else
      nm (v3 + 1) fun x15 =>
      self x15
noncomputable def f_X0_counts_L4 (F : Nat) (c0 : Nat) (c1 : Int32) (c2 : Int32) (μ : Sw) (n : Nat) : Int32 → Option Int32 := Nat.rec (motive := fun _ => Int32 → Option Int32) (fun _ => none) (fun _ self => f_X0_counts_L4_b F c0 c1 c2 μ self) n
set_option maxHeartbeats 4000000 in
theorem ok_f_X0_counts_L4 {g : Gx} {μ0 : Sw} {rv : Int32} (F : Nat) (c0 : Nat) (c1 : Int32) (c2 : Int32) (μ : Sw) : ∀ (n : Nat) (v3 : Int32), f_X0_counts_L4 F c0 c1 c2 μ n v3 = some rv → PW g mX0_counts 4 μ0 μ (QN g (some (.int rv)) μ0 μ) 4 [(0, .ref c0), (1, .int c1), (2, .int c2), (3, .int v3)] [] μ := by
  intro n
  induction n with
  | zero =>
    intro v3 hf
    have hf : (none : Option Int32) = some _ := hf
    cases hf
  | succ n ih =>
    intro v3 hf
    have hf : f_X0_counts_L4_b F c0 c1 c2 μ (f_X0_counts_L4 F c0 c1 c2 μ n) v3 = some rv := hf
    unfold f_X0_counts_L4_b at hf
    refine P.iload_n 3 (pc' := 5) dX0_counts_4 rfl rfl rfl ?_
    refine P.iload_n 2 (pc' := 6) dX0_counts_5 rfl rfl rfl ?_
    refine P.icmp_ge (tgt := 59) (pc' := 9) dX0_counts_6 (by decide) rfl (fun y1 => ?_) (fun y1 => ?_)
    · have hf := (if_pos y1).symm.trans hf
      refine P.iconst (v := 1) (pc' := 60) dX0_counts_59 rfl (by decide) ?_
      cases hf; exact P.zret rfl (Or.inr rfl) dX0_counts_60
    · have hf := (if_neg y1).symm.trans hf
      refine P.aload_n 0 (pc' := 10) dX0_counts_9 rfl rfl rfl ?_
      obtain ⟨x2, h3, hf⟩ := ob hf
      refine P.get (pc' := 13) ci0 4 (by decide) (gfR_spec h3) q479 (Or.inl rfl) dX0_counts_10 rfl ?_
      obtain ⟨x4, h5, hf⟩ := ob hf
      refine P.getN (pc' := 16) ci6 5 (by decide) (gfR_spec h5) q425 (Or.inl rfl) dX0_counts_13 rfl ?_
      refine P.iload_n 3 (pc' := 17) dX0_counts_16 rfl rfl rfl ?_
      obtain ⟨u8, h9, hf⟩ := ob hf
      obtain ⟨q6, h7, hf⟩ := ob hf
      refine P.callV (pc' := 20) (As := [.int v3]) 1 (ok_J2_get F x4 v3 μ h7) (Nat.le_of_ble_eq_true rfl) (lw_V q1007 q1008 q1009 q165 q1010) rfl yok_J2_get rfl (Nat.le_of_ble_eq_true rfl) ci20 h9 (by decide) rfl dX0_counts_17 rfl ?_
      obtain ⟨u10, h11, hf⟩ := ob hf
      refine P.castS (u := u10) (pc' := 23) ci19 q1417 h11 dX0_counts_20 rfl ?_
      obtain ⟨x12, h13, hf⟩ := ob hf
      refine P.getN (pc' := 26) ci19 0 (by decide) (gfI_spec h13) q1424 (Or.inl rfl) dX0_counts_23 rfl ?_
      refine P.iconst (v := 2) (pc' := 27) dX0_counts_26 rfl (by decide) ?_
      refine P.icmp_ne (tgt := 53) (pc' := 30) dX0_counts_27 (by decide) rfl (fun y14 => ?_) (fun y14 => ?_)
      · have hf := (if_neg y14).symm.trans hf
        obtain ⟨x15, e16, hf⟩ := nm_i hf
        refine P.iinc 3 (pc' := 56) (lv' := [(3, .int x15), (0, .ref c0), (1, .int c1), (2, .int c2)]) dX0_counts_53 rfl rfl (by decide) e16 (Nat.le_of_ble_eq_true rfl) rfl ?_
        refine P.goto (tgt := 4) dX0_counts_56 (by decide) ?_
        exact PW.sub [1, 2, 3, 0] rfl (ih _ hf)
      · have hf := (if_pos y14).symm.trans hf
        refine P.aload_n 0 (pc' := 31) dX0_counts_30 rfl rfl rfl ?_
        obtain ⟨x17, h18, hf⟩ := ob hf
        refine P.get (pc' := 34) ci0 4 (by decide) (gfR_spec h18) q479 (Or.inl rfl) dX0_counts_31 rfl ?_
        obtain ⟨x19, h20, hf⟩ := ob hf
        refine P.getN (pc' := 37) ci6 5 (by decide) (gfR_spec h20) q425 (Or.inl rfl) dX0_counts_34 rfl ?_
        refine P.iload_n 3 (pc' := 38) dX0_counts_37 rfl rfl rfl ?_
        obtain ⟨u23, h24, hf⟩ := ob hf
        obtain ⟨q21, h22, hf⟩ := ob hf
        refine P.callV (pc' := 41) (As := [.int v3]) 1 (ok_J2_get F x19 v3 μ h22) (Nat.le_of_ble_eq_true rfl) (lw_V q1007 q1008 q1009 q165 q1010) rfl yok_J2_get rfl (Nat.le_of_ble_eq_true rfl) ci20 h24 (by decide) rfl dX0_counts_38 rfl ?_
        obtain ⟨u25, h26, hf⟩ := ob hf
        refine P.castS (u := u25) (pc' := 44) ci19 q1417 h26 dX0_counts_41 rfl ?_
        obtain ⟨x27, h28, hf⟩ := ob hf
        refine P.getN (pc' := 47) ci19 1 (by decide) (gfI_spec h28) q1426 (Or.inl rfl) dX0_counts_44 rfl ?_
        refine P.iload_n 1 (pc' := 48) dX0_counts_47 rfl rfl rfl ?_
        refine P.icmp_ne (tgt := 53) (pc' := 51) dX0_counts_48 (by decide) rfl (fun y29 => ?_) (fun y29 => ?_)
        · have hf := (if_neg y29).symm.trans hf
          obtain ⟨x30, e31, hf⟩ := nm_i hf
          refine P.iinc 3 (pc' := 56) (lv' := [(3, .int x30), (0, .ref c0), (1, .int c1), (2, .int c2)]) dX0_counts_53 rfl rfl (by decide) e31 (Nat.le_of_ble_eq_true rfl) rfl ?_
          refine P.goto (tgt := 4) dX0_counts_56 (by decide) ?_
          exact PW.sub [1, 2, 3, 0] rfl (ih _ hf)
        · have hf := (if_pos y29).symm.trans hf
          refine P.iconst (v := 0) (pc' := 52) dX0_counts_51 rfl (by decide) ?_
          cases hf; exact P.zret rfl (Or.inl rfl) dX0_counts_52
noncomputable def f_X0_counts (F : Nat) (this : Nat) (p1 : Int32) (p2 : Int32) (μ : Sw) : Option Int32 :=
  nm (p1 + 1) fun x1 =>
  f_X0_counts_L4 F this p1 p2 μ F x1
set_option maxHeartbeats 4000000 in
theorem ok_X0_counts {g : Gx} (F : Nat) (this : Nat) (p1 : Int32) (p2 : Int32) (μ : Sw) {rv : Int32} (hf : f_X0_counts F this p1 p2 μ = some rv) : Cl g 4 yX0_counts cX0_counts 4 (some Jvm.ClassFile.FieldType.boolean) [.ref this, .int p1, .int p2] μ (some (.int rv)) μ := by
  unfold f_X0_counts at hf
  refine Cl.of (own := RX0) (ini := false) (by decide +kernel) rfl (by decide) (Nat.le_of_ble_eq_true rfl) ?_
  show PW g mX0_counts 4 μ μ (QN g (some (.int rv)) μ μ) 0 [(0, .ref this), (1, .int p1), (2, .int p2)] [] μ
  refine P.iload_n 1 (pc' := 1) dX0_counts_0 rfl rfl rfl ?_
  refine P.iconst (v := 1) (pc' := 2) dX0_counts_1 rfl (by decide) ?_
  refine P.iadd (pc' := 3) dX0_counts_2 rfl ?_
  obtain ⟨x1, e2, hf⟩ := nm_i hf
  refine P.nmi e2 ?_
  refine P.istore_n (pc' := 4) (lv' := [(3, .int x1), (0, .ref this), (1, .int p1), (2, .int p2)]) dX0_counts_3 rfl rfl (Nat.le_of_ble_eq_true rfl) rfl ?_
  exact PW.sub [1, 2, 3, 0] rfl (ok_f_X0_counts_L4 F this p1 p2 μ F _ hf)
theorem yok_X0_counts : yOK yX0_counts 2 := ⟨by decide +kernel, by decide +kernel, by decide +kernel⟩
abbrev mX0_voteOf : Ym := (RX0, cX0_voteOf, 6, (some Jvm.ClassFile.FieldType.int), false, [])
noncomputable def f_X0_voteOf_L5_b (F : Nat) (c0 : Nat) (c1 : Int32) (c2 : Int32) (c3 : Int32) (μ : Sw) (self : Int32 → Option Int32) (v4 : Int32) : Option Int32 :=
  if v4 < 0 then
    some (-1)
  else
    Option.bind (gfR μ c0 0 4) fun x2 =>
    Option.bind (gfR μ x2 6 5) fun x4 =>
    Option.bind (oc μ x4 20) fun u8 =>
    Option.bind (f_J2_get F x4 v4 μ) fun q6 =>
    Option.bind (oc μ q6 19) fun u10 =>
    Option.bind (gfI μ q6 19 0) fun x12 =>
    if x12 = 0 then
      Option.bind (gfI μ q6 19 1) fun x17 =>
      if x17 = c1 then
        Option.bind (gfI μ q6 19 2) fun x22 =>
        if x22 = c2 then
          Option.bind (oc μ c0 0) fun u29 =>
          Option.bind (f_X0_counts F c0 v4 c3 μ) fun q27 =>
          if q27 = 0 then
            nm (v4 + (-1)) fun x32 =>
            self x32
          else
            Option.bind (gfI μ q6 19 3) fun x34 =>
            some x34
        else
          nm (v4 + (-1)) fun x25 =>
          self x25
      else
        nm (v4 + (-1)) fun x20 =>
        self x20
    else
      nm (v4 + (-1)) fun x15 =>
      self x15
noncomputable def f_X0_voteOf_L5 (F : Nat) (c0 : Nat) (c1 : Int32) (c2 : Int32) (c3 : Int32) (μ : Sw) (n : Nat) : Int32 → Option Int32 := Nat.rec (motive := fun _ => Int32 → Option Int32) (fun _ => none) (fun _ self => f_X0_voteOf_L5_b F c0 c1 c2 c3 μ self) n
set_option maxHeartbeats 4000000 in
theorem ok_f_X0_voteOf_L5 {g : Gx} {μ0 : Sw} {rv : Int32} (F : Nat) (c0 : Nat) (c1 : Int32) (c2 : Int32) (c3 : Int32) (μ : Sw) : ∀ (n : Nat) (v4 : Int32), f_X0_voteOf_L5 F c0 c1 c2 c3 μ n v4 = some rv → PW g mX0_voteOf 5 μ0 μ (QN g (some (.int rv)) μ0 μ) 5 [(0, .ref c0), (1, .int c1), (2, .int c2), (3, .int c3), (4, .int v4)] [] μ := by
  intro n
  induction n with
  | zero =>
    intro v4 hf
    have hf : (none : Option Int32) = some _ := hf
    cases hf
  | succ n ih =>
    intro v4 hf
    have hf : f_X0_voteOf_L5_b F c0 c1 c2 c3 μ (f_X0_voteOf_L5 F c0 c1 c2 c3 μ n) v4 = some rv := hf
    unfold f_X0_voteOf_L5_b at hf
    refine P.iload 4 (pc' := 7) dX0_voteOf_5 rfl rfl ?_
    refine P.if_lt (tgt := 75) (pc' := 10) dX0_voteOf_7 (by decide) rfl (fun y1 => ?_) (fun y1 => ?_)
    · have hf := (if_pos y1).symm.trans hf
      refine P.iconst (v := (-1)) (pc' := 76) dX0_voteOf_75 rfl (by decide) ?_
      cases hf; exact P.iret rfl dX0_voteOf_76
    · have hf := (if_neg y1).symm.trans hf
      refine P.aload_n 0 (pc' := 11) dX0_voteOf_10 rfl rfl rfl ?_
      obtain ⟨x2, h3, hf⟩ := ob hf
      refine P.get (pc' := 14) ci0 4 (by decide) (gfR_spec h3) q479 (Or.inl rfl) dX0_voteOf_11 rfl ?_
      obtain ⟨x4, h5, hf⟩ := ob hf
      refine P.getN (pc' := 17) ci6 5 (by decide) (gfR_spec h5) q425 (Or.inl rfl) dX0_voteOf_14 rfl ?_
      refine P.iload 4 (pc' := 19) dX0_voteOf_17 rfl rfl ?_
      obtain ⟨u8, h9, hf⟩ := ob hf
      obtain ⟨q6, h7, hf⟩ := ob hf
      refine P.callV (pc' := 22) (As := [.int v4]) 1 (ok_J2_get F x4 v4 μ h7) (Nat.le_of_ble_eq_true rfl) (lw_V q1007 q1008 q1009 q165 q1010) rfl yok_J2_get rfl (Nat.le_of_ble_eq_true rfl) ci20 h9 (by decide) rfl dX0_voteOf_19 rfl ?_
      obtain ⟨u10, h11, hf⟩ := ob hf
      refine P.castS (u := u10) (pc' := 25) ci19 q1417 h11 dX0_voteOf_22 rfl ?_
      refine P.astore (pc' := 27) (lv' := [(5, .ref q6), (0, .ref c0), (1, .int c1), (2, .int c2), (3, .int c3), (4, .int v4)]) dX0_voteOf_25 rfl (Nat.le_of_ble_eq_true rfl) rfl ?_
      refine P.aload 0 (pc' := 29) dX0_voteOf_27 rfl rfl ?_
      obtain ⟨x12, h13, hf⟩ := ob hf
      refine P.getN (pc' := 32) ci19 0 (by decide) (gfI_spec h13) q1424 (Or.inl rfl) dX0_voteOf_29 rfl ?_
      refine P.if_ne (tgt := 69) (pc' := 35) dX0_voteOf_32 (by decide) rfl (fun y14 => ?_) (fun y14 => ?_)
      · have hf := (if_neg y14).symm.trans hf
        obtain ⟨x15, e16, hf⟩ := nm_i hf
        refine P.iinc 5 (pc' := 72) (lv' := [(4, .int x15), (5, .ref q6), (0, .ref c0), (1, .int c1), (2, .int c2), (3, .int c3)]) dX0_voteOf_69 rfl rfl (by decide) e16 (Nat.le_of_ble_eq_true rfl) rfl ?_
        refine P.goto (tgt := 5) dX0_voteOf_72 (by decide) ?_
        exact PW.sub [2, 3, 4, 5, 0] rfl (ih _ hf)
      · have hf := (if_pos y14).symm.trans hf
        refine P.aload 0 (pc' := 37) dX0_voteOf_35 rfl rfl ?_
        obtain ⟨x17, h18, hf⟩ := ob hf
        refine P.getN (pc' := 40) ci19 1 (by decide) (gfI_spec h18) q1426 (Or.inl rfl) dX0_voteOf_37 rfl ?_
        refine P.iload_n 2 (pc' := 41) dX0_voteOf_40 rfl rfl rfl ?_
        refine P.icmp_ne (tgt := 69) (pc' := 44) dX0_voteOf_41 (by decide) rfl (fun y19 => ?_) (fun y19 => ?_)
        · have hf := (if_neg y19).symm.trans hf
          obtain ⟨x20, e21, hf⟩ := nm_i hf
          refine P.iinc 5 (pc' := 72) (lv' := [(4, .int x20), (5, .ref q6), (0, .ref c0), (1, .int c1), (2, .int c2), (3, .int c3)]) dX0_voteOf_69 rfl rfl (by decide) e21 (Nat.le_of_ble_eq_true rfl) rfl ?_
          refine P.goto (tgt := 5) dX0_voteOf_72 (by decide) ?_
          exact PW.sub [2, 3, 4, 5, 0] rfl (ih _ hf)
        · have hf := (if_pos y19).symm.trans hf
          refine P.aload 0 (pc' := 46) dX0_voteOf_44 rfl rfl ?_
          obtain ⟨x22, h23, hf⟩ := ob hf
          refine P.getN (pc' := 49) ci19 2 (by decide) (gfI_spec h23) q1428 (Or.inl rfl) dX0_voteOf_46 rfl ?_
          refine P.iload_n 3 (pc' := 50) dX0_voteOf_49 rfl rfl rfl ?_
          refine P.icmp_ne (tgt := 69) (pc' := 53) dX0_voteOf_50 (by decide) rfl (fun y24 => ?_) (fun y24 => ?_)
          · have hf := (if_neg y24).symm.trans hf
            obtain ⟨x25, e26, hf⟩ := nm_i hf
            refine P.iinc 5 (pc' := 72) (lv' := [(4, .int x25), (5, .ref q6), (0, .ref c0), (1, .int c1), (2, .int c2), (3, .int c3)]) dX0_voteOf_69 rfl rfl (by decide) e26 (Nat.le_of_ble_eq_true rfl) rfl ?_
            refine P.goto (tgt := 5) dX0_voteOf_72 (by decide) ?_
            exact PW.sub [2, 3, 4, 5, 0] rfl (ih _ hf)
          · have hf := (if_pos y24).symm.trans hf
            refine P.aload_n 1 (pc' := 54) dX0_voteOf_53 rfl rfl rfl ?_
            refine P.iload 5 (pc' := 56) dX0_voteOf_54 rfl rfl ?_
            refine P.iload_n 4 (pc' := 57) dX0_voteOf_56 rfl rfl rfl ?_
            obtain ⟨u29, h30, hf⟩ := ob hf
            obtain ⟨q27, h28, hf⟩ := ob hf
            refine P.callV (pc' := 60) (As := [.int v4, .int c3]) 2 (ok_X0_counts F c0 v4 c3 μ h28) (Nat.le_of_ble_eq_true rfl) (lw_V q1468 q1470 qs70 q159 q1471) rfl yok_X0_counts rfl (Nat.le_of_ble_eq_true rfl) ci0 h30 (by decide) rfl dX0_voteOf_57 rfl ?_
            refine P.if_eq (tgt := 69) (pc' := 63) dX0_voteOf_60 (by decide) rfl (fun y31 => ?_) (fun y31 => ?_)
            · have hf := (if_pos y31).symm.trans hf
              obtain ⟨x32, e33, hf⟩ := nm_i hf
              refine P.iinc 5 (pc' := 72) (lv' := [(4, .int x32), (5, .ref q6), (0, .ref c0), (1, .int c1), (2, .int c2), (3, .int c3)]) dX0_voteOf_69 rfl rfl (by decide) e33 (Nat.le_of_ble_eq_true rfl) rfl ?_
              refine P.goto (tgt := 5) dX0_voteOf_72 (by decide) ?_
              exact PW.sub [2, 3, 4, 5, 0] rfl (ih _ hf)
            · have hf := (if_neg y31).symm.trans hf
              refine P.aload 0 (pc' := 65) dX0_voteOf_63 rfl rfl ?_
              obtain ⟨x34, h35, hf⟩ := ob hf
              refine P.getN (pc' := 68) ci19 3 (by decide) (gfI_spec h35) q1430 (Or.inl rfl) dX0_voteOf_65 rfl ?_
              cases hf; exact P.iret rfl dX0_voteOf_68
noncomputable def f_X0_voteOf (F : Nat) (this : Nat) (p1 : Int32) (p2 : Int32) (p3 : Int32) (μ : Sw) : Option Int32 :=
  nm (p3 - 1) fun x1 =>
  f_X0_voteOf_L5 F this p1 p2 p3 μ F x1
set_option maxHeartbeats 4000000 in
theorem ok_X0_voteOf {g : Gx} (F : Nat) (this : Nat) (p1 : Int32) (p2 : Int32) (p3 : Int32) (μ : Sw) {rv : Int32} (hf : f_X0_voteOf F this p1 p2 p3 μ = some rv) : Cl g 5 yX0_voteOf cX0_voteOf 6 (some Jvm.ClassFile.FieldType.int) [.ref this, .int p1, .int p2, .int p3] μ (some (.int rv)) μ := by
  unfold f_X0_voteOf at hf
  refine Cl.of (own := RX0) (ini := false) (by decide +kernel) rfl (by decide) (Nat.le_of_ble_eq_true rfl) ?_
  show PW g mX0_voteOf 5 μ μ (QN g (some (.int rv)) μ μ) 0 [(0, .ref this), (1, .int p1), (2, .int p2), (3, .int p3)] [] μ
  refine P.iload_n 3 (pc' := 1) dX0_voteOf_0 rfl rfl rfl ?_
  refine P.iconst (v := 1) (pc' := 2) dX0_voteOf_1 rfl (by decide) ?_
  refine P.isub (pc' := 3) dX0_voteOf_2 rfl ?_
  obtain ⟨x1, e2, hf⟩ := nm_i hf
  refine P.nmi e2 ?_
  refine P.istore (pc' := 5) (lv' := [(4, .int x1), (0, .ref this), (1, .int p1), (2, .int p2), (3, .int p3)]) dX0_voteOf_3 rfl (Nat.le_of_ble_eq_true rfl) rfl ?_
  exact PW.sub [1, 2, 3, 4, 0] rfl (ok_f_X0_voteOf_L5 F this p1 p2 p3 μ F _ hf)
theorem yok_X0_voteOf : yOK yX0_voteOf 3 := ⟨by decide +kernel, by decide +kernel, by decide +kernel⟩
abbrev mX0_votesFor : Ym := (RX0, cX0_votesFor, 6, (some Jvm.ClassFile.FieldType.int), false, [])
noncomputable def f_X0_votesFor_L6_b (F : Nat) (c0 : Nat) (c1 : Int32) (c2 : Int32) (c3 : Int32) (μ : Sw) (self : Int32 → Int32 → Option Int32) (v4 : Int32) (v5 : Int32) : Option Int32 :=
  Option.bind (oc μ c0 0) fun u3 =>
  Option.bind (f_X0_houses F c0 μ) fun q1 =>
  if q1 ≤ v5 then
    some v4
  else
    Option.bind (oc μ c0 0) fun u8 =>
    Option.bind (f_X0_voteOf F c0 v5 c1 c3 μ) fun q6 =>
    if q6 = c2 then
      nm (v4 + 1) fun x13 =>
      nm (v5 + 1) fun x15 =>
      self x13 x15
    else
      nm (v5 + 1) fun x11 =>
      self v4 x11
noncomputable def f_X0_votesFor_L6 (F : Nat) (c0 : Nat) (c1 : Int32) (c2 : Int32) (c3 : Int32) (μ : Sw) (n : Nat) : Int32 → Int32 → Option Int32 := Nat.rec (motive := fun _ => Int32 → Int32 → Option Int32) (fun _ _ => none) (fun _ self => f_X0_votesFor_L6_b F c0 c1 c2 c3 μ self) n
set_option maxHeartbeats 4000000 in
theorem ok_f_X0_votesFor_L6 {g : Gx} {μ0 : Sw} {rv : Int32} (F : Nat) (c0 : Nat) (c1 : Int32) (c2 : Int32) (c3 : Int32) (μ : Sw) : ∀ (n : Nat) (v4 : Int32) (v5 : Int32), f_X0_votesFor_L6 F c0 c1 c2 c3 μ n v4 v5 = some rv → PW g mX0_votesFor 6 μ0 μ (QN g (some (.int rv)) μ0 μ) 6 [(0, .ref c0), (1, .int c1), (2, .int c2), (3, .int c3), (4, .int v4), (5, .int v5)] [] μ := by
  intro n
  induction n with
  | zero =>
    intro v4 v5 hf
    have hf : (none : Option Int32) = some _ := hf
    cases hf
  | succ n ih =>
    intro v4 v5 hf
    have hf : f_X0_votesFor_L6_b F c0 c1 c2 c3 μ (f_X0_votesFor_L6 F c0 c1 c2 c3 μ n) v4 v5 = some rv := hf
    unfold f_X0_votesFor_L6_b at hf
    refine P.iload 5 (pc' := 8) dX0_votesFor_6 rfl rfl ?_
    refine P.aload_n 0 (pc' := 9) dX0_votesFor_8 rfl rfl rfl ?_
    obtain ⟨u3, h4, hf⟩ := ob hf
    obtain ⟨q1, h2, hf⟩ := ob hf
    refine P.callV (pc' := 12) (As := []) 0 (ok_X0_houses F c0 μ h2) (Nat.le_of_ble_eq_true rfl) (lw_V q1034 q1036 qs34 q159 q1037) rfl yok_X0_houses rfl (Nat.le_of_ble_eq_true rfl) ci0 h4 (Nat.le_of_ble_eq_true rfl) rfl dX0_votesFor_9 rfl ?_
    refine P.icmp_ge (tgt := 36) (pc' := 15) dX0_votesFor_12 (by decide) rfl (fun y5 => ?_) (fun y5 => ?_)
    · have hf := (if_pos y5).symm.trans hf
      refine P.iload 4 (pc' := 38) dX0_votesFor_36 rfl rfl ?_
      cases hf; exact P.iret rfl dX0_votesFor_38
    · have hf := (if_neg y5).symm.trans hf
      refine P.aload_n 0 (pc' := 16) dX0_votesFor_15 rfl rfl rfl ?_
      refine P.iload 5 (pc' := 18) dX0_votesFor_16 rfl rfl ?_
      refine P.iload_n 1 (pc' := 19) dX0_votesFor_18 rfl rfl rfl ?_
      refine P.iload_n 3 (pc' := 20) dX0_votesFor_19 rfl rfl rfl ?_
      obtain ⟨u8, h9, hf⟩ := ob hf
      obtain ⟨q6, h7, hf⟩ := ob hf
      refine P.callV (pc' := 23) (As := [.int v5, .int c1, .int c3]) 3 (ok_X0_voteOf F c0 v5 c1 c3 μ h7) (Nat.le_of_ble_eq_true rfl) (lw_V q1464 q1466 qs69 q159 q1467) rfl yok_X0_voteOf rfl (Nat.le_of_ble_eq_true rfl) ci0 h9 (by decide) rfl dX0_votesFor_20 rfl ?_
      refine P.iload_n 2 (pc' := 24) dX0_votesFor_23 rfl rfl rfl ?_
      refine P.icmp_ne (tgt := 30) (pc' := 27) dX0_votesFor_24 (by decide) rfl (fun y10 => ?_) (fun y10 => ?_)
      · have hf := (if_neg y10).symm.trans hf
        obtain ⟨x11, e12, hf⟩ := nm_i hf
        refine P.iinc 5 (pc' := 33) (lv' := [(5, .int x11), (0, .ref c0), (1, .int c1), (2, .int c2), (3, .int c3), (4, .int v4)]) dX0_votesFor_30 rfl rfl (by decide) e12 (Nat.le_of_ble_eq_true rfl) rfl ?_
        refine P.goto (tgt := 6) dX0_votesFor_33 (by decide) ?_
        exact PW.sub [1, 2, 3, 4, 5, 0] rfl (ih _ _ hf)
      · have hf := (if_pos y10).symm.trans hf
        obtain ⟨x13, e14, hf⟩ := nm_i hf
        refine P.iinc 4 (pc' := 30) (lv' := [(4, .int x13), (0, .ref c0), (1, .int c1), (2, .int c2), (3, .int c3), (5, .int v5)]) dX0_votesFor_27 rfl rfl (by decide) e14 (Nat.le_of_ble_eq_true rfl) rfl ?_
        obtain ⟨x15, e16, hf⟩ := nm_i hf
        refine P.iinc 5 (pc' := 33) (lv' := [(5, .int x15), (4, .int x13), (0, .ref c0), (1, .int c1), (2, .int c2), (3, .int c3)]) dX0_votesFor_30 rfl rfl (by decide) e16 (Nat.le_of_ble_eq_true rfl) rfl ?_
        refine P.goto (tgt := 6) dX0_votesFor_33 (by decide) ?_
        exact PW.sub [2, 3, 4, 5, 1, 0] rfl (ih _ _ hf)
noncomputable def f_X0_votesFor (F : Nat) (this : Nat) (p1 : Int32) (p2 : Int32) (p3 : Int32) (μ : Sw) : Option Int32 :=
  f_X0_votesFor_L6 F this p1 p2 p3 μ F 0 0
set_option maxHeartbeats 4000000 in
theorem ok_X0_votesFor {g : Gx} (F : Nat) (this : Nat) (p1 : Int32) (p2 : Int32) (p3 : Int32) (μ : Sw) {rv : Int32} (hf : f_X0_votesFor F this p1 p2 p3 μ = some rv) : Cl g 6 yX0_votesFor cX0_votesFor 6 (some Jvm.ClassFile.FieldType.int) [.ref this, .int p1, .int p2, .int p3] μ (some (.int rv)) μ := by
  unfold f_X0_votesFor at hf
  refine Cl.of (own := RX0) (ini := false) (by decide +kernel) rfl (by decide) (Nat.le_of_ble_eq_true rfl) ?_
  show PW g mX0_votesFor 6 μ μ (QN g (some (.int rv)) μ μ) 0 [(0, .ref this), (1, .int p1), (2, .int p2), (3, .int p3)] [] μ
  refine P.iconst (v := 0) (pc' := 1) dX0_votesFor_0 rfl (by decide) ?_
  refine P.istore (pc' := 3) (lv' := [(4, .int 0), (0, .ref this), (1, .int p1), (2, .int p2), (3, .int p3)]) dX0_votesFor_1 rfl (Nat.le_of_ble_eq_true rfl) rfl ?_
  refine P.iconst (v := 0) (pc' := 4) dX0_votesFor_3 rfl (by decide) ?_
  refine P.istore (pc' := 6) (lv' := [(5, .int 0), (4, .int 0), (0, .ref this), (1, .int p1), (2, .int p2), (3, .int p3)]) dX0_votesFor_4 rfl (Nat.le_of_ble_eq_true rfl) rfl ?_
  exact PW.sub [2, 3, 4, 5, 1, 0] rfl (ok_f_X0_votesFor_L6 F this p1 p2 p3 μ F _ _ hf)
theorem yok_X0_isKnown : yOK yX0_isKnown 1 := ⟨by decide +kernel, by decide +kernel, by decide +kernel⟩
theorem yok_X0_votesFor : yOK yX0_votesFor 3 := ⟨by decide +kernel, by decide +kernel, by decide +kernel⟩
abbrev mX0_votes : Ym := (RX0, cX0_votes, 4, (some Jvm.ClassFile.FieldType.int), false, [])
noncomputable def f_X0_votes (F : Nat) (this : Nat) (p1 : Int32) (p2 : Int32) (p3 : Int32) (μ : Sw) : Option Int32 :=
  Option.bind (oc μ this 0) fun u3 =>
  Option.bind (f_X0_isOffice F this p1 μ) fun q1 =>
  if q1 = 0 then
    some (-1)
  else
    Option.bind (oc μ this 0) fun u8 =>
    Option.bind (f_X0_isHouse F this p2 μ) fun q6 =>
    if q6 = 0 then
      some (-1)
    else
      Option.bind (oc μ this 0) fun u13 =>
      Option.bind (f_X0_isKnown F this p3 μ) fun q11 =>
      if q11 = 0 then
        some (-1)
      else
        Option.bind (oc μ this 0) fun u18 =>
        Option.bind (f_X0_votesFor F this p1 p2 p3 μ) fun q16 =>
        some q16
set_option maxHeartbeats 4000000 in
theorem ok_X0_votes {g : Gx} (F : Nat) (this : Nat) (p1 : Int32) (p2 : Int32) (p3 : Int32) (μ : Sw) {rv : Int32} (hf : f_X0_votes F this p1 p2 p3 μ = some rv) : Cl g 7 yX0_votes cX0_votes 4 (some Jvm.ClassFile.FieldType.int) [.ref this, .int p1, .int p2, .int p3] μ (some (.int rv)) μ := by
  unfold f_X0_votes at hf
  refine Cl.of (own := RX0) (ini := false) (by decide +kernel) rfl (by decide) (Nat.le_of_ble_eq_true rfl) ?_
  show PW g mX0_votes 7 μ μ (QN g (some (.int rv)) μ μ) 0 [(0, .ref this), (1, .int p1), (2, .int p2), (3, .int p3)] [] μ
  refine P.aload_n 0 (pc' := 1) dX0_votes_0 rfl rfl rfl ?_
  refine P.iload_n 1 (pc' := 2) dX0_votes_1 rfl rfl rfl ?_
  obtain ⟨u3, h4, hf⟩ := ob hf
  obtain ⟨q1, h2, hf⟩ := ob hf
  refine P.callV (pc' := 5) (As := [.int p1]) 1 (ok_X0_isOffice F this p1 μ h2) (Nat.le_of_ble_eq_true rfl) (lw_V q1092 q1094 qs38 q159 q1095) rfl yok_X0_isOffice rfl (Nat.le_of_ble_eq_true rfl) ci0 h4 (by decide) rfl dX0_votes_2 rfl ?_
  refine P.if_eq (tgt := 34) (pc' := 8) dX0_votes_5 (by decide) rfl (fun y5 => ?_) (fun y5 => ?_)
  · have hf := (if_pos y5).symm.trans hf
    refine P.iconst (v := (-1)) (pc' := 35) dX0_votes_34 rfl (by decide) ?_
    cases hf; exact P.iret rfl dX0_votes_35
  · have hf := (if_neg y5).symm.trans hf
    refine P.aload_n 0 (pc' := 9) dX0_votes_8 rfl rfl rfl ?_
    refine P.iload_n 2 (pc' := 10) dX0_votes_9 rfl rfl rfl ?_
    obtain ⟨u8, h9, hf⟩ := ob hf
    obtain ⟨q6, h7, hf⟩ := ob hf
    refine P.callV (pc' := 13) (As := [.int p2]) 1 (ok_X0_isHouse F this p2 μ h7) (Nat.le_of_ble_eq_true rfl) (lw_V q1030 q1032 qs33 q159 q1033) rfl yok_X0_isHouse rfl (Nat.le_of_ble_eq_true rfl) ci0 h9 (by decide) rfl dX0_votes_10 rfl ?_
    refine P.if_eq (tgt := 34) (pc' := 16) dX0_votes_13 (by decide) rfl (fun y10 => ?_) (fun y10 => ?_)
    · have hf := (if_pos y10).symm.trans hf
      refine P.iconst (v := (-1)) (pc' := 35) dX0_votes_34 rfl (by decide) ?_
      cases hf; exact P.iret rfl dX0_votes_35
    · have hf := (if_neg y10).symm.trans hf
      refine P.aload_n 0 (pc' := 17) dX0_votes_16 rfl rfl rfl ?_
      refine P.iload_n 3 (pc' := 18) dX0_votes_17 rfl rfl rfl ?_
      obtain ⟨u13, h14, hf⟩ := ob hf
      obtain ⟨q11, h12, hf⟩ := ob hf
      refine P.callV (pc' := 21) (As := [.int p3]) 1 (ok_X0_isKnown F this p3 μ h12) (Nat.le_of_ble_eq_true rfl) (lw_V q1456 q1458 qs67 q159 q1459) rfl yok_X0_isKnown rfl (Nat.le_of_ble_eq_true rfl) ci0 h14 (by decide) rfl dX0_votes_18 rfl ?_
      refine P.if_eq (tgt := 34) (pc' := 24) dX0_votes_21 (by decide) rfl (fun y15 => ?_) (fun y15 => ?_)
      · have hf := (if_pos y15).symm.trans hf
        refine P.iconst (v := (-1)) (pc' := 35) dX0_votes_34 rfl (by decide) ?_
        cases hf; exact P.iret rfl dX0_votes_35
      · have hf := (if_neg y15).symm.trans hf
        refine P.aload_n 0 (pc' := 25) dX0_votes_24 rfl rfl rfl ?_
        refine P.iload_n 1 (pc' := 26) dX0_votes_25 rfl rfl rfl ?_
        refine P.iload_n 2 (pc' := 27) dX0_votes_26 rfl rfl rfl ?_
        refine P.iload_n 3 (pc' := 28) dX0_votes_27 rfl rfl rfl ?_
        obtain ⟨u18, h19, hf⟩ := ob hf
        obtain ⟨q16, h17, hf⟩ := ob hf
        refine P.callV (pc' := 31) (As := [.int p1, .int p2, .int p3]) 3 (ok_X0_votesFor F this p1 p2 p3 μ h17) (Nat.le_of_ble_eq_true rfl) (lw_V q1460 q1462 qs68 q159 q1463) rfl yok_X0_votesFor rfl (Nat.le_of_ble_eq_true rfl) ci0 h19 (by decide) rfl dX0_votes_28 rfl ?_
        refine P.goto (tgt := 35) dX0_votes_31 (by decide) ?_
        cases hf; exact P.iret rfl dX0_votes_35
abbrev mX0_winner : Ym := (RX0, cX0_winner, 7, (some Jvm.ClassFile.FieldType.int), false, [])
noncomputable def f_X0_winner_L27_b (F : Nat) (c0 : Nat) (c1 : Int32) (c2 : Int32) (μ : Sw) (self : Int32 → Int32 → Int32 → Option Int32) (v3 : Int32) (v4 : Int32) (v5 : Int32) : Option Int32 :=
  Option.bind (oc μ c0 0) fun u3 =>
  Option.bind (f_X0_houses F c0 μ) fun q1 =>
  if q1 ≤ v5 then
    some v3
  else
    Option.bind (oc μ c0 0) fun u8 =>
    Option.bind (f_X0_votesFor F c0 c1 v5 c2 μ) fun q6 =>
    if q6 = 0 then
      nm (v5 + 1) fun x11 =>
      self v3 v4 x11
    else
      if q6 < v4 then
        nm (v5 + 1) fun x14 =>
        self v3 v4 x14
      else
        if q6 = v4 then
          Option.bind (gfR μ c0 0 4) fun x19 =>
          Option.bind (gfR μ x19 6 0) fun x21 =>
          Option.bind (aI μ 0 x21 v5) fun x23 =>
          Option.bind (gfR μ c0 0 4) fun x25 =>
          Option.bind (gfR μ x25 6 0) fun x27 =>
          Option.bind (aI μ 0 x27 v3) fun x29 =>
          if x29 < x23 then
            nm (v5 + 1) fun x32 =>
            self v5 q6 x32
          else
            nm (v5 + 1) fun x34 =>
            self v3 v4 x34
        else
          nm (v5 + 1) fun x17 =>
          self v5 q6 x17
noncomputable def f_X0_winner_L27 (F : Nat) (c0 : Nat) (c1 : Int32) (c2 : Int32) (μ : Sw) (n : Nat) : Int32 → Int32 → Int32 → Option Int32 := Nat.rec (motive := fun _ => Int32 → Int32 → Int32 → Option Int32) (fun _ _ _ => none) (fun _ self => f_X0_winner_L27_b F c0 c1 c2 μ self) n
set_option maxHeartbeats 4000000 in
theorem ok_f_X0_winner_L27 {g : Gx} {μ0 : Sw} {rv : Int32} (F : Nat) (c0 : Nat) (c1 : Int32) (c2 : Int32) (μ : Sw) : ∀ (n : Nat) (v3 : Int32) (v4 : Int32) (v5 : Int32), f_X0_winner_L27 F c0 c1 c2 μ n v3 v4 v5 = some rv → PW g mX0_winner 7 μ0 μ (QN g (some (.int rv)) μ0 μ) 27 [(0, .ref c0), (1, .int c1), (2, .int c2), (3, .int v3), (4, .int v4), (5, .int v5)] [] μ := by
  intro n
  induction n with
  | zero =>
    intro v3 v4 v5 hf
    have hf : (none : Option Int32) = some _ := hf
    cases hf
  | succ n ih =>
    intro v3 v4 v5 hf
    have hf : f_X0_winner_L27_b F c0 c1 c2 μ (f_X0_winner_L27 F c0 c1 c2 μ n) v3 v4 v5 = some rv := hf
    unfold f_X0_winner_L27_b at hf
    refine P.iload 5 (pc' := 29) dX0_winner_27 rfl rfl ?_
    refine P.aload_n 0 (pc' := 30) dX0_winner_29 rfl rfl rfl ?_
    obtain ⟨u3, h4, hf⟩ := ob hf
    obtain ⟨q1, h2, hf⟩ := ob hf
    refine P.callV (pc' := 33) (As := []) 0 (ok_X0_houses F c0 μ h2) (Nat.le_of_ble_eq_true rfl) (lw_V q1034 q1036 qs34 q159 q1037) rfl yok_X0_houses rfl (Nat.le_of_ble_eq_true rfl) ci0 h4 (Nat.le_of_ble_eq_true rfl) rfl dX0_winner_30 rfl ?_
    refine P.icmp_ge (tgt := 103) (pc' := 36) dX0_winner_33 (by decide) rfl (fun y5 => ?_) (fun y5 => ?_)
    · have hf := (if_pos y5).symm.trans hf
      refine P.iload_n 3 (pc' := 104) dX0_winner_103 rfl rfl rfl ?_
      cases hf; exact P.iret rfl dX0_winner_104
    · have hf := (if_neg y5).symm.trans hf
      refine P.aload_n 0 (pc' := 37) dX0_winner_36 rfl rfl rfl ?_
      refine P.iload_n 1 (pc' := 38) dX0_winner_37 rfl rfl rfl ?_
      refine P.iload 5 (pc' := 40) dX0_winner_38 rfl rfl ?_
      refine P.iload_n 2 (pc' := 41) dX0_winner_40 rfl rfl rfl ?_
      obtain ⟨u8, h9, hf⟩ := ob hf
      obtain ⟨q6, h7, hf⟩ := ob hf
      refine P.callV (pc' := 44) (As := [.int c1, .int v5, .int c2]) 3 (ok_X0_votesFor F c0 c1 v5 c2 μ h7) (Nat.le_of_ble_eq_true rfl) (lw_V q1460 q1462 qs68 q159 q1463) rfl yok_X0_votesFor rfl (Nat.le_of_ble_eq_true rfl) ci0 h9 (by decide) rfl dX0_winner_41 rfl ?_
      refine P.istore (pc' := 46) (lv' := [(6, .int q6), (0, .ref c0), (1, .int c1), (2, .int c2), (3, .int v3), (4, .int v4), (5, .int v5)]) dX0_winner_44 rfl (Nat.le_of_ble_eq_true rfl) rfl ?_
      refine P.iload 0 (pc' := 48) dX0_winner_46 rfl rfl ?_
      refine P.if_eq (tgt := 97) (pc' := 51) dX0_winner_48 (by decide) rfl (fun y10 => ?_) (fun y10 => ?_)
      · have hf := (if_pos y10).symm.trans hf
        obtain ⟨x11, e12, hf⟩ := nm_i hf
        refine P.iinc 6 (pc' := 100) (lv' := [(5, .int x11), (6, .int q6), (0, .ref c0), (1, .int c1), (2, .int c2), (3, .int v3), (4, .int v4)]) dX0_winner_97 rfl rfl (by decide) e12 (Nat.le_of_ble_eq_true rfl) rfl ?_
        refine P.goto (tgt := 27) dX0_winner_100 (by decide) ?_
        exact PW.sub [2, 3, 4, 5, 6, 0] rfl (ih _ _ _ hf)
      · have hf := (if_neg y10).symm.trans hf
        refine P.iload 0 (pc' := 53) dX0_winner_51 rfl rfl ?_
        refine P.iload 5 (pc' := 55) dX0_winner_53 rfl rfl ?_
        refine P.icmp_lt (tgt := 97) (pc' := 58) dX0_winner_55 (by decide) rfl (fun y13 => ?_) (fun y13 => ?_)
        · have hf := (if_pos y13).symm.trans hf
          obtain ⟨x14, e15, hf⟩ := nm_i hf
          refine P.iinc 6 (pc' := 100) (lv' := [(5, .int x14), (6, .int q6), (0, .ref c0), (1, .int c1), (2, .int c2), (3, .int v3), (4, .int v4)]) dX0_winner_97 rfl rfl (by decide) e15 (Nat.le_of_ble_eq_true rfl) rfl ?_
          refine P.goto (tgt := 27) dX0_winner_100 (by decide) ?_
          exact PW.sub [2, 3, 4, 5, 6, 0] rfl (ih _ _ _ hf)
        · have hf := (if_neg y13).symm.trans hf
          refine P.iload 0 (pc' := 60) dX0_winner_58 rfl rfl ?_
          refine P.iload 5 (pc' := 62) dX0_winner_60 rfl rfl ?_
          refine P.icmp_ne (tgt := 90) (pc' := 65) dX0_winner_62 (by decide) rfl (fun y16 => ?_) (fun y16 => ?_)
          · have hf := (if_neg y16).symm.trans hf
            refine P.iload 6 (pc' := 92) dX0_winner_90 rfl rfl ?_
            refine P.istore_n (pc' := 93) (lv' := [(3, .int v5), (6, .int q6), (0, .ref c0), (1, .int c1), (2, .int c2), (4, .int v4), (5, .int v5)]) dX0_winner_92 rfl rfl (Nat.le_of_ble_eq_true rfl) rfl ?_
            refine P.iload 1 (pc' := 95) dX0_winner_93 rfl rfl ?_
            refine P.istore (pc' := 97) (lv' := [(4, .int q6), (3, .int v5), (6, .int q6), (0, .ref c0), (1, .int c1), (2, .int c2), (5, .int v5)]) dX0_winner_95 rfl (Nat.le_of_ble_eq_true rfl) rfl ?_
            obtain ⟨x17, e18, hf⟩ := nm_i hf
            refine P.iinc 6 (pc' := 100) (lv' := [(5, .int x17), (4, .int q6), (3, .int v5), (6, .int q6), (0, .ref c0), (1, .int c1), (2, .int c2)]) dX0_winner_97 rfl rfl (by decide) e18 (Nat.le_of_ble_eq_true rfl) rfl ?_
            refine P.goto (tgt := 27) dX0_winner_100 (by decide) ?_
            exact PW.sub [4, 5, 6, 2, 1, 0] rfl (ih _ _ _ hf)
          · have hf := (if_pos y16).symm.trans hf
            refine P.aload_n 1 (pc' := 66) dX0_winner_65 rfl rfl rfl ?_
            obtain ⟨x19, h20, hf⟩ := ob hf
            refine P.get (pc' := 69) ci0 4 (by decide) (gfR_spec h20) q479 (Or.inl rfl) dX0_winner_66 rfl ?_
            obtain ⟨x21, h22, hf⟩ := ob hf
            refine P.getN (pc' := 72) ci6 0 (by decide) (gfR_spec h22) q414 (Or.inl rfl) dX0_winner_69 rfl ?_
            refine P.iload 6 (pc' := 74) dX0_winner_72 rfl rfl ?_
            obtain ⟨x23, h24, hf⟩ := ob hf
            refine P.iald (t := 0) (pc' := 75) rfl h24 dX0_winner_74 rfl ?_
            refine P.aload_n 1 (pc' := 76) dX0_winner_75 rfl rfl rfl ?_
            obtain ⟨x25, h26, hf⟩ := ob hf
            refine P.get (pc' := 79) ci0 4 (by decide) (gfR_spec h26) q479 (Or.inl rfl) dX0_winner_76 rfl ?_
            obtain ⟨x27, h28, hf⟩ := ob hf
            refine P.getN (pc' := 82) ci6 0 (by decide) (gfR_spec h28) q414 (Or.inl rfl) dX0_winner_79 rfl ?_
            refine P.iload_n 4 (pc' := 83) dX0_winner_82 rfl rfl rfl ?_
            obtain ⟨x29, h30, hf⟩ := ob hf
            refine P.iald (t := 0) (pc' := 84) rfl h30 dX0_winner_83 rfl ?_
            refine P.icmp_gt (tgt := 90) (pc' := 87) dX0_winner_84 (by decide) rfl (fun y31 => ?_) (fun y31 => ?_)
            · have hf := (if_pos y31).symm.trans hf
              refine P.iload 6 (pc' := 92) dX0_winner_90 rfl rfl ?_
              refine P.istore_n (pc' := 93) (lv' := [(3, .int v5), (6, .int q6), (0, .ref c0), (1, .int c1), (2, .int c2), (4, .int v4), (5, .int v5)]) dX0_winner_92 rfl rfl (Nat.le_of_ble_eq_true rfl) rfl ?_
              refine P.iload 1 (pc' := 95) dX0_winner_93 rfl rfl ?_
              refine P.istore (pc' := 97) (lv' := [(4, .int q6), (3, .int v5), (6, .int q6), (0, .ref c0), (1, .int c1), (2, .int c2), (5, .int v5)]) dX0_winner_95 rfl (Nat.le_of_ble_eq_true rfl) rfl ?_
              obtain ⟨x32, e33, hf⟩ := nm_i hf
              refine P.iinc 6 (pc' := 100) (lv' := [(5, .int x32), (4, .int q6), (3, .int v5), (6, .int q6), (0, .ref c0), (1, .int c1), (2, .int c2)]) dX0_winner_97 rfl rfl (by decide) e33 (Nat.le_of_ble_eq_true rfl) rfl ?_
              refine P.goto (tgt := 27) dX0_winner_100 (by decide) ?_
              exact PW.sub [4, 5, 6, 2, 1, 0] rfl (ih _ _ _ hf)
            · have hf := (if_neg y31).symm.trans hf
              refine P.goto (tgt := 97) dX0_winner_87 (by decide) ?_
              obtain ⟨x34, e35, hf⟩ := nm_i hf
              refine P.iinc 6 (pc' := 100) (lv' := [(5, .int x34), (6, .int q6), (0, .ref c0), (1, .int c1), (2, .int c2), (3, .int v3), (4, .int v4)]) dX0_winner_97 rfl rfl (by decide) e35 (Nat.le_of_ble_eq_true rfl) rfl ?_
              refine P.goto (tgt := 27) dX0_winner_100 (by decide) ?_
              exact PW.sub [2, 3, 4, 5, 6, 0] rfl (ih _ _ _ hf)
noncomputable def f_X0_winner (F : Nat) (this : Nat) (p1 : Int32) (p2 : Int32) (μ : Sw) : Option Int32 :=
  Option.bind (oc μ this 0) fun u3 =>
  Option.bind (f_X0_isOffice F this p1 μ) fun q1 =>
  if q1 = 0 then
    some (-1)
  else
    Option.bind (oc μ this 0) fun u8 =>
    Option.bind (f_X0_isKnown F this p2 μ) fun q6 =>
    if q6 = 0 then
      some (-1)
    else
      f_X0_winner_L27 F this p1 p2 μ F (-2) 0 0
set_option maxHeartbeats 4000000 in
theorem ok_X0_winner {g : Gx} (F : Nat) (this : Nat) (p1 : Int32) (p2 : Int32) (μ : Sw) {rv : Int32} (hf : f_X0_winner F this p1 p2 μ = some rv) : Cl g 7 yX0_winner cX0_winner 7 (some Jvm.ClassFile.FieldType.int) [.ref this, .int p1, .int p2] μ (some (.int rv)) μ := by
  unfold f_X0_winner at hf
  refine Cl.of (own := RX0) (ini := false) (by decide +kernel) rfl (by decide) (Nat.le_of_ble_eq_true rfl) ?_
  show PW g mX0_winner 7 μ μ (QN g (some (.int rv)) μ μ) 0 [(0, .ref this), (1, .int p1), (2, .int p2)] [] μ
  refine P.aload_n 0 (pc' := 1) dX0_winner_0 rfl rfl rfl ?_
  refine P.iload_n 1 (pc' := 2) dX0_winner_1 rfl rfl rfl ?_
  obtain ⟨u3, h4, hf⟩ := ob hf
  obtain ⟨q1, h2, hf⟩ := ob hf
  refine P.callV (pc' := 5) (As := [.int p1]) 1 (ok_X0_isOffice F this p1 μ h2) (Nat.le_of_ble_eq_true rfl) (lw_V q1092 q1094 qs38 q159 q1095) rfl yok_X0_isOffice rfl (Nat.le_of_ble_eq_true rfl) ci0 h4 (by decide) rfl dX0_winner_2 rfl ?_
  refine P.if_eq (tgt := 16) (pc' := 8) dX0_winner_5 (by decide) rfl (fun y5 => ?_) (fun y5 => ?_)
  · have hf := (if_pos y5).symm.trans hf
    refine P.iconst (v := (-1)) (pc' := 17) dX0_winner_16 rfl (by decide) ?_
    cases hf; exact P.iret rfl dX0_winner_17
  · have hf := (if_neg y5).symm.trans hf
    refine P.aload_n 0 (pc' := 9) dX0_winner_8 rfl rfl rfl ?_
    refine P.iload_n 2 (pc' := 10) dX0_winner_9 rfl rfl rfl ?_
    obtain ⟨u8, h9, hf⟩ := ob hf
    obtain ⟨q6, h7, hf⟩ := ob hf
    refine P.callV (pc' := 13) (As := [.int p2]) 1 (ok_X0_isKnown F this p2 μ h7) (Nat.le_of_ble_eq_true rfl) (lw_V q1456 q1458 qs67 q159 q1459) rfl yok_X0_isKnown rfl (Nat.le_of_ble_eq_true rfl) ci0 h9 (by decide) rfl dX0_winner_10 rfl ?_
    refine P.if_ne (tgt := 18) (pc' := 16) dX0_winner_13 (by decide) rfl (fun y10 => ?_) (fun y10 => ?_)
    · have hf := (if_neg y10).symm.trans hf
      refine P.bipush (v := (-2)) (pc' := 20) dX0_winner_18 rfl (by decide) ?_
      refine P.istore_n (pc' := 21) (lv' := [(3, .int (-2)), (0, .ref this), (1, .int p1), (2, .int p2)]) dX0_winner_20 rfl rfl (Nat.le_of_ble_eq_true rfl) rfl ?_
      refine P.iconst (v := 0) (pc' := 22) dX0_winner_21 rfl (by decide) ?_
      refine P.istore (pc' := 24) (lv' := [(4, .int 0), (3, .int (-2)), (0, .ref this), (1, .int p1), (2, .int p2)]) dX0_winner_22 rfl (Nat.le_of_ble_eq_true rfl) rfl ?_
      refine P.iconst (v := 0) (pc' := 25) dX0_winner_24 rfl (by decide) ?_
      refine P.istore (pc' := 27) (lv' := [(5, .int 0), (4, .int 0), (3, .int (-2)), (0, .ref this), (1, .int p1), (2, .int p2)]) dX0_winner_25 rfl (Nat.le_of_ble_eq_true rfl) rfl ?_
      exact PW.sub [3, 4, 5, 2, 1, 0] rfl (ok_f_X0_winner_L27 F this p1 p2 μ F _ _ _ hf)
    · have hf := (if_pos y10).symm.trans hf
      refine P.iconst (v := (-1)) (pc' := 17) dX0_winner_16 rfl (by decide) ?_
      cases hf; exact P.iret rfl dX0_winner_17
abbrev mX0_isMark : Ym := (RX0, cX0_isMark, 5, (some Jvm.ClassFile.FieldType.boolean), false, [])
noncomputable def f_X0_isMark (F : Nat) (this : Nat) (p1 : Int32) (p2 : Int32) (p3 : Int32) (μ : Sw) : Option Int32 :=
  Option.bind (gfR μ this 0 4) fun x1 =>
  Option.bind (gfR μ x1 6 5) fun x3 =>
  Option.bind (oc μ x3 20) fun u7 =>
  Option.bind (f_J2_get F x3 p1 μ) fun q5 =>
  Option.bind (oc μ q5 19) fun u9 =>
  Option.bind (gfI μ q5 19 0) fun x11 =>
  if x11 = 1 then
    Option.bind (gfI μ q5 19 1) fun x14 =>
    if x14 = p2 then
      Option.bind (oc μ this 0) fun u19 =>
      Option.bind (f_X0_counts F this p1 p3 μ) fun q17 =>
      if q17 = 0 then
        some 0
      else
        some 1
    else
      some 0
  else
    some 0
set_option maxHeartbeats 4000000 in
theorem ok_X0_isMark {g : Gx} (F : Nat) (this : Nat) (p1 : Int32) (p2 : Int32) (p3 : Int32) (μ : Sw) {rv : Int32} (hf : f_X0_isMark F this p1 p2 p3 μ = some rv) : Cl g 5 yX0_isMark cX0_isMark 5 (some Jvm.ClassFile.FieldType.boolean) [.ref this, .int p1, .int p2, .int p3] μ (some (.int rv)) μ := by
  unfold f_X0_isMark at hf
  refine Cl.of (own := RX0) (ini := false) (by decide +kernel) rfl (by decide) (Nat.le_of_ble_eq_true rfl) ?_
  show PW g mX0_isMark 5 μ μ (QN g (some (.int rv)) μ μ) 0 [(0, .ref this), (1, .int p1), (2, .int p2), (3, .int p3)] [] μ
  refine P.aload_n 0 (pc' := 1) dX0_isMark_0 rfl rfl rfl ?_
  obtain ⟨x1, h2, hf⟩ := ob hf
  refine P.get (pc' := 4) ci0 4 (by decide) (gfR_spec h2) q479 (Or.inl rfl) dX0_isMark_1 rfl ?_
  obtain ⟨x3, h4, hf⟩ := ob hf
  refine P.getN (pc' := 7) ci6 5 (by decide) (gfR_spec h4) q425 (Or.inl rfl) dX0_isMark_4 rfl ?_
  refine P.iload_n 1 (pc' := 8) dX0_isMark_7 rfl rfl rfl ?_
  obtain ⟨u7, h8, hf⟩ := ob hf
  obtain ⟨q5, h6, hf⟩ := ob hf
  refine P.callV (pc' := 11) (As := [.int p1]) 1 (ok_J2_get F x3 p1 μ h6) (Nat.le_of_ble_eq_true rfl) (lw_V q1007 q1008 q1009 q165 q1010) rfl yok_J2_get rfl (Nat.le_of_ble_eq_true rfl) ci20 h8 (by decide) rfl dX0_isMark_8 rfl ?_
  obtain ⟨u9, h10, hf⟩ := ob hf
  refine P.castS (u := u9) (pc' := 14) ci19 q1417 h10 dX0_isMark_11 rfl ?_
  refine P.astore (pc' := 16) (lv' := [(4, .ref q5), (0, .ref this), (1, .int p1), (2, .int p2), (3, .int p3)]) dX0_isMark_14 rfl (Nat.le_of_ble_eq_true rfl) rfl ?_
  refine P.aload 0 (pc' := 18) dX0_isMark_16 rfl rfl ?_
  obtain ⟨x11, h12, hf⟩ := ob hf
  refine P.getN (pc' := 21) ci19 0 (by decide) (gfI_spec h12) q1424 (Or.inl rfl) dX0_isMark_18 rfl ?_
  refine P.iconst (v := 1) (pc' := 22) dX0_isMark_21 rfl (by decide) ?_
  refine P.icmp_ne (tgt := 47) (pc' := 25) dX0_isMark_22 (by decide) rfl (fun y13 => ?_) (fun y13 => ?_)
  · have hf := (if_neg y13).symm.trans hf
    refine P.iconst (v := 0) (pc' := 48) dX0_isMark_47 rfl (by decide) ?_
    cases hf; exact P.zret rfl (Or.inl rfl) dX0_isMark_48
  · have hf := (if_pos y13).symm.trans hf
    refine P.aload 0 (pc' := 27) dX0_isMark_25 rfl rfl ?_
    obtain ⟨x14, h15, hf⟩ := ob hf
    refine P.getN (pc' := 30) ci19 1 (by decide) (gfI_spec h15) q1426 (Or.inl rfl) dX0_isMark_27 rfl ?_
    refine P.iload_n 3 (pc' := 31) dX0_isMark_30 rfl rfl rfl ?_
    refine P.icmp_ne (tgt := 47) (pc' := 34) dX0_isMark_31 (by decide) rfl (fun y16 => ?_) (fun y16 => ?_)
    · have hf := (if_neg y16).symm.trans hf
      refine P.iconst (v := 0) (pc' := 48) dX0_isMark_47 rfl (by decide) ?_
      cases hf; exact P.zret rfl (Or.inl rfl) dX0_isMark_48
    · have hf := (if_pos y16).symm.trans hf
      refine P.aload_n 1 (pc' := 35) dX0_isMark_34 rfl rfl rfl ?_
      refine P.iload_n 2 (pc' := 36) dX0_isMark_35 rfl rfl rfl ?_
      refine P.iload_n 4 (pc' := 37) dX0_isMark_36 rfl rfl rfl ?_
      obtain ⟨u19, h20, hf⟩ := ob hf
      obtain ⟨q17, h18, hf⟩ := ob hf
      refine P.callV (pc' := 40) (As := [.int p1, .int p3]) 2 (ok_X0_counts F this p1 p3 μ h18) (Nat.le_of_ble_eq_true rfl) (lw_V q1468 q1470 qs70 q159 q1471) rfl yok_X0_counts rfl (Nat.le_of_ble_eq_true rfl) ci0 h20 (by decide) rfl dX0_isMark_37 rfl ?_
      refine P.if_eq (tgt := 47) (pc' := 43) dX0_isMark_40 (by decide) rfl (fun y21 => ?_) (fun y21 => ?_)
      · have hf := (if_pos y21).symm.trans hf
        refine P.iconst (v := 0) (pc' := 48) dX0_isMark_47 rfl (by decide) ?_
        cases hf; exact P.zret rfl (Or.inl rfl) dX0_isMark_48
      · have hf := (if_neg y21).symm.trans hf
        refine P.iconst (v := 1) (pc' := 44) dX0_isMark_43 rfl (by decide) ?_
        refine P.goto (tgt := 48) dX0_isMark_44 (by decide) ?_
        cases hf; exact P.zret rfl (Or.inr rfl) dX0_isMark_48
