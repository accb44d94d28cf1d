set_option maxRecDepth 100000
theorem yok_X9_lot : yOK yX9_lot 3 := ⟨by decide +kernel, by decide +kernel, by decide +kernel⟩
abbrev mX9_lives : Ym := (RX9, cX9_lives, 9, (some Jvm.ClassFile.FieldType.int), false, [])
noncomputable def t_X9_lives_L87_b (F : Nat) (self : Int32 → Int32 → Int32 → Tw → Option (Int32 × Tw)) (v5 : Int32) (v6 : Int32) (v7 : Int32) (τ : Tw) : Option (Int32 × Tw) :=
  Option.bind (taI τ 6 420 0) fun x1 =>
  if x1 ≤ v7 then
    some (v6, τ)
  else
    Option.bind (taI τ 6 420 6) fun x4 =>
    if x4 ≤ v5 then
      some (v6, τ)
    else
      Option.bind (t_X9_dueOf F v7 τ) fun q7 =>
      Option.bind (t_X9_heightOf F v7 q7.2) fun q9 =>
      Option.bind (taI q7.2 6 420 7) fun x11 =>
      Option.bind (taI q7.2 6 420 7) fun x13 =>
      Option.bind (p_X9_within F (q7.1 - q9) (-x11) x13) fun q15 =>
      if q15 = 0 then
        nm (v7 + 1) fun x37 =>
        self v5 v6 x37 q7.2
      else
        nm (10 + v7) fun x18 =>
        Option.bind (taI q7.2 7 1260 x18) fun x20 =>
        Option.bind (tsA q7.2 7 0 1260 x18 (x20 + q15)) fun τ23 =>
        if 0 ≤ q15 then
          nm (v6 + q15) fun x25 =>
          nm (v5 + 1) fun x27 =>
          nm (v7 + 1) fun x29 =>
          self x27 x25 x29 τ23
        else
          nm (v6 + (-q15)) fun x31 =>
          nm (v5 + 1) fun x33 =>
          nm (v7 + 1) fun x35 =>
          self x33 x31 x35 τ23
noncomputable def t_X9_lives_L87 (F : Nat) (n : Nat) : Int32 → Int32 → Int32 → Tw → Option (Int32 × Tw) := Nat.rec (motive := fun _ => Int32 → Int32 → Int32 → Tw → Option (Int32 × Tw)) (fun _ _ _ _ => none) (fun _ self => t_X9_lives_L87_b F self) n
set_option maxHeartbeats 4000000 in
theorem ok_t_X9_lives_L87 {g : Gx} {μ0 : Sw} {rv : Int32} {τF : Tw} (F : Nat) (tw : Nat) (μ : Sw) : ∀ (n : Nat) (v5 : Int32) (v6 : Int32) (v7 : Int32) (τ : Tw), t_X9_lives_L87 F n v5 v6 v7 τ = some (rv, τF) → PW g mX9_lives 4 μ0 (mT tw τF μ) (QN g (some (.int rv)) μ0 (mT tw τF μ)) 87 [(0, .ref tw), (5, .int v5), (6, .int v6), (7, .int v7)] [] (mT tw τ μ) := by
  intro n
  induction n with
  | zero =>
    intro v5 v6 v7 τ hf
    have hf : (none : Option (Int32 × Tw)) = some _ := hf
    cases hf
  | succ n ih =>
    intro v5 v6 v7 τ hf
    have hf : t_X9_lives_L87_b F (t_X9_lives_L87 F n) v5 v6 v7 τ = some (rv, τF) := hf
    unfold t_X9_lives_L87_b at hf
    refine P.iload 3 (pc' := 89) dX9_lives_87 rfl rfl ?_
    refine P.aload_n 0 (pc' := 90) dX9_lives_89 rfl rfl rfl ?_
    refine P.get (v := .ref (tw + 6)) (pc' := 93) ci9 12 (by decide) (T_gf rfl) q1567 (Or.inl rfl) dX9_lives_90 rfl ?_
    refine P.iconst (v := 0) (pc' := 94) dX9_lives_93 rfl (by decide) ?_
    obtain ⟨x1, h2, hf⟩ := ob hf
    refine P.iald (t := 0) (pc' := 95) rfl (T_aI rfl h2) dX9_lives_94 rfl ?_
    refine P.icmp_ge (tgt := 193) (pc' := 98) dX9_lives_95 (by decide) rfl (fun y3 => ?_) (fun y3 => ?_)
    · have hf := (if_pos y3).symm.trans hf
      refine P.iload 2 (pc' := 195) dX9_lives_193 rfl rfl ?_
      cases hf; exact P.iret rfl dX9_lives_195
    · have hf := (if_neg y3).symm.trans hf
      refine P.iload 1 (pc' := 100) dX9_lives_98 rfl rfl ?_
      refine P.aload_n 0 (pc' := 101) dX9_lives_100 rfl rfl rfl ?_
      refine P.get (v := .ref (tw + 6)) (pc' := 104) ci9 12 (by decide) (T_gf rfl) q1567 (Or.inl rfl) dX9_lives_101 rfl ?_
      refine P.bipush (v := 6) (pc' := 106) dX9_lives_104 rfl (by decide) ?_
      obtain ⟨x4, h5, hf⟩ := ob hf
      refine P.iald (t := 0) (pc' := 107) rfl (T_aI rfl h5) dX9_lives_106 rfl ?_
      refine P.icmp_ge (tgt := 193) (pc' := 110) dX9_lives_107 (by decide) rfl (fun y6 => ?_) (fun y6 => ?_)
      · have hf := (if_pos y6).symm.trans hf
        refine P.iload 2 (pc' := 195) dX9_lives_193 rfl rfl ?_
        cases hf; exact P.iret rfl dX9_lives_195
      · have hf := (if_neg y6).symm.trans hf
        refine P.aload_n 0 (pc' := 111) dX9_lives_110 rfl rfl rfl ?_
        refine P.iload 3 (pc' := 113) dX9_lives_111 rfl rfl ?_
        obtain ⟨q7, h8, hf⟩ := ob hf
        refine P.callV (pc' := 116) (As := [.int v7]) 1 (ok_X9_dueOf F v7 tw μ τ h8) (Nat.le_of_ble_eq_true rfl) (lw_V q1936 q1938 qs118 q172 q1939) rfl yok_X9_dueOf rfl (Nat.le_of_ble_eq_true rfl) ci9 T_oc (by decide) rfl dX9_lives_113 rfl ?_
        refine P.aload_n 0 (pc' := 117) dX9_lives_116 rfl rfl rfl ?_
        refine P.iload 3 (pc' := 119) dX9_lives_117 rfl rfl ?_
        obtain ⟨q9, h10, hf⟩ := ob hf
        refine P.callV (pc' := 122) (As := [.int v7]) 1 (ok_X9_heightOf F v7 tw μ q7.2 h10) (Nat.le_of_ble_eq_true rfl) (lw_V q1928 q1930 qs116 q172 q1931) rfl yok_X9_heightOf rfl (Nat.le_of_ble_eq_true rfl) ci9 T_oc (Nat.le_of_ble_eq_true rfl) rfl dX9_lives_119 rfl ?_
        refine P.isub (pc' := 123) dX9_lives_122 rfl ?_
        refine P.aload_n 0 (pc' := 124) dX9_lives_123 rfl rfl rfl ?_
        refine P.get (v := .ref (tw + 6)) (pc' := 127) ci9 12 (by decide) (T_gf rfl) q1567 (Or.inl rfl) dX9_lives_124 rfl ?_
        refine P.bipush (v := 7) (pc' := 129) dX9_lives_127 rfl (by decide) ?_
        obtain ⟨x11, h12, hf⟩ := ob hf
        refine P.iald (t := 0) (pc' := 130) rfl (T_aI rfl h12) dX9_lives_129 rfl ?_
        refine P.ineg (pc' := 131) dX9_lives_130 rfl ?_
        refine P.aload_n 0 (pc' := 132) dX9_lives_131 rfl rfl rfl ?_
        refine P.get (v := .ref (tw + 6)) (pc' := 135) ci9 12 (by decide) (T_gf rfl) q1567 (Or.inl rfl) dX9_lives_132 rfl ?_
        refine P.bipush (v := 7) (pc' := 137) dX9_lives_135 rfl (by decide) ?_
        obtain ⟨x13, h14, hf⟩ := ob hf
        refine P.iald (t := 0) (pc' := 138) rfl (T_aI rfl h14) dX9_lives_137 rfl ?_
        obtain ⟨q15, h16, hf⟩ := ob hf
        refine P.callS (pc' := 141) (As := [.int (q7.1 - q9), .int (-x11), .int x13]) 3 (ok_X9_within F (q7.1 - q9) (-x11) x13 (mT tw q7.2 μ) h16) (Nat.le_of_ble_eq_true rfl) (lw_S q1952 q1953 q172 q1954) yok_X9_within rfl (Nat.le_of_ble_eq_true rfl) (by decide) rfl dX9_lives_138 rfl ?_
        refine P.istore (pc' := 143) (lv' := [(8, .int q15), (0, .ref tw), (5, .int v5), (6, .int v6), (7, .int v7)]) dX9_lives_141 rfl (Nat.le_of_ble_eq_true rfl) rfl ?_
        refine P.iload 0 (pc' := 145) dX9_lives_143 rfl rfl ?_
        refine P.if_ne (tgt := 151) (pc' := 148) dX9_lives_145 (by decide) rfl (fun y17 => ?_) (fun y17 => ?_)
        · have hf := (if_neg y17).symm.trans hf
          refine P.aload_n 1 (pc' := 152) dX9_lives_151 rfl rfl rfl ?_
          refine P.get (v := .ref (tw + 7)) (pc' := 155) ci9 13 (by decide) (T_gf rfl) q1568 (Or.inl rfl) dX9_lives_152 rfl ?_
          refine P.bipush (v := 10) (pc' := 157) dX9_lives_155 rfl (by decide) ?_
          refine P.iload 4 (pc' := 159) dX9_lives_157 rfl rfl ?_
          refine P.iadd (pc' := 160) dX9_lives_159 rfl ?_
          obtain ⟨x18, e19, hf⟩ := nm_i hf
          refine P.nmi e19 ?_
          refine P.dup2 (pc' := 161) dX9_lives_160 rfl rfl rfl ?_
          obtain ⟨x20, h21, hf⟩ := ob hf
          refine P.iald (t := 0) (pc' := 162) rfl (T_aI rfl h21) dX9_lives_161 rfl ?_
          refine P.iload 0 (pc' := 164) dX9_lives_162 rfl rfl ?_
          refine P.iadd (pc' := 165) dX9_lives_164 rfl ?_
          obtain ⟨τ23, h22, hf⟩ := ob hf
          refine P.iast (pc' := 166) (T_sA rfl (by decide) h22) dX9_lives_165 rfl ?_
          refine P.iload 3 (pc' := 168) dX9_lives_166 rfl rfl ?_
          refine P.iload 0 (pc' := 170) dX9_lives_168 rfl rfl ?_
          refine P.if_ge (tgt := 179) (pc' := 173) dX9_lives_170 (by decide) rfl (fun y24 => ?_) (fun y24 => ?_)
          · have hf := (if_pos y24).symm.trans hf
            refine P.iload 0 (pc' := 181) dX9_lives_179 rfl rfl ?_
            refine P.iadd (pc' := 182) dX9_lives_181 rfl ?_
            obtain ⟨x25, e26, hf⟩ := nm_i hf
            refine P.nmi e26 ?_
            refine P.istore (pc' := 184) (lv' := [(6, .int x25), (8, .int q15), (0, .ref tw), (5, .int v5), (7, .int v7)]) dX9_lives_182 rfl (Nat.le_of_ble_eq_true rfl) rfl ?_
            obtain ⟨x27, e28, hf⟩ := nm_i hf
            refine P.iinc 3 (pc' := 187) (lv' := [(5, .int x27), (6, .int x25), (8, .int q15), (0, .ref tw), (7, .int v7)]) dX9_lives_184 rfl rfl (by decide) e28 (Nat.le_of_ble_eq_true rfl) rfl ?_
            obtain ⟨x29, e30, hf⟩ := nm_i hf
            refine P.iinc 4 (pc' := 190) (lv' := [(7, .int x29), (5, .int x27), (6, .int x25), (8, .int q15), (0, .ref tw)]) dX9_lives_187 rfl rfl (by decide) e30 (Nat.le_of_ble_eq_true rfl) rfl ?_
            refine P.goto (tgt := 87) dX9_lives_190 (by decide) ?_
            exact PW.sub [4, 1, 2, 0] rfl (ih _ _ _ _ hf)
          · have hf := (if_neg y24).symm.trans hf
            refine P.iload 0 (pc' := 175) dX9_lives_173 rfl rfl ?_
            refine P.ineg (pc' := 176) dX9_lives_175 rfl ?_
            refine P.goto (tgt := 181) dX9_lives_176 (by decide) ?_
            refine P.iadd (pc' := 182) dX9_lives_181 rfl ?_
            obtain ⟨x31, e32, hf⟩ := nm_i hf
            refine P.nmi e32 ?_
            refine P.istore (pc' := 184) (lv' := [(6, .int x31), (8, .int q15), (0, .ref tw), (5, .int v5), (7, .int v7)]) dX9_lives_182 rfl (Nat.le_of_ble_eq_true rfl) rfl ?_
            obtain ⟨x33, e34, hf⟩ := nm_i hf
            refine P.iinc 3 (pc' := 187) (lv' := [(5, .int x33), (6, .int x31), (8, .int q15), (0, .ref tw), (7, .int v7)]) dX9_lives_184 rfl rfl (by decide) e34 (Nat.le_of_ble_eq_true rfl) rfl ?_
            obtain ⟨x35, e36, hf⟩ := nm_i hf
            refine P.iinc 4 (pc' := 190) (lv' := [(7, .int x35), (5, .int x33), (6, .int x31), (8, .int q15), (0, .ref tw)]) dX9_lives_187 rfl rfl (by decide) e36 (Nat.le_of_ble_eq_true rfl) rfl ?_
            refine P.goto (tgt := 87) dX9_lives_190 (by decide) ?_
            exact PW.sub [4, 1, 2, 0] rfl (ih _ _ _ _ hf)
        · have hf := (if_pos y17).symm.trans hf
          refine P.goto (tgt := 187) dX9_lives_148 (by decide) ?_
          obtain ⟨x37, e38, hf⟩ := nm_i hf
          refine P.iinc 4 (pc' := 190) (lv' := [(7, .int x37), (8, .int q15), (0, .ref tw), (5, .int v5), (6, .int v6)]) dX9_lives_187 rfl rfl (by decide) e38 (Nat.le_of_ble_eq_true rfl) rfl ?_
          refine P.goto (tgt := 87) dX9_lives_190 (by decide) ?_
          exact PW.sub [2, 3, 4, 0] rfl (ih _ _ _ _ hf)
noncomputable def t_X9_lives (F : Nat) (p1 : Int32) (p2 : Int32) (τ : Tw) : Option (Int32 × Tw) :=
  Option.bind (taI τ 6 420 0) fun x1 =>
  Option.bind (p_X9_lot F p1 (10 * p2) x1) fun q3 =>
  Option.bind (tsA τ 7 0 1260 (30 + q3) (-2)) fun τ6 =>
  Option.bind (taI τ6 6 420 1) fun x7 =>
  Option.bind (p_X9_lot F p1 ((10 * p2) + 1) x7) fun q9 =>
  Option.bind (taI τ6 6 420 0) fun x11 =>
  Option.bind (p_X9_lot F p1 ((10 * p2) + 2) x11) fun q13 =>
  Option.bind (t_X9_holderOf F q9 τ6) fun q15 =>
  if 0 ≤ q15 then
    t_X9_lives_L87 F F 0 0 0 τ6
  else
    Option.bind (tsA τ6 7 0 1260 (30 + q13) q9) fun τ19 =>
    t_X9_lives_L87 F F 0 0 0 τ19
set_option maxHeartbeats 4000000 in
theorem ok_X9_lives {g : Gx} (F : Nat) (p1 : Int32) (p2 : Int32) (tw : Nat) (μ : Sw) (τ : Tw) {rv : Int32} {τF : Tw} (hf : t_X9_lives F p1 p2 τ = some (rv, τF)) : Cl g 4 yX9_lives cX9_lives 9 (some Jvm.ClassFile.FieldType.int) [.ref tw, .int p1, .int p2] (mT tw τ μ) (some (.int rv)) (mT tw τF μ) := by
  unfold t_X9_lives at hf
  refine Cl.of (own := RX9) (ini := false) (by decide +kernel) rfl (by decide) (Nat.le_of_ble_eq_true rfl) ?_
  show PW g mX9_lives 4 (mT tw τ μ) (mT tw τF μ) (QN g (some (.int rv)) (mT tw τ μ) (mT tw τF μ)) 0 [(0, .ref tw), (1, .int p1), (2, .int p2)] [] (mT tw τ μ)
  refine P.aload_n 0 (pc' := 1) dX9_lives_0 rfl rfl rfl ?_
  refine P.get (v := .ref (tw + 7)) (pc' := 4) ci9 13 (by decide) (T_gf rfl) q1568 (Or.inl rfl) dX9_lives_1 rfl ?_
  refine P.bipush (v := 30) (pc' := 6) dX9_lives_4 rfl (by decide) ?_
  refine P.iload_n 1 (pc' := 7) dX9_lives_6 rfl rfl rfl ?_
  refine P.bipush (v := 10) (pc' := 9) dX9_lives_7 rfl (by decide) ?_
  refine P.iload_n 2 (pc' := 10) dX9_lives_9 rfl rfl rfl ?_
  refine P.imul (pc' := 11) dX9_lives_10 rfl ?_
  refine P.aload_n 0 (pc' := 12) dX9_lives_11 rfl rfl rfl ?_
  refine P.get (v := .ref (tw + 6)) (pc' := 15) ci9 12 (by decide) (T_gf rfl) q1567 (Or.inl rfl) dX9_lives_12 rfl ?_
  refine P.iconst (v := 0) (pc' := 16) dX9_lives_15 rfl (by decide) ?_
  obtain ⟨x1, h2, hf⟩ := ob hf
  refine P.iald (t := 0) (pc' := 17) rfl (T_aI rfl h2) dX9_lives_16 rfl ?_
  obtain ⟨q3, h4, hf⟩ := ob hf
  refine P.callS (pc' := 20) (As := [.int p1, .int (10 * p2), .int x1]) 3 (ok_X9_lot F p1 (10 * p2) x1 (mT tw τ μ) h4) (Nat.le_of_ble_eq_true rfl) (lw_S q2260 q2261 q172 q2262) yok_X9_lot rfl (Nat.le_of_ble_eq_true rfl) (Nat.le_of_ble_eq_true rfl) rfl dX9_lives_17 rfl ?_
  refine P.iadd (pc' := 21) dX9_lives_20 rfl ?_
  refine P.bipush (v := (-2)) (pc' := 23) dX9_lives_21 rfl (by decide) ?_
  obtain ⟨τ6, h5, hf⟩ := ob hf
  refine P.iast (pc' := 24) (T_sA rfl (by decide) h5) dX9_lives_23 rfl ?_
  refine P.iload_n 1 (pc' := 25) dX9_lives_24 rfl rfl rfl ?_
  refine P.bipush (v := 10) (pc' := 27) dX9_lives_25 rfl (by decide) ?_
  refine P.iload_n 2 (pc' := 28) dX9_lives_27 rfl rfl rfl ?_
  refine P.imul (pc' := 29) dX9_lives_28 rfl ?_
  refine P.iconst (v := 1) (pc' := 30) dX9_lives_29 rfl (by decide) ?_
  refine P.iadd (pc' := 31) dX9_lives_30 rfl ?_
  refine P.aload_n 0 (pc' := 32) dX9_lives_31 rfl rfl rfl ?_
  refine P.get (v := .ref (tw + 6)) (pc' := 35) ci9 12 (by decide) (T_gf rfl) q1567 (Or.inl rfl) dX9_lives_32 rfl ?_
  refine P.iconst (v := 1) (pc' := 36) dX9_lives_35 rfl (by decide) ?_
  obtain ⟨x7, h8, hf⟩ := ob hf
  refine P.iald (t := 0) (pc' := 37) rfl (T_aI rfl h8) dX9_lives_36 rfl ?_
  obtain ⟨q9, h10, hf⟩ := ob hf
  refine P.callS (pc' := 40) (As := [.int p1, .int ((10 * p2) + 1), .int x7]) 3 (ok_X9_lot F p1 ((10 * p2) + 1) x7 (mT tw τ6 μ) h10) (Nat.le_of_ble_eq_true rfl) (lw_S q2260 q2261 q172 q2262) yok_X9_lot rfl (Nat.le_of_ble_eq_true rfl) (by decide) rfl dX9_lives_37 rfl ?_
  refine P.istore_n (pc' := 41) (lv' := [(3, .int q9), (0, .ref tw), (1, .int p1), (2, .int p2)]) dX9_lives_40 rfl rfl (Nat.le_of_ble_eq_true rfl) rfl ?_
  refine P.iload_n 2 (pc' := 42) dX9_lives_41 rfl rfl rfl ?_
  refine P.bipush (v := 10) (pc' := 44) dX9_lives_42 rfl (by decide) ?_
  refine P.iload_n 3 (pc' := 45) dX9_lives_44 rfl rfl rfl ?_
  refine P.imul (pc' := 46) dX9_lives_45 rfl ?_
  refine P.iconst (v := 2) (pc' := 47) dX9_lives_46 rfl (by decide) ?_
  refine P.iadd (pc' := 48) dX9_lives_47 rfl ?_
  refine P.aload_n 1 (pc' := 49) dX9_lives_48 rfl rfl rfl ?_
  refine P.get (v := .ref (tw + 6)) (pc' := 52) ci9 12 (by decide) (T_gf rfl) q1567 (Or.inl rfl) dX9_lives_49 rfl ?_
  refine P.iconst (v := 0) (pc' := 53) dX9_lives_52 rfl (by decide) ?_
  obtain ⟨x11, h12, hf⟩ := ob hf
  refine P.iald (t := 0) (pc' := 54) rfl (T_aI rfl h12) dX9_lives_53 rfl ?_
  obtain ⟨q13, h14, hf⟩ := ob hf
  refine P.callS (pc' := 57) (As := [.int p1, .int ((10 * p2) + 2), .int x11]) 3 (ok_X9_lot F p1 ((10 * p2) + 2) x11 (mT tw τ6 μ) h14) (Nat.le_of_ble_eq_true rfl) (lw_S q2260 q2261 q172 q2262) yok_X9_lot rfl (Nat.le_of_ble_eq_true rfl) (by decide) rfl dX9_lives_54 rfl ?_
  refine P.istore (pc' := 59) (lv' := [(4, .int q13), (3, .int q9), (0, .ref tw), (1, .int p1), (2, .int p2)]) dX9_lives_57 rfl (Nat.le_of_ble_eq_true rfl) rfl ?_
  refine P.aload_n 2 (pc' := 60) dX9_lives_59 rfl rfl rfl ?_
  refine P.iload_n 1 (pc' := 61) dX9_lives_60 rfl rfl rfl ?_
  obtain ⟨q15, h16, hf⟩ := ob hf
  refine P.callV (pc' := 64) (As := [.int q9]) 1 (ok_X9_holderOf F q9 tw μ τ6 h16) (Nat.le_of_ble_eq_true rfl) (lw_V q1551 q1553 qs76 q172 q1554) rfl yok_X9_holderOf rfl (Nat.le_of_ble_eq_true rfl) ci9 T_oc (by decide) rfl dX9_lives_61 rfl ?_
  refine P.if_ge (tgt := 78) (pc' := 67) dX9_lives_64 (by decide) rfl (fun y17 => ?_) (fun y17 => ?_)
  · have hf := (if_pos y17).symm.trans hf
    refine P.iconst (v := 0) (pc' := 79) dX9_lives_78 rfl (by decide) ?_
    refine P.istore (pc' := 81) (lv' := [(5, .int 0), (4, .int q13), (3, .int q9), (0, .ref tw), (1, .int p1), (2, .int p2)]) dX9_lives_79 rfl (Nat.le_of_ble_eq_true rfl) rfl ?_
    refine P.iconst (v := 0) (pc' := 82) dX9_lives_81 rfl (by decide) ?_
    refine P.istore (pc' := 84) (lv' := [(6, .int 0), (5, .int 0), (4, .int q13), (3, .int q9), (0, .ref tw), (1, .int p1), (2, .int p2)]) dX9_lives_82 rfl (Nat.le_of_ble_eq_true rfl) rfl ?_
    refine P.iconst (v := 0) (pc' := 85) dX9_lives_84 rfl (by decide) ?_
    refine P.istore (pc' := 87) (lv' := [(7, .int 0), (6, .int 0), (5, .int 0), (4, .int q13), (3, .int q9), (0, .ref tw), (1, .int p1), (2, .int p2)]) dX9_lives_85 rfl (Nat.le_of_ble_eq_true rfl) rfl ?_
    exact PW.sub [5, 2, 1, 0] rfl (ok_t_X9_lives_L87 F tw μ F _ _ _ _ hf)
  · have hf := (if_neg y17).symm.trans hf
    refine P.aload_n 2 (pc' := 68) dX9_lives_67 rfl rfl rfl ?_
    refine P.get (v := .ref (tw + 7)) (pc' := 71) ci9 13 (by decide) (T_gf rfl) q1568 (Or.inl rfl) dX9_lives_68 rfl ?_
    refine P.bipush (v := 30) (pc' := 73) dX9_lives_71 rfl (by decide) ?_
    refine P.iload 0 (pc' := 75) dX9_lives_73 rfl rfl ?_
    refine P.iadd (pc' := 76) dX9_lives_75 rfl ?_
    refine P.iload_n 1 (pc' := 77) dX9_lives_76 rfl rfl rfl ?_
    obtain ⟨τ19, h18, hf⟩ := ob hf
    refine P.iast (pc' := 78) (T_sA rfl (by decide) h18) dX9_lives_77 rfl ?_
    refine P.iconst (v := 0) (pc' := 79) dX9_lives_78 rfl (by decide) ?_
    refine P.istore (pc' := 81) (lv' := [(5, .int 0), (4, .int q13), (3, .int q9), (0, .ref tw), (1, .int p1), (2, .int p2)]) dX9_lives_79 rfl (Nat.le_of_ble_eq_true rfl) rfl ?_
    refine P.iconst (v := 0) (pc' := 82) dX9_lives_81 rfl (by decide) ?_
    refine P.istore (pc' := 84) (lv' := [(6, .int 0), (5, .int 0), (4, .int q13), (3, .int q9), (0, .ref tw), (1, .int p1), (2, .int p2)]) dX9_lives_82 rfl (Nat.le_of_ble_eq_true rfl) rfl ?_
    refine P.iconst (v := 0) (pc' := 85) dX9_lives_84 rfl (by decide) ?_
    refine P.istore (pc' := 87) (lv' := [(7, .int 0), (6, .int 0), (5, .int 0), (4, .int q13), (3, .int q9), (0, .ref tw), (1, .int p1), (2, .int p2)]) dX9_lives_85 rfl (Nat.le_of_ble_eq_true rfl) rfl ?_
    exact PW.sub [5, 2, 1, 0] rfl (ok_t_X9_lives_L87 F tw μ F _ _ _ _ hf)
theorem yok_X9_lives : yOK yX9_lives 2 := ⟨by decide +kernel, by decide +kernel, by decide +kernel⟩
abbrev mX9_years : Ym := (RX9, cX9_years, 5, (some Jvm.ClassFile.FieldType.int), false, [])
noncomputable def t_X9_years_L42_b (F : Nat) (c1 : Int32) (c2 : Int32) (self : Int32 → Int32 → Tw → Option (Int32 × Tw)) (v3 : Int32) (v4 : Int32) (τ : Tw) : Option (Int32 × Tw) :=
  if c2 ≤ v4 then
    some (v3, τ)
  else
    Option.bind (t_X9_lives F c1 v4 τ) fun q2 =>
    nm (v3 + q2.1) fun x4 =>
    nm (v4 + 1) fun x6 =>
    self x4 x6 q2.2
noncomputable def t_X9_years_L42 (F : Nat) (c1 : Int32) (c2 : Int32) (n : Nat) : Int32 → Int32 → Tw → Option (Int32 × Tw) := Nat.rec (motive := fun _ => Int32 → Int32 → Tw → Option (Int32 × Tw)) (fun _ _ _ => none) (fun _ self => t_X9_years_L42_b F c1 c2 self) n
set_option maxHeartbeats 4000000 in
theorem ok_t_X9_years_L42 {g : Gx} {μ0 : Sw} {rv : Int32} {τF : Tw} (F : Nat) (tw : Nat) (μ : Sw) (c1 : Int32) (c2 : Int32) : ∀ (n : Nat) (v3 : Int32) (v4 : Int32) (τ : Tw), t_X9_years_L42 F c1 c2 n v3 v4 τ = some (rv, τF) → PW g mX9_years 5 μ0 (mT tw τF μ) (QN g (some (.int rv)) μ0 (mT tw τF μ)) 42 [(0, .ref tw), (1, .int c1), (2, .int c2), (3, .int v3), (4, .int v4)] [] (mT tw τ μ) := by
  intro n
  induction n with
  | zero =>
    intro v3 v4 τ hf
    have hf : (none : Option (Int32 × Tw)) = some _ := hf
    cases hf
  | succ n ih =>
    intro v3 v4 τ hf
    have hf : t_X9_years_L42_b F c1 c2 (t_X9_years_L42 F c1 c2 n) v3 v4 τ = some (rv, τF) := hf
    unfold t_X9_years_L42_b at hf
    refine P.iload 4 (pc' := 44) dX9_years_42 rfl rfl ?_
    refine P.iload_n 2 (pc' := 45) dX9_years_44 rfl rfl rfl ?_
    refine P.icmp_ge (tgt := 64) (pc' := 48) dX9_years_45 (by decide) rfl (fun y1 => ?_) (fun y1 => ?_)
    · have hf := (if_pos y1).symm.trans hf
      refine P.iload_n 3 (pc' := 65) dX9_years_64 rfl rfl rfl ?_
      cases hf; exact P.iret rfl dX9_years_65
    · have hf := (if_neg y1).symm.trans hf
      refine P.iload_n 3 (pc' := 49) dX9_years_48 rfl rfl rfl ?_
      refine P.aload_n 0 (pc' := 50) dX9_years_49 rfl rfl rfl ?_
      refine P.iload_n 1 (pc' := 51) dX9_years_50 rfl rfl rfl ?_
      refine P.iload 4 (pc' := 53) dX9_years_51 rfl rfl ?_
      obtain ⟨q2, h3, hf⟩ := ob hf
      refine P.callV (pc' := 56) (As := [.int c1, .int v4]) 2 (ok_X9_lives F c1 v4 tw μ τ h3) (Nat.le_of_ble_eq_true rfl) (lw_V q2256 q2258 qs156 q172 q2259) rfl yok_X9_lives rfl (Nat.le_of_ble_eq_true rfl) ci9 T_oc (Nat.le_of_ble_eq_true rfl) rfl dX9_years_53 rfl ?_
      refine P.iadd (pc' := 57) dX9_years_56 rfl ?_
      obtain ⟨x4, e5, hf⟩ := nm_i hf
      refine P.nmi e5 ?_
      refine P.istore_n (pc' := 58) (lv' := [(3, .int x4), (0, .ref tw), (1, .int c1), (2, .int c2), (4, .int v4)]) dX9_years_57 rfl rfl (Nat.le_of_ble_eq_true rfl) rfl ?_
      obtain ⟨x6, e7, hf⟩ := nm_i hf
      refine P.iinc 4 (pc' := 61) (lv' := [(4, .int x6), (3, .int x4), (0, .ref tw), (1, .int c1), (2, .int c2)]) dX9_years_58 rfl rfl (by decide) e7 (Nat.le_of_ble_eq_true rfl) rfl ?_
      refine P.goto (tgt := 42) dX9_years_61 (by decide) ?_
      exact PW.sub [2, 3, 4, 1, 0] rfl (ih _ _ _ hf)
noncomputable def t_X9_years (F : Nat) (p1 : Int32) (p2 : Int32) (τ : Tw) : Option (Int32 × Tw) :=
  Option.bind (p_X9_isIn F p2 1 40) fun q1 =>
  if q1 = 0 then
    some ((-1), τ)
  else
    nm (tsI τ 40 0) fun τ4 =>
    Option.bind (taI τ4 6 420 0) fun x6 =>
    if x6 = 0 then
      some (0, τ4)
    else
      Option.bind (taI τ4 6 420 1) fun x9 =>
      if x9 = 0 then
        some (0, τ4)
      else
        t_X9_years_L42 F p1 p2 F 0 0 τ4
set_option maxHeartbeats 4000000 in
theorem ok_X9_years {g : Gx} (F : Nat) (p1 : Int32) (p2 : Int32) (tw : Nat) (μ : Sw) (τ : Tw) {rv : Int32} {τF : Tw} (hf : t_X9_years F p1 p2 τ = some (rv, τF)) : Cl g 5 yX9_years cX9_years 5 (some Jvm.ClassFile.FieldType.int) [.ref tw, .int p1, .int p2] (mT tw τ μ) (some (.int rv)) (mT tw τF μ) := by
  unfold t_X9_years at hf
  refine Cl.of (own := RX9) (ini := false) (by decide +kernel) rfl (by decide) (Nat.le_of_ble_eq_true rfl) ?_
  show PW g mX9_years 5 (mT tw τ μ) (mT tw τF μ) (QN g (some (.int rv)) (mT tw τ μ) (mT tw τF μ)) 0 [(0, .ref tw), (1, .int p1), (2, .int p2)] [] (mT tw τ μ)
  refine P.iload_n 2 (pc' := 1) dX9_years_0 rfl rfl rfl ?_
  refine P.iconst (v := 1) (pc' := 2) dX9_years_1 rfl (by decide) ?_
  refine P.bipush (v := 40) (pc' := 4) dX9_years_2 rfl (by decide) ?_
  obtain ⟨q1, h2, hf⟩ := ob hf
  refine P.callS (pc' := 7) (As := [.int p2, .int 1, .int 40]) 3 (ok_X9_isIn F p2 1 40 (mT tw τ μ) h2) (Nat.le_of_ble_eq_true rfl) (lw_S q1971 q1972 q172 q1973) yok_X9_isIn rfl (Nat.le_of_ble_eq_true rfl) (by decide) rfl dX9_years_4 rfl ?_
  refine P.if_ne (tgt := 12) (pc' := 10) dX9_years_7 (by decide) rfl (fun y3 => ?_) (fun y3 => ?_)
  · have hf := (if_neg y3).symm.trans hf
    refine P.aload_n 0 (pc' := 13) dX9_years_12 rfl rfl rfl ?_
    refine P.iconst (v := 0) (pc' := 14) dX9_years_13 rfl (by decide) ?_
    obtain ⟨τ4, e5, hf⟩ := nm_i hf
    refine P.put (v := .int 0) (pc' := 17) ci9 40 (by decide) (T_put rfl (by decide) e5) q1595 (Or.inl rfl) rfl rfl rfl dX9_years_14 rfl ?_
    refine P.aload_n 0 (pc' := 18) dX9_years_17 rfl rfl rfl ?_
    refine P.get (v := .ref (tw + 6)) (pc' := 21) ci9 12 (by decide) (T_gf rfl) q1567 (Or.inl rfl) dX9_years_18 rfl ?_
    refine P.iconst (v := 0) (pc' := 22) dX9_years_21 rfl (by decide) ?_
    obtain ⟨x6, h7, hf⟩ := ob hf
    refine P.iald (t := 0) (pc' := 23) rfl (T_aI rfl h7) dX9_years_22 rfl ?_
    refine P.if_eq (tgt := 35) (pc' := 26) dX9_years_23 (by decide) rfl (fun y8 => ?_) (fun y8 => ?_)
    · have hf := (if_pos y8).symm.trans hf
      refine P.iconst (v := 0) (pc' := 36) dX9_years_35 rfl (by decide) ?_
      cases hf; exact P.iret rfl dX9_years_36
    · have hf := (if_neg y8).symm.trans hf
      refine P.aload_n 0 (pc' := 27) dX9_years_26 rfl rfl rfl ?_
      refine P.get (v := .ref (tw + 6)) (pc' := 30) ci9 12 (by decide) (T_gf rfl) q1567 (Or.inl rfl) dX9_years_27 rfl ?_
      refine P.iconst (v := 1) (pc' := 31) dX9_years_30 rfl (by decide) ?_
      obtain ⟨x9, h10, hf⟩ := ob hf
      refine P.iald (t := 0) (pc' := 32) rfl (T_aI rfl h10) dX9_years_31 rfl ?_
      refine P.if_ne (tgt := 37) (pc' := 35) dX9_years_32 (by decide) rfl (fun y11 => ?_) (fun y11 => ?_)
      · have hf := (if_neg y11).symm.trans hf
        refine P.iconst (v := 0) (pc' := 38) dX9_years_37 rfl (by decide) ?_
        refine P.istore_n (pc' := 39) (lv' := [(3, .int 0), (0, .ref tw), (1, .int p1), (2, .int p2)]) dX9_years_38 rfl rfl (Nat.le_of_ble_eq_true rfl) rfl ?_
        refine P.iconst (v := 0) (pc' := 40) dX9_years_39 rfl (by decide) ?_
        refine P.istore (pc' := 42) (lv' := [(4, .int 0), (3, .int 0), (0, .ref tw), (1, .int p1), (2, .int p2)]) dX9_years_40 rfl (Nat.le_of_ble_eq_true rfl) rfl ?_
        exact PW.sub [2, 3, 4, 1, 0] rfl (ok_t_X9_years_L42 F tw μ p1 p2 F _ _ _ hf)
      · have hf := (if_pos y11).symm.trans hf
        refine P.iconst (v := 0) (pc' := 36) dX9_years_35 rfl (by decide) ?_
        cases hf; exact P.iret rfl dX9_years_36
  · have hf := (if_pos y3).symm.trans hf
    refine P.iconst (v := (-1)) (pc' := 11) dX9_years_10 rfl (by decide) ?_
    cases hf; exact P.iret rfl dX9_years_11
abbrev mX9_copy : Ym := (RX9, cX9_copy, 4, none, false, [])
noncomputable def t_X9_copy_L2_b (F : Nat) (c1 : Int32) (c2 : Int32) (self : Int32 → Tw → Option Tw) (v3 : Int32) (τ : Tw) : Option Tw :=
  if 420 ≤ v3 then
    some τ
  else
    Option.bind (taI τ 7 1260 ((420 * c1) + v3)) fun x2 =>
    Option.bind (tsA τ 7 0 1260 ((420 * c2) + v3) x2) fun τ5 =>
    nm (v3 + 1) fun x6 =>
    self x6 τ5
noncomputable def t_X9_copy_L2 (F : Nat) (c1 : Int32) (c2 : Int32) (n : Nat) : Int32 → Tw → Option Tw := Nat.rec (motive := fun _ => Int32 → Tw → Option Tw) (fun _ _ => none) (fun _ self => t_X9_copy_L2_b F c1 c2 self) n
set_option maxHeartbeats 4000000 in
theorem ok_t_X9_copy_L2 {g : Gx} {μ0 : Sw} {τF : Tw} (F : Nat) (tw : Nat) (μ : Sw) (c1 : Int32) (c2 : Int32) : ∀ (n : Nat) (v3 : Int32) (τ : Tw), t_X9_copy_L2 F c1 c2 n v3 τ = some τF → PW g mX9_copy 1 μ0 (mT tw τF μ) (QN g none μ0 (mT tw τF μ)) 2 [(0, .ref tw), (1, .int c1), (2, .int c2), (3, .int v3)] [] (mT tw τ μ) := by
  intro n
  induction n with
  | zero =>
    intro v3 τ hf
    have hf : (none : Option Tw) = some _ := hf
    cases hf
  | succ n ih =>
    intro v3 τ hf
    have hf : t_X9_copy_L2_b F c1 c2 (t_X9_copy_L2 F c1 c2 n) v3 τ = some τF := hf
    unfold t_X9_copy_L2_b at hf
    refine P.iload_n 3 (pc' := 3) dX9_copy_2 rfl rfl rfl ?_
    refine P.sipush (v := 420) (pc' := 6) dX9_copy_3 rfl (by decide) ?_
    refine P.icmp_ge (tgt := 39) (pc' := 9) dX9_copy_6 (by decide) rfl (fun y1 => ?_) (fun y1 => ?_)
    · have hf := (if_pos y1).symm.trans hf
      cases hf; exact P.vret rfl dX9_copy_39
    · have hf := (if_neg y1).symm.trans hf
      refine P.aload_n 0 (pc' := 10) dX9_copy_9 rfl rfl rfl ?_
      refine P.get (v := .ref (tw + 7)) (pc' := 13) ci9 13 (by decide) (T_gf rfl) q1568 (Or.inl rfl) dX9_copy_10 rfl ?_
      refine P.sipush (v := 420) (pc' := 16) dX9_copy_13 rfl (by decide) ?_
      refine P.iload_n 2 (pc' := 17) dX9_copy_16 rfl rfl rfl ?_
      refine P.imul (pc' := 18) dX9_copy_17 rfl ?_
      refine P.iload_n 3 (pc' := 19) dX9_copy_18 rfl rfl rfl ?_
      refine P.iadd (pc' := 20) dX9_copy_19 rfl ?_
      refine P.aload_n 0 (pc' := 21) dX9_copy_20 rfl rfl rfl ?_
      refine P.get (v := .ref (tw + 7)) (pc' := 24) ci9 13 (by decide) (T_gf rfl) q1568 (Or.inl rfl) dX9_copy_21 rfl ?_
      refine P.sipush (v := 420) (pc' := 27) dX9_copy_24 rfl (by decide) ?_
      refine P.iload_n 1 (pc' := 28) dX9_copy_27 rfl rfl rfl ?_
      refine P.imul (pc' := 29) dX9_copy_28 rfl ?_
      refine P.iload_n 3 (pc' := 30) dX9_copy_29 rfl rfl rfl ?_
      refine P.iadd (pc' := 31) dX9_copy_30 rfl ?_
      obtain ⟨x2, h3, hf⟩ := ob hf
      refine P.iald (t := 0) (pc' := 32) rfl (T_aI rfl h3) dX9_copy_31 rfl ?_
      obtain ⟨τ5, h4, hf⟩ := ob hf
      refine P.iast (pc' := 33) (T_sA rfl (by decide) h4) dX9_copy_32 rfl ?_
      obtain ⟨x6, e7, hf⟩ := nm_i hf
      refine P.iinc 3 (pc' := 36) (lv' := [(3, .int x6), (0, .ref tw), (1, .int c1), (2, .int c2)]) dX9_copy_33 rfl rfl (by decide) e7 (Nat.le_of_ble_eq_true rfl) rfl ?_
      refine P.goto (tgt := 2) dX9_copy_36 (by decide) ?_
      exact PW.sub [1, 2, 3, 0] rfl (ih _ _ hf)
noncomputable def t_X9_copy (F : Nat) (p1 : Int32) (p2 : Int32) (τ : Tw) : Option Tw :=
  t_X9_copy_L2 F p1 p2 F 0 τ
set_option maxHeartbeats 4000000 in
theorem ok_X9_copy {g : Gx} (F : Nat) (p1 : Int32) (p2 : Int32) (tw : Nat) (μ : Sw) (τ : Tw) {τF : Tw} (hf : t_X9_copy F p1 p2 τ = some τF) : Cl g 1 yX9_copy cX9_copy 4 none [.ref tw, .int p1, .int p2] (mT tw τ μ) none (mT tw τF μ) := by
  unfold t_X9_copy at hf
  refine Cl.of (own := RX9) (ini := false) (by decide +kernel) rfl (by decide) (Nat.le_of_ble_eq_true rfl) ?_
  show PW g mX9_copy 1 (mT tw τ μ) (mT tw τF μ) (QN g none (mT tw τ μ) (mT tw τF μ)) 0 [(0, .ref tw), (1, .int p1), (2, .int p2)] [] (mT tw τ μ)
  refine P.iconst (v := 0) (pc' := 1) dX9_copy_0 rfl (by decide) ?_
  refine P.istore_n (pc' := 2) (lv' := [(3, .int 0), (0, .ref tw), (1, .int p1), (2, .int p2)]) dX9_copy_1 rfl rfl (Nat.le_of_ble_eq_true rfl) rfl ?_
  exact PW.sub [1, 2, 3, 0] rfl (ok_t_X9_copy_L2 F tw μ p1 p2 F _ _ hf)
theorem yok_X9_copy : yOK yX9_copy 2 := ⟨by decide +kernel, by decide +kernel, by decide +kernel⟩
abbrev mX9_hold : Ym := (RX9, cX9_hold, 2, (some Jvm.ClassFile.FieldType.boolean), false, [])
noncomputable def t_X9_hold (F : Nat) (p1 : Int32) (τ : Tw) : Option (Int32 × Tw) :=
  if p1 < 0 then
    some (0, τ)
  else
    if p1 ≤ 1 then
      Option.bind (t_X9_copy F 0 (1 + p1) τ) fun q3 =>
      Option.bind (tsA q3 18 4 3 (1 + p1) 1) fun τ6 =>
      some (1, τ6)
    else
      some (0, τ)
set_option maxHeartbeats 4000000 in
theorem ok_X9_hold {g : Gx} (F : Nat) (p1 : Int32) (tw : Nat) (μ : Sw) (τ : Tw) {rv : Int32} {τF : Tw} (hf : t_X9_hold F p1 τ = some (rv, τF)) : Cl g 2 yX9_hold cX9_hold 2 (some Jvm.ClassFile.FieldType.boolean) [.ref tw, .int p1] (mT tw τ μ) (some (.int rv)) (mT tw τF μ) := by
  unfold t_X9_hold at hf
  refine Cl.of (own := RX9) (ini := false) (by decide +kernel) rfl (by decide) (Nat.le_of_ble_eq_true rfl) ?_
  show PW g mX9_hold 2 (mT tw τ μ) (mT tw τF μ) (QN g (some (.int rv)) (mT tw τ μ) (mT tw τF μ)) 0 [(0, .ref tw), (1, .int p1)] [] (mT tw τ μ)
  refine P.iload_n 1 (pc' := 1) dX9_hold_0 rfl rfl rfl ?_
  refine P.if_lt (tgt := 9) (pc' := 4) dX9_hold_1 (by decide) rfl (fun y1 => ?_) (fun y1 => ?_)
  · have hf := (if_pos y1).symm.trans hf
    refine P.iconst (v := 0) (pc' := 10) dX9_hold_9 rfl (by decide) ?_
    cases hf; exact P.zret rfl (Or.inl rfl) dX9_hold_10
  · have hf := (if_neg y1).symm.trans hf
    refine P.iload_n 1 (pc' := 5) dX9_hold_4 rfl rfl rfl ?_
    refine P.iconst (v := 1) (pc' := 6) dX9_hold_5 rfl (by decide) ?_
    refine P.icmp_le (tgt := 11) (pc' := 9) dX9_hold_6 (by decide) rfl (fun y2 => ?_) (fun y2 => ?_)
    · have hf := (if_pos y2).symm.trans hf
      refine P.aload_n 0 (pc' := 12) dX9_hold_11 rfl rfl rfl ?_
      refine P.iconst (v := 0) (pc' := 13) dX9_hold_12 rfl (by decide) ?_
      refine P.iconst (v := 1) (pc' := 14) dX9_hold_13 rfl (by decide) ?_
      refine P.iload_n 1 (pc' := 15) dX9_hold_14 rfl rfl rfl ?_
      refine P.iadd (pc' := 16) dX9_hold_15 rfl ?_
      obtain ⟨q3, h4, hf⟩ := ob hf
      refine P.callV (pc' := 19) (As := [.int 0, .int (1 + p1)]) 2 (ok_X9_copy F 0 (1 + p1) tw μ τ h4) (Nat.le_of_ble_eq_true rfl) (lw_V q2271 q2273 qs157 q172 q2274) rfl yok_X9_copy rfl (Nat.le_of_ble_eq_true rfl) ci9 T_oc (by decide) rfl dX9_hold_16 rfl ?_
      refine P.aload_n 0 (pc' := 20) dX9_hold_19 rfl rfl rfl ?_
      refine P.get (v := .ref (tw + 18)) (pc' := 23) ci9 24 (by decide) (T_gf rfl) q1579 (Or.inl rfl) dX9_hold_20 rfl ?_
      refine P.iconst (v := 1) (pc' := 24) dX9_hold_23 rfl (by decide) ?_
      refine P.iload_n 1 (pc' := 25) dX9_hold_24 rfl rfl rfl ?_
      refine P.iadd (pc' := 26) dX9_hold_25 rfl ?_
      refine P.iconst (v := 1) (pc' := 27) dX9_hold_26 rfl (by decide) ?_
      obtain ⟨τ6, h5, hf⟩ := ob hf
      refine P.zast (pc' := 28) (T_sA rfl (by decide) h5) dX9_hold_27 rfl ?_
      refine P.iconst (v := 1) (pc' := 29) dX9_hold_28 rfl (by decide) ?_
      cases hf; exact P.zret rfl (Or.inr rfl) dX9_hold_29
    · have hf := (if_neg y2).symm.trans hf
      refine P.iconst (v := 0) (pc' := 10) dX9_hold_9 rfl (by decide) ?_
      cases hf; exact P.zret rfl (Or.inl rfl) dX9_hold_10
abbrev mX9_restore : Ym := (RX9, cX9_restore, 2, (some Jvm.ClassFile.FieldType.boolean), false, [])
noncomputable def t_X9_restore (F : Nat) (p1 : Int32) (τ : Tw) : Option (Int32 × Tw) :=
  if p1 < 0 then
    some (0, τ)
  else
    if 1 < p1 then
      some (0, τ)
    else
      Option.bind (taI τ 18 3 (1 + p1)) fun x3 =>
      if x3 = 0 then
        some (0, τ)
      else
        Option.bind (t_X9_copy F (1 + p1) 0 τ) fun q6 =>
        nm (tsI q6 40 0) fun τ8 =>
        some (1, τ8)
set_option maxHeartbeats 4000000 in
theorem ok_X9_restore {g : Gx} (F : Nat) (p1 : Int32) (tw : Nat) (μ : Sw) (τ : Tw) {rv : Int32} {τF : Tw} (hf : t_X9_restore F p1 τ = some (rv, τF)) : Cl g 2 yX9_restore cX9_restore 2 (some Jvm.ClassFile.FieldType.boolean) [.ref tw, .int p1] (mT tw τ μ) (some (.int rv)) (mT tw τF μ) := by
  unfold t_X9_restore at hf
  refine Cl.of (own := RX9) (ini := false) (by decide +kernel) rfl (by decide) (Nat.le_of_ble_eq_true rfl) ?_
  show PW g mX9_restore 2 (mT tw τ μ) (mT tw τF μ) (QN g (some (.int rv)) (mT tw τ μ) (mT tw τF μ)) 0 [(0, .ref tw), (1, .int p1)] [] (mT tw τ μ)
  refine P.iload_n 1 (pc' := 1) dX9_restore_0 rfl rfl rfl ?_
  refine P.if_lt (tgt := 20) (pc' := 4) dX9_restore_1 (by decide) rfl (fun y1 => ?_) (fun y1 => ?_)
  · have hf := (if_pos y1).symm.trans hf
    refine P.iconst (v := 0) (pc' := 21) dX9_restore_20 rfl (by decide) ?_
    cases hf; exact P.zret rfl (Or.inl rfl) dX9_restore_21
  · have hf := (if_neg y1).symm.trans hf
    refine P.iload_n 1 (pc' := 5) dX9_restore_4 rfl rfl rfl ?_
    refine P.iconst (v := 1) (pc' := 6) dX9_restore_5 rfl (by decide) ?_
    refine P.icmp_gt (tgt := 20) (pc' := 9) dX9_restore_6 (by decide) rfl (fun y2 => ?_) (fun y2 => ?_)
    · have hf := (if_pos y2).symm.trans hf
      refine P.iconst (v := 0) (pc' := 21) dX9_restore_20 rfl (by decide) ?_
      cases hf; exact P.zret rfl (Or.inl rfl) dX9_restore_21
    · have hf := (if_neg y2).symm.trans hf
      refine P.aload_n 0 (pc' := 10) dX9_restore_9 rfl rfl rfl ?_
      refine P.get (v := .ref (tw + 18)) (pc' := 13) ci9 24 (by decide) (T_gf rfl) q1579 (Or.inl rfl) dX9_restore_10 rfl ?_
      refine P.iconst (v := 1) (pc' := 14) dX9_restore_13 rfl (by decide) ?_
      refine P.iload_n 1 (pc' := 15) dX9_restore_14 rfl rfl rfl ?_
      refine P.iadd (pc' := 16) dX9_restore_15 rfl ?_
      obtain ⟨x3, h4, hf⟩ := ob hf
      refine P.zald (t := 4) (pc' := 17) rfl (T_aI rfl h4) dX9_restore_16 rfl ?_
      refine P.if_ne (tgt := 22) (pc' := 20) dX9_restore_17 (by decide) rfl (fun y5 => ?_) (fun y5 => ?_)
      · have hf := (if_neg y5).symm.trans hf
        refine P.aload_n 0 (pc' := 23) dX9_restore_22 rfl rfl rfl ?_
        refine P.iconst (v := 1) (pc' := 24) dX9_restore_23 rfl (by decide) ?_
        refine P.iload_n 1 (pc' := 25) dX9_restore_24 rfl rfl rfl ?_
        refine P.iadd (pc' := 26) dX9_restore_25 rfl ?_
        refine P.iconst (v := 0) (pc' := 27) dX9_restore_26 rfl (by decide) ?_
        obtain ⟨q6, h7, hf⟩ := ob hf
        refine P.callV (pc' := 30) (As := [.int (1 + p1), .int 0]) 2 (ok_X9_copy F (1 + p1) 0 tw μ τ h7) (Nat.le_of_ble_eq_true rfl) (lw_V q2271 q2273 qs157 q172 q2274) rfl yok_X9_copy rfl (Nat.le_of_ble_eq_true rfl) ci9 T_oc (by decide) rfl dX9_restore_27 rfl ?_
        refine P.aload_n 0 (pc' := 31) dX9_restore_30 rfl rfl rfl ?_
        refine P.iconst (v := 0) (pc' := 32) dX9_restore_31 rfl (by decide) ?_
        obtain ⟨τ8, e9, hf⟩ := nm_i hf
        refine P.put (v := .int 0) (pc' := 35) ci9 40 (by decide) (T_put rfl (by decide) e9) q1595 (Or.inl rfl) rfl rfl rfl dX9_restore_32 rfl ?_
        refine P.iconst (v := 1) (pc' := 36) dX9_restore_35 rfl (by decide) ?_
        cases hf; exact P.zret rfl (Or.inr rfl) dX9_restore_36
      · have hf := (if_pos y5).symm.trans hf
        refine P.iconst (v := 0) (pc' := 21) dX9_restore_20 rfl (by decide) ?_
        cases hf; exact P.zret rfl (Or.inl rfl) dX9_restore_21
abbrev mX9_count : Ym := (RX9, cX9_count, 2, (some Jvm.ClassFile.FieldType.int), false, [])
noncomputable def t_X9_count (F : Nat) (p1 : Int32) (τ : Tw) : Option Int32 :=
  if p1 = 0 then
    Option.bind (taI τ 6 420 0) fun x2 =>
    some x2
  else
    if p1 = 1 then
      Option.bind (taI τ 6 420 1) fun x5 =>
      some x5
    else
      if p1 = 2 then
        Option.bind (taI τ 6 420 3) fun x8 =>
        some x8
      else
        if p1 = 3 then
          Option.bind (taI τ 6 420 4) fun x11 =>
          some x11
        else
          if p1 = 4 then
            Option.bind (taI τ 6 420 5) fun x14 =>
            some x14
          else
            if p1 = 5 then
              Option.bind (taI τ 6 420 6) fun x17 =>
              some x17
            else
              if p1 = 6 then
                Option.bind (taI τ 6 420 7) fun x20 =>
                some x20
              else
                if p1 = 7 then
                  Option.bind (taI τ 7 1260 1) fun x23 =>
                  some x23
                else
                  if p1 = 8 then
                    Option.bind (taI τ 7 1260 2) fun x26 =>
                    some x26
                  else
                    if p1 = 9 then
                      Option.bind (taI τ 7 1260 0) fun x29 =>
                      some x29
                    else
                      if p1 = 10 then
                        some (τ.1 40)
                      else
                        if p1 = 11 then
                          some (τ.1 0)
                        else
                          if p1 = 12 then
                            Option.bind (taI τ 18 3 1) fun x34 =>
                            if x34 = 0 then
                              Option.bind (taI τ 18 3 2) fun x37 =>
                              if x37 = 0 then
                                some (0 + 0)
                              else
                                some (0 + 1)
                            else
                              Option.bind (taI τ 18 3 2) fun x40 =>
                              if x40 = 0 then
                                some (1 + 0)
                              else
                                some (1 + 1)
                          else
                            if p1 = 13 then
                              some (τ.1 50)
                            else
                              if p1 = 14 then
                                Option.bind (taI τ 6 420 8) fun x45 =>
                                some x45
                              else
                                if p1 = 15 then
                                  Option.bind (taI τ 6 420 9) fun x48 =>
                                  some x48
                                else
                                  some (-1)
set_option maxHeartbeats 4000000 in
theorem ok_X9_count {g : Gx} (F : Nat) (p1 : Int32) (tw : Nat) (μ : Sw) (τ : Tw) {rv : Int32} (hf : t_X9_count F p1 τ = some rv) : Cl g 1 yX9_count cX9_count 2 (some Jvm.ClassFile.FieldType.int) [.ref tw, .int p1] (mT tw τ μ) (some (.int rv)) (mT tw τ μ) := by
  unfold t_X9_count at hf
  refine Cl.of (own := RX9) (ini := false) (by decide +kernel) rfl (by decide) (Nat.le_of_ble_eq_true rfl) ?_
  show PW g mX9_count 1 (mT tw τ μ) (mT tw τ μ) (QN g (some (.int rv)) (mT tw τ μ) (mT tw τ μ)) 0 [(0, .ref tw), (1, .int p1)] [] (mT tw τ μ)
  refine P.iload_n 1 (pc' := 1) dX9_count_0 rfl rfl rfl ?_
  by_cases y1 : p1 = 0
  · have hf := (if_pos y1).symm.trans hf
    refine P.tsIn (tgt := 80) dX9_count_1 (by rw [y1]; decide) (by rw [y1]; decide) (by rw [y1]; rfl) (by decide) ?_
    refine P.aload_n 0 (pc' := 81) dX9_count_80 rfl rfl rfl ?_
    refine P.get (v := .ref (tw + 6)) (pc' := 84) ci9 12 (by decide) (T_gf rfl) q1567 (Or.inl rfl) dX9_count_81 rfl ?_
    refine P.iconst (v := 0) (pc' := 85) dX9_count_84 rfl (by decide) ?_
    obtain ⟨x2, h3, hf⟩ := ob hf
    refine P.iald (t := 0) (pc' := 86) rfl (T_aI rfl h3) dX9_count_85 rfl ?_
    cases hf; exact P.iret rfl dX9_count_86
  · have hf := (if_neg y1).symm.trans hf
    by_cases y4 : p1 = 1
    · have hf := (if_pos y4).symm.trans hf
      refine P.tsIn (tgt := 87) dX9_count_1 (by rw [y4]; decide) (by rw [y4]; decide) (by rw [y4]; rfl) (by decide) ?_
      refine P.aload_n 0 (pc' := 88) dX9_count_87 rfl rfl rfl ?_
      refine P.get (v := .ref (tw + 6)) (pc' := 91) ci9 12 (by decide) (T_gf rfl) q1567 (Or.inl rfl) dX9_count_88 rfl ?_
      refine P.iconst (v := 1) (pc' := 92) dX9_count_91 rfl (by decide) ?_
      obtain ⟨x5, h6, hf⟩ := ob hf
      refine P.iald (t := 0) (pc' := 93) rfl (T_aI rfl h6) dX9_count_92 rfl ?_
      cases hf; exact P.iret rfl dX9_count_93
    · have hf := (if_neg y4).symm.trans hf
      by_cases y7 : p1 = 2
      · have hf := (if_pos y7).symm.trans hf
        refine P.tsIn (tgt := 94) dX9_count_1 (by rw [y7]; decide) (by rw [y7]; decide) (by rw [y7]; rfl) (by decide) ?_
        refine P.aload_n 0 (pc' := 95) dX9_count_94 rfl rfl rfl ?_
        refine P.get (v := .ref (tw + 6)) (pc' := 98) ci9 12 (by decide) (T_gf rfl) q1567 (Or.inl rfl) dX9_count_95 rfl ?_
        refine P.iconst (v := 3) (pc' := 99) dX9_count_98 rfl (by decide) ?_
        obtain ⟨x8, h9, hf⟩ := ob hf
        refine P.iald (t := 0) (pc' := 100) rfl (T_aI rfl h9) dX9_count_99 rfl ?_
        cases hf; exact P.iret rfl dX9_count_100
      · have hf := (if_neg y7).symm.trans hf
        by_cases y10 : p1 = 3
        · have hf := (if_pos y10).symm.trans hf
          refine P.tsIn (tgt := 101) dX9_count_1 (by rw [y10]; decide) (by rw [y10]; decide) (by rw [y10]; rfl) (by decide) ?_
          refine P.aload_n 0 (pc' := 102) dX9_count_101 rfl rfl rfl ?_
          refine P.get (v := .ref (tw + 6)) (pc' := 105) ci9 12 (by decide) (T_gf rfl) q1567 (Or.inl rfl) dX9_count_102 rfl ?_
          refine P.iconst (v := 4) (pc' := 106) dX9_count_105 rfl (by decide) ?_
          obtain ⟨x11, h12, hf⟩ := ob hf
          refine P.iald (t := 0) (pc' := 107) rfl (T_aI rfl h12) dX9_count_106 rfl ?_
          cases hf; exact P.iret rfl dX9_count_107
        · have hf := (if_neg y10).symm.trans hf
          by_cases y13 : p1 = 4
          · have hf := (if_pos y13).symm.trans hf
            refine P.tsIn (tgt := 108) dX9_count_1 (by rw [y13]; decide) (by rw [y13]; decide) (by rw [y13]; rfl) (by decide) ?_
            refine P.aload_n 0 (pc' := 109) dX9_count_108 rfl rfl rfl ?_
            refine P.get (v := .ref (tw + 6)) (pc' := 112) ci9 12 (by decide) (T_gf rfl) q1567 (Or.inl rfl) dX9_count_109 rfl ?_
            refine P.iconst (v := 5) (pc' := 113) dX9_count_112 rfl (by decide) ?_
            obtain ⟨x14, h15, hf⟩ := ob hf
            refine P.iald (t := 0) (pc' := 114) rfl (T_aI rfl h15) dX9_count_113 rfl ?_
            cases hf; exact P.iret rfl dX9_count_114
          · have hf := (if_neg y13).symm.trans hf
            by_cases y16 : p1 = 5
            · have hf := (if_pos y16).symm.trans hf
              refine P.tsIn (tgt := 115) dX9_count_1 (by rw [y16]; decide) (by rw [y16]; decide) (by rw [y16]; rfl) (by decide) ?_
              refine P.aload_n 0 (pc' := 116) dX9_count_115 rfl rfl rfl ?_
              refine P.get (v := .ref (tw + 6)) (pc' := 119) ci9 12 (by decide) (T_gf rfl) q1567 (Or.inl rfl) dX9_count_116 rfl ?_
              refine P.bipush (v := 6) (pc' := 121) dX9_count_119 rfl (by decide) ?_
              obtain ⟨x17, h18, hf⟩ := ob hf
              refine P.iald (t := 0) (pc' := 122) rfl (T_aI rfl h18) dX9_count_121 rfl ?_
              cases hf; exact P.iret rfl dX9_count_122
            · have hf := (if_neg y16).symm.trans hf
              by_cases y19 : p1 = 6
              · have hf := (if_pos y19).symm.trans hf
                refine P.tsIn (tgt := 123) dX9_count_1 (by rw [y19]; decide) (by rw [y19]; decide) (by rw [y19]; rfl) (by decide) ?_
                refine P.aload_n 0 (pc' := 124) dX9_count_123 rfl rfl rfl ?_
                refine P.get (v := .ref (tw + 6)) (pc' := 127) ci9 12 (by decide) (T_gf rfl) q1567 (Or.inl rfl) dX9_count_124 rfl ?_
                refine P.bipush (v := 7) (pc' := 129) dX9_count_127 rfl (by decide) ?_
                obtain ⟨x20, h21, hf⟩ := ob hf
                refine P.iald (t := 0) (pc' := 130) rfl (T_aI rfl h21) dX9_count_129 rfl ?_
                cases hf; exact P.iret rfl dX9_count_130
              · have hf := (if_neg y19).symm.trans hf
                by_cases y22 : p1 = 7
                · have hf := (if_pos y22).symm.trans hf
                  refine P.tsIn (tgt := 131) dX9_count_1 (by rw [y22]; decide) (by rw [y22]; decide) (by rw [y22]; rfl) (by decide) ?_
                  refine P.aload_n 0 (pc' := 132) dX9_count_131 rfl rfl rfl ?_
                  refine P.get (v := .ref (tw + 7)) (pc' := 135) ci9 13 (by decide) (T_gf rfl) q1568 (Or.inl rfl) dX9_count_132 rfl ?_
                  refine P.iconst (v := 1) (pc' := 136) dX9_count_135 rfl (by decide) ?_
                  obtain ⟨x23, h24, hf⟩ := ob hf
                  refine P.iald (t := 0) (pc' := 137) rfl (T_aI rfl h24) dX9_count_136 rfl ?_
                  cases hf; exact P.iret rfl dX9_count_137
                · have hf := (if_neg y22).symm.trans hf
                  by_cases y25 : p1 = 8
                  · have hf := (if_pos y25).symm.trans hf
                    refine P.tsIn (tgt := 138) dX9_count_1 (by rw [y25]; decide) (by rw [y25]; decide) (by rw [y25]; rfl) (by decide) ?_
                    refine P.aload_n 0 (pc' := 139) dX9_count_138 rfl rfl rfl ?_
                    refine P.get (v := .ref (tw + 7)) (pc' := 142) ci9 13 (by decide) (T_gf rfl) q1568 (Or.inl rfl) dX9_count_139 rfl ?_
                    refine P.iconst (v := 2) (pc' := 143) dX9_count_142 rfl (by decide) ?_
                    obtain ⟨x26, h27, hf⟩ := ob hf
                    refine P.iald (t := 0) (pc' := 144) rfl (T_aI rfl h27) dX9_count_143 rfl ?_
                    cases hf; exact P.iret rfl dX9_count_144
                  · have hf := (if_neg y25).symm.trans hf
                    by_cases y28 : p1 = 9
                    · have hf := (if_pos y28).symm.trans hf
                      refine P.tsIn (tgt := 145) dX9_count_1 (by rw [y28]; decide) (by rw [y28]; decide) (by rw [y28]; rfl) (by decide) ?_
                      refine P.aload_n 0 (pc' := 146) dX9_count_145 rfl rfl rfl ?_
                      refine P.get (v := .ref (tw + 7)) (pc' := 149) ci9 13 (by decide) (T_gf rfl) q1568 (Or.inl rfl) dX9_count_146 rfl ?_
                      refine P.iconst (v := 0) (pc' := 150) dX9_count_149 rfl (by decide) ?_
                      obtain ⟨x29, h30, hf⟩ := ob hf
                      refine P.iald (t := 0) (pc' := 151) rfl (T_aI rfl h30) dX9_count_150 rfl ?_
                      cases hf; exact P.iret rfl dX9_count_151
                    · have hf := (if_neg y28).symm.trans hf
                      by_cases y31 : p1 = 10
                      · have hf := (if_pos y31).symm.trans hf
                        refine P.tsIn (tgt := 152) dX9_count_1 (by rw [y31]; decide) (by rw [y31]; decide) (by rw [y31]; rfl) (by decide) ?_
                        refine P.aload_n 0 (pc' := 153) dX9_count_152 rfl rfl rfl ?_
                        refine P.get (v := .int (τ.1 40)) (pc' := 156) ci9 40 (by decide) (T_gf rfl) q1595 (Or.inl rfl) dX9_count_153 rfl ?_
                        cases hf; exact P.iret rfl dX9_count_156
                      · have hf := (if_neg y31).symm.trans hf
                        by_cases y32 : p1 = 11
                        · have hf := (if_pos y32).symm.trans hf
                          refine P.tsIn (tgt := 157) dX9_count_1 (by rw [y32]; decide) (by rw [y32]; decide) (by rw [y32]; rfl) (by decide) ?_
                          refine P.aload_n 0 (pc' := 158) dX9_count_157 rfl rfl rfl ?_
                          refine P.get (v := .int (τ.1 0)) (pc' := 161) ci9 0 (by decide) (T_gf rfl) q1555 (Or.inl rfl) dX9_count_158 rfl ?_
                          cases hf; exact P.iret rfl dX9_count_161
                        · have hf := (if_neg y32).symm.trans hf
                          by_cases y33 : p1 = 12
                          · have hf := (if_pos y33).symm.trans hf
                            refine P.tsIn (tgt := 162) dX9_count_1 (by rw [y33]; decide) (by rw [y33]; decide) (by rw [y33]; rfl) (by decide) ?_
                            refine P.aload_n 0 (pc' := 163) dX9_count_162 rfl rfl rfl ?_
                            refine P.get (v := .ref (tw + 18)) (pc' := 166) ci9 24 (by decide) (T_gf rfl) q1579 (Or.inl rfl) dX9_count_163 rfl ?_
                            refine P.iconst (v := 1) (pc' := 167) dX9_count_166 rfl (by decide) ?_
                            obtain ⟨x34, h35, hf⟩ := ob hf
                            refine P.zald (t := 4) (pc' := 168) rfl (T_aI rfl h35) dX9_count_167 rfl ?_
                            refine P.if_eq (tgt := 175) (pc' := 171) dX9_count_168 (by decide) rfl (fun y36 => ?_) (fun y36 => ?_)
                            · have hf := (if_pos y36).symm.trans hf
                              refine P.iconst (v := 0) (pc' := 176) dX9_count_175 rfl (by decide) ?_
                              refine P.aload_n 0 (pc' := 177) dX9_count_176 rfl rfl rfl ?_
                              refine P.get (v := .ref (tw + 18)) (pc' := 180) ci9 24 (by decide) (T_gf rfl) q1579 (Or.inl rfl) dX9_count_177 rfl ?_
                              refine P.iconst (v := 2) (pc' := 181) dX9_count_180 rfl (by decide) ?_
                              obtain ⟨x37, h38, hf⟩ := ob hf
                              refine P.zald (t := 4) (pc' := 182) rfl (T_aI rfl h38) dX9_count_181 rfl ?_
                              refine P.if_eq (tgt := 189) (pc' := 185) dX9_count_182 (by decide) rfl (fun y39 => ?_) (fun y39 => ?_)
                              · have hf := (if_pos y39).symm.trans hf
                                refine P.iconst (v := 0) (pc' := 190) dX9_count_189 rfl (by decide) ?_
                                refine P.iadd (pc' := 191) dX9_count_190 rfl ?_
                                cases hf; exact P.iret rfl dX9_count_191
                              · have hf := (if_neg y39).symm.trans hf
                                refine P.iconst (v := 1) (pc' := 186) dX9_count_185 rfl (by decide) ?_
                                refine P.goto (tgt := 190) dX9_count_186 (by decide) ?_
                                refine P.iadd (pc' := 191) dX9_count_190 rfl ?_
                                cases hf; exact P.iret rfl dX9_count_191
                            · have hf := (if_neg y36).symm.trans hf
                              refine P.iconst (v := 1) (pc' := 172) dX9_count_171 rfl (by decide) ?_
                              refine P.goto (tgt := 176) dX9_count_172 (by decide) ?_
                              refine P.aload_n 0 (pc' := 177) dX9_count_176 rfl rfl rfl ?_
                              refine P.get (v := .ref (tw + 18)) (pc' := 180) ci9 24 (by decide) (T_gf rfl) q1579 (Or.inl rfl) dX9_count_177 rfl ?_
                              refine P.iconst (v := 2) (pc' := 181) dX9_count_180 rfl (by decide) ?_
                              obtain ⟨x40, h41, hf⟩ := ob hf
                              refine P.zald (t := 4) (pc' := 182) rfl (T_aI rfl h41) dX9_count_181 rfl ?_
                              refine P.if_eq (tgt := 189) (pc' := 185) dX9_count_182 (by decide) rfl (fun y42 => ?_) (fun y42 => ?_)
                              · have hf := (if_pos y42).symm.trans hf
                                refine P.iconst (v := 0) (pc' := 190) dX9_count_189 rfl (by decide) ?_
                                refine P.iadd (pc' := 191) dX9_count_190 rfl ?_
                                cases hf; exact P.iret rfl dX9_count_191
                              · have hf := (if_neg y42).symm.trans hf
                                refine P.iconst (v := 1) (pc' := 186) dX9_count_185 rfl (by decide) ?_
                                refine P.goto (tgt := 190) dX9_count_186 (by decide) ?_
                                refine P.iadd (pc' := 191) dX9_count_190 rfl ?_
                                cases hf; exact P.iret rfl dX9_count_191
                          · have hf := (if_neg y33).symm.trans hf
                            by_cases y43 : p1 = 13
                            · have hf := (if_pos y43).symm.trans hf
                              refine P.tsIn (tgt := 192) dX9_count_1 (by rw [y43]; decide) (by rw [y43]; decide) (by rw [y43]; rfl) (by decide) ?_
                              refine P.aload_n 0 (pc' := 193) dX9_count_192 rfl rfl rfl ?_
                              refine P.get (v := .int (τ.1 50)) (pc' := 196) ci9 50 (by decide) (T_gf rfl) q1605 (Or.inl rfl) dX9_count_193 rfl ?_
                              cases hf; exact P.iret rfl dX9_count_196
                            · have hf := (if_neg y43).symm.trans hf
                              by_cases y44 : p1 = 14
                              · have hf := (if_pos y44).symm.trans hf
                                refine P.tsIn (tgt := 197) dX9_count_1 (by rw [y44]; decide) (by rw [y44]; decide) (by rw [y44]; rfl) (by decide) ?_
                                refine P.aload_n 0 (pc' := 198) dX9_count_197 rfl rfl rfl ?_
                                refine P.get (v := .ref (tw + 6)) (pc' := 201) ci9 12 (by decide) (T_gf rfl) q1567 (Or.inl rfl) dX9_count_198 rfl ?_
                                refine P.bipush (v := 8) (pc' := 203) dX9_count_201 rfl (by decide) ?_
                                obtain ⟨x45, h46, hf⟩ := ob hf
                                refine P.iald (t := 0) (pc' := 204) rfl (T_aI rfl h46) dX9_count_203 rfl ?_
                                cases hf; exact P.iret rfl dX9_count_204
                              · have hf := (if_neg y44).symm.trans hf
                                by_cases y47 : p1 = 15
                                · have hf := (if_pos y47).symm.trans hf
                                  refine P.tsIn (tgt := 205) dX9_count_1 (by rw [y47]; decide) (by rw [y47]; decide) (by rw [y47]; rfl) (by decide) ?_
                                  refine P.aload_n 0 (pc' := 206) dX9_count_205 rfl rfl rfl ?_
                                  refine P.get (v := .ref (tw + 6)) (pc' := 209) ci9 12 (by decide) (T_gf rfl) q1567 (Or.inl rfl) dX9_count_206 rfl ?_
                                  refine P.bipush (v := 9) (pc' := 211) dX9_count_209 rfl (by decide) ?_
                                  obtain ⟨x48, h49, hf⟩ := ob hf
                                  refine P.iald (t := 0) (pc' := 212) rfl (T_aI rfl h49) dX9_count_211 rfl ?_
                                  cases hf; exact P.iret rfl dX9_count_212
                                · have hf := (if_neg y47).symm.trans hf
                                  refine P.tsOut (tgt := 213) dX9_count_1 (by have z0 := lv_neT y1 (a := 0) (by decide); have z1 := lv_neT y4 (a := 1) (by decide); have z2 := lv_neT y7 (a := 2) (by decide); have z3 := lv_neT y10 (a := 3) (by decide); have z4 := lv_neT y13 (a := 4) (by decide); have z5 := lv_neT y16 (a := 5) (by decide); have z6 := lv_neT y19 (a := 6) (by decide); have z7 := lv_neT y22 (a := 7) (by decide); have z8 := lv_neT y25 (a := 8) (by decide); have z9 := lv_neT y28 (a := 9) (by decide); have z10 := lv_neT y31 (a := 10) (by decide); have z11 := lv_neT y32 (a := 11) (by decide); have z12 := lv_neT y33 (a := 12) (by decide); have z13 := lv_neT y43 (a := 13) (by decide); have z14 := lv_neT y44 (a := 14) (by decide); have z15 := lv_neT y47 (a := 15) (by decide); omega) (by decide) ?_
                                  refine P.iconst (v := (-1)) (pc' := 214) dX9_count_213 rfl (by decide) ?_
                                  cases hf; exact P.iret rfl dX9_count_214
