set_option maxRecDepth 100000
theorem yok_X9_least : yOK yX9_least 2 := ⟨by decide +kernel, by decide +kernel, by decide +kernel⟩
abbrev mX9_jacks : Ym := (RX9, cX9_jacks, 8, (some Jvm.ClassFile.FieldType.int), false, [])
noncomputable def t_X9_jacks_L2_b (F : Nat) (k34 : Tw → Option (Int32 × Tw)) (c1 : Int32) (self : Int32 → Tw → Option (Int32 × Tw)) (v2 : Int32) (τ : Tw) : Option (Int32 × Tw) :=
  if c1 < v2 then
    k34 τ
  else
    if v2 = 0 then
      Option.bind (tsA τ 25 0 900 (800 + v2) 0) fun τ8 =>
      nm (v2 + 1) fun x9 =>
      self x9 τ8
    else
      Option.bind (tsA τ 25 0 900 (800 + v2) 1000000) fun τ4 =>
      nm (v2 + 1) fun x5 =>
      self x5 τ4
noncomputable def t_X9_jacks_L2 (F : Nat) (k34 : Tw → Option (Int32 × Tw)) (c1 : Int32) (n : Nat) : Int32 → Tw → Option (Int32 × Tw) := Nat.rec (motive := fun _ => Int32 → Tw → Option (Int32 × Tw)) (fun _ _ => none) (fun _ self => t_X9_jacks_L2_b F k34 c1 self) n
set_option maxHeartbeats 4000000 in
theorem ok_t_X9_jacks_L2 {g : Gx} {μ0 : Sw} {rv : Int32} {τF : Tw} (F : Nat) (tw : Nat) (μ : Sw) (c1 : Int32) (k34 : Tw → Option (Int32 × Tw)) (hk34 : ∀ (τ : Tw), k34 τ = some (rv, τF) → PW g mX9_jacks 2 μ0 (mT tw τF μ) (QN g (some (.int rv)) μ0 (mT tw τF μ)) 34 [(0, .ref tw), (1, .int c1)] [] (mT tw τ μ)) : ∀ (n : Nat) (v2 : Int32) (τ : Tw), t_X9_jacks_L2 F k34 c1 n v2 τ = some (rv, τF) → PW g mX9_jacks 2 μ0 (mT tw τF μ) (QN g (some (.int rv)) μ0 (mT tw τF μ)) 2 [(0, .ref tw), (1, .int c1), (2, .int v2)] [] (mT tw τ μ) := by
  intro n
  induction n with
  | zero =>
    intro v2 τ hf
    have hf : (none : Option (Int32 × Tw)) = some _ := hf
    cases hf
  | succ n ih =>
    intro v2 τ hf
    have hf : t_X9_jacks_L2_b F k34 c1 (t_X9_jacks_L2 F k34 c1 n) v2 τ = some (rv, τF) := hf
    unfold t_X9_jacks_L2_b at hf
    refine P.iload_n 2 (pc' := 3) dX9_jacks_2 rfl rfl rfl ?_
    refine P.iload_n 1 (pc' := 4) dX9_jacks_3 rfl rfl rfl ?_
    refine P.icmp_gt (tgt := 34) (pc' := 7) dX9_jacks_4 (by decide) rfl (fun y1 => ?_) (fun y1 => ?_)
    · have hf := (if_pos y1).symm.trans hf
      exact PW.sub [0, 1] rfl (hk34 _ hf)
    · have hf := (if_neg y1).symm.trans hf
      refine P.aload_n 0 (pc' := 8) dX9_jacks_7 rfl rfl rfl ?_
      refine P.get (v := .ref (tw + 25)) (pc' := 11) ci9 37 (by decide) (T_gf rfl) q1592 (Or.inl rfl) dX9_jacks_8 rfl ?_
      refine P.sipush (v := 800) (pc' := 14) dX9_jacks_11 rfl (by decide) ?_
      refine P.iload_n 2 (pc' := 15) dX9_jacks_14 rfl rfl rfl ?_
      refine P.iadd (pc' := 16) dX9_jacks_15 rfl ?_
      refine P.iload_n 2 (pc' := 17) dX9_jacks_16 rfl rfl rfl ?_
      refine P.if_ne (tgt := 24) (pc' := 20) dX9_jacks_17 (by decide) rfl (fun y2 => ?_) (fun y2 => ?_)
      · have hf := (if_neg y2).symm.trans hf
        refine P.ldc_w (v := 1000000) (pc' := 27) dX9_jacks_24 rfl q2076 ?_
        obtain ⟨τ4, h3, hf⟩ := ob hf
        refine P.iast (pc' := 28) (T_sA rfl (by decide) h3) dX9_jacks_27 rfl ?_
        obtain ⟨x5, e6, hf⟩ := nm_i hf
        refine P.iinc 2 (pc' := 31) (lv' := [(2, .int x5), (0, .ref tw), (1, .int c1)]) dX9_jacks_28 rfl rfl (by decide) e6 (Nat.le_of_ble_eq_true rfl) rfl ?_
        refine P.goto (tgt := 2) dX9_jacks_31 (by decide) ?_
        exact PW.sub [1, 2, 0] rfl (ih _ _ hf)
      · have hf := (if_pos y2).symm.trans hf
        refine P.iconst (v := 0) (pc' := 21) dX9_jacks_20 rfl (by decide) ?_
        refine P.goto (tgt := 27) dX9_jacks_21 (by decide) ?_
        obtain ⟨τ8, h7, hf⟩ := ob hf
        refine P.iast (pc' := 28) (T_sA rfl (by decide) h7) dX9_jacks_27 rfl ?_
        obtain ⟨x9, e10, hf⟩ := nm_i hf
        refine P.iinc 2 (pc' := 31) (lv' := [(2, .int x9), (0, .ref tw), (1, .int c1)]) dX9_jacks_28 rfl rfl (by decide) e10 (Nat.le_of_ble_eq_true rfl) rfl ?_
        refine P.goto (tgt := 2) dX9_jacks_31 (by decide) ?_
        exact PW.sub [1, 2, 0] rfl (ih _ _ hf)
noncomputable def t_X9_jacks_L110_b (F : Nat) (k162 : Int32 → Option (Int32 × Tw)) (c1 : Int32) (c2 : Int32) (c3 : Int32) (c4 : Int32) (c5 : Int32) (τ : Tw) (self : Int32 → Int32 → Option (Int32 × Tw)) (v6 : Int32) (v7 : Int32) : Option (Int32 × Tw) :=
  if c4 < v7 then
    k162 v6
  else
    if c5 < (v7 * c3) then
      k162 v6
    else
      Option.bind (taI τ 25 900 ((((100 * c2) + 100) + c5) - (v7 * c3))) fun x3 =>
      Option.bind (p_X9_least F v6 (x3 + v7)) fun q5 =>
      nm (v7 + 1) fun x7 =>
      self q5 x7
noncomputable def t_X9_jacks_L110 (F : Nat) (k162 : Int32 → Option (Int32 × Tw)) (c1 : Int32) (c2 : Int32) (c3 : Int32) (c4 : Int32) (c5 : Int32) (τ : Tw) (n : Nat) : Int32 → Int32 → Option (Int32 × Tw) := Nat.rec (motive := fun _ => Int32 → Int32 → Option (Int32 × Tw)) (fun _ _ => none) (fun _ self => t_X9_jacks_L110_b F k162 c1 c2 c3 c4 c5 τ self) n
set_option maxHeartbeats 4000000 in
theorem ok_t_X9_jacks_L110 {g : Gx} {μ0 : Sw} {rv : Int32} {τF : Tw} (F : Nat) (tw : Nat) (μ : Sw) (c1 : Int32) (c2 : Int32) (c3 : Int32) (c4 : Int32) (c5 : Int32) (τ : Tw) (k162 : Int32 → Option (Int32 × Tw)) (hk162 : ∀ (w6 : Int32), k162 w6 = some (rv, τF) → PW g mX9_jacks 2 μ0 (mT tw τF μ) (QN g (some (.int rv)) μ0 (mT tw τF μ)) 162 [(0, .ref tw), (1, .int c1), (2, .int c2), (3, .int c3), (4, .int c4), (5, .int c5), (6, .int w6)] [] (mT tw τ μ)) : ∀ (n : Nat) (v6 : Int32) (v7 : Int32), t_X9_jacks_L110 F k162 c1 c2 c3 c4 c5 τ n v6 v7 = some (rv, τF) → PW g mX9_jacks 2 μ0 (mT tw τF μ) (QN g (some (.int rv)) μ0 (mT tw τF μ)) 110 [(0, .ref tw), (1, .int c1), (2, .int c2), (3, .int c3), (4, .int c4), (5, .int c5), (6, .int v6), (7, .int v7)] [] (mT tw τ μ) := by
  intro n
  induction n with
  | zero =>
    intro v6 v7 hf
    have hf : (none : Option (Int32 × Tw)) = some _ := hf
    cases hf
  | succ n ih =>
    intro v6 v7 hf
    have hf : t_X9_jacks_L110_b F k162 c1 c2 c3 c4 c5 τ (t_X9_jacks_L110 F k162 c1 c2 c3 c4 c5 τ n) v6 v7 = some (rv, τF) := hf
    unfold t_X9_jacks_L110_b at hf
    refine P.iload 7 (pc' := 112) dX9_jacks_110 rfl rfl ?_
    refine P.iload 4 (pc' := 114) dX9_jacks_112 rfl rfl ?_
    refine P.icmp_gt (tgt := 162) (pc' := 117) dX9_jacks_114 (by decide) rfl (fun y1 => ?_) (fun y1 => ?_)
    · have hf := (if_pos y1).symm.trans hf
      exact PW.sub [0, 1, 2, 3, 4, 5, 6] rfl (hk162 _ hf)
    · have hf := (if_neg y1).symm.trans hf
      refine P.iload 7 (pc' := 119) dX9_jacks_117 rfl rfl ?_
      refine P.iload_n 3 (pc' := 120) dX9_jacks_119 rfl rfl rfl ?_
      refine P.imul (pc' := 121) dX9_jacks_120 rfl ?_
      refine P.iload 5 (pc' := 123) dX9_jacks_121 rfl rfl ?_
      refine P.icmp_gt (tgt := 162) (pc' := 126) dX9_jacks_123 (by decide) rfl (fun y2 => ?_) (fun y2 => ?_)
      · have hf := (if_pos y2).symm.trans hf
        exact PW.sub [0, 1, 2, 3, 4, 5, 6] rfl (hk162 _ hf)
      · have hf := (if_neg y2).symm.trans hf
        refine P.iload 6 (pc' := 128) dX9_jacks_126 rfl rfl ?_
        refine P.aload_n 0 (pc' := 129) dX9_jacks_128 rfl rfl rfl ?_
        refine P.get (v := .ref (tw + 25)) (pc' := 132) ci9 37 (by decide) (T_gf rfl) q1592 (Or.inl rfl) dX9_jacks_129 rfl ?_
        refine P.bipush (v := 100) (pc' := 134) dX9_jacks_132 rfl (by decide) ?_
        refine P.iload_n 2 (pc' := 135) dX9_jacks_134 rfl rfl rfl ?_
        refine P.imul (pc' := 136) dX9_jacks_135 rfl ?_
        refine P.bipush (v := 100) (pc' := 138) dX9_jacks_136 rfl (by decide) ?_
        refine P.iadd (pc' := 139) dX9_jacks_138 rfl ?_
        refine P.iload 5 (pc' := 141) dX9_jacks_139 rfl rfl ?_
        refine P.iadd (pc' := 142) dX9_jacks_141 rfl ?_
        refine P.iload 7 (pc' := 144) dX9_jacks_142 rfl rfl ?_
        refine P.iload_n 3 (pc' := 145) dX9_jacks_144 rfl rfl rfl ?_
        refine P.imul (pc' := 146) dX9_jacks_145 rfl ?_
        refine P.isub (pc' := 147) dX9_jacks_146 rfl ?_
        obtain ⟨x3, h4, hf⟩ := ob hf
        refine P.iald (t := 0) (pc' := 148) rfl (T_aI rfl h4) dX9_jacks_147 rfl ?_
        refine P.iload 7 (pc' := 150) dX9_jacks_148 rfl rfl ?_
        refine P.iadd (pc' := 151) dX9_jacks_150 rfl ?_
        obtain ⟨q5, h6, hf⟩ := ob hf
        refine P.callS (pc' := 154) (As := [.int v6, .int (x3 + v7)]) 2 (ok_X9_least F v6 (x3 + v7) (mT tw τ μ) h6) (Nat.le_of_ble_eq_true rfl) (lw_S q2077 q2078 q172 q2079) yok_X9_least rfl (Nat.le_of_ble_eq_true rfl) (by decide) rfl dX9_jacks_151 rfl ?_
        refine P.istore (pc' := 156) (lv' := [(6, .int q5), (0, .ref tw), (1, .int c1), (2, .int c2), (3, .int c3), (4, .int c4), (5, .int c5), (7, .int v7)]) dX9_jacks_154 rfl (Nat.le_of_ble_eq_true rfl) rfl ?_
        obtain ⟨x7, e8, hf⟩ := nm_i hf
        refine P.iinc 7 (pc' := 159) (lv' := [(7, .int x7), (6, .int q5), (0, .ref tw), (1, .int c1), (2, .int c2), (3, .int c3), (4, .int c4), (5, .int c5)]) dX9_jacks_156 rfl rfl (by decide) e8 (Nat.le_of_ble_eq_true rfl) rfl ?_
        refine P.goto (tgt := 110) dX9_jacks_159 (by decide) ?_
        exact PW.sub [2, 3, 4, 5, 6, 7, 1, 0] rfl (ih _ _ hf)
noncomputable def t_X9_jacks_j162 (F : Nat) (self : Int32 → Tw → Option (Int32 × Tw)) (v1 : Int32) (v2 : Int32) (v3 : Int32) (v4 : Int32) (v5 : Int32) (v6 : Int32) (τ : Tw) : Option (Int32 × Tw) :=
  Option.bind (tsA τ 25 0 900 ((100 * v2) + v5) v6) fun τ2 =>
  nm (v5 + 1) fun x3 =>
  self x3 τ2
set_option maxHeartbeats 4000000 in
theorem ok_t_X9_jacks_j162 {g : Gx} {μ0 : Sw} {rv : Int32} {τF : Tw} (F : Nat) (tw : Nat) (μ : Sw) (v1 : Int32) (v2 : Int32) (v3 : Int32) (v4 : Int32) (v5 : Int32) (v6 : Int32) (τ : Tw) (self : Int32 → Tw → Option (Int32 × Tw)) (ih : ∀ (w5 : Int32) (τ : Tw), self w5 τ = some (rv, τF) → PW g mX9_jacks 2 μ0 (mT tw τF μ) (QN g (some (.int rv)) μ0 (mT tw τF μ)) 96 [(0, .ref tw), (1, .int v1), (2, .int v2), (3, .int v3), (4, .int v4), (5, .int w5)] [] (mT tw τ μ)) (hf : t_X9_jacks_j162 F self v1 v2 v3 v4 v5 v6 τ = some (rv, τF)) : PW g mX9_jacks 2 μ0 (mT tw τF μ) (QN g (some (.int rv)) μ0 (mT tw τF μ)) 162 [(0, .ref tw), (1, .int v1), (2, .int v2), (3, .int v3), (4, .int v4), (5, .int v5), (6, .int v6)] [] (mT tw τ μ) := by
  unfold t_X9_jacks_j162 at hf
  refine P.aload_n 0 (pc' := 163) dX9_jacks_162 rfl rfl rfl ?_
  refine P.get (v := .ref (tw + 25)) (pc' := 166) ci9 37 (by decide) (T_gf rfl) q1592 (Or.inl rfl) dX9_jacks_163 rfl ?_
  refine P.bipush (v := 100) (pc' := 168) dX9_jacks_166 rfl (by decide) ?_
  refine P.iload_n 2 (pc' := 169) dX9_jacks_168 rfl rfl rfl ?_
  refine P.imul (pc' := 170) dX9_jacks_169 rfl ?_
  refine P.iload 5 (pc' := 172) dX9_jacks_170 rfl rfl ?_
  refine P.iadd (pc' := 173) dX9_jacks_172 rfl ?_
  refine P.iload 6 (pc' := 175) dX9_jacks_173 rfl rfl ?_
  obtain ⟨τ2, h1, hf⟩ := ob hf
  refine P.iast (pc' := 176) (T_sA rfl (by decide) h1) dX9_jacks_175 rfl ?_
  obtain ⟨x3, e4, hf⟩ := nm_i hf
  refine P.iinc 5 (pc' := 179) (lv' := [(5, .int x3), (0, .ref tw), (1, .int v1), (2, .int v2), (3, .int v3), (4, .int v4), (6, .int v6)]) dX9_jacks_176 rfl rfl (by decide) e4 (Nat.le_of_ble_eq_true rfl) rfl ?_
  refine P.goto (tgt := 96) dX9_jacks_179 (by decide) ?_
  exact PW.sub [1, 2, 3, 4, 5, 0] rfl (ih _ _ hf)
noncomputable def t_X9_jacks_L96_b (F : Nat) (k182 : Tw → Option (Int32 × Tw)) (c1 : Int32) (c2 : Int32) (c3 : Int32) (c4 : Int32) (self : Int32 → Tw → Option (Int32 × Tw)) (v5 : Int32) (τ : Tw) : Option (Int32 × Tw) :=
  if c1 < v5 then
    k182 τ
  else
    t_X9_jacks_L110 F
      (fun w2 =>
        t_X9_jacks_j162 F self c1 c2 c3 c4 v5 w2 τ)
      c1 c2 c3 c4 v5 τ F 1000000 0
noncomputable def t_X9_jacks_L96 (F : Nat) (k182 : Tw → Option (Int32 × Tw)) (c1 : Int32) (c2 : Int32) (c3 : Int32) (c4 : Int32) (n : Nat) : Int32 → Tw → Option (Int32 × Tw) := Nat.rec (motive := fun _ => Int32 → Tw → Option (Int32 × Tw)) (fun _ _ => none) (fun _ self => t_X9_jacks_L96_b F k182 c1 c2 c3 c4 self) n
set_option maxHeartbeats 4000000 in
theorem ok_t_X9_jacks_L96 {g : Gx} {μ0 : Sw} {rv : Int32} {τF : Tw} (F : Nat) (tw : Nat) (μ : Sw) (c1 : Int32) (c2 : Int32) (c3 : Int32) (c4 : Int32) (k182 : Tw → Option (Int32 × Tw)) (hk182 : ∀ (τ : Tw), k182 τ = some (rv, τF) → PW g mX9_jacks 2 μ0 (mT tw τF μ) (QN g (some (.int rv)) μ0 (mT tw τF μ)) 182 [(0, .ref tw), (1, .int c1), (2, .int c2)] [] (mT tw τ μ)) : ∀ (n : Nat) (v5 : Int32) (τ : Tw), t_X9_jacks_L96 F k182 c1 c2 c3 c4 n v5 τ = some (rv, τF) → PW g mX9_jacks 2 μ0 (mT tw τF μ) (QN g (some (.int rv)) μ0 (mT tw τF μ)) 96 [(0, .ref tw), (1, .int c1), (2, .int c2), (3, .int c3), (4, .int c4), (5, .int v5)] [] (mT tw τ μ) := by
  intro n
  induction n with
  | zero =>
    intro v5 τ hf
    have hf : (none : Option (Int32 × Tw)) = some _ := hf
    cases hf
  | succ n ih =>
    intro v5 τ hf
    have hf : t_X9_jacks_L96_b F k182 c1 c2 c3 c4 (t_X9_jacks_L96 F k182 c1 c2 c3 c4 n) v5 τ = some (rv, τF) := hf
    unfold t_X9_jacks_L96_b at hf
    refine P.iload 5 (pc' := 98) dX9_jacks_96 rfl rfl ?_
    refine P.iload_n 1 (pc' := 99) dX9_jacks_98 rfl rfl rfl ?_
    refine P.icmp_gt (tgt := 182) (pc' := 102) dX9_jacks_99 (by decide) rfl (fun y1 => ?_) (fun y1 => ?_)
    · have hf := (if_pos y1).symm.trans hf
      exact PW.sub [0, 1, 2] rfl (hk182 _ hf)
    · have hf := (if_neg y1).symm.trans hf
      refine P.ldc_w (v := 1000000) (pc' := 105) dX9_jacks_102 rfl q2076 ?_
      refine P.istore (pc' := 107) (lv' := [(6, .int 1000000), (0, .ref tw), (1, .int c1), (2, .int c2), (3, .int c3), (4, .int c4), (5, .int v5)]) dX9_jacks_105 rfl (Nat.le_of_ble_eq_true rfl) rfl ?_
      refine P.iconst (v := 0) (pc' := 108) dX9_jacks_107 rfl (by decide) ?_
      refine P.istore (pc' := 110) (lv' := [(7, .int 0), (6, .int 1000000), (0, .ref tw), (1, .int c1), (2, .int c2), (3, .int c3), (4, .int c4), (5, .int v5)]) dX9_jacks_108 rfl (Nat.le_of_ble_eq_true rfl) rfl ?_
      refine PW.sub [2, 3, 4, 5, 6, 7, 1, 0] rfl (ok_t_X9_jacks_L110 F tw μ c1 c2 c3 c4 v5 τ _ ?_ F _ _ hf)
      · intro w2 hf
        exact PW.sub [0, 1, 2, 3, 4, 5, 6] rfl (ok_t_X9_jacks_j162 F tw μ c1 c2 c3 c4 v5 w2 τ _ ih hf)
noncomputable def t_X9_jacks_j67 (F : Nat) (self : Int32 → Tw → Option (Int32 × Tw)) (v1 : Int32) (v2 : Int32) (s0 : Int32) (τ : Tw) : Option (Int32 × Tw) :=
  Option.bind (taI τ 6 420 5) fun x1 =>
  if x1 ≤ v2 then
    t_X9_jacks_L96 F
      (fun τ4 =>
        nm (v2 + (-1)) fun x5 =>
        self x5 τ4)
      v1 v2 s0 0 F 0 τ
  else
    Option.bind (taI τ 7 1260 (50 + v2)) fun x7 =>
    t_X9_jacks_L96 F
      (fun τ9 =>
        nm (v2 + (-1)) fun x10 =>
        self x10 τ9)
      v1 v2 s0 x7 F 0 τ
set_option maxHeartbeats 4000000 in
theorem ok_t_X9_jacks_j67 {g : Gx} {μ0 : Sw} {rv : Int32} {τF : Tw} (F : Nat) (tw : Nat) (μ : Sw) (v1 : Int32) (v2 : Int32) (s0 : Int32) (τ : Tw) (self : Int32 → Tw → Option (Int32 × Tw)) (ih : ∀ (w2 : Int32) (τ : Tw), self w2 τ = some (rv, τF) → PW g mX9_jacks 2 μ0 (mT tw τF μ) (QN g (some (.int rv)) μ0 (mT tw τF μ)) 37 [(0, .ref tw), (1, .int v1), (2, .int w2)] [] (mT tw τ μ)) (hf : t_X9_jacks_j67 F self v1 v2 s0 τ = some (rv, τF)) : PW g mX9_jacks 2 μ0 (mT tw τF μ) (QN g (some (.int rv)) μ0 (mT tw τF μ)) 67 [(0, .ref tw), (1, .int v1), (2, .int v2)] [.int s0] (mT tw τ μ) := by
  unfold t_X9_jacks_j67 at hf
  refine P.istore_n (pc' := 68) (lv' := [(3, .int s0), (0, .ref tw), (1, .int v1), (2, .int v2)]) dX9_jacks_67 rfl rfl (Nat.le_of_ble_eq_true rfl) rfl ?_
  refine P.iload_n 3 (pc' := 69) dX9_jacks_68 rfl rfl rfl ?_
  refine P.aload_n 1 (pc' := 70) dX9_jacks_69 rfl rfl rfl ?_
  refine P.get (v := .ref (tw + 6)) (pc' := 73) ci9 12 (by decide) (T_gf rfl) q1567 (Or.inl rfl) dX9_jacks_70 rfl ?_
  refine P.iconst (v := 5) (pc' := 74) dX9_jacks_73 rfl (by decide) ?_
  obtain ⟨x1, h2, hf⟩ := ob hf
  refine P.iald (t := 0) (pc' := 75) rfl (T_aI rfl h2) dX9_jacks_74 rfl ?_
  refine P.icmp_ge (tgt := 90) (pc' := 78) dX9_jacks_75 (by decide) rfl (fun y3 => ?_) (fun y3 => ?_)
  · have hf := (if_pos y3).symm.trans hf
    refine P.iconst (v := 0) (pc' := 91) dX9_jacks_90 rfl (by decide) ?_
    refine P.istore (pc' := 93) (lv' := [(4, .int 0), (3, .int s0), (0, .ref tw), (1, .int v1), (2, .int v2)]) dX9_jacks_91 rfl (Nat.le_of_ble_eq_true rfl) rfl ?_
    refine P.iconst (v := 0) (pc' := 94) dX9_jacks_93 rfl (by decide) ?_
    refine P.istore (pc' := 96) (lv' := [(5, .int 0), (4, .int 0), (3, .int s0), (0, .ref tw), (1, .int v1), (2, .int v2)]) dX9_jacks_94 rfl (Nat.le_of_ble_eq_true rfl) rfl ?_
    refine PW.sub [3, 4, 5, 2, 1, 0] rfl (ok_t_X9_jacks_L96 F tw μ v1 v2 s0 0 _ ?_ F _ _ hf)
    · intro τ4 hf
      obtain ⟨x5, e6, hf⟩ := nm_i hf
      refine P.iinc 2 (pc' := 185) (lv' := [(2, .int x5), (0, .ref tw), (1, .int v1)]) dX9_jacks_182 rfl rfl (by decide) e6 (Nat.le_of_ble_eq_true rfl) rfl ?_
      refine P.goto (tgt := 37) dX9_jacks_185 (by decide) ?_
      exact PW.sub [1, 2, 0] rfl (ih _ _ hf)
  · have hf := (if_neg y3).symm.trans hf
    refine P.aload_n 1 (pc' := 79) dX9_jacks_78 rfl rfl rfl ?_
    refine P.get (v := .ref (tw + 7)) (pc' := 82) ci9 13 (by decide) (T_gf rfl) q1568 (Or.inl rfl) dX9_jacks_79 rfl ?_
    refine P.bipush (v := 50) (pc' := 84) dX9_jacks_82 rfl (by decide) ?_
    refine P.iload_n 3 (pc' := 85) dX9_jacks_84 rfl rfl rfl ?_
    refine P.iadd (pc' := 86) dX9_jacks_85 rfl ?_
    obtain ⟨x7, h8, hf⟩ := ob hf
    refine P.iald (t := 0) (pc' := 87) rfl (T_aI rfl h8) dX9_jacks_86 rfl ?_
    refine P.goto (tgt := 91) dX9_jacks_87 (by decide) ?_
    refine P.istore (pc' := 93) (lv' := [(4, .int x7), (3, .int s0), (0, .ref tw), (1, .int v1), (2, .int v2)]) dX9_jacks_91 rfl (Nat.le_of_ble_eq_true rfl) rfl ?_
    refine P.iconst (v := 0) (pc' := 94) dX9_jacks_93 rfl (by decide) ?_
    refine P.istore (pc' := 96) (lv' := [(5, .int 0), (4, .int x7), (3, .int s0), (0, .ref tw), (1, .int v1), (2, .int v2)]) dX9_jacks_94 rfl (Nat.le_of_ble_eq_true rfl) rfl ?_
    refine PW.sub [3, 4, 5, 2, 1, 0] rfl (ok_t_X9_jacks_L96 F tw μ v1 v2 s0 x7 _ ?_ F _ _ hf)
    · intro τ9 hf
      obtain ⟨x10, e11, hf⟩ := nm_i hf
      refine P.iinc 2 (pc' := 185) (lv' := [(2, .int x10), (0, .ref tw), (1, .int v1)]) dX9_jacks_182 rfl rfl (by decide) e11 (Nat.le_of_ble_eq_true rfl) rfl ?_
      refine P.goto (tgt := 37) dX9_jacks_185 (by decide) ?_
      exact PW.sub [1, 2, 0] rfl (ih _ _ hf)
noncomputable def t_X9_jacks_L37_b (F : Nat) (k188 : Tw → Option (Int32 × Tw)) (c1 : Int32) (self : Int32 → Tw → Option (Int32 × Tw)) (v2 : Int32) (τ : Tw) : Option (Int32 × Tw) :=
  if v2 < 0 then
    k188 τ
  else
    Option.bind (taI τ 6 420 5) fun x2 =>
    if x2 ≤ v2 then
      t_X9_jacks_j67 F self c1 v2 1 τ
    else
      Option.bind (taI τ 6 420 (170 + (2 * v2))) fun x5 =>
      t_X9_jacks_j67 F self c1 v2 x5 τ
noncomputable def t_X9_jacks_L37 (F : Nat) (k188 : Tw → Option (Int32 × Tw)) (c1 : Int32) (n : Nat) : Int32 → Tw → Option (Int32 × Tw) := Nat.rec (motive := fun _ => Int32 → Tw → Option (Int32 × Tw)) (fun _ _ => none) (fun _ self => t_X9_jacks_L37_b F k188 c1 self) n
set_option maxHeartbeats 4000000 in
theorem ok_t_X9_jacks_L37 {g : Gx} {μ0 : Sw} {rv : Int32} {τF : Tw} (F : Nat) (tw : Nat) (μ : Sw) (c1 : Int32) (k188 : Tw → Option (Int32 × Tw)) (hk188 : ∀ (τ : Tw), k188 τ = some (rv, τF) → PW g mX9_jacks 2 μ0 (mT tw τF μ) (QN g (some (.int rv)) μ0 (mT tw τF μ)) 188 [(0, .ref tw), (1, .int c1)] [] (mT tw τ μ)) : ∀ (n : Nat) (v2 : Int32) (τ : Tw), t_X9_jacks_L37 F k188 c1 n v2 τ = some (rv, τF) → PW g mX9_jacks 2 μ0 (mT tw τF μ) (QN g (some (.int rv)) μ0 (mT tw τF μ)) 37 [(0, .ref tw), (1, .int c1), (2, .int v2)] [] (mT tw τ μ) := by
  intro n
  induction n with
  | zero =>
    intro v2 τ hf
    have hf : (none : Option (Int32 × Tw)) = some _ := hf
    cases hf
  | succ n ih =>
    intro v2 τ hf
    have hf : t_X9_jacks_L37_b F k188 c1 (t_X9_jacks_L37 F k188 c1 n) v2 τ = some (rv, τF) := hf
    unfold t_X9_jacks_L37_b at hf
    refine P.iload_n 2 (pc' := 38) dX9_jacks_37 rfl rfl rfl ?_
    refine P.if_lt (tgt := 188) (pc' := 41) dX9_jacks_38 (by decide) rfl (fun y1 => ?_) (fun y1 => ?_)
    · have hf := (if_pos y1).symm.trans hf
      exact PW.sub [0, 1] rfl (hk188 _ hf)
    · have hf := (if_neg y1).symm.trans hf
      refine P.iload_n 2 (pc' := 42) dX9_jacks_41 rfl rfl rfl ?_
      refine P.aload_n 0 (pc' := 43) dX9_jacks_42 rfl rfl rfl ?_
      refine P.get (v := .ref (tw + 6)) (pc' := 46) ci9 12 (by decide) (T_gf rfl) q1567 (Or.inl rfl) dX9_jacks_43 rfl ?_
      refine P.iconst (v := 5) (pc' := 47) dX9_jacks_46 rfl (by decide) ?_
      obtain ⟨x2, h3, hf⟩ := ob hf
      refine P.iald (t := 0) (pc' := 48) rfl (T_aI rfl h3) dX9_jacks_47 rfl ?_
      refine P.icmp_ge (tgt := 66) (pc' := 51) dX9_jacks_48 (by decide) rfl (fun y4 => ?_) (fun y4 => ?_)
      · have hf := (if_pos y4).symm.trans hf
        refine P.iconst (v := 1) (pc' := 67) dX9_jacks_66 rfl (by decide) ?_
        exact PW.sub [0, 1, 2] rfl (ok_t_X9_jacks_j67 F tw μ c1 v2 1 τ _ ih hf)
      · have hf := (if_neg y4).symm.trans hf
        refine P.aload_n 0 (pc' := 52) dX9_jacks_51 rfl rfl rfl ?_
        refine P.get (v := .ref (tw + 6)) (pc' := 55) ci9 12 (by decide) (T_gf rfl) q1567 (Or.inl rfl) dX9_jacks_52 rfl ?_
        refine P.sipush (v := 170) (pc' := 58) dX9_jacks_55 rfl (by decide) ?_
        refine P.iconst (v := 2) (pc' := 59) dX9_jacks_58 rfl (by decide) ?_
        refine P.iload_n 2 (pc' := 60) dX9_jacks_59 rfl rfl rfl ?_
        refine P.imul (pc' := 61) dX9_jacks_60 rfl ?_
        refine P.iadd (pc' := 62) dX9_jacks_61 rfl ?_
        obtain ⟨x5, h6, hf⟩ := ob hf
        refine P.iald (t := 0) (pc' := 63) rfl (T_aI rfl h6) dX9_jacks_62 rfl ?_
        refine P.goto (tgt := 67) dX9_jacks_63 (by decide) ?_
        exact PW.sub [0, 1, 2] rfl (ok_t_X9_jacks_j67 F tw μ c1 v2 x5 τ _ ih hf)
noncomputable def t_X9_jacks_L274_b (F : Nat) (k317 : Int32 → Option (Int32 × Tw)) (c1 : Int32) (c2 : Int32) (c3 : Int32) (c4 : Int32) (τ : Tw) (self : Int32 → Option (Int32 × Tw)) (v5 : Int32) : Option (Int32 × Tw) :=
  Option.bind (taI τ 25 900 ((((100 * c3) + 100) + c2) - (v5 * c4))) fun x1 =>
  Option.bind (taI τ 25 900 ((100 * c3) + c2)) fun x3 =>
  if (x1 + v5) = x3 then
    k317 v5
  else
    nm (v5 + (-1)) fun x6 =>
    self x6
noncomputable def t_X9_jacks_L274 (F : Nat) (k317 : Int32 → Option (Int32 × Tw)) (c1 : Int32) (c2 : Int32) (c3 : Int32) (c4 : Int32) (τ : Tw) (n : Nat) : Int32 → Option (Int32 × Tw) := Nat.rec (motive := fun _ => Int32 → Option (Int32 × Tw)) (fun _ => none) (fun _ self => t_X9_jacks_L274_b F k317 c1 c2 c3 c4 τ self) n
set_option maxHeartbeats 4000000 in
theorem ok_t_X9_jacks_L274 {g : Gx} {μ0 : Sw} {rv : Int32} {τF : Tw} (F : Nat) (tw : Nat) (μ : Sw) (c1 : Int32) (c2 : Int32) (c3 : Int32) (c4 : Int32) (τ : Tw) (k317 : Int32 → Option (Int32 × Tw)) (hk317 : ∀ (w5 : Int32), k317 w5 = some (rv, τF) → PW g mX9_jacks 2 μ0 (mT tw τF μ) (QN g (some (.int rv)) μ0 (mT tw τF μ)) 317 [(0, .ref tw), (1, .int c1), (2, .int c2), (3, .int c3), (4, .int c4), (5, .int w5)] [] (mT tw τ μ)) : ∀ (n : Nat) (v5 : Int32), t_X9_jacks_L274 F k317 c1 c2 c3 c4 τ n v5 = some (rv, τF) → PW g mX9_jacks 2 μ0 (mT tw τF μ) (QN g (some (.int rv)) μ0 (mT tw τF μ)) 274 [(0, .ref tw), (1, .int c1), (2, .int c2), (3, .int c3), (4, .int c4), (5, .int v5)] [] (mT tw τ μ) := by
  intro n
  induction n with
  | zero =>
    intro v5 hf
    have hf : (none : Option (Int32 × Tw)) = some _ := hf
    cases hf
  | succ n ih =>
    intro v5 hf
    have hf : t_X9_jacks_L274_b F k317 c1 c2 c3 c4 τ (t_X9_jacks_L274 F k317 c1 c2 c3 c4 τ n) v5 = some (rv, τF) := hf
    unfold t_X9_jacks_L274_b at hf
    refine P.aload_n 0 (pc' := 275) dX9_jacks_274 rfl rfl rfl ?_
    refine P.get (v := .ref (tw + 25)) (pc' := 278) ci9 37 (by decide) (T_gf rfl) q1592 (Or.inl rfl) dX9_jacks_275 rfl ?_
    refine P.bipush (v := 100) (pc' := 280) dX9_jacks_278 rfl (by decide) ?_
    refine P.iload_n 3 (pc' := 281) dX9_jacks_280 rfl rfl rfl ?_
    refine P.imul (pc' := 282) dX9_jacks_281 rfl ?_
    refine P.bipush (v := 100) (pc' := 284) dX9_jacks_282 rfl (by decide) ?_
    refine P.iadd (pc' := 285) dX9_jacks_284 rfl ?_
    refine P.iload_n 2 (pc' := 286) dX9_jacks_285 rfl rfl rfl ?_
    refine P.iadd (pc' := 287) dX9_jacks_286 rfl ?_
    refine P.iload 5 (pc' := 289) dX9_jacks_287 rfl rfl ?_
    refine P.iload 4 (pc' := 291) dX9_jacks_289 rfl rfl ?_
    refine P.imul (pc' := 292) dX9_jacks_291 rfl ?_
    refine P.isub (pc' := 293) dX9_jacks_292 rfl ?_
    obtain ⟨x1, h2, hf⟩ := ob hf
    refine P.iald (t := 0) (pc' := 294) rfl (T_aI rfl h2) dX9_jacks_293 rfl ?_
    refine P.iload 5 (pc' := 296) dX9_jacks_294 rfl rfl ?_
    refine P.iadd (pc' := 297) dX9_jacks_296 rfl ?_
    refine P.aload_n 0 (pc' := 298) dX9_jacks_297 rfl rfl rfl ?_
    refine P.get (v := .ref (tw + 25)) (pc' := 301) ci9 37 (by decide) (T_gf rfl) q1592 (Or.inl rfl) dX9_jacks_298 rfl ?_
    refine P.bipush (v := 100) (pc' := 303) dX9_jacks_301 rfl (by decide) ?_
    refine P.iload_n 3 (pc' := 304) dX9_jacks_303 rfl rfl rfl ?_
    refine P.imul (pc' := 305) dX9_jacks_304 rfl ?_
    refine P.iload_n 2 (pc' := 306) dX9_jacks_305 rfl rfl rfl ?_
    refine P.iadd (pc' := 307) dX9_jacks_306 rfl ?_
    obtain ⟨x3, h4, hf⟩ := ob hf
    refine P.iald (t := 0) (pc' := 308) rfl (T_aI rfl h4) dX9_jacks_307 rfl ?_
    refine P.icmp_eq (tgt := 317) (pc' := 311) dX9_jacks_308 (by decide) rfl (fun y5 => ?_) (fun y5 => ?_)
    · have hf := (if_pos y5).symm.trans hf
      exact PW.sub [0, 1, 2, 3, 4, 5] rfl (hk317 _ hf)
    · have hf := (if_neg y5).symm.trans hf
      obtain ⟨x6, e7, hf⟩ := nm_i hf
      refine P.iinc 5 (pc' := 314) (lv' := [(5, .int x6), (0, .ref tw), (1, .int c1), (2, .int c2), (3, .int c3), (4, .int c4)]) dX9_jacks_311 rfl rfl (by decide) e7 (Nat.le_of_ble_eq_true rfl) rfl ?_
      refine P.goto (tgt := 274) dX9_jacks_314 (by decide) ?_
      exact PW.sub [1, 2, 3, 4, 5, 0] rfl (ih _ hf)
noncomputable def t_X9_jacks_j240 (F : Nat) (self : Int32 → Int32 → Tw → Option (Int32 × Tw)) (v1 : Int32) (v2 : Int32) (v3 : Int32) (s0 : Int32) (τ : Tw) : Option (Int32 × Tw) :=
  Option.bind (taI τ 6 420 5) fun x1 =>
  if x1 ≤ v3 then
    t_X9_jacks_L274 F
      (fun w4 =>
        Option.bind (tsA τ 26 0 8 v3 w4) fun τ6 =>
        nm (v2 - (w4 * s0)) fun x7 =>
        nm (v3 + 1) fun x9 =>
        self x7 x9 τ6)
      v1 v2 v3 s0 τ F 0
  else
    Option.bind (taI τ 7 1260 (50 + v3)) fun x11 =>
    Option.bind (dvO v2 s0) fun x13 =>
    Option.bind (p_X9_least F x11 x13) fun q15 =>
    t_X9_jacks_L274 F
      (fun w17 =>
        Option.bind (tsA τ 26 0 8 v3 w17) fun τ19 =>
        nm (v2 - (w17 * s0)) fun x20 =>
        nm (v3 + 1) fun x22 =>
        self x20 x22 τ19)
      v1 v2 v3 s0 τ F q15
set_option maxHeartbeats 4000000 in
theorem ok_t_X9_jacks_j240 {g : Gx} {μ0 : Sw} {rv : Int32} {τF : Tw} (F : Nat) (tw : Nat) (μ : Sw) (v1 : Int32) (v2 : Int32) (v3 : Int32) (s0 : Int32) (τ : Tw) (self : Int32 → Int32 → Tw → Option (Int32 × Tw)) (ih : ∀ (w2 : Int32) (w3 : Int32) (τ : Tw), self w2 w3 τ = some (rv, τF) → PW g mX9_jacks 2 μ0 (mT tw τF μ) (QN g (some (.int rv)) μ0 (mT tw τF μ)) 208 [(0, .ref tw), (1, .int v1), (2, .int w2), (3, .int w3)] [] (mT tw τ μ)) (hf : t_X9_jacks_j240 F self v1 v2 v3 s0 τ = some (rv, τF)) : PW g mX9_jacks 2 μ0 (mT tw τF μ) (QN g (some (.int rv)) μ0 (mT tw τF μ)) 240 [(0, .ref tw), (1, .int v1), (2, .int v2), (3, .int v3)] [.int s0] (mT tw τ μ) := by
  unfold t_X9_jacks_j240 at hf
  refine P.istore (pc' := 242) (lv' := [(4, .int s0), (0, .ref tw), (1, .int v1), (2, .int v2), (3, .int v3)]) dX9_jacks_240 rfl (Nat.le_of_ble_eq_true rfl) rfl ?_
  refine P.iload_n 4 (pc' := 243) dX9_jacks_242 rfl rfl rfl ?_
  refine P.aload_n 1 (pc' := 244) dX9_jacks_243 rfl rfl rfl ?_
  refine P.get (v := .ref (tw + 6)) (pc' := 247) ci9 12 (by decide) (T_gf rfl) q1567 (Or.inl rfl) dX9_jacks_244 rfl ?_
  refine P.iconst (v := 5) (pc' := 248) dX9_jacks_247 rfl (by decide) ?_
  obtain ⟨x1, h2, hf⟩ := ob hf
  refine P.iald (t := 0) (pc' := 249) rfl (T_aI rfl h2) dX9_jacks_248 rfl ?_
  refine P.icmp_ge (tgt := 271) (pc' := 252) dX9_jacks_249 (by decide) rfl (fun y3 => ?_) (fun y3 => ?_)
  · have hf := (if_pos y3).symm.trans hf
    refine P.iconst (v := 0) (pc' := 272) dX9_jacks_271 rfl (by decide) ?_
    refine P.istore (pc' := 274) (lv' := [(5, .int 0), (4, .int s0), (0, .ref tw), (1, .int v1), (2, .int v2), (3, .int v3)]) dX9_jacks_272 rfl (Nat.le_of_ble_eq_true rfl) rfl ?_
    refine PW.sub [2, 3, 4, 5, 1, 0] rfl (ok_t_X9_jacks_L274 F tw μ v1 v2 v3 s0 τ _ ?_ F _ hf)
    · intro w4 hf
      refine P.aload_n 0 (pc' := 318) dX9_jacks_317 rfl rfl rfl ?_
      refine P.get (v := .ref (tw + 26)) (pc' := 321) ci9 38 (by decide) (T_gf rfl) q1593 (Or.inl rfl) dX9_jacks_318 rfl ?_
      refine P.iload_n 3 (pc' := 322) dX9_jacks_321 rfl rfl rfl ?_
      refine P.iload 5 (pc' := 324) dX9_jacks_322 rfl rfl ?_
      obtain ⟨τ6, h5, hf⟩ := ob hf
      refine P.iast (pc' := 325) (T_sA rfl (by decide) h5) dX9_jacks_324 rfl ?_
      refine P.iload_n 2 (pc' := 326) dX9_jacks_325 rfl rfl rfl ?_
      refine P.iload 5 (pc' := 328) dX9_jacks_326 rfl rfl ?_
      refine P.iload 4 (pc' := 330) dX9_jacks_328 rfl rfl ?_
      refine P.imul (pc' := 331) dX9_jacks_330 rfl ?_
      refine P.isub (pc' := 332) dX9_jacks_331 rfl ?_
      obtain ⟨x7, e8, hf⟩ := nm_i hf
      refine P.nmi e8 ?_
      refine P.istore_n (pc' := 333) (lv' := [(2, .int x7), (0, .ref tw), (1, .int v1), (3, .int v3), (4, .int s0), (5, .int w4)]) dX9_jacks_332 rfl rfl (Nat.le_of_ble_eq_true rfl) rfl ?_
      obtain ⟨x9, e10, hf⟩ := nm_i hf
      refine P.iinc 3 (pc' := 336) (lv' := [(3, .int x9), (2, .int x7), (0, .ref tw), (1, .int v1), (4, .int s0), (5, .int w4)]) dX9_jacks_333 rfl rfl (by decide) e10 (Nat.le_of_ble_eq_true rfl) rfl ?_
      refine P.goto (tgt := 208) dX9_jacks_336 (by decide) ?_
      exact PW.sub [2, 3, 1, 0] rfl (ih _ _ _ hf)
  · have hf := (if_neg y3).symm.trans hf
    refine P.aload_n 1 (pc' := 253) dX9_jacks_252 rfl rfl rfl ?_
    refine P.get (v := .ref (tw + 7)) (pc' := 256) ci9 13 (by decide) (T_gf rfl) q1568 (Or.inl rfl) dX9_jacks_253 rfl ?_
    refine P.bipush (v := 50) (pc' := 258) dX9_jacks_256 rfl (by decide) ?_
    refine P.iload_n 4 (pc' := 259) dX9_jacks_258 rfl rfl rfl ?_
    refine P.iadd (pc' := 260) dX9_jacks_259 rfl ?_
    obtain ⟨x11, h12, hf⟩ := ob hf
    refine P.iald (t := 0) (pc' := 261) rfl (T_aI rfl h12) dX9_jacks_260 rfl ?_
    refine P.iload_n 3 (pc' := 262) dX9_jacks_261 rfl rfl rfl ?_
    refine P.iload 0 (pc' := 264) dX9_jacks_262 rfl rfl ?_
    obtain ⟨x13, h14, hf⟩ := ob hf
    refine P.idivO (pc' := 265) h14 dX9_jacks_264 rfl ?_
    obtain ⟨q15, h16, hf⟩ := ob hf
    refine P.callS (pc' := 268) (As := [.int x11, .int x13]) 2 (ok_X9_least F x11 x13 (mT tw τ μ) h16) (Nat.le_of_ble_eq_true rfl) (lw_S q2077 q2078 q172 q2079) yok_X9_least rfl (Nat.le_of_ble_eq_true rfl) (by decide) rfl dX9_jacks_265 rfl ?_
    refine P.goto (tgt := 272) dX9_jacks_268 (by decide) ?_
    refine P.istore (pc' := 274) (lv' := [(5, .int q15), (4, .int s0), (0, .ref tw), (1, .int v1), (2, .int v2), (3, .int v3)]) dX9_jacks_272 rfl (Nat.le_of_ble_eq_true rfl) rfl ?_
    refine PW.sub [2, 3, 4, 5, 1, 0] rfl (ok_t_X9_jacks_L274 F tw μ v1 v2 v3 s0 τ _ ?_ F _ hf)
    · intro w17 hf
      refine P.aload_n 0 (pc' := 318) dX9_jacks_317 rfl rfl rfl ?_
      refine P.get (v := .ref (tw + 26)) (pc' := 321) ci9 38 (by decide) (T_gf rfl) q1593 (Or.inl rfl) dX9_jacks_318 rfl ?_
      refine P.iload_n 3 (pc' := 322) dX9_jacks_321 rfl rfl rfl ?_
      refine P.iload 5 (pc' := 324) dX9_jacks_322 rfl rfl ?_
      obtain ⟨τ19, h18, hf⟩ := ob hf
      refine P.iast (pc' := 325) (T_sA rfl (by decide) h18) dX9_jacks_324 rfl ?_
      refine P.iload_n 2 (pc' := 326) dX9_jacks_325 rfl rfl rfl ?_
      refine P.iload 5 (pc' := 328) dX9_jacks_326 rfl rfl ?_
      refine P.iload 4 (pc' := 330) dX9_jacks_328 rfl rfl ?_
      refine P.imul (pc' := 331) dX9_jacks_330 rfl ?_
      refine P.isub (pc' := 332) dX9_jacks_331 rfl ?_
      obtain ⟨x20, e21, hf⟩ := nm_i hf
      refine P.nmi e21 ?_
      refine P.istore_n (pc' := 333) (lv' := [(2, .int x20), (0, .ref tw), (1, .int v1), (3, .int v3), (4, .int s0), (5, .int w17)]) dX9_jacks_332 rfl rfl (Nat.le_of_ble_eq_true rfl) rfl ?_
      obtain ⟨x22, e23, hf⟩ := nm_i hf
      refine P.iinc 3 (pc' := 336) (lv' := [(3, .int x22), (2, .int x20), (0, .ref tw), (1, .int v1), (4, .int s0), (5, .int w17)]) dX9_jacks_333 rfl rfl (by decide) e23 (Nat.le_of_ble_eq_true rfl) rfl ?_
      refine P.goto (tgt := 208) dX9_jacks_336 (by decide) ?_
      exact PW.sub [2, 3, 1, 0] rfl (ih _ _ _ hf)
noncomputable def t_X9_jacks_L208_b (F : Nat) (c1 : Int32) (self : Int32 → Int32 → Tw → Option (Int32 × Tw)) (v2 : Int32) (v3 : Int32) (τ : Tw) : Option (Int32 × Tw) :=
  if 8 ≤ v3 then
    Option.bind (taI τ 25 900 c1) fun x2 =>
    some (x2, τ)
  else
    Option.bind (taI τ 6 420 5) fun x4 =>
    if x4 ≤ v3 then
      t_X9_jacks_j240 F self c1 v2 v3 1 τ
    else
      Option.bind (taI τ 6 420 (170 + (2 * v3))) fun x7 =>
      t_X9_jacks_j240 F self c1 v2 v3 x7 τ
noncomputable def t_X9_jacks_L208 (F : Nat) (c1 : Int32) (n : Nat) : Int32 → Int32 → Tw → Option (Int32 × Tw) := Nat.rec (motive := fun _ => Int32 → Int32 → Tw → Option (Int32 × Tw)) (fun _ _ _ => none) (fun _ self => t_X9_jacks_L208_b F c1 self) n
set_option maxHeartbeats 4000000 in
theorem ok_t_X9_jacks_L208 {g : Gx} {μ0 : Sw} {rv : Int32} {τF : Tw} (F : Nat) (tw : Nat) (μ : Sw) (c1 : Int32) : ∀ (n : Nat) (v2 : Int32) (v3 : Int32) (τ : Tw), t_X9_jacks_L208 F c1 n v2 v3 τ = some (rv, τF) → PW g mX9_jacks 2 μ0 (mT tw τF μ) (QN g (some (.int rv)) μ0 (mT tw τF μ)) 208 [(0, .ref tw), (1, .int c1), (2, .int v2), (3, .int v3)] [] (mT tw τ μ) := by
  intro n
  induction n with
  | zero =>
    intro v2 v3 τ hf
    have hf : (none : Option (Int32 × Tw)) = some _ := hf
    cases hf
  | succ n ih =>
    intro v2 v3 τ hf
    have hf : t_X9_jacks_L208_b F c1 (t_X9_jacks_L208 F c1 n) v2 v3 τ = some (rv, τF) := hf
    unfold t_X9_jacks_L208_b at hf
    refine P.iload_n 3 (pc' := 209) dX9_jacks_208 rfl rfl rfl ?_
    refine P.bipush (v := 8) (pc' := 211) dX9_jacks_209 rfl (by decide) ?_
    refine P.icmp_ge (tgt := 339) (pc' := 214) dX9_jacks_211 (by decide) rfl (fun y1 => ?_) (fun y1 => ?_)
    · have hf := (if_pos y1).symm.trans hf
      refine P.aload_n 0 (pc' := 340) dX9_jacks_339 rfl rfl rfl ?_
      refine P.get (v := .ref (tw + 25)) (pc' := 343) ci9 37 (by decide) (T_gf rfl) q1592 (Or.inl rfl) dX9_jacks_340 rfl ?_
      refine P.iload_n 1 (pc' := 344) dX9_jacks_343 rfl rfl rfl ?_
      obtain ⟨x2, h3, hf⟩ := ob hf
      refine P.iald (t := 0) (pc' := 345) rfl (T_aI rfl h3) dX9_jacks_344 rfl ?_
      cases hf; exact P.iret rfl dX9_jacks_345
    · have hf := (if_neg y1).symm.trans hf
      refine P.iload_n 3 (pc' := 215) dX9_jacks_214 rfl rfl rfl ?_
      refine P.aload_n 0 (pc' := 216) dX9_jacks_215 rfl rfl rfl ?_
      refine P.get (v := .ref (tw + 6)) (pc' := 219) ci9 12 (by decide) (T_gf rfl) q1567 (Or.inl rfl) dX9_jacks_216 rfl ?_
      refine P.iconst (v := 5) (pc' := 220) dX9_jacks_219 rfl (by decide) ?_
      obtain ⟨x4, h5, hf⟩ := ob hf
      refine P.iald (t := 0) (pc' := 221) rfl (T_aI rfl h5) dX9_jacks_220 rfl ?_
      refine P.icmp_ge (tgt := 239) (pc' := 224) dX9_jacks_221 (by decide) rfl (fun y6 => ?_) (fun y6 => ?_)
      · have hf := (if_pos y6).symm.trans hf
        refine P.iconst (v := 1) (pc' := 240) dX9_jacks_239 rfl (by decide) ?_
        exact PW.sub [0, 1, 2, 3] rfl (ok_t_X9_jacks_j240 F tw μ c1 v2 v3 1 τ _ ih hf)
      · have hf := (if_neg y6).symm.trans hf
        refine P.aload_n 0 (pc' := 225) dX9_jacks_224 rfl rfl rfl ?_
        refine P.get (v := .ref (tw + 6)) (pc' := 228) ci9 12 (by decide) (T_gf rfl) q1567 (Or.inl rfl) dX9_jacks_225 rfl ?_
        refine P.sipush (v := 170) (pc' := 231) dX9_jacks_228 rfl (by decide) ?_
        refine P.iconst (v := 2) (pc' := 232) dX9_jacks_231 rfl (by decide) ?_
        refine P.iload_n 3 (pc' := 233) dX9_jacks_232 rfl rfl rfl ?_
        refine P.imul (pc' := 234) dX9_jacks_233 rfl ?_
        refine P.iadd (pc' := 235) dX9_jacks_234 rfl ?_
        obtain ⟨x7, h8, hf⟩ := ob hf
        refine P.iald (t := 0) (pc' := 236) rfl (T_aI rfl h8) dX9_jacks_235 rfl ?_
        refine P.goto (tgt := 240) dX9_jacks_236 (by decide) ?_
        exact PW.sub [0, 1, 2, 3] rfl (ok_t_X9_jacks_j240 F tw μ c1 v2 v3 x7 τ _ ih hf)
noncomputable def t_X9_jacks (F : Nat) (p1 : Int32) (τ : Tw) : Option (Int32 × Tw) :=
  t_X9_jacks_L2 F
    (fun τ1 =>
      t_X9_jacks_L37 F
        (fun τ2 =>
          Option.bind (taI τ2 25 900 p1) fun x3 =>
          if x3 < 1000000 then
            t_X9_jacks_L208 F p1 F p1 0 τ2
          else
            some (1000000, τ2))
        p1 F 7 τ1)
    p1 F 0 τ
set_option maxHeartbeats 4000000 in
theorem ok_X9_jacks {g : Gx} (F : Nat) (p1 : Int32) (tw : Nat) (μ : Sw) (τ : Tw) {rv : Int32} {τF : Tw} (hf : t_X9_jacks F p1 τ = some (rv, τF)) : Cl g 2 yX9_jacks cX9_jacks 8 (some Jvm.ClassFile.FieldType.int) [.ref tw, .int p1] (mT tw τ μ) (some (.int rv)) (mT tw τF μ) := by
  unfold t_X9_jacks at hf
  refine Cl.of (own := RX9) (ini := false) (by decide +kernel) rfl (by decide) (Nat.le_of_ble_eq_true rfl) ?_
  show PW g mX9_jacks 2 (mT tw τ μ) (mT tw τF μ) (QN g (some (.int rv)) (mT tw τ μ) (mT tw τF μ)) 0 [(0, .ref tw), (1, .int p1)] [] (mT tw τ μ)
  refine P.iconst (v := 0) (pc' := 1) dX9_jacks_0 rfl (by decide) ?_
  refine P.istore_n (pc' := 2) (lv' := [(2, .int 0), (0, .ref tw), (1, .int p1)]) dX9_jacks_1 rfl rfl (Nat.le_of_ble_eq_true rfl) rfl ?_
  refine PW.sub [1, 2, 0] rfl (ok_t_X9_jacks_L2 F tw μ p1 _ ?_ F _ _ hf)
  · intro τ1 hf
    refine P.bipush (v := 7) (pc' := 36) dX9_jacks_34 rfl (by decide) ?_
    refine P.istore_n (pc' := 37) (lv' := [(2, .int 7), (0, .ref tw), (1, .int p1)]) dX9_jacks_36 rfl rfl (Nat.le_of_ble_eq_true rfl) rfl ?_
    refine PW.sub [1, 2, 0] rfl (ok_t_X9_jacks_L37 F tw μ p1 _ ?_ F _ _ hf)
    · intro τ2 hf
      refine P.aload_n 0 (pc' := 189) dX9_jacks_188 rfl rfl rfl ?_
      refine P.get (v := .ref (tw + 25)) (pc' := 192) ci9 37 (by decide) (T_gf rfl) q1592 (Or.inl rfl) dX9_jacks_189 rfl ?_
      refine P.iload_n 1 (pc' := 193) dX9_jacks_192 rfl rfl rfl ?_
      obtain ⟨x3, h4, hf⟩ := ob hf
      refine P.iald (t := 0) (pc' := 194) rfl (T_aI rfl h4) dX9_jacks_193 rfl ?_
      refine P.ldc_w (v := 1000000) (pc' := 197) dX9_jacks_194 rfl q2076 ?_
      refine P.icmp_lt (tgt := 204) (pc' := 200) dX9_jacks_197 (by decide) rfl (fun y5 => ?_) (fun y5 => ?_)
      · have hf := (if_pos y5).symm.trans hf
        refine P.iload_n 1 (pc' := 205) dX9_jacks_204 rfl rfl rfl ?_
        refine P.istore_n (pc' := 206) (lv' := [(2, .int p1), (0, .ref tw), (1, .int p1)]) dX9_jacks_205 rfl rfl (Nat.le_of_ble_eq_true rfl) rfl ?_
        refine P.iconst (v := 0) (pc' := 207) dX9_jacks_206 rfl (by decide) ?_
        refine P.istore_n (pc' := 208) (lv' := [(3, .int 0), (2, .int p1), (0, .ref tw), (1, .int p1)]) dX9_jacks_207 rfl rfl (Nat.le_of_ble_eq_true rfl) rfl ?_
        exact PW.sub [2, 3, 1, 0] rfl (ok_t_X9_jacks_L208 F tw μ p1 F _ _ _ hf)
      · have hf := (if_neg y5).symm.trans hf
        refine P.ldc_w (v := 1000000) (pc' := 203) dX9_jacks_200 rfl q2076 ?_
        cases hf; exact P.iret rfl dX9_jacks_203
theorem yok_X9_jacks : yOK yX9_jacks 1 := ⟨by decide +kernel, by decide +kernel, by decide +kernel⟩
abbrev mX9_jack : Ym := (RX9, cX9_jack, 4, (some Jvm.ClassFile.FieldType.int), false, [])
noncomputable def t_X9_jack_j34 (F : Nat) (v1 : Int32) (v2 : Int32) (τ : Tw) : Option (Int32 × Tw) :=
  Option.bind (t_X9_jacks F v1 τ) fun q1 =>
  if q1.1 < 1000000 then
    if v2 = 0 then
      some (q1.1, q1.2)
    else
      Option.bind (taI q1.2 26 8 (v2 - 10)) fun x5 =>
      some (x5, q1.2)
  else
    some ((-2), q1.2)
set_option maxHeartbeats 4000000 in
theorem ok_t_X9_jack_j34 {g : Gx} {μ0 : Sw} {rv : Int32} {τF : Tw} (F : Nat) (tw : Nat) (μ : Sw) (v1 : Int32) (v2 : Int32) (τ : Tw) (hf : t_X9_jack_j34 F v1 v2 τ = some (rv, τF)) : PW g mX9_jack 3 μ0 (mT tw τF μ) (QN g (some (.int rv)) μ0 (mT tw τF μ)) 34 [(0, .ref tw), (1, .int v1), (2, .int v2)] [] (mT tw τ μ) := by
  unfold t_X9_jack_j34 at hf
  refine P.aload_n 0 (pc' := 35) dX9_jack_34 rfl rfl rfl ?_
  refine P.iload_n 1 (pc' := 36) dX9_jack_35 rfl rfl rfl ?_
  obtain ⟨q1, h2, hf⟩ := ob hf
  refine P.callV (pc' := 39) (As := [.int v1]) 1 (ok_X9_jacks F v1 tw μ τ h2) (Nat.le_of_ble_eq_true rfl) (lw_V q2072 q2074 qs136 q172 q2075) rfl yok_X9_jacks rfl (Nat.le_of_ble_eq_true rfl) ci9 T_oc (by decide) rfl dX9_jack_36 rfl ?_
  refine P.istore_n (pc' := 40) (lv' := [(3, .int q1.1), (0, .ref tw), (1, .int v1), (2, .int v2)]) dX9_jack_39 rfl rfl (Nat.le_of_ble_eq_true rfl) rfl ?_
  refine P.iload_n 0 (pc' := 41) dX9_jack_40 rfl rfl rfl ?_
  refine P.ldc_w (v := 1000000) (pc' := 44) dX9_jack_41 rfl q2076 ?_
  refine P.icmp_lt (tgt := 52) (pc' := 47) dX9_jack_44 (by decide) rfl (fun y3 => ?_) (fun y3 => ?_)
  · have hf := (if_pos y3).symm.trans hf
    refine P.iload_n 3 (pc' := 53) dX9_jack_52 rfl rfl rfl ?_
    refine P.if_ne (tgt := 60) (pc' := 56) dX9_jack_53 (by decide) rfl (fun y4 => ?_) (fun y4 => ?_)
    · have hf := (if_neg y4).symm.trans hf
      refine P.aload_n 1 (pc' := 61) dX9_jack_60 rfl rfl rfl ?_
      refine P.get (v := .ref (tw + 26)) (pc' := 64) ci9 38 (by decide) (T_gf rfl) q1593 (Or.inl rfl) dX9_jack_61 rfl ?_
      refine P.iload_n 3 (pc' := 65) dX9_jack_64 rfl rfl rfl ?_
      refine P.bipush (v := 10) (pc' := 67) dX9_jack_65 rfl (by decide) ?_
      refine P.isub (pc' := 68) dX9_jack_67 rfl ?_
      obtain ⟨x5, h6, hf⟩ := ob hf
      refine P.iald (t := 0) (pc' := 69) rfl (T_aI rfl h6) dX9_jack_68 rfl ?_
      cases hf; exact P.iret rfl dX9_jack_69
    · have hf := (if_pos y4).symm.trans hf
      refine P.iload_n 0 (pc' := 57) dX9_jack_56 rfl rfl rfl ?_
      refine P.goto (tgt := 69) dX9_jack_57 (by decide) ?_
      cases hf; exact P.iret rfl dX9_jack_69
  · have hf := (if_neg y3).symm.trans hf
    refine P.bipush (v := (-2)) (pc' := 49) dX9_jack_47 rfl (by decide) ?_
    refine P.goto (tgt := 69) dX9_jack_49 (by decide) ?_
    cases hf; exact P.iret rfl dX9_jack_69
noncomputable def t_X9_jack (F : Nat) (p1 : Int32) (p2 : Int32) (τ : Tw) : Option (Int32 × Tw) :=
  Option.bind (p_X9_isIn F p1 1 99) fun q1 =>
  if q1 = 0 then
    some ((-1), τ)
  else
    if p2 = 0 then
      t_X9_jack_j34 F p1 p2 τ
    else
      Option.bind (taI τ 6 420 5) fun x5 =>
      Option.bind (p_X9_isIn F p2 10 (9 + x5)) fun q7 =>
      if q7 = 0 then
        some ((-1), τ)
      else
        t_X9_jack_j34 F p1 p2 τ
set_option maxHeartbeats 4000000 in
theorem ok_X9_jack {g : Gx} (F : Nat) (p1 : Int32) (p2 : Int32) (tw : Nat) (μ : Sw) (τ : Tw) {rv : Int32} {τF : Tw} (hf : t_X9_jack F p1 p2 τ = some (rv, τF)) : Cl g 3 yX9_jack cX9_jack 4 (some Jvm.ClassFile.FieldType.int) [.ref tw, .int p1, .int p2] (mT tw τ μ) (some (.int rv)) (mT tw τF μ) := by
  unfold t_X9_jack at hf
  refine Cl.of (own := RX9) (ini := false) (by decide +kernel) rfl (by decide) (Nat.le_of_ble_eq_true rfl) ?_
  show PW g mX9_jack 3 (mT tw τ μ) (mT tw τF μ) (QN g (some (.int rv)) (mT tw τ μ) (mT tw τF μ)) 0 [(0, .ref tw), (1, .int p1), (2, .int p2)] [] (mT tw τ μ)
  refine P.iload_n 1 (pc' := 1) dX9_jack_0 rfl rfl rfl ?_
  refine P.iconst (v := 1) (pc' := 2) dX9_jack_1 rfl (by decide) ?_
  refine P.bipush (v := 99) (pc' := 4) dX9_jack_2 rfl (by decide) ?_
  obtain ⟨q1, h2, hf⟩ := ob hf
  refine P.callS (pc' := 7) (As := [.int p1, .int 1, .int 99]) 3 (ok_X9_isIn F p1 1 99 (mT tw τ μ) h2) (Nat.le_of_ble_eq_true rfl) (lw_S q1971 q1972 q172 q1973) yok_X9_isIn rfl (Nat.le_of_ble_eq_true rfl) (by decide) rfl dX9_jack_4 rfl ?_
  refine P.if_eq (tgt := 32) (pc' := 10) dX9_jack_7 (by decide) rfl (fun y3 => ?_) (fun y3 => ?_)
  · have hf := (if_pos y3).symm.trans hf
    refine P.iconst (v := (-1)) (pc' := 33) dX9_jack_32 rfl (by decide) ?_
    cases hf; exact P.iret rfl dX9_jack_33
  · have hf := (if_neg y3).symm.trans hf
    refine P.iload_n 2 (pc' := 11) dX9_jack_10 rfl rfl rfl ?_
    refine P.if_eq (tgt := 34) (pc' := 14) dX9_jack_11 (by decide) rfl (fun y4 => ?_) (fun y4 => ?_)
    · have hf := (if_pos y4).symm.trans hf
      exact PW.sub [0, 1, 2] rfl (ok_t_X9_jack_j34 F tw μ p1 p2 τ hf)
    · have hf := (if_neg y4).symm.trans hf
      refine P.iload_n 2 (pc' := 15) dX9_jack_14 rfl rfl rfl ?_
      refine P.bipush (v := 10) (pc' := 17) dX9_jack_15 rfl (by decide) ?_
      refine P.bipush (v := 9) (pc' := 19) dX9_jack_17 rfl (by decide) ?_
      refine P.aload_n 0 (pc' := 20) dX9_jack_19 rfl rfl rfl ?_
      refine P.get (v := .ref (tw + 6)) (pc' := 23) ci9 12 (by decide) (T_gf rfl) q1567 (Or.inl rfl) dX9_jack_20 rfl ?_
      refine P.iconst (v := 5) (pc' := 24) dX9_jack_23 rfl (by decide) ?_
      obtain ⟨x5, h6, hf⟩ := ob hf
      refine P.iald (t := 0) (pc' := 25) rfl (T_aI rfl h6) dX9_jack_24 rfl ?_
      refine P.iadd (pc' := 26) dX9_jack_25 rfl ?_
      obtain ⟨q7, h8, hf⟩ := ob hf
      refine P.callS (pc' := 29) (As := [.int p2, .int 10, .int (9 + x5)]) 3 (ok_X9_isIn F p2 10 (9 + x5) (mT tw τ μ) h8) (Nat.le_of_ble_eq_true rfl) (lw_S q1971 q1972 q172 q1973) yok_X9_isIn rfl (Nat.le_of_ble_eq_true rfl) (by decide) rfl dX9_jack_26 rfl ?_
      refine P.if_ne (tgt := 34) (pc' := 32) dX9_jack_29 (by decide) rfl (fun y9 => ?_) (fun y9 => ?_)
      · have hf := (if_neg y9).symm.trans hf
        exact PW.sub [0, 1, 2] rfl (ok_t_X9_jack_j34 F tw μ p1 p2 τ hf)
      · have hf := (if_pos y9).symm.trans hf
        refine P.iconst (v := (-1)) (pc' := 33) dX9_jack_32 rfl (by decide) ?_
        cases hf; exact P.iret rfl dX9_jack_33
abbrev mX9_work : Ym := (RX9, cX9_work, 5, (some Jvm.ClassFile.FieldType.int), false, [])
noncomputable def t_X9_work (F : Nat) (p1 : Int32) (p2 : Int32) (p3 : Int32) (τ : Tw) : Option (Int32 × Tw) :=
  Option.bind (taI τ 7 1260 1) fun x1 =>
  if x1 = 40 then
    some ((-1), τ)
  else
    Option.bind (p_X9_isIn F p1 0 99) fun q4 =>
    if q4 = 0 then
      some ((-1), τ)
    else
      Option.bind (t_X9_isHouse F p2 τ) fun q7 =>
      if q7 = 0 then
        some ((-1), τ)
      else
        Option.bind (p_X9_isIn F p3 (-99) 99) fun q10 =>
        if q10 = 0 then
          some ((-1), τ)
        else
          if p3 = 0 then
            some ((-1), τ)
          else
            Option.bind (taI τ 7 1260 1) fun x14 =>
            nm (60 + (3 * x14)) fun x16 =>
            Option.bind (tsA τ 7 0 1260 x16 p1) fun τ19 =>
            Option.bind (tsA τ19 7 0 1260 (x16 + 1) p2) fun τ21 =>
            Option.bind (tsA τ21 7 0 1260 (x16 + 2) p3) fun τ23 =>
            Option.bind (taI τ23 7 1260 1) fun x24 =>
            Option.bind (tsA τ23 7 0 1260 1 (x24 + 1)) fun τ27 =>
            Option.bind (taI τ27 7 1260 1) fun x28 =>
            some (x28 - 1, τ27)
set_option maxHeartbeats 4000000 in
theorem ok_X9_work {g : Gx} (F : Nat) (p1 : Int32) (p2 : Int32) (p3 : Int32) (tw : Nat) (μ : Sw) (τ : Tw) {rv : Int32} {τF : Tw} (hf : t_X9_work F p1 p2 p3 τ = some (rv, τF)) : Cl g 2 yX9_work cX9_work 5 (some Jvm.ClassFile.FieldType.int) [.ref tw, .int p1, .int p2, .int p3] (mT tw τ μ) (some (.int rv)) (mT tw τF μ) := by
  unfold t_X9_work at hf
  refine Cl.of (own := RX9) (ini := false) (by decide +kernel) rfl (by decide) (Nat.le_of_ble_eq_true rfl) ?_
  show PW g mX9_work 2 (mT tw τ μ) (mT tw τF μ) (QN g (some (.int rv)) (mT tw τ μ) (mT tw τF μ)) 0 [(0, .ref tw), (1, .int p1), (2, .int p2), (3, .int p3)] [] (mT tw τ μ)
  refine P.aload_n 0 (pc' := 1) dX9_work_0 rfl rfl rfl ?_
  refine P.get (v := .ref (tw + 7)) (pc' := 4) ci9 13 (by decide) (T_gf rfl) q1568 (Or.inl rfl) dX9_work_1 rfl ?_
  refine P.iconst (v := 1) (pc' := 5) dX9_work_4 rfl (by decide) ?_
  obtain ⟨x1, h2, hf⟩ := ob hf
  refine P.iald (t := 0) (pc' := 6) rfl (T_aI rfl h2) dX9_work_5 rfl ?_
  refine P.bipush (v := 40) (pc' := 8) dX9_work_6 rfl (by decide) ?_
  refine P.icmp_eq (tgt := 44) (pc' := 11) dX9_work_8 (by decide) rfl (fun y3 => ?_) (fun y3 => ?_)
  · have hf := (if_pos y3).symm.trans hf
    refine P.iconst (v := (-1)) (pc' := 45) dX9_work_44 rfl (by decide) ?_
    cases hf; exact P.iret rfl dX9_work_45
  · have hf := (if_neg y3).symm.trans hf
    refine P.iload_n 1 (pc' := 12) dX9_work_11 rfl rfl rfl ?_
    refine P.iconst (v := 0) (pc' := 13) dX9_work_12 rfl (by decide) ?_
    refine P.bipush (v := 99) (pc' := 15) dX9_work_13 rfl (by decide) ?_
    obtain ⟨q4, h5, hf⟩ := ob hf
    refine P.callS (pc' := 18) (As := [.int p1, .int 0, .int 99]) 3 (ok_X9_isIn F p1 0 99 (mT tw τ μ) h5) (Nat.le_of_ble_eq_true rfl) (lw_S q1971 q1972 q172 q1973) yok_X9_isIn rfl (Nat.le_of_ble_eq_true rfl) (by decide) rfl dX9_work_15 rfl ?_
    refine P.if_eq (tgt := 44) (pc' := 21) dX9_work_18 (by decide) rfl (fun y6 => ?_) (fun y6 => ?_)
    · have hf := (if_pos y6).symm.trans hf
      refine P.iconst (v := (-1)) (pc' := 45) dX9_work_44 rfl (by decide) ?_
      cases hf; exact P.iret rfl dX9_work_45
    · have hf := (if_neg y6).symm.trans hf
      refine P.aload_n 0 (pc' := 22) dX9_work_21 rfl rfl rfl ?_
      refine P.iload_n 2 (pc' := 23) dX9_work_22 rfl rfl rfl ?_
      obtain ⟨q7, h8, hf⟩ := ob hf
      refine P.callV (pc' := 26) (As := [.int p2]) 1 (ok_X9_isHouse F p2 tw μ τ h8) (Nat.le_of_ble_eq_true rfl) (lw_V q1920 q1922 qs114 q172 q1923) rfl yok_X9_isHouse rfl (Nat.le_of_ble_eq_true rfl) ci9 T_oc (by decide) rfl dX9_work_23 rfl ?_
      refine P.if_eq (tgt := 44) (pc' := 29) dX9_work_26 (by decide) rfl (fun y9 => ?_) (fun y9 => ?_)
      · have hf := (if_pos y9).symm.trans hf
        refine P.iconst (v := (-1)) (pc' := 45) dX9_work_44 rfl (by decide) ?_
        cases hf; exact P.iret rfl dX9_work_45
      · have hf := (if_neg y9).symm.trans hf
        refine P.iload_n 3 (pc' := 30) dX9_work_29 rfl rfl rfl ?_
        refine P.bipush (v := (-99)) (pc' := 32) dX9_work_30 rfl (by decide) ?_
        refine P.bipush (v := 99) (pc' := 34) dX9_work_32 rfl (by decide) ?_
        obtain ⟨q10, h11, hf⟩ := ob hf
        refine P.callS (pc' := 37) (As := [.int p3, .int (-99), .int 99]) 3 (ok_X9_isIn F p3 (-99) 99 (mT tw τ μ) h11) (Nat.le_of_ble_eq_true rfl) (lw_S q1971 q1972 q172 q1973) yok_X9_isIn rfl (Nat.le_of_ble_eq_true rfl) (by decide) rfl dX9_work_34 rfl ?_
        refine P.if_eq (tgt := 44) (pc' := 40) dX9_work_37 (by decide) rfl (fun y12 => ?_) (fun y12 => ?_)
        · have hf := (if_pos y12).symm.trans hf
          refine P.iconst (v := (-1)) (pc' := 45) dX9_work_44 rfl (by decide) ?_
          cases hf; exact P.iret rfl dX9_work_45
        · have hf := (if_neg y12).symm.trans hf
          refine P.iload_n 3 (pc' := 41) dX9_work_40 rfl rfl rfl ?_
          refine P.if_ne (tgt := 46) (pc' := 44) dX9_work_41 (by decide) rfl (fun y13 => ?_) (fun y13 => ?_)
          · have hf := (if_neg y13).symm.trans hf
            refine P.bipush (v := 60) (pc' := 48) dX9_work_46 rfl (by decide) ?_
            refine P.iconst (v := 3) (pc' := 49) dX9_work_48 rfl (by decide) ?_
            refine P.aload_n 0 (pc' := 50) dX9_work_49 rfl rfl rfl ?_
            refine P.get (v := .ref (tw + 7)) (pc' := 53) ci9 13 (by decide) (T_gf rfl) q1568 (Or.inl rfl) dX9_work_50 rfl ?_
            refine P.iconst (v := 1) (pc' := 54) dX9_work_53 rfl (by decide) ?_
            obtain ⟨x14, h15, hf⟩ := ob hf
            refine P.iald (t := 0) (pc' := 55) rfl (T_aI rfl h15) dX9_work_54 rfl ?_
            refine P.imul (pc' := 56) dX9_work_55 rfl ?_
            refine P.iadd (pc' := 57) dX9_work_56 rfl ?_
            obtain ⟨x16, e17, hf⟩ := nm_i hf
            refine P.nmi e17 ?_
            refine P.istore (pc' := 59) (lv' := [(4, .int x16), (0, .ref tw), (1, .int p1), (2, .int p2), (3, .int p3)]) dX9_work_57 rfl (Nat.le_of_ble_eq_true rfl) rfl ?_
            refine P.aload_n 1 (pc' := 60) dX9_work_59 rfl rfl rfl ?_
            refine P.get (v := .ref (tw + 7)) (pc' := 63) ci9 13 (by decide) (T_gf rfl) q1568 (Or.inl rfl) dX9_work_60 rfl ?_
            refine P.iload 0 (pc' := 65) dX9_work_63 rfl rfl ?_
            refine P.iload_n 2 (pc' := 66) dX9_work_65 rfl rfl rfl ?_
            obtain ⟨τ19, h18, hf⟩ := ob hf
            refine P.iast (pc' := 67) (T_sA rfl (by decide) h18) dX9_work_66 rfl ?_
            refine P.aload_n 1 (pc' := 68) dX9_work_67 rfl rfl rfl ?_
            refine P.get (v := .ref (tw + 7)) (pc' := 71) ci9 13 (by decide) (T_gf rfl) q1568 (Or.inl rfl) dX9_work_68 rfl ?_
            refine P.iload 0 (pc' := 73) dX9_work_71 rfl rfl ?_
            refine P.iconst (v := 1) (pc' := 74) dX9_work_73 rfl (by decide) ?_
            refine P.iadd (pc' := 75) dX9_work_74 rfl ?_
            refine P.iload_n 3 (pc' := 76) dX9_work_75 rfl rfl rfl ?_
            obtain ⟨τ21, h20, hf⟩ := ob hf
            refine P.iast (pc' := 77) (T_sA rfl (by decide) h20) dX9_work_76 rfl ?_
            refine P.aload_n 1 (pc' := 78) dX9_work_77 rfl rfl rfl ?_
            refine P.get (v := .ref (tw + 7)) (pc' := 81) ci9 13 (by decide) (T_gf rfl) q1568 (Or.inl rfl) dX9_work_78 rfl ?_
            refine P.iload 0 (pc' := 83) dX9_work_81 rfl rfl ?_
            refine P.iconst (v := 2) (pc' := 84) dX9_work_83 rfl (by decide) ?_
            refine P.iadd (pc' := 85) dX9_work_84 rfl ?_
            refine P.iload_n 4 (pc' := 86) dX9_work_85 rfl rfl rfl ?_
            obtain ⟨τ23, h22, hf⟩ := ob hf
            refine P.iast (pc' := 87) (T_sA rfl (by decide) h22) dX9_work_86 rfl ?_
            refine P.aload_n 1 (pc' := 88) dX9_work_87 rfl rfl rfl ?_
            refine P.get (v := .ref (tw + 7)) (pc' := 91) ci9 13 (by decide) (T_gf rfl) q1568 (Or.inl rfl) dX9_work_88 rfl ?_
            refine P.iconst (v := 1) (pc' := 92) dX9_work_91 rfl (by decide) ?_
            refine P.dup2 (pc' := 93) dX9_work_92 rfl rfl rfl ?_
            obtain ⟨x24, h25, hf⟩ := ob hf
            refine P.iald (t := 0) (pc' := 94) rfl (T_aI rfl h25) dX9_work_93 rfl ?_
            refine P.iconst (v := 1) (pc' := 95) dX9_work_94 rfl (by decide) ?_
            refine P.iadd (pc' := 96) dX9_work_95 rfl ?_
            obtain ⟨τ27, h26, hf⟩ := ob hf
            refine P.iast (pc' := 97) (T_sA rfl (by decide) h26) dX9_work_96 rfl ?_
            refine P.aload_n 1 (pc' := 98) dX9_work_97 rfl rfl rfl ?_
            refine P.get (v := .ref (tw + 7)) (pc' := 101) ci9 13 (by decide) (T_gf rfl) q1568 (Or.inl rfl) dX9_work_98 rfl ?_
            refine P.iconst (v := 1) (pc' := 102) dX9_work_101 rfl (by decide) ?_
            obtain ⟨x28, h29, hf⟩ := ob hf
            refine P.iald (t := 0) (pc' := 103) rfl (T_aI rfl h29) dX9_work_102 rfl ?_
            refine P.iconst (v := 1) (pc' := 104) dX9_work_103 rfl (by decide) ?_
            refine P.isub (pc' := 105) dX9_work_104 rfl ?_
            cases hf; exact P.iret rfl dX9_work_105
          · have hf := (if_pos y13).symm.trans hf
            refine P.iconst (v := (-1)) (pc' := 45) dX9_work_44 rfl (by decide) ?_
            cases hf; exact P.iret rfl dX9_work_45
abbrev mX9_forget : Ym := (RX9, cX9_forget, 2, (some Jvm.ClassFile.FieldType.int), false, [])
noncomputable def t_X9_forget (F : Nat) (τ : Tw) : Option (Int32 × Tw) :=
  Option.bind (taI τ 7 1260 1) fun x1 =>
  Option.bind (tsA τ 7 0 1260 1 0) fun τ4 =>
  some (x1, τ4)
set_option maxHeartbeats 4000000 in
theorem ok_X9_forget {g : Gx} (F : Nat) (tw : Nat) (μ : Sw) (τ : Tw) {rv : Int32} {τF : Tw} (hf : t_X9_forget F τ = some (rv, τF)) : Cl g 1 yX9_forget cX9_forget 2 (some Jvm.ClassFile.FieldType.int) [.ref tw] (mT tw τ μ) (some (.int rv)) (mT tw τF μ) := by
  unfold t_X9_forget at hf
  refine Cl.of (own := RX9) (ini := false) (by decide +kernel) rfl (by decide) (Nat.le_of_ble_eq_true rfl) ?_
  show PW g mX9_forget 1 (mT tw τ μ) (mT tw τF μ) (QN g (some (.int rv)) (mT tw τ μ) (mT tw τF μ)) 0 [(0, .ref tw)] [] (mT tw τ μ)
  refine P.aload_n 0 (pc' := 1) dX9_forget_0 rfl rfl rfl ?_
  refine P.get (v := .ref (tw + 7)) (pc' := 4) ci9 13 (by decide) (T_gf rfl) q1568 (Or.inl rfl) dX9_forget_1 rfl ?_
  refine P.iconst (v := 1) (pc' := 5) dX9_forget_4 rfl (by decide) ?_
  obtain ⟨x1, h2, hf⟩ := ob hf
  refine P.iald (t := 0) (pc' := 6) rfl (T_aI rfl h2) dX9_forget_5 rfl ?_
  refine P.istore_n (pc' := 7) (lv' := [(1, .int x1), (0, .ref tw)]) dX9_forget_6 rfl rfl (Nat.le_of_ble_eq_true rfl) rfl ?_
  refine P.aload_n 1 (pc' := 8) dX9_forget_7 rfl rfl rfl ?_
  refine P.get (v := .ref (tw + 7)) (pc' := 11) ci9 13 (by decide) (T_gf rfl) q1568 (Or.inl rfl) dX9_forget_8 rfl ?_
  refine P.iconst (v := 1) (pc' := 12) dX9_forget_11 rfl (by decide) ?_
  refine P.iconst (v := 0) (pc' := 13) dX9_forget_12 rfl (by decide) ?_
  obtain ⟨τ4, h3, hf⟩ := ob hf
  refine P.iast (pc' := 14) (T_sA rfl (by decide) h3) dX9_forget_13 rfl ?_
  refine P.iload_n 0 (pc' := 15) dX9_forget_14 rfl rfl rfl ?_
  cases hf; exact P.iret rfl dX9_forget_15
abbrev mX9_keep : Ym := (RX9, cX9_keep, 3, none, false, [])
noncomputable def t_X9_keep_L2_b (F : Nat) (k34 : Tw → Option Tw) (c1 : Int32) (self : Int32 → Tw → Option Tw) (v2 : Int32) (τ : Tw) : Option Tw :=
  if 16 ≤ v2 then
    k34 τ
  else
    Option.bind (taI τ 7 1260 (10 + v2)) fun x2 =>
    Option.bind (tsA τ 27 0 504 ((24 * c1) + v2) x2) fun τ5 =>
    nm (v2 + 1) fun x6 =>
    self x6 τ5
noncomputable def t_X9_keep_L2 (F : Nat) (k34 : Tw → Option Tw) (c1 : Int32) (n : Nat) : Int32 → Tw → Option Tw := Nat.rec (motive := fun _ => Int32 → Tw → Option Tw) (fun _ _ => none) (fun _ self => t_X9_keep_L2_b F k34 c1 self) n
set_option maxHeartbeats 4000000 in
theorem ok_t_X9_keep_L2 {g : Gx} {μ0 : Sw} {τF : Tw} (F : Nat) (tw : Nat) (μ : Sw) (c1 : Int32) (k34 : Tw → Option Tw) (hk34 : ∀ (τ : Tw), k34 τ = some τF → PW g mX9_keep 1 μ0 (mT tw τF μ) (QN g none μ0 (mT tw τF μ)) 34 [(0, .ref tw), (1, .int c1)] [] (mT tw τ μ)) : ∀ (n : Nat) (v2 : Int32) (τ : Tw), t_X9_keep_L2 F k34 c1 n v2 τ = some τF → PW g mX9_keep 1 μ0 (mT tw τF μ) (QN g none μ0 (mT tw τF μ)) 2 [(0, .ref tw), (1, .int c1), (2, .int v2)] [] (mT tw τ μ) := by
  intro n
  induction n with
  | zero =>
    intro v2 τ hf
    have hf : (none : Option Tw) = some _ := hf
    cases hf
  | succ n ih =>
    intro v2 τ hf
    have hf : t_X9_keep_L2_b F k34 c1 (t_X9_keep_L2 F k34 c1 n) v2 τ = some τF := hf
    unfold t_X9_keep_L2_b at hf
    refine P.iload_n 2 (pc' := 3) dX9_keep_2 rfl rfl rfl ?_
    refine P.bipush (v := 16) (pc' := 5) dX9_keep_3 rfl (by decide) ?_
    refine P.icmp_ge (tgt := 34) (pc' := 8) dX9_keep_5 (by decide) rfl (fun y1 => ?_) (fun y1 => ?_)
    · have hf := (if_pos y1).symm.trans hf
      exact PW.sub [0, 1] rfl (hk34 _ hf)
    · have hf := (if_neg y1).symm.trans hf
      refine P.aload_n 0 (pc' := 9) dX9_keep_8 rfl rfl rfl ?_
      refine P.get (v := .ref (tw + 27)) (pc' := 12) ci9 39 (by decide) (T_gf rfl) q1594 (Or.inl rfl) dX9_keep_9 rfl ?_
      refine P.bipush (v := 24) (pc' := 14) dX9_keep_12 rfl (by decide) ?_
      refine P.iload_n 1 (pc' := 15) dX9_keep_14 rfl rfl rfl ?_
      refine P.imul (pc' := 16) dX9_keep_15 rfl ?_
      refine P.iload_n 2 (pc' := 17) dX9_keep_16 rfl rfl rfl ?_
      refine P.iadd (pc' := 18) dX9_keep_17 rfl ?_
      refine P.aload_n 0 (pc' := 19) dX9_keep_18 rfl rfl rfl ?_
      refine P.get (v := .ref (tw + 7)) (pc' := 22) ci9 13 (by decide) (T_gf rfl) q1568 (Or.inl rfl) dX9_keep_19 rfl ?_
      refine P.bipush (v := 10) (pc' := 24) dX9_keep_22 rfl (by decide) ?_
      refine P.iload_n 2 (pc' := 25) dX9_keep_24 rfl rfl rfl ?_
      refine P.iadd (pc' := 26) dX9_keep_25 rfl ?_
      obtain ⟨x2, h3, hf⟩ := ob hf
      refine P.iald (t := 0) (pc' := 27) rfl (T_aI rfl h3) dX9_keep_26 rfl ?_
      obtain ⟨τ5, h4, hf⟩ := ob hf
      refine P.iast (pc' := 28) (T_sA rfl (by decide) h4) dX9_keep_27 rfl ?_
      obtain ⟨x6, e7, hf⟩ := nm_i hf
      refine P.iinc 2 (pc' := 31) (lv' := [(2, .int x6), (0, .ref tw), (1, .int c1)]) dX9_keep_28 rfl rfl (by decide) e7 (Nat.le_of_ble_eq_true rfl) rfl ?_
      refine P.goto (tgt := 2) dX9_keep_31 (by decide) ?_
      exact PW.sub [1, 2, 0] rfl (ih _ _ hf)
noncomputable def t_X9_keep_L36_b (F : Nat) (c1 : Int32) (self : Int32 → Tw → Option Tw) (v2 : Int32) (τ : Tw) : Option Tw :=
  if 8 ≤ v2 then
    some τ
  else
    Option.bind (taI τ 7 1260 (50 + v2)) fun x2 =>
    Option.bind (tsA τ 27 0 504 (((24 * c1) + 16) + v2) x2) fun τ5 =>
    nm (v2 + 1) fun x6 =>
    self x6 τ5
noncomputable def t_X9_keep_L36 (F : Nat) (c1 : Int32) (n : Nat) : Int32 → Tw → Option Tw := Nat.rec (motive := fun _ => Int32 → Tw → Option Tw) (fun _ _ => none) (fun _ self => t_X9_keep_L36_b F c1 self) n
set_option maxHeartbeats 4000000 in
theorem ok_t_X9_keep_L36 {g : Gx} {μ0 : Sw} {τF : Tw} (F : Nat) (tw : Nat) (μ : Sw) (c1 : Int32) : ∀ (n : Nat) (v2 : Int32) (τ : Tw), t_X9_keep_L36 F c1 n v2 τ = some τF → PW g mX9_keep 1 μ0 (mT tw τF μ) (QN g none μ0 (mT tw τF μ)) 36 [(0, .ref tw), (1, .int c1), (2, .int v2)] [] (mT tw τ μ) := by
  intro n
  induction n with
  | zero =>
    intro v2 τ hf
    have hf : (none : Option Tw) = some _ := hf
    cases hf
  | succ n ih =>
    intro v2 τ hf
    have hf : t_X9_keep_L36_b F c1 (t_X9_keep_L36 F c1 n) v2 τ = some τF := hf
    unfold t_X9_keep_L36_b at hf
    refine P.iload_n 2 (pc' := 37) dX9_keep_36 rfl rfl rfl ?_
    refine P.bipush (v := 8) (pc' := 39) dX9_keep_37 rfl (by decide) ?_
    refine P.icmp_ge (tgt := 71) (pc' := 42) dX9_keep_39 (by decide) rfl (fun y1 => ?_) (fun y1 => ?_)
    · have hf := (if_pos y1).symm.trans hf
      cases hf; exact P.vret rfl dX9_keep_71
    · have hf := (if_neg y1).symm.trans hf
      refine P.aload_n 0 (pc' := 43) dX9_keep_42 rfl rfl rfl ?_
      refine P.get (v := .ref (tw + 27)) (pc' := 46) ci9 39 (by decide) (T_gf rfl) q1594 (Or.inl rfl) dX9_keep_43 rfl ?_
      refine P.bipush (v := 24) (pc' := 48) dX9_keep_46 rfl (by decide) ?_
      refine P.iload_n 1 (pc' := 49) dX9_keep_48 rfl rfl rfl ?_
      refine P.imul (pc' := 50) dX9_keep_49 rfl ?_
      refine P.bipush (v := 16) (pc' := 52) dX9_keep_50 rfl (by decide) ?_
      refine P.iadd (pc' := 53) dX9_keep_52 rfl ?_
      refine P.iload_n 2 (pc' := 54) dX9_keep_53 rfl rfl rfl ?_
      refine P.iadd (pc' := 55) dX9_keep_54 rfl ?_
      refine P.aload_n 0 (pc' := 56) dX9_keep_55 rfl rfl rfl ?_
      refine P.get (v := .ref (tw + 7)) (pc' := 59) ci9 13 (by decide) (T_gf rfl) q1568 (Or.inl rfl) dX9_keep_56 rfl ?_
      refine P.bipush (v := 50) (pc' := 61) dX9_keep_59 rfl (by decide) ?_
      refine P.iload_n 2 (pc' := 62) dX9_keep_61 rfl rfl rfl ?_
      refine P.iadd (pc' := 63) dX9_keep_62 rfl ?_
      obtain ⟨x2, h3, hf⟩ := ob hf
      refine P.iald (t := 0) (pc' := 64) rfl (T_aI rfl h3) dX9_keep_63 rfl ?_
      obtain ⟨τ5, h4, hf⟩ := ob hf
      refine P.iast (pc' := 65) (T_sA rfl (by decide) h4) dX9_keep_64 rfl ?_
      obtain ⟨x6, e7, hf⟩ := nm_i hf
      refine P.iinc 2 (pc' := 68) (lv' := [(2, .int x6), (0, .ref tw), (1, .int c1)]) dX9_keep_65 rfl rfl (by decide) e7 (Nat.le_of_ble_eq_true rfl) rfl ?_
      refine P.goto (tgt := 36) dX9_keep_68 (by decide) ?_
      exact PW.sub [1, 2, 0] rfl (ih _ _ hf)
noncomputable def t_X9_keep (F : Nat) (p1 : Int32) (τ : Tw) : Option Tw :=
  t_X9_keep_L2 F
    (fun τ1 =>
      t_X9_keep_L36 F p1 F 0 τ1)
    p1 F 0 τ
set_option maxHeartbeats 4000000 in
theorem ok_X9_keep {g : Gx} (F : Nat) (p1 : Int32) (tw : Nat) (μ : Sw) (τ : Tw) {τF : Tw} (hf : t_X9_keep F p1 τ = some τF) : Cl g 1 yX9_keep cX9_keep 3 none [.ref tw, .int p1] (mT tw τ μ) none (mT tw τF μ) := by
  unfold t_X9_keep at hf
  refine Cl.of (own := RX9) (ini := false) (by decide +kernel) rfl (by decide) (Nat.le_of_ble_eq_true rfl) ?_
  show PW g mX9_keep 1 (mT tw τ μ) (mT tw τF μ) (QN g none (mT tw τ μ) (mT tw τF μ)) 0 [(0, .ref tw), (1, .int p1)] [] (mT tw τ μ)
  refine P.iconst (v := 0) (pc' := 1) dX9_keep_0 rfl (by decide) ?_
  refine P.istore_n (pc' := 2) (lv' := [(2, .int 0), (0, .ref tw), (1, .int p1)]) dX9_keep_1 rfl rfl (Nat.le_of_ble_eq_true rfl) rfl ?_
  refine PW.sub [1, 2, 0] rfl (ok_t_X9_keep_L2 F tw μ p1 _ ?_ F _ _ hf)
  · intro τ1 hf
    refine P.iconst (v := 0) (pc' := 35) dX9_keep_34 rfl (by decide) ?_
    refine P.istore_n (pc' := 36) (lv' := [(2, .int 0), (0, .ref tw), (1, .int p1)]) dX9_keep_35 rfl rfl (Nat.le_of_ble_eq_true rfl) rfl ?_
    exact PW.sub [1, 2, 0] rfl (ok_t_X9_keep_L36 F tw μ p1 F _ _ hf)
abbrev mX9_makes : Ym := (RX9, cX9_makes, 7, (some Jvm.ClassFile.FieldType.int), false, [])
noncomputable def t_X9_makes_j233 (F : Nat) (v3 : Int32) (v4 : Int32) (τ : Tw) : Option (Int32 × Tw) :=
  nm (10 + v3) fun x1 =>
  Option.bind (taI τ 7 1260 x1) fun x3 =>
  Option.bind (tsA τ 7 0 1260 x1 (x3 + v4)) fun τ6 =>
  some (0, τ6)
set_option maxHeartbeats 4000000 in
theorem ok_t_X9_makes_j233 {g : Gx} {μ0 : Sw} {rv : Int32} {τF : Tw} (F : Nat) (tw : Nat) (μ : Sw) (v3 : Int32) (v4 : Int32) (τ : Tw) (hf : t_X9_makes_j233 F v3 v4 τ = some (rv, τF)) : PW g mX9_makes 3 μ0 (mT tw τF μ) (QN g (some (.int rv)) μ0 (mT tw τF μ)) 233 [(0, .ref tw), (3, .int v3), (4, .int v4)] [] (mT tw τ μ) := by
  unfold t_X9_makes_j233 at hf
  refine P.aload_n 0 (pc' := 234) dX9_makes_233 rfl rfl rfl ?_
  refine P.get (v := .ref (tw + 7)) (pc' := 237) ci9 13 (by decide) (T_gf rfl) q1568 (Or.inl rfl) dX9_makes_234 rfl ?_
  refine P.bipush (v := 10) (pc' := 239) dX9_makes_237 rfl (by decide) ?_
  refine P.iload_n 1 (pc' := 240) dX9_makes_239 rfl rfl rfl ?_
  refine P.iadd (pc' := 241) dX9_makes_240 rfl ?_
  obtain ⟨x1, e2, hf⟩ := nm_i hf
  refine P.nmi e2 ?_
  refine P.dup2 (pc' := 242) dX9_makes_241 rfl rfl rfl ?_
  obtain ⟨x3, h4, hf⟩ := ob hf
  refine P.iald (t := 0) (pc' := 243) rfl (T_aI rfl h4) dX9_makes_242 rfl ?_
  refine P.iload 2 (pc' := 245) dX9_makes_243 rfl rfl ?_
  refine P.iadd (pc' := 246) dX9_makes_245 rfl ?_
  obtain ⟨τ6, h5, hf⟩ := ob hf
  refine P.iast (pc' := 247) (T_sA rfl (by decide) h5) dX9_makes_246 rfl ?_
  refine P.iconst (v := 0) (pc' := 248) dX9_makes_247 rfl (by decide) ?_
  cases hf; exact P.iret rfl dX9_makes_248
noncomputable def t_X9_makes_L162_b (F : Nat) (k195 : Int32 → Option (Int32 × Tw)) (c3 : Int32) (c4 : Int32) (τ : Tw) (self : Int32 → Option (Int32 × Tw)) (v5 : Int32) : Option (Int32 × Tw) :=
  Option.bind (taI τ 6 420 5) fun x1 =>
  if x1 ≤ v5 then
    t_X9_makes_j233 F c3 c4 τ
  else
    Option.bind (taI τ 6 420 (170 + (2 * v5))) fun x4 =>
    if x4 = (-c4) then
      k195 v5
    else
      nm (v5 + 1) fun x7 =>
      self x7
noncomputable def t_X9_makes_L162 (F : Nat) (k195 : Int32 → Option (Int32 × Tw)) (c3 : Int32) (c4 : Int32) (τ : Tw) (n : Nat) : Int32 → Option (Int32 × Tw) := Nat.rec (motive := fun _ => Int32 → Option (Int32 × Tw)) (fun _ => none) (fun _ self => t_X9_makes_L162_b F k195 c3 c4 τ self) n
set_option maxHeartbeats 4000000 in
theorem ok_t_X9_makes_L162 {g : Gx} {μ0 : Sw} {rv : Int32} {τF : Tw} (F : Nat) (tw : Nat) (μ : Sw) (c3 : Int32) (c4 : Int32) (τ : Tw) (k195 : Int32 → Option (Int32 × Tw)) (hk195 : ∀ (w5 : Int32), k195 w5 = some (rv, τF) → PW g mX9_makes 3 μ0 (mT tw τF μ) (QN g (some (.int rv)) μ0 (mT tw τF μ)) 195 [(0, .ref tw), (3, .int c3), (4, .int c4), (5, .int w5)] [] (mT tw τ μ)) : ∀ (n : Nat) (v5 : Int32), t_X9_makes_L162 F k195 c3 c4 τ n v5 = some (rv, τF) → PW g mX9_makes 3 μ0 (mT tw τF μ) (QN g (some (.int rv)) μ0 (mT tw τF μ)) 162 [(0, .ref tw), (3, .int c3), (4, .int c4), (5, .int v5)] [] (mT tw τ μ) := by
  intro n
  induction n with
  | zero =>
    intro v5 hf
    have hf : (none : Option (Int32 × Tw)) = some _ := hf
    cases hf
  | succ n ih =>
    intro v5 hf
    have hf : t_X9_makes_L162_b F k195 c3 c4 τ (t_X9_makes_L162 F k195 c3 c4 τ n) v5 = some (rv, τF) := hf
    unfold t_X9_makes_L162_b at hf
    refine P.iload 3 (pc' := 164) dX9_makes_162 rfl rfl ?_
    refine P.aload_n 0 (pc' := 165) dX9_makes_164 rfl rfl rfl ?_
    refine P.get (v := .ref (tw + 6)) (pc' := 168) ci9 12 (by decide) (T_gf rfl) q1567 (Or.inl rfl) dX9_makes_165 rfl ?_
    refine P.iconst (v := 5) (pc' := 169) dX9_makes_168 rfl (by decide) ?_
    obtain ⟨x1, h2, hf⟩ := ob hf
    refine P.iald (t := 0) (pc' := 170) rfl (T_aI rfl h2) dX9_makes_169 rfl ?_
    refine P.icmp_ge (tgt := 233) (pc' := 173) dX9_makes_170 (by decide) rfl (fun y3 => ?_) (fun y3 => ?_)
    · have hf := (if_pos y3).symm.trans hf
      exact PW.sub [0, 1, 2] rfl (ok_t_X9_makes_j233 F tw μ c3 c4 τ hf)
    · have hf := (if_neg y3).symm.trans hf
      refine P.aload_n 0 (pc' := 174) dX9_makes_173 rfl rfl rfl ?_
      refine P.get (v := .ref (tw + 6)) (pc' := 177) ci9 12 (by decide) (T_gf rfl) q1567 (Or.inl rfl) dX9_makes_174 rfl ?_
      refine P.sipush (v := 170) (pc' := 180) dX9_makes_177 rfl (by decide) ?_
      refine P.iconst (v := 2) (pc' := 181) dX9_makes_180 rfl (by decide) ?_
      refine P.iload 3 (pc' := 183) dX9_makes_181 rfl rfl ?_
      refine P.imul (pc' := 184) dX9_makes_183 rfl ?_
      refine P.iadd (pc' := 185) dX9_makes_184 rfl ?_
      obtain ⟨x4, h5, hf⟩ := ob hf
      refine P.iald (t := 0) (pc' := 186) rfl (T_aI rfl h5) dX9_makes_185 rfl ?_
      refine P.iload 2 (pc' := 188) dX9_makes_186 rfl rfl ?_
      refine P.ineg (pc' := 189) dX9_makes_188 rfl ?_
      refine P.icmp_eq (tgt := 195) (pc' := 192) dX9_makes_189 (by decide) rfl (fun y6 => ?_) (fun y6 => ?_)
      · have hf := (if_pos y6).symm.trans hf
        exact PW.sub [0, 1, 2, 3] rfl (hk195 _ hf)
      · have hf := (if_neg y6).symm.trans hf
        refine P.goto (tgt := 227) dX9_makes_192 (by decide) ?_
        obtain ⟨x7, e8, hf⟩ := nm_i hf
        refine P.iinc 3 (pc' := 230) (lv' := [(5, .int x7), (0, .ref tw), (3, .int c3), (4, .int c4)]) dX9_makes_227 rfl rfl (by decide) e8 (Nat.le_of_ble_eq_true rfl) rfl ?_
        refine P.goto (tgt := 162) dX9_makes_230 (by decide) ?_
        exact PW.sub [1, 2, 3, 0] rfl (ih _ hf)
noncomputable def t_X9_makes_L123_b (F : Nat) (c3 : Int32) (c4 : Int32) (self : Int32 → Tw → Option (Int32 × Tw)) (v6 : Int32) (τ : Tw) : Option (Int32 × Tw) :=
  if 8 ≤ v6 then
    t_X9_makes_j233 F c3 c4 τ
  else
    nm (50 + v6) fun x2 =>
    Option.bind (taI τ 7 1260 x2) fun x4 =>
    Option.bind (taI τ 26 8 v6) fun x6 =>
    Option.bind (tsA τ 7 0 1260 x2 (x4 - x6)) fun τ9 =>
    nm (v6 + 1) fun x10 =>
    self x10 τ9
noncomputable def t_X9_makes_L123 (F : Nat) (c3 : Int32) (c4 : Int32) (n : Nat) : Int32 → Tw → Option (Int32 × Tw) := Nat.rec (motive := fun _ => Int32 → Tw → Option (Int32 × Tw)) (fun _ _ => none) (fun _ self => t_X9_makes_L123_b F c3 c4 self) n
set_option maxHeartbeats 4000000 in
theorem ok_t_X9_makes_L123 {g : Gx} {μ0 : Sw} {rv : Int32} {τF : Tw} (F : Nat) (tw : Nat) (μ : Sw) (c3 : Int32) (c4 : Int32) : ∀ (n : Nat) (v6 : Int32) (τ : Tw), t_X9_makes_L123 F c3 c4 n v6 τ = some (rv, τF) → PW g mX9_makes 3 μ0 (mT tw τF μ) (QN g (some (.int rv)) μ0 (mT tw τF μ)) 123 [(0, .ref tw), (3, .int c3), (4, .int c4), (6, .int v6)] [] (mT tw τ μ) := by
  intro n
  induction n with
  | zero =>
    intro v6 τ hf
    have hf : (none : Option (Int32 × Tw)) = some _ := hf
    cases hf
  | succ n ih =>
    intro v6 τ hf
    have hf : t_X9_makes_L123_b F c3 c4 (t_X9_makes_L123 F c3 c4 n) v6 τ = some (rv, τF) := hf
    unfold t_X9_makes_L123_b at hf
    refine P.iload 3 (pc' := 125) dX9_makes_123 rfl rfl ?_
    refine P.bipush (v := 8) (pc' := 127) dX9_makes_125 rfl (by decide) ?_
    refine P.icmp_ge (tgt := 156) (pc' := 130) dX9_makes_127 (by decide) rfl (fun y1 => ?_) (fun y1 => ?_)
    · have hf := (if_pos y1).symm.trans hf
      refine P.goto (tgt := 233) dX9_makes_156 (by decide) ?_
      exact PW.sub [0, 1, 2] rfl (ok_t_X9_makes_j233 F tw μ c3 c4 τ hf)
    · have hf := (if_neg y1).symm.trans hf
      refine P.aload_n 0 (pc' := 131) dX9_makes_130 rfl rfl rfl ?_
      refine P.get (v := .ref (tw + 7)) (pc' := 134) ci9 13 (by decide) (T_gf rfl) q1568 (Or.inl rfl) dX9_makes_131 rfl ?_
      refine P.bipush (v := 50) (pc' := 136) dX9_makes_134 rfl (by decide) ?_
      refine P.iload 3 (pc' := 138) dX9_makes_136 rfl rfl ?_
      refine P.iadd (pc' := 139) dX9_makes_138 rfl ?_
      obtain ⟨x2, e3, hf⟩ := nm_i hf
      refine P.nmi e3 ?_
      refine P.dup2 (pc' := 140) dX9_makes_139 rfl rfl rfl ?_
      obtain ⟨x4, h5, hf⟩ := ob hf
      refine P.iald (t := 0) (pc' := 141) rfl (T_aI rfl h5) dX9_makes_140 rfl ?_
      refine P.aload_n 0 (pc' := 142) dX9_makes_141 rfl rfl rfl ?_
      refine P.get (v := .ref (tw + 26)) (pc' := 145) ci9 38 (by decide) (T_gf rfl) q1593 (Or.inl rfl) dX9_makes_142 rfl ?_
      refine P.iload 3 (pc' := 147) dX9_makes_145 rfl rfl ?_
      obtain ⟨x6, h7, hf⟩ := ob hf
      refine P.iald (t := 0) (pc' := 148) rfl (T_aI rfl h7) dX9_makes_147 rfl ?_
      refine P.isub (pc' := 149) dX9_makes_148 rfl ?_
      obtain ⟨τ9, h8, hf⟩ := ob hf
      refine P.iast (pc' := 150) (T_sA rfl (by decide) h8) dX9_makes_149 rfl ?_
      obtain ⟨x10, e11, hf⟩ := nm_i hf
      refine P.iinc 3 (pc' := 153) (lv' := [(6, .int x10), (0, .ref tw), (3, .int c3), (4, .int c4)]) dX9_makes_150 rfl rfl (by decide) e11 (Nat.le_of_ble_eq_true rfl) rfl ?_
      refine P.goto (tgt := 123) dX9_makes_153 (by decide) ?_
      exact PW.sub [1, 2, 3, 0] rfl (ih _ _ hf)
noncomputable def t_X9_makes_j55 (F : Nat) (v3 : Int32) (v4 : Int32) (s0 : Int32) (τ : Tw) : Option (Int32 × Tw) :=
  Option.bind (taI τ 6 420 7) fun x1 =>
  if s0 ≤ x1 then
    Option.bind (t_X9_heightOf F v3 τ) fun q4 =>
    Option.bind (p_X9_isIn F (q4 + v4) 0 99) fun q6 =>
    if q6 = 0 then
      some (3, τ)
    else
      if v4 ≤ 0 then
        t_X9_makes_L162 F
          (fun w10 =>
            Option.bind (taI τ 7 1260 (50 + w10)) fun x11 =>
            if 99 ≤ x11 then
              t_X9_makes_j233 F v3 v4 τ
            else
              nm (50 + w10) fun x14 =>
              Option.bind (taI τ 7 1260 x14) fun x16 =>
              Option.bind (tsA τ 7 0 1260 x14 (x16 + 1)) fun τ19 =>
              t_X9_makes_j233 F v3 v4 τ19)
          v3 v4 τ F 0
      else
        Option.bind (t_X9_jacks F v4 τ) fun q20 =>
        if q20.1 < 1000000 then
          nm (tsI q20.2 41 ((q20.2.1 41) + q20.1)) fun τ23 =>
          t_X9_makes_L123 F v3 v4 F 0 τ23
        else
          some (4, q20.2)
  else
    some (2, τ)
set_option maxHeartbeats 4000000 in
theorem ok_t_X9_makes_j55 {g : Gx} {μ0 : Sw} {rv : Int32} {τF : Tw} (F : Nat) (tw : Nat) (μ : Sw) (v3 : Int32) (v4 : Int32) (s0 : Int32) (τ : Tw) (hf : t_X9_makes_j55 F v3 v4 s0 τ = some (rv, τF)) : PW g mX9_makes 3 μ0 (mT tw τF μ) (QN g (some (.int rv)) μ0 (mT tw τF μ)) 55 [(0, .ref tw), (3, .int v3), (4, .int v4)] [.int s0] (mT tw τ μ) := by
  unfold t_X9_makes_j55 at hf
  refine P.aload_n 0 (pc' := 56) dX9_makes_55 rfl rfl rfl ?_
  refine P.get (v := .ref (tw + 6)) (pc' := 59) ci9 12 (by decide) (T_gf rfl) q1567 (Or.inl rfl) dX9_makes_56 rfl ?_
  refine P.bipush (v := 7) (pc' := 61) dX9_makes_59 rfl (by decide) ?_
  obtain ⟨x1, h2, hf⟩ := ob hf
  refine P.iald (t := 0) (pc' := 62) rfl (T_aI rfl h2) dX9_makes_61 rfl ?_
  refine P.icmp_le (tgt := 67) (pc' := 65) dX9_makes_62 (by decide) rfl (fun y3 => ?_) (fun y3 => ?_)
  · have hf := (if_pos y3).symm.trans hf
    refine P.aload_n 0 (pc' := 68) dX9_makes_67 rfl rfl rfl ?_
    refine P.iload_n 1 (pc' := 69) dX9_makes_68 rfl rfl rfl ?_
    obtain ⟨q4, h5, hf⟩ := ob hf
    refine P.callV (pc' := 72) (As := [.int v3]) 1 (ok_X9_heightOf F v3 tw μ τ h5) (Nat.le_of_ble_eq_true rfl) (lw_V q1928 q1930 qs116 q172 q1931) rfl yok_X9_heightOf rfl (Nat.le_of_ble_eq_true rfl) ci9 T_oc (by decide) rfl dX9_makes_69 rfl ?_
    refine P.iload 2 (pc' := 74) dX9_makes_72 rfl rfl ?_
    refine P.iadd (pc' := 75) dX9_makes_74 rfl ?_
    refine P.iconst (v := 0) (pc' := 76) dX9_makes_75 rfl (by decide) ?_
    refine P.bipush (v := 99) (pc' := 78) dX9_makes_76 rfl (by decide) ?_
    obtain ⟨q6, h7, hf⟩ := ob hf
    refine P.callS (pc' := 81) (As := [.int (q4 + v4), .int 0, .int 99]) 3 (ok_X9_isIn F (q4 + v4) 0 99 (mT tw τ μ) h7) (Nat.le_of_ble_eq_true rfl) (lw_S q1971 q1972 q172 q1973) yok_X9_isIn rfl (Nat.le_of_ble_eq_true rfl) (by decide) rfl dX9_makes_78 rfl ?_
    refine P.if_ne (tgt := 86) (pc' := 84) dX9_makes_81 (by decide) rfl (fun y8 => ?_) (fun y8 => ?_)
    · have hf := (if_neg y8).symm.trans hf
      refine P.iload 2 (pc' := 88) dX9_makes_86 rfl rfl ?_
      refine P.if_le (tgt := 159) (pc' := 91) dX9_makes_88 (by decide) rfl (fun y9 => ?_) (fun y9 => ?_)
      · have hf := (if_pos y9).symm.trans hf
        refine P.iconst (v := 0) (pc' := 160) dX9_makes_159 rfl (by decide) ?_
        refine P.istore (pc' := 162) (lv' := [(5, .int 0), (0, .ref tw), (3, .int v3), (4, .int v4)]) dX9_makes_160 rfl (Nat.le_of_ble_eq_true rfl) rfl ?_
        refine PW.sub [1, 2, 3, 0] rfl (ok_t_X9_makes_L162 F tw μ v3 v4 τ _ ?_ F _ hf)
        · intro w10 hf
          refine P.aload_n 0 (pc' := 196) dX9_makes_195 rfl rfl rfl ?_
          refine P.get (v := .ref (tw + 7)) (pc' := 199) ci9 13 (by decide) (T_gf rfl) q1568 (Or.inl rfl) dX9_makes_196 rfl ?_
          refine P.bipush (v := 50) (pc' := 201) dX9_makes_199 rfl (by decide) ?_
          refine P.iload 3 (pc' := 203) dX9_makes_201 rfl rfl ?_
          refine P.iadd (pc' := 204) dX9_makes_203 rfl ?_
          obtain ⟨x11, h12, hf⟩ := ob hf
          refine P.iald (t := 0) (pc' := 205) rfl (T_aI rfl h12) dX9_makes_204 rfl ?_
          refine P.bipush (v := 99) (pc' := 207) dX9_makes_205 rfl (by decide) ?_
          refine P.icmp_ge (tgt := 233) (pc' := 210) dX9_makes_207 (by decide) rfl (fun y13 => ?_) (fun y13 => ?_)
          · have hf := (if_pos y13).symm.trans hf
            exact PW.sub [0, 1, 2] rfl (ok_t_X9_makes_j233 F tw μ v3 v4 τ hf)
          · have hf := (if_neg y13).symm.trans hf
            refine P.aload_n 0 (pc' := 211) dX9_makes_210 rfl rfl rfl ?_
            refine P.get (v := .ref (tw + 7)) (pc' := 214) ci9 13 (by decide) (T_gf rfl) q1568 (Or.inl rfl) dX9_makes_211 rfl ?_
            refine P.bipush (v := 50) (pc' := 216) dX9_makes_214 rfl (by decide) ?_
            refine P.iload 3 (pc' := 218) dX9_makes_216 rfl rfl ?_
            refine P.iadd (pc' := 219) dX9_makes_218 rfl ?_
            obtain ⟨x14, e15, hf⟩ := nm_i hf
            refine P.nmi e15 ?_
            refine P.dup2 (pc' := 220) dX9_makes_219 rfl rfl rfl ?_
            obtain ⟨x16, h17, hf⟩ := ob hf
            refine P.iald (t := 0) (pc' := 221) rfl (T_aI rfl h17) dX9_makes_220 rfl ?_
            refine P.iconst (v := 1) (pc' := 222) dX9_makes_221 rfl (by decide) ?_
            refine P.iadd (pc' := 223) dX9_makes_222 rfl ?_
            obtain ⟨τ19, h18, hf⟩ := ob hf
            refine P.iast (pc' := 224) (T_sA rfl (by decide) h18) dX9_makes_223 rfl ?_
            refine P.goto (tgt := 233) dX9_makes_224 (by decide) ?_
            exact PW.sub [0, 1, 2] rfl (ok_t_X9_makes_j233 F tw μ v3 v4 τ19 hf)
      · have hf := (if_neg y9).symm.trans hf
        refine P.aload_n 0 (pc' := 92) dX9_makes_91 rfl rfl rfl ?_
        refine P.iload 2 (pc' := 94) dX9_makes_92 rfl rfl ?_
        obtain ⟨q20, h21, hf⟩ := ob hf
        refine P.callV (pc' := 97) (As := [.int v4]) 1 (ok_X9_jacks F v4 tw μ τ h21) (Nat.le_of_ble_eq_true rfl) (lw_V q2072 q2074 qs136 q172 q2075) rfl yok_X9_jacks rfl (Nat.le_of_ble_eq_true rfl) ci9 T_oc (by decide) rfl dX9_makes_94 rfl ?_
        refine P.istore (pc' := 99) (lv' := [(5, .int q20.1), (0, .ref tw), (3, .int v3), (4, .int v4)]) dX9_makes_97 rfl (Nat.le_of_ble_eq_true rfl) rfl ?_
        refine P.iload 0 (pc' := 101) dX9_makes_99 rfl rfl ?_
        refine P.ldc_w (v := 1000000) (pc' := 104) dX9_makes_101 rfl q2076 ?_
        refine P.icmp_lt (tgt := 109) (pc' := 107) dX9_makes_104 (by decide) rfl (fun y22 => ?_) (fun y22 => ?_)
        · have hf := (if_pos y22).symm.trans hf
          refine P.aload_n 1 (pc' := 110) dX9_makes_109 rfl rfl rfl ?_
          refine P.dup (pc' := 111) dX9_makes_110 rfl rfl ?_
          refine P.get (v := .int (q20.2.1 41)) (pc' := 114) ci9 41 (by decide) (T_gf rfl) q1596 (Or.inl rfl) dX9_makes_111 rfl ?_
          refine P.iload 0 (pc' := 116) dX9_makes_114 rfl rfl ?_
          refine P.iadd (pc' := 117) dX9_makes_116 rfl ?_
          obtain ⟨τ23, e24, hf⟩ := nm_i hf
          refine P.put (v := .int ((q20.2.1 41) + q20.1)) (pc' := 120) ci9 41 (by decide) (T_put rfl (by decide) e24) q1596 (Or.inl rfl) rfl rfl rfl dX9_makes_117 rfl ?_
          refine P.iconst (v := 0) (pc' := 121) dX9_makes_120 rfl (by decide) ?_
          refine P.istore (pc' := 123) (lv' := [(6, .int 0), (5, .int q20.1), (0, .ref tw), (3, .int v3), (4, .int v4)]) dX9_makes_121 rfl (Nat.le_of_ble_eq_true rfl) rfl ?_
          exact PW.sub [2, 3, 4, 0] rfl (ok_t_X9_makes_L123 F tw μ v3 v4 F _ _ hf)
        · have hf := (if_neg y22).symm.trans hf
          refine P.iconst (v := 4) (pc' := 108) dX9_makes_107 rfl (by decide) ?_
          cases hf; exact P.iret rfl dX9_makes_108
    · have hf := (if_pos y8).symm.trans hf
      refine P.iconst (v := 3) (pc' := 85) dX9_makes_84 rfl (by decide) ?_
      cases hf; exact P.iret rfl dX9_makes_85
  · have hf := (if_neg y3).symm.trans hf
    refine P.iconst (v := 2) (pc' := 66) dX9_makes_65 rfl (by decide) ?_
    cases hf; exact P.iret rfl dX9_makes_66
noncomputable def t_X9_makes (F : Nat) (p1 : Int32) (p2 : Int32) (τ : Tw) : Option (Int32 × Tw) :=
  Option.bind (taI τ 7 1260 ((60 + (3 * p1)) + 1)) fun x1 =>
  Option.bind (taI τ 7 1260 ((60 + (3 * p1)) + 2)) fun x3 =>
  Option.bind (taI τ 6 420 6) fun x5 =>
  if p2 = x5 then
    some (1, τ)
  else
    if 0 ≤ x3 then
      t_X9_makes_j55 F x1 x3 x3 τ
    else
      t_X9_makes_j55 F x1 x3 (-x3) τ
set_option maxHeartbeats 4000000 in
theorem ok_X9_makes {g : Gx} (F : Nat) (p1 : Int32) (p2 : Int32) (tw : Nat) (μ : Sw) (τ : Tw) {rv : Int32} {τF : Tw} (hf : t_X9_makes F p1 p2 τ = some (rv, τF)) : Cl g 3 yX9_makes cX9_makes 7 (some Jvm.ClassFile.FieldType.int) [.ref tw, .int p1, .int p2] (mT tw τ μ) (some (.int rv)) (mT tw τF μ) := by
  unfold t_X9_makes at hf
  refine Cl.of (own := RX9) (ini := false) (by decide +kernel) rfl (by decide) (Nat.le_of_ble_eq_true rfl) ?_
  show PW g mX9_makes 3 (mT tw τ μ) (mT tw τF μ) (QN g (some (.int rv)) (mT tw τ μ) (mT tw τF μ)) 0 [(0, .ref tw), (1, .int p1), (2, .int p2)] [] (mT tw τ μ)
  refine P.aload_n 0 (pc' := 1) dX9_makes_0 rfl rfl rfl ?_
  refine P.get (v := .ref (tw + 7)) (pc' := 4) ci9 13 (by decide) (T_gf rfl) q1568 (Or.inl rfl) dX9_makes_1 rfl ?_
  refine P.bipush (v := 60) (pc' := 6) dX9_makes_4 rfl (by decide) ?_
  refine P.iconst (v := 3) (pc' := 7) dX9_makes_6 rfl (by decide) ?_
  refine P.iload_n 1 (pc' := 8) dX9_makes_7 rfl rfl rfl ?_
  refine P.imul (pc' := 9) dX9_makes_8 rfl ?_
  refine P.iadd (pc' := 10) dX9_makes_9 rfl ?_
  refine P.iconst (v := 1) (pc' := 11) dX9_makes_10 rfl (by decide) ?_
  refine P.iadd (pc' := 12) dX9_makes_11 rfl ?_
  obtain ⟨x1, h2, hf⟩ := ob hf
  refine P.iald (t := 0) (pc' := 13) rfl (T_aI rfl h2) dX9_makes_12 rfl ?_
  refine P.istore_n (pc' := 14) (lv' := [(3, .int x1), (0, .ref tw), (1, .int p1), (2, .int p2)]) dX9_makes_13 rfl rfl (Nat.le_of_ble_eq_true rfl) rfl ?_
  refine P.aload_n 1 (pc' := 15) dX9_makes_14 rfl rfl rfl ?_
  refine P.get (v := .ref (tw + 7)) (pc' := 18) ci9 13 (by decide) (T_gf rfl) q1568 (Or.inl rfl) dX9_makes_15 rfl ?_
  refine P.bipush (v := 60) (pc' := 20) dX9_makes_18 rfl (by decide) ?_
  refine P.iconst (v := 3) (pc' := 21) dX9_makes_20 rfl (by decide) ?_
  refine P.iload_n 2 (pc' := 22) dX9_makes_21 rfl rfl rfl ?_
  refine P.imul (pc' := 23) dX9_makes_22 rfl ?_
  refine P.iadd (pc' := 24) dX9_makes_23 rfl ?_
  refine P.iconst (v := 2) (pc' := 25) dX9_makes_24 rfl (by decide) ?_
  refine P.iadd (pc' := 26) dX9_makes_25 rfl ?_
  obtain ⟨x3, h4, hf⟩ := ob hf
  refine P.iald (t := 0) (pc' := 27) rfl (T_aI rfl h4) dX9_makes_26 rfl ?_
  refine P.istore (pc' := 29) (lv' := [(4, .int x3), (3, .int x1), (0, .ref tw), (1, .int p1), (2, .int p2)]) dX9_makes_27 rfl (Nat.le_of_ble_eq_true rfl) rfl ?_
  refine P.iload_n 4 (pc' := 30) dX9_makes_29 rfl rfl rfl ?_
  refine P.aload_n 2 (pc' := 31) dX9_makes_30 rfl rfl rfl ?_
  refine P.get (v := .ref (tw + 6)) (pc' := 34) ci9 12 (by decide) (T_gf rfl) q1567 (Or.inl rfl) dX9_makes_31 rfl ?_
  refine P.bipush (v := 6) (pc' := 36) dX9_makes_34 rfl (by decide) ?_
  obtain ⟨x5, h6, hf⟩ := ob hf
  refine P.iald (t := 0) (pc' := 37) rfl (T_aI rfl h6) dX9_makes_36 rfl ?_
  refine P.icmp_ne (tgt := 42) (pc' := 40) dX9_makes_37 (by decide) rfl (fun y7 => ?_) (fun y7 => ?_)
  · have hf := (if_neg y7).symm.trans hf
    refine P.iload 0 (pc' := 44) dX9_makes_42 rfl rfl ?_
    refine P.if_ge (tgt := 53) (pc' := 47) dX9_makes_44 (by decide) rfl (fun y8 => ?_) (fun y8 => ?_)
    · have hf := (if_pos y8).symm.trans hf
      refine P.iload 0 (pc' := 55) dX9_makes_53 rfl rfl ?_
      exact PW.sub [2, 1, 0] rfl (ok_t_X9_makes_j55 F tw μ x1 x3 x3 τ hf)
    · have hf := (if_neg y8).symm.trans hf
      refine P.iload 0 (pc' := 49) dX9_makes_47 rfl rfl ?_
      refine P.ineg (pc' := 50) dX9_makes_49 rfl ?_
      refine P.goto (tgt := 55) dX9_makes_50 (by decide) ?_
      exact PW.sub [2, 1, 0] rfl (ok_t_X9_makes_j55 F tw μ x1 x3 (-x3) τ hf)
  · have hf := (if_pos y7).symm.trans hf
    refine P.iconst (v := 1) (pc' := 41) dX9_makes_40 rfl (by decide) ?_
    cases hf; exact P.iret rfl dX9_makes_41
theorem yok_X9_makes : yOK yX9_makes 2 := ⟨by decide +kernel, by decide +kernel, by decide +kernel⟩
abbrev mX9_makesAll : Ym := (RX9, cX9_makesAll, 7, (some Jvm.ClassFile.FieldType.int), false, [])
noncomputable def t_X9_makesAll_j67 (F : Nat) (self : Int32 → Int32 → Int32 → Int32 → Tw → Option (Int32 × Tw)) (v1 : Int32) (v2 : Int32) (v4 : Int32) (v5 : Int32) (τ : Tw) : Option (Int32 × Tw) :=
  Option.bind (t_X9_makes F v5 v2 τ) fun q1 =>
  if q1.1 ≤ 0 then
    nm (v2 + 1) fun x4 =>
    nm (v5 + 1) fun x6 =>
    self x4 v5 v4 x6 q1.2
  else
    some ((10 * v5) + q1.1, q1.2)
set_option maxHeartbeats 4000000 in
theorem ok_t_X9_makesAll_j67 {g : Gx} {μ0 : Sw} {rv : Int32} {τF : Tw} (F : Nat) (tw : Nat) (μ : Sw) (v1 : Int32) (v2 : Int32) (v4 : Int32) (v5 : Int32) (τ : Tw) (self : Int32 → Int32 → Int32 → Int32 → Tw → Option (Int32 × Tw)) (ih : ∀ (w2 : Int32) (w3 : Int32) (w4 : Int32) (w5 : Int32) (τ : Tw), self w2 w3 w4 w5 τ = some (rv, τF) → PW g mX9_makesAll 5 μ0 (mT tw τF μ) (QN g (some (.int rv)) μ0 (mT tw τF μ)) 23 [(0, .ref tw), (1, .int v1), (2, .int w2), (3, .int w3), (4, .int w4), (5, .int w5)] [] (mT tw τ μ)) (hf : t_X9_makesAll_j67 F self v1 v2 v4 v5 τ = some (rv, τF)) : PW g mX9_makesAll 5 μ0 (mT tw τF μ) (QN g (some (.int rv)) μ0 (mT tw τF μ)) 67 [(0, .ref tw), (1, .int v1), (2, .int v2), (4, .int v4), (5, .int v5)] [] (mT tw τ μ) := by
  unfold t_X9_makesAll_j67 at hf
  refine P.aload_n 0 (pc' := 68) dX9_makesAll_67 rfl rfl rfl ?_
  refine P.iload 4 (pc' := 70) dX9_makesAll_68 rfl rfl ?_
  refine P.iload_n 2 (pc' := 71) dX9_makesAll_70 rfl rfl rfl ?_
  obtain ⟨q1, h2, hf⟩ := ob hf
  refine P.callV (pc' := 74) (As := [.int v5, .int v2]) 2 (ok_X9_makes F v5 v2 tw μ τ h2) (Nat.le_of_ble_eq_true rfl) (lw_V q2100 q2102 qs139 q172 q2103) rfl yok_X9_makes rfl (Nat.le_of_ble_eq_true rfl) ci9 T_oc (by decide) rfl dX9_makesAll_71 rfl ?_
  refine P.istore (pc' := 76) (lv' := [(6, .int q1.1), (0, .ref tw), (1, .int v1), (2, .int v2), (4, .int v4), (5, .int v5)]) dX9_makesAll_74 rfl (Nat.le_of_ble_eq_true rfl) rfl ?_
  refine P.iload 0 (pc' := 78) dX9_makesAll_76 rfl rfl ?_
  refine P.if_le (tgt := 90) (pc' := 81) dX9_makesAll_78 (by decide) rfl (fun y3 => ?_) (fun y3 => ?_)
  · have hf := (if_pos y3).symm.trans hf
    obtain ⟨x4, e5, hf⟩ := nm_i hf
    refine P.iinc 3 (pc' := 93) (lv' := [(2, .int x4), (6, .int q1.1), (0, .ref tw), (1, .int v1), (4, .int v4), (5, .int v5)]) dX9_makesAll_90 rfl rfl (by decide) e5 (Nat.le_of_ble_eq_true rfl) rfl ?_
    refine P.iload 5 (pc' := 95) dX9_makesAll_93 rfl rfl ?_
    refine P.istore_n (pc' := 96) (lv' := [(3, .int v5), (2, .int x4), (6, .int q1.1), (0, .ref tw), (1, .int v1), (4, .int v4), (5, .int v5)]) dX9_makesAll_95 rfl rfl (Nat.le_of_ble_eq_true rfl) rfl ?_
    obtain ⟨x6, e7, hf⟩ := nm_i hf
    refine P.iinc 6 (pc' := 99) (lv' := [(5, .int x6), (3, .int v5), (2, .int x4), (6, .int q1.1), (0, .ref tw), (1, .int v1), (4, .int v4)]) dX9_makesAll_96 rfl rfl (by decide) e7 (Nat.le_of_ble_eq_true rfl) rfl ?_
    refine P.goto (tgt := 23) dX9_makesAll_99 (by decide) ?_
    exact PW.sub [4, 5, 2, 1, 6, 0] rfl (ih _ _ _ _ _ hf)
  · have hf := (if_neg y3).symm.trans hf
    refine P.bipush (v := 10) (pc' := 83) dX9_makesAll_81 rfl (by decide) ?_
    refine P.iload 5 (pc' := 85) dX9_makesAll_83 rfl rfl ?_
    refine P.imul (pc' := 86) dX9_makesAll_85 rfl ?_
    refine P.iload 0 (pc' := 88) dX9_makesAll_86 rfl rfl ?_
    refine P.iadd (pc' := 89) dX9_makesAll_88 rfl ?_
    cases hf; exact P.iret rfl dX9_makesAll_89
noncomputable def t_X9_makesAll_L23_b (F : Nat) (k102 : Int32 → Int32 → Int32 → Tw → Option (Int32 × Tw)) (c1 : Int32) (self : Int32 → Int32 → Int32 → Int32 → Tw → Option (Int32 × Tw)) (v2 : Int32) (v3 : Int32) (v4 : Int32) (v5 : Int32) (τ : Tw) : Option (Int32 × Tw) :=
  Option.bind (taI τ 7 1260 1) fun x1 =>
  if x1 ≤ v5 then
    k102 v2 v3 v4 τ
  else
    Option.bind (taI τ 7 1260 (60 + (3 * v5))) fun x4 =>
    if x4 = c1 then
      if v2 = 0 then
        Option.bind (t_X9_reachedAt F 12 (-1) (-1) τ) fun q8 =>
        t_X9_makesAll_j67 F self c1 v2 q8.1 v5 q8.2
      else
        t_X9_makesAll_j67 F self c1 v2 v4 v5 τ
    else
      nm (v5 + 1) fun x10 =>
      self v2 v3 v4 x10 τ
noncomputable def t_X9_makesAll_L23 (F : Nat) (k102 : Int32 → Int32 → Int32 → Tw → Option (Int32 × Tw)) (c1 : Int32) (n : Nat) : Int32 → Int32 → Int32 → Int32 → Tw → Option (Int32 × Tw) := Nat.rec (motive := fun _ => Int32 → Int32 → Int32 → Int32 → Tw → Option (Int32 × Tw)) (fun _ _ _ _ _ => none) (fun _ self => t_X9_makesAll_L23_b F k102 c1 self) n
set_option maxHeartbeats 4000000 in
theorem ok_t_X9_makesAll_L23 {g : Gx} {μ0 : Sw} {rv : Int32} {τF : Tw} (F : Nat) (tw : Nat) (μ : Sw) (c1 : Int32) (k102 : Int32 → Int32 → Int32 → Tw → Option (Int32 × Tw)) (hk102 : ∀ (w2 : Int32) (w3 : Int32) (w4 : Int32) (τ : Tw), k102 w2 w3 w4 τ = some (rv, τF) → PW g mX9_makesAll 5 μ0 (mT tw τF μ) (QN g (some (.int rv)) μ0 (mT tw τF μ)) 102 [(0, .ref tw), (1, .int c1), (2, .int w2), (3, .int w3), (4, .int w4)] [] (mT tw τ μ)) : ∀ (n : Nat) (v2 : Int32) (v3 : Int32) (v4 : Int32) (v5 : Int32) (τ : Tw), t_X9_makesAll_L23 F k102 c1 n v2 v3 v4 v5 τ = some (rv, τF) → PW g mX9_makesAll 5 μ0 (mT tw τF μ) (QN g (some (.int rv)) μ0 (mT tw τF μ)) 23 [(0, .ref tw), (1, .int c1), (2, .int v2), (3, .int v3), (4, .int v4), (5, .int v5)] [] (mT tw τ μ) := by
  intro n
  induction n with
  | zero =>
    intro v2 v3 v4 v5 τ hf
    have hf : (none : Option (Int32 × Tw)) = some _ := hf
    cases hf
  | succ n ih =>
    intro v2 v3 v4 v5 τ hf
    have hf : t_X9_makesAll_L23_b F k102 c1 (t_X9_makesAll_L23 F k102 c1 n) v2 v3 v4 v5 τ = some (rv, τF) := hf
    unfold t_X9_makesAll_L23_b at hf
    refine P.iload 5 (pc' := 25) dX9_makesAll_23 rfl rfl ?_
    refine P.aload_n 0 (pc' := 26) dX9_makesAll_25 rfl rfl rfl ?_
    refine P.get (v := .ref (tw + 7)) (pc' := 29) ci9 13 (by decide) (T_gf rfl) q1568 (Or.inl rfl) dX9_makesAll_26 rfl ?_
    refine P.iconst (v := 1) (pc' := 30) dX9_makesAll_29 rfl (by decide) ?_
    obtain ⟨x1, h2, hf⟩ := ob hf
    refine P.iald (t := 0) (pc' := 31) rfl (T_aI rfl h2) dX9_makesAll_30 rfl ?_
    refine P.icmp_ge (tgt := 102) (pc' := 34) dX9_makesAll_31 (by decide) rfl (fun y3 => ?_) (fun y3 => ?_)
    · have hf := (if_pos y3).symm.trans hf
      exact PW.sub [0, 1, 2, 3, 4] rfl (hk102 _ _ _ _ hf)
    · have hf := (if_neg y3).symm.trans hf
      refine P.aload_n 0 (pc' := 35) dX9_makesAll_34 rfl rfl rfl ?_
      refine P.get (v := .ref (tw + 7)) (pc' := 38) ci9 13 (by decide) (T_gf rfl) q1568 (Or.inl rfl) dX9_makesAll_35 rfl ?_
      refine P.bipush (v := 60) (pc' := 40) dX9_makesAll_38 rfl (by decide) ?_
      refine P.iconst (v := 3) (pc' := 41) dX9_makesAll_40 rfl (by decide) ?_
      refine P.iload 5 (pc' := 43) dX9_makesAll_41 rfl rfl ?_
      refine P.imul (pc' := 44) dX9_makesAll_43 rfl ?_
      refine P.iadd (pc' := 45) dX9_makesAll_44 rfl ?_
      obtain ⟨x4, h5, hf⟩ := ob hf
      refine P.iald (t := 0) (pc' := 46) rfl (T_aI rfl h5) dX9_makesAll_45 rfl ?_
      refine P.iload_n 1 (pc' := 47) dX9_makesAll_46 rfl rfl rfl ?_
      refine P.icmp_eq (tgt := 53) (pc' := 50) dX9_makesAll_47 (by decide) rfl (fun y6 => ?_) (fun y6 => ?_)
      · have hf := (if_pos y6).symm.trans hf
        refine P.iload_n 2 (pc' := 54) dX9_makesAll_53 rfl rfl rfl ?_
        refine P.if_ne (tgt := 67) (pc' := 57) dX9_makesAll_54 (by decide) rfl (fun y7 => ?_) (fun y7 => ?_)
        · have hf := (if_neg y7).symm.trans hf
          exact PW.sub [0, 1, 2, 4, 5] rfl (ok_t_X9_makesAll_j67 F tw μ c1 v2 v4 v5 τ _ ih hf)
        · have hf := (if_pos y7).symm.trans hf
          refine P.aload_n 0 (pc' := 58) dX9_makesAll_57 rfl rfl rfl ?_
          refine P.bipush (v := 12) (pc' := 60) dX9_makesAll_58 rfl (by decide) ?_
          refine P.iconst (v := (-1)) (pc' := 61) dX9_makesAll_60 rfl (by decide) ?_
          refine P.iconst (v := (-1)) (pc' := 62) dX9_makesAll_61 rfl (by decide) ?_
          obtain ⟨q8, h9, hf⟩ := ob hf
          refine P.callV (pc' := 65) (As := [.int 12, .int (-1), .int (-1)]) 3 (ok_X9_reachedAt F 12 (-1) (-1) tw μ τ h9) (Nat.le_of_ble_eq_true rfl) (lw_V q1993 q1995 qs124 q172 q1996) rfl yok_X9_reachedAt rfl (Nat.le_of_ble_eq_true rfl) ci9 T_oc (by decide) rfl dX9_makesAll_62 rfl ?_
          refine P.istore (pc' := 67) (lv' := [(4, .int q8.1), (0, .ref tw), (1, .int c1), (2, .int v2), (3, .int v3), (5, .int v5)]) dX9_makesAll_65 rfl (Nat.le_of_ble_eq_true rfl) rfl ?_
          exact PW.sub [1, 2, 3, 0, 5] rfl (ok_t_X9_makesAll_j67 F tw μ c1 v2 q8.1 v5 q8.2 _ ih hf)
      · have hf := (if_neg y6).symm.trans hf
        refine P.goto (tgt := 96) dX9_makesAll_50 (by decide) ?_
        obtain ⟨x10, e11, hf⟩ := nm_i hf
        refine P.iinc 5 (pc' := 99) (lv' := [(5, .int x10), (0, .ref tw), (1, .int c1), (2, .int v2), (3, .int v3), (4, .int v4)]) dX9_makesAll_96 rfl rfl (by decide) e11 (Nat.le_of_ble_eq_true rfl) rfl ?_
        refine P.goto (tgt := 23) dX9_makesAll_99 (by decide) ?_
        exact PW.sub [1, 2, 3, 4, 5, 0] rfl (ih _ _ _ _ _ hf)
noncomputable def t_X9_makesAll_L7_b (F : Nat) (self : Int32 → Tw → Option (Int32 × Tw)) (v1 : Int32) (τ : Tw) : Option (Int32 × Tw) :=
  if 100 ≤ v1 then
    some (0, τ)
  else
    t_X9_makesAll_L23 F
      (fun w2 w3 w4 τ5 =>
        if w2 ≤ 0 then
          nm (v1 + 1) fun x7 =>
          self x7 τ5
        else
          Option.bind (t_X9_reachedAt F 12 (-1) (-1) τ5) fun q9 =>
          if (w4 &&& (q9.1 ^^^ (-1))) = 0 then
            nm (v1 + 1) fun x12 =>
            self x12 q9.2
          else
            some ((10 * w3) + 5, q9.2))
      v1 F 0 (-1) 0 0 τ
noncomputable def t_X9_makesAll_L7 (F : Nat) (n : Nat) : Int32 → Tw → Option (Int32 × Tw) := Nat.rec (motive := fun _ => Int32 → Tw → Option (Int32 × Tw)) (fun _ _ => none) (fun _ self => t_X9_makesAll_L7_b F self) n
set_option maxHeartbeats 4000000 in
theorem ok_t_X9_makesAll_L7 {g : Gx} {μ0 : Sw} {rv : Int32} {τF : Tw} (F : Nat) (tw : Nat) (μ : Sw) : ∀ (n : Nat) (v1 : Int32) (τ : Tw), t_X9_makesAll_L7 F n v1 τ = some (rv, τF) → PW g mX9_makesAll 5 μ0 (mT tw τF μ) (QN g (some (.int rv)) μ0 (mT tw τF μ)) 7 [(0, .ref tw), (1, .int v1)] [] (mT tw τ μ) := by
  intro n
  induction n with
  | zero =>
    intro v1 τ hf
    have hf : (none : Option (Int32 × Tw)) = some _ := hf
    cases hf
  | succ n ih =>
    intro v1 τ hf
    have hf : t_X9_makesAll_L7_b F (t_X9_makesAll_L7 F n) v1 τ = some (rv, τF) := hf
    unfold t_X9_makesAll_L7_b at hf
    refine P.iload_n 1 (pc' := 8) dX9_makesAll_7 rfl rfl rfl ?_
    refine P.bipush (v := 100) (pc' := 10) dX9_makesAll_8 rfl (by decide) ?_
    refine P.icmp_ge (tgt := 135) (pc' := 13) dX9_makesAll_10 (by decide) rfl (fun y1 => ?_) (fun y1 => ?_)
    · have hf := (if_pos y1).symm.trans hf
      refine P.iconst (v := 0) (pc' := 136) dX9_makesAll_135 rfl (by decide) ?_
      cases hf; exact P.iret rfl dX9_makesAll_136
    · have hf := (if_neg y1).symm.trans hf
      refine P.iconst (v := 0) (pc' := 14) dX9_makesAll_13 rfl (by decide) ?_
      refine P.istore_n (pc' := 15) (lv' := [(2, .int 0), (0, .ref tw), (1, .int v1)]) dX9_makesAll_14 rfl rfl (Nat.le_of_ble_eq_true rfl) rfl ?_
      refine P.iconst (v := (-1)) (pc' := 16) dX9_makesAll_15 rfl (by decide) ?_
      refine P.istore_n (pc' := 17) (lv' := [(3, .int (-1)), (2, .int 0), (0, .ref tw), (1, .int v1)]) dX9_makesAll_16 rfl rfl (Nat.le_of_ble_eq_true rfl) rfl ?_
      refine P.iconst (v := 0) (pc' := 18) dX9_makesAll_17 rfl (by decide) ?_
      refine P.istore (pc' := 20) (lv' := [(4, .int 0), (3, .int (-1)), (2, .int 0), (0, .ref tw), (1, .int v1)]) dX9_makesAll_18 rfl (Nat.le_of_ble_eq_true rfl) rfl ?_
      refine P.iconst (v := 0) (pc' := 21) dX9_makesAll_20 rfl (by decide) ?_
      refine P.istore (pc' := 23) (lv' := [(5, .int 0), (4, .int 0), (3, .int (-1)), (2, .int 0), (0, .ref tw), (1, .int v1)]) dX9_makesAll_21 rfl (Nat.le_of_ble_eq_true rfl) rfl ?_
      refine PW.sub [4, 5, 3, 2, 1, 0] rfl (ok_t_X9_makesAll_L23 F tw μ v1 _ ?_ F _ _ _ _ _ hf)
      · intro w2 w3 w4 τ5 hf
        refine P.iload_n 2 (pc' := 103) dX9_makesAll_102 rfl rfl rfl ?_
        refine P.if_le (tgt := 129) (pc' := 106) dX9_makesAll_103 (by decide) rfl (fun y6 => ?_) (fun y6 => ?_)
        · have hf := (if_pos y6).symm.trans hf
          obtain ⟨x7, e8, hf⟩ := nm_i hf
          refine P.iinc 1 (pc' := 132) (lv' := [(1, .int x7), (0, .ref tw), (2, .int w2), (3, .int w3), (4, .int w4)]) dX9_makesAll_129 rfl rfl (by decide) e8 (Nat.le_of_ble_eq_true rfl) rfl ?_
          refine P.goto (tgt := 7) dX9_makesAll_132 (by decide) ?_
          exact PW.sub [1, 0] rfl (ih _ _ hf)
        · have hf := (if_neg y6).symm.trans hf
          refine P.iload 4 (pc' := 108) dX9_makesAll_106 rfl rfl ?_
          refine P.aload_n 0 (pc' := 109) dX9_makesAll_108 rfl rfl rfl ?_
          refine P.bipush (v := 12) (pc' := 111) dX9_makesAll_109 rfl (by decide) ?_
          refine P.iconst (v := (-1)) (pc' := 112) dX9_makesAll_111 rfl (by decide) ?_
          refine P.iconst (v := (-1)) (pc' := 113) dX9_makesAll_112 rfl (by decide) ?_
          obtain ⟨q9, h10, hf⟩ := ob hf
          refine P.callV (pc' := 116) (As := [.int 12, .int (-1), .int (-1)]) 3 (ok_X9_reachedAt F 12 (-1) (-1) tw μ τ5 h10) (Nat.le_of_ble_eq_true rfl) (lw_V q1993 q1995 qs124 q172 q1996) rfl yok_X9_reachedAt rfl (Nat.le_of_ble_eq_true rfl) ci9 T_oc (Nat.le_of_ble_eq_true rfl) rfl dX9_makesAll_113 rfl ?_
          refine P.iconst (v := (-1)) (pc' := 117) dX9_makesAll_116 rfl (by decide) ?_
          refine P.ixor (pc' := 118) dX9_makesAll_117 rfl ?_
          refine P.iand (pc' := 119) dX9_makesAll_118 rfl ?_
          refine P.if_eq (tgt := 129) (pc' := 122) dX9_makesAll_119 (by decide) rfl (fun y11 => ?_) (fun y11 => ?_)
          · have hf := (if_pos y11).symm.trans hf
            obtain ⟨x12, e13, hf⟩ := nm_i hf
            refine P.iinc 1 (pc' := 132) (lv' := [(1, .int x12), (0, .ref tw), (2, .int w2), (3, .int w3), (4, .int w4)]) dX9_makesAll_129 rfl rfl (by decide) e13 (Nat.le_of_ble_eq_true rfl) rfl ?_
            refine P.goto (tgt := 7) dX9_makesAll_132 (by decide) ?_
            exact PW.sub [1, 0] rfl (ih _ _ hf)
          · have hf := (if_neg y11).symm.trans hf
            refine P.bipush (v := 10) (pc' := 124) dX9_makesAll_122 rfl (by decide) ?_
            refine P.iload_n 3 (pc' := 125) dX9_makesAll_124 rfl rfl rfl ?_
            refine P.imul (pc' := 126) dX9_makesAll_125 rfl ?_
            refine P.iconst (v := 5) (pc' := 127) dX9_makesAll_126 rfl (by decide) ?_
            refine P.iadd (pc' := 128) dX9_makesAll_127 rfl ?_
            cases hf; exact P.iret rfl dX9_makesAll_128
noncomputable def t_X9_makesAll (F : Nat) (τ : Tw) : Option (Int32 × Tw) :=
  nm (tsI τ 41 0) fun τ1 =>
  t_X9_makesAll_L7 F F 0 τ1
set_option maxHeartbeats 4000000 in
theorem ok_X9_makesAll {g : Gx} (F : Nat) (tw : Nat) (μ : Sw) (τ : Tw) {rv : Int32} {τF : Tw} (hf : t_X9_makesAll F τ = some (rv, τF)) : Cl g 5 yX9_makesAll cX9_makesAll 7 (some Jvm.ClassFile.FieldType.int) [.ref tw] (mT tw τ μ) (some (.int rv)) (mT tw τF μ) := by
  unfold t_X9_makesAll at hf
  refine Cl.of (own := RX9) (ini := false) (by decide +kernel) rfl (by decide) (Nat.le_of_ble_eq_true rfl) ?_
  show PW g mX9_makesAll 5 (mT tw τ μ) (mT tw τF μ) (QN g (some (.int rv)) (mT tw τ μ) (mT tw τF μ)) 0 [(0, .ref tw)] [] (mT tw τ μ)
  refine P.aload_n 0 (pc' := 1) dX9_makesAll_0 rfl rfl rfl ?_
  refine P.iconst (v := 0) (pc' := 2) dX9_makesAll_1 rfl (by decide) ?_
  obtain ⟨τ1, e2, hf⟩ := nm_i hf
  refine P.put (v := .int 0) (pc' := 5) ci9 41 (by decide) (T_put rfl (by decide) e2) q1596 (Or.inl rfl) rfl rfl rfl dX9_makesAll_2 rfl ?_
  refine P.iconst (v := 0) (pc' := 6) dX9_makesAll_5 rfl (by decide) ?_
  refine P.istore_n (pc' := 7) (lv' := [(1, .int 0), (0, .ref tw)]) dX9_makesAll_6 rfl rfl (Nat.le_of_ble_eq_true rfl) rfl ?_
  exact PW.sub [1, 0] rfl (ok_t_X9_makesAll_L7 F tw μ F _ _ hf)
abbrev mX9_putBack : Ym := (RX9, cX9_putBack, 3, none, false, [])
noncomputable def t_X9_putBack_L2_b (F : Nat) (k34 : Tw → Option Tw) (c1 : Int32) (self : Int32 → Tw → Option Tw) (v2 : Int32) (τ : Tw) : Option Tw :=
  if 16 ≤ v2 then
    k34 τ
  else
    Option.bind (taI τ 27 504 ((24 * c1) + v2)) fun x2 =>
    Option.bind (tsA τ 7 0 1260 (10 + v2) x2) fun τ5 =>
    nm (v2 + 1) fun x6 =>
    self x6 τ5
noncomputable def t_X9_putBack_L2 (F : Nat) (k34 : Tw → Option Tw) (c1 : Int32) (n : Nat) : Int32 → Tw → Option Tw := Nat.rec (motive := fun _ => Int32 → Tw → Option Tw) (fun _ _ => none) (fun _ self => t_X9_putBack_L2_b F k34 c1 self) n
set_option maxHeartbeats 4000000 in
theorem ok_t_X9_putBack_L2 {g : Gx} {μ0 : Sw} {τF : Tw} (F : Nat) (tw : Nat) (μ : Sw) (c1 : Int32) (k34 : Tw → Option Tw) (hk34 : ∀ (τ : Tw), k34 τ = some τF → PW g mX9_putBack 1 μ0 (mT tw τF μ) (QN g none μ0 (mT tw τF μ)) 34 [(0, .ref tw), (1, .int c1)] [] (mT tw τ μ)) : ∀ (n : Nat) (v2 : Int32) (τ : Tw), t_X9_putBack_L2 F k34 c1 n v2 τ = some τF → PW g mX9_putBack 1 μ0 (mT tw τF μ) (QN g none μ0 (mT tw τF μ)) 2 [(0, .ref tw), (1, .int c1), (2, .int v2)] [] (mT tw τ μ) := by
  intro n
  induction n with
  | zero =>
    intro v2 τ hf
    have hf : (none : Option Tw) = some _ := hf
    cases hf
  | succ n ih =>
    intro v2 τ hf
    have hf : t_X9_putBack_L2_b F k34 c1 (t_X9_putBack_L2 F k34 c1 n) v2 τ = some τF := hf
    unfold t_X9_putBack_L2_b at hf
    refine P.iload_n 2 (pc' := 3) dX9_putBack_2 rfl rfl rfl ?_
    refine P.bipush (v := 16) (pc' := 5) dX9_putBack_3 rfl (by decide) ?_
    refine P.icmp_ge (tgt := 34) (pc' := 8) dX9_putBack_5 (by decide) rfl (fun y1 => ?_) (fun y1 => ?_)
    · have hf := (if_pos y1).symm.trans hf
      exact PW.sub [0, 1] rfl (hk34 _ hf)
    · have hf := (if_neg y1).symm.trans hf
      refine P.aload_n 0 (pc' := 9) dX9_putBack_8 rfl rfl rfl ?_
      refine P.get (v := .ref (tw + 7)) (pc' := 12) ci9 13 (by decide) (T_gf rfl) q1568 (Or.inl rfl) dX9_putBack_9 rfl ?_
      refine P.bipush (v := 10) (pc' := 14) dX9_putBack_12 rfl (by decide) ?_
      refine P.iload_n 2 (pc' := 15) dX9_putBack_14 rfl rfl rfl ?_
      refine P.iadd (pc' := 16) dX9_putBack_15 rfl ?_
      refine P.aload_n 0 (pc' := 17) dX9_putBack_16 rfl rfl rfl ?_
      refine P.get (v := .ref (tw + 27)) (pc' := 20) ci9 39 (by decide) (T_gf rfl) q1594 (Or.inl rfl) dX9_putBack_17 rfl ?_
      refine P.bipush (v := 24) (pc' := 22) dX9_putBack_20 rfl (by decide) ?_
      refine P.iload_n 1 (pc' := 23) dX9_putBack_22 rfl rfl rfl ?_
      refine P.imul (pc' := 24) dX9_putBack_23 rfl ?_
      refine P.iload_n 2 (pc' := 25) dX9_putBack_24 rfl rfl rfl ?_
      refine P.iadd (pc' := 26) dX9_putBack_25 rfl ?_
      obtain ⟨x2, h3, hf⟩ := ob hf
      refine P.iald (t := 0) (pc' := 27) rfl (T_aI rfl h3) dX9_putBack_26 rfl ?_
      obtain ⟨τ5, h4, hf⟩ := ob hf
      refine P.iast (pc' := 28) (T_sA rfl (by decide) h4) dX9_putBack_27 rfl ?_
      obtain ⟨x6, e7, hf⟩ := nm_i hf
      refine P.iinc 2 (pc' := 31) (lv' := [(2, .int x6), (0, .ref tw), (1, .int c1)]) dX9_putBack_28 rfl rfl (by decide) e7 (Nat.le_of_ble_eq_true rfl) rfl ?_
      refine P.goto (tgt := 2) dX9_putBack_31 (by decide) ?_
      exact PW.sub [1, 2, 0] rfl (ih _ _ hf)
noncomputable def t_X9_putBack_L36_b (F : Nat) (c1 : Int32) (self : Int32 → Tw → Option Tw) (v2 : Int32) (τ : Tw) : Option Tw :=
  if 8 ≤ v2 then
    some τ
  else
    Option.bind (taI τ 27 504 (((24 * c1) + 16) + v2)) fun x2 =>
    Option.bind (tsA τ 7 0 1260 (50 + v2) x2) fun τ5 =>
    nm (v2 + 1) fun x6 =>
    self x6 τ5
noncomputable def t_X9_putBack_L36 (F : Nat) (c1 : Int32) (n : Nat) : Int32 → Tw → Option Tw := Nat.rec (motive := fun _ => Int32 → Tw → Option Tw) (fun _ _ => none) (fun _ self => t_X9_putBack_L36_b F c1 self) n
set_option maxHeartbeats 4000000 in
theorem ok_t_X9_putBack_L36 {g : Gx} {μ0 : Sw} {τF : Tw} (F : Nat) (tw : Nat) (μ : Sw) (c1 : Int32) : ∀ (n : Nat) (v2 : Int32) (τ : Tw), t_X9_putBack_L36 F c1 n v2 τ = some τF → PW g mX9_putBack 1 μ0 (mT tw τF μ) (QN g none μ0 (mT tw τF μ)) 36 [(0, .ref tw), (1, .int c1), (2, .int v2)] [] (mT tw τ μ) := by
  intro n
  induction n with
  | zero =>
    intro v2 τ hf
    have hf : (none : Option Tw) = some _ := hf
    cases hf
  | succ n ih =>
    intro v2 τ hf
    have hf : t_X9_putBack_L36_b F c1 (t_X9_putBack_L36 F c1 n) v2 τ = some τF := hf
    unfold t_X9_putBack_L36_b at hf
    refine P.iload_n 2 (pc' := 37) dX9_putBack_36 rfl rfl rfl ?_
    refine P.bipush (v := 8) (pc' := 39) dX9_putBack_37 rfl (by decide) ?_
    refine P.icmp_ge (tgt := 71) (pc' := 42) dX9_putBack_39 (by decide) rfl (fun y1 => ?_) (fun y1 => ?_)
    · have hf := (if_pos y1).symm.trans hf
      cases hf; exact P.vret rfl dX9_putBack_71
    · have hf := (if_neg y1).symm.trans hf
      refine P.aload_n 0 (pc' := 43) dX9_putBack_42 rfl rfl rfl ?_
      refine P.get (v := .ref (tw + 7)) (pc' := 46) ci9 13 (by decide) (T_gf rfl) q1568 (Or.inl rfl) dX9_putBack_43 rfl ?_
      refine P.bipush (v := 50) (pc' := 48) dX9_putBack_46 rfl (by decide) ?_
      refine P.iload_n 2 (pc' := 49) dX9_putBack_48 rfl rfl rfl ?_
      refine P.iadd (pc' := 50) dX9_putBack_49 rfl ?_
      refine P.aload_n 0 (pc' := 51) dX9_putBack_50 rfl rfl rfl ?_
      refine P.get (v := .ref (tw + 27)) (pc' := 54) ci9 39 (by decide) (T_gf rfl) q1594 (Or.inl rfl) dX9_putBack_51 rfl ?_
      refine P.bipush (v := 24) (pc' := 56) dX9_putBack_54 rfl (by decide) ?_
      refine P.iload_n 1 (pc' := 57) dX9_putBack_56 rfl rfl rfl ?_
      refine P.imul (pc' := 58) dX9_putBack_57 rfl ?_
      refine P.bipush (v := 16) (pc' := 60) dX9_putBack_58 rfl (by decide) ?_
      refine P.iadd (pc' := 61) dX9_putBack_60 rfl ?_
      refine P.iload_n 2 (pc' := 62) dX9_putBack_61 rfl rfl rfl ?_
      refine P.iadd (pc' := 63) dX9_putBack_62 rfl ?_
      obtain ⟨x2, h3, hf⟩ := ob hf
      refine P.iald (t := 0) (pc' := 64) rfl (T_aI rfl h3) dX9_putBack_63 rfl ?_
      obtain ⟨τ5, h4, hf⟩ := ob hf
      refine P.iast (pc' := 65) (T_sA rfl (by decide) h4) dX9_putBack_64 rfl ?_
      obtain ⟨x6, e7, hf⟩ := nm_i hf
      refine P.iinc 2 (pc' := 68) (lv' := [(2, .int x6), (0, .ref tw), (1, .int c1)]) dX9_putBack_65 rfl rfl (by decide) e7 (Nat.le_of_ble_eq_true rfl) rfl ?_
      refine P.goto (tgt := 36) dX9_putBack_68 (by decide) ?_
      exact PW.sub [1, 2, 0] rfl (ih _ _ hf)
noncomputable def t_X9_putBack (F : Nat) (p1 : Int32) (τ : Tw) : Option Tw :=
  t_X9_putBack_L2 F
    (fun τ1 =>
      t_X9_putBack_L36 F p1 F 0 τ1)
    p1 F 0 τ
set_option maxHeartbeats 4000000 in
theorem ok_X9_putBack {g : Gx} (F : Nat) (p1 : Int32) (tw : Nat) (μ : Sw) (τ : Tw) {τF : Tw} (hf : t_X9_putBack F p1 τ = some τF) : Cl g 1 yX9_putBack cX9_putBack 3 none [.ref tw, .int p1] (mT tw τ μ) none (mT tw τF μ) := by
  unfold t_X9_putBack at hf
  refine Cl.of (own := RX9) (ini := false) (by decide +kernel) rfl (by decide) (Nat.le_of_ble_eq_true rfl) ?_
  show PW g mX9_putBack 1 (mT tw τ μ) (mT tw τF μ) (QN g none (mT tw τ μ) (mT tw τF μ)) 0 [(0, .ref tw), (1, .int p1)] [] (mT tw τ μ)
  refine P.iconst (v := 0) (pc' := 1) dX9_putBack_0 rfl (by decide) ?_
  refine P.istore_n (pc' := 2) (lv' := [(2, .int 0), (0, .ref tw), (1, .int p1)]) dX9_putBack_1 rfl rfl (Nat.le_of_ble_eq_true rfl) rfl ?_
  refine PW.sub [1, 2, 0] rfl (ok_t_X9_putBack_L2 F tw μ p1 _ ?_ F _ _ hf)
  · intro τ1 hf
    refine P.iconst (v := 0) (pc' := 35) dX9_putBack_34 rfl (by decide) ?_
    refine P.istore_n (pc' := 36) (lv' := [(2, .int 0), (0, .ref tw), (1, .int p1)]) dX9_putBack_35 rfl rfl (Nat.le_of_ble_eq_true rfl) rfl ?_
    exact PW.sub [1, 2, 0] rfl (ok_t_X9_putBack_L36 F tw μ p1 F _ _ hf)
theorem yok_X9_keep : yOK yX9_keep 1 := ⟨by decide +kernel, by decide +kernel, by decide +kernel⟩
theorem yok_X9_makesAll : yOK yX9_makesAll 0 := ⟨by decide +kernel, by decide +kernel, by decide +kernel⟩
theorem yok_X9_putBack : yOK yX9_putBack 1 := ⟨by decide +kernel, by decide +kernel, by decide +kernel⟩
abbrev mX9_judge : Ym := (RX9, cX9_judge, 2, (some Jvm.ClassFile.FieldType.int), false, [])
noncomputable def t_X9_judge (F : Nat) (τ : Tw) : Option (Int32 × Tw) :=
  Option.bind (t_X9_keep F 20 τ) fun q1 =>
  Option.bind (t_X9_makesAll F q1) fun q3 =>
  Option.bind (t_X9_putBack F 20 q3.2) fun q5 =>
  some (q3.1, q5)
set_option maxHeartbeats 4000000 in
theorem ok_X9_judge {g : Gx} (F : Nat) (tw : Nat) (μ : Sw) (τ : Tw) {rv : Int32} {τF : Tw} (hf : t_X9_judge F τ = some (rv, τF)) : Cl g 6 yX9_judge cX9_judge 2 (some Jvm.ClassFile.FieldType.int) [.ref tw] (mT tw τ μ) (some (.int rv)) (mT tw τF μ) := by
  unfold t_X9_judge at hf
  refine Cl.of (own := RX9) (ini := false) (by decide +kernel) rfl (by decide) (Nat.le_of_ble_eq_true rfl) ?_
  show PW g mX9_judge 6 (mT tw τ μ) (mT tw τF μ) (QN g (some (.int rv)) (mT tw τ μ) (mT tw τF μ)) 0 [(0, .ref tw)] [] (mT tw τ μ)
  refine P.aload_n 0 (pc' := 1) dX9_judge_0 rfl rfl rfl ?_
  refine P.bipush (v := 20) (pc' := 3) dX9_judge_1 rfl (by decide) ?_
  obtain ⟨q1, h2, hf⟩ := ob hf
  refine P.callV (pc' := 6) (As := [.int 20]) 1 (ok_X9_keep F 20 tw μ τ h2) (Nat.le_of_ble_eq_true rfl) (lw_V q2092 q2094 qs137 q172 q2095) rfl yok_X9_keep rfl (Nat.le_of_ble_eq_true rfl) ci9 T_oc (by decide) rfl dX9_judge_3 rfl ?_
  refine P.aload_n 0 (pc' := 7) dX9_judge_6 rfl rfl rfl ?_
  obtain ⟨q3, h4, hf⟩ := ob hf
  refine P.callV (pc' := 10) (As := []) 0 (ok_X9_makesAll F tw μ q1 h4) (Nat.le_of_ble_eq_true rfl) (lw_V q2096 q2098 qs138 q172 q2099) rfl yok_X9_makesAll rfl (Nat.le_of_ble_eq_true rfl) ci9 T_oc (by decide) rfl dX9_judge_7 rfl ?_
  refine P.istore_n (pc' := 11) (lv' := [(1, .int q3.1), (0, .ref tw)]) dX9_judge_10 rfl rfl (Nat.le_of_ble_eq_true rfl) rfl ?_
  refine P.aload_n 1 (pc' := 12) dX9_judge_11 rfl rfl rfl ?_
  refine P.bipush (v := 20) (pc' := 14) dX9_judge_12 rfl (by decide) ?_
  obtain ⟨q5, h6, hf⟩ := ob hf
  refine P.callV (pc' := 17) (As := [.int 20]) 1 (ok_X9_putBack F 20 tw μ q3.2 h6) (Nat.le_of_ble_eq_true rfl) (lw_V q2104 q2106 qs140 q172 q2107) rfl yok_X9_putBack rfl (Nat.le_of_ble_eq_true rfl) ci9 T_oc (by decide) rfl dX9_judge_14 rfl ?_
  refine P.iload_n 0 (pc' := 18) dX9_judge_17 rfl rfl rfl ?_
  cases hf; exact P.iret rfl dX9_judge_18
abbrev mX9_done : Ym := (RX9, cX9_done, 2, (some Jvm.ClassFile.FieldType.int), false, [])
noncomputable def t_X9_done_L80_b (F : Nat) (self : Int32 → Tw → Option (Int32 × Tw)) (v1 : Int32) (τ : Tw) : Option (Int32 × Tw) :=
  if 24 ≤ v1 then
    nm (tsI τ 40 ((τ.1 40) + 1)) fun τ2 =>
    Option.bind (tsA τ2 7 0 1260 1 0) fun τ5 =>
    some (τ5.1 41, τ5)
  else
    Option.bind (taI τ 27 504 (480 + v1)) fun x6 =>
    Option.bind (tsA τ 27 0 504 ((24 * (τ.1 40)) + v1) x6) fun τ9 =>
    nm (v1 + 1) fun x10 =>
    self x10 τ9
noncomputable def t_X9_done_L80 (F : Nat) (n : Nat) : Int32 → Tw → Option (Int32 × Tw) := Nat.rec (motive := fun _ => Int32 → Tw → Option (Int32 × Tw)) (fun _ _ => none) (fun _ self => t_X9_done_L80_b F self) n
set_option maxHeartbeats 4000000 in
theorem ok_t_X9_done_L80 {g : Gx} {μ0 : Sw} {rv : Int32} {τF : Tw} (F : Nat) (tw : Nat) (μ : Sw) : ∀ (n : Nat) (v1 : Int32) (τ : Tw), t_X9_done_L80 F n v1 τ = some (rv, τF) → PW g mX9_done 6 μ0 (mT tw τF μ) (QN g (some (.int rv)) μ0 (mT tw τF μ)) 80 [(0, .ref tw), (1, .int v1)] [] (mT tw τ μ) := by
  intro n
  induction n with
  | zero =>
    intro v1 τ hf
    have hf : (none : Option (Int32 × Tw)) = some _ := hf
    cases hf
  | succ n ih =>
    intro v1 τ hf
    have hf : t_X9_done_L80_b F (t_X9_done_L80 F n) v1 τ = some (rv, τF) := hf
    unfold t_X9_done_L80_b at hf
    refine P.iload_n 1 (pc' := 81) dX9_done_80 rfl rfl rfl ?_
    refine P.bipush (v := 24) (pc' := 83) dX9_done_81 rfl (by decide) ?_
    refine P.icmp_ge (tgt := 116) (pc' := 86) dX9_done_83 (by decide) rfl (fun y1 => ?_) (fun y1 => ?_)
    · have hf := (if_pos y1).symm.trans hf
      refine P.aload_n 0 (pc' := 117) dX9_done_116 rfl rfl rfl ?_
      refine P.dup (pc' := 118) dX9_done_117 rfl rfl ?_
      refine P.get (v := .int (τ.1 40)) (pc' := 121) ci9 40 (by decide) (T_gf rfl) q1595 (Or.inl rfl) dX9_done_118 rfl ?_
      refine P.iconst (v := 1) (pc' := 122) dX9_done_121 rfl (by decide) ?_
      refine P.iadd (pc' := 123) dX9_done_122 rfl ?_
      obtain ⟨τ2, e3, hf⟩ := nm_i hf
      refine P.put (v := .int ((τ.1 40) + 1)) (pc' := 126) ci9 40 (by decide) (T_put rfl (by decide) e3) q1595 (Or.inl rfl) rfl rfl rfl dX9_done_123 rfl ?_
      refine P.aload_n 0 (pc' := 127) dX9_done_126 rfl rfl rfl ?_
      refine P.get (v := .ref (tw + 7)) (pc' := 130) ci9 13 (by decide) (T_gf rfl) q1568 (Or.inl rfl) dX9_done_127 rfl ?_
      refine P.iconst (v := 1) (pc' := 131) dX9_done_130 rfl (by decide) ?_
      refine P.iconst (v := 0) (pc' := 132) dX9_done_131 rfl (by decide) ?_
      obtain ⟨τ5, h4, hf⟩ := ob hf
      refine P.iast (pc' := 133) (T_sA rfl (by decide) h4) dX9_done_132 rfl ?_
      refine P.aload_n 0 (pc' := 134) dX9_done_133 rfl rfl rfl ?_
      refine P.get (v := .int (τ5.1 41)) (pc' := 137) ci9 41 (by decide) (T_gf rfl) q1596 (Or.inl rfl) dX9_done_134 rfl ?_
      cases hf; exact P.iret rfl dX9_done_137
    · have hf := (if_neg y1).symm.trans hf
      refine P.aload_n 0 (pc' := 87) dX9_done_86 rfl rfl rfl ?_
      refine P.get (v := .ref (tw + 27)) (pc' := 90) ci9 39 (by decide) (T_gf rfl) q1594 (Or.inl rfl) dX9_done_87 rfl ?_
      refine P.bipush (v := 24) (pc' := 92) dX9_done_90 rfl (by decide) ?_
      refine P.aload_n 0 (pc' := 93) dX9_done_92 rfl rfl rfl ?_
      refine P.get (v := .int (τ.1 40)) (pc' := 96) ci9 40 (by decide) (T_gf rfl) q1595 (Or.inl rfl) dX9_done_93 rfl ?_
      refine P.imul (pc' := 97) dX9_done_96 rfl ?_
      refine P.iload_n 1 (pc' := 98) dX9_done_97 rfl rfl rfl ?_
      refine P.iadd (pc' := 99) dX9_done_98 rfl ?_
      refine P.aload_n 0 (pc' := 100) dX9_done_99 rfl rfl rfl ?_
      refine P.get (v := .ref (tw + 27)) (pc' := 103) ci9 39 (by decide) (T_gf rfl) q1594 (Or.inl rfl) dX9_done_100 rfl ?_
      refine P.sipush (v := 480) (pc' := 106) dX9_done_103 rfl (by decide) ?_
      refine P.iload_n 1 (pc' := 107) dX9_done_106 rfl rfl rfl ?_
      refine P.iadd (pc' := 108) dX9_done_107 rfl ?_
      obtain ⟨x6, h7, hf⟩ := ob hf
      refine P.iald (t := 0) (pc' := 109) rfl (T_aI rfl h7) dX9_done_108 rfl ?_
      obtain ⟨τ9, h8, hf⟩ := ob hf
      refine P.iast (pc' := 110) (T_sA rfl (by decide) h8) dX9_done_109 rfl ?_
      obtain ⟨x10, e11, hf⟩ := nm_i hf
      refine P.iinc 1 (pc' := 113) (lv' := [(1, .int x10), (0, .ref tw)]) dX9_done_110 rfl rfl (by decide) e11 (Nat.le_of_ble_eq_true rfl) rfl ?_
      refine P.goto (tgt := 80) dX9_done_113 (by decide) ?_
      exact PW.sub [1, 0] rfl (ih _ _ hf)
noncomputable def t_X9_done_L44_b (F : Nat) (k72 : Tw → Option (Int32 × Tw)) (self : Int32 → Tw → Option (Int32 × Tw)) (v1 : Int32) (τ : Tw) : Option (Int32 × Tw) :=
  if 456 ≤ v1 then
    k72 τ
  else
    Option.bind (taI τ 27 504 (v1 + 24)) fun x2 =>
    Option.bind (tsA τ 27 0 504 v1 x2) fun τ5 =>
    nm (v1 + 1) fun x6 =>
    self x6 τ5
noncomputable def t_X9_done_L44 (F : Nat) (k72 : Tw → Option (Int32 × Tw)) (n : Nat) : Int32 → Tw → Option (Int32 × Tw) := Nat.rec (motive := fun _ => Int32 → Tw → Option (Int32 × Tw)) (fun _ _ => none) (fun _ self => t_X9_done_L44_b F k72 self) n
set_option maxHeartbeats 4000000 in
theorem ok_t_X9_done_L44 {g : Gx} {μ0 : Sw} {rv : Int32} {τF : Tw} (F : Nat) (tw : Nat) (μ : Sw) (k72 : Tw → Option (Int32 × Tw)) (hk72 : ∀ (τ : Tw), k72 τ = some (rv, τF) → PW g mX9_done 6 μ0 (mT tw τF μ) (QN g (some (.int rv)) μ0 (mT tw τF μ)) 72 [(0, .ref tw)] [] (mT tw τ μ)) : ∀ (n : Nat) (v1 : Int32) (τ : Tw), t_X9_done_L44 F k72 n v1 τ = some (rv, τF) → PW g mX9_done 6 μ0 (mT tw τF μ) (QN g (some (.int rv)) μ0 (mT tw τF μ)) 44 [(0, .ref tw), (1, .int v1)] [] (mT tw τ μ) := by
  intro n
  induction n with
  | zero =>
    intro v1 τ hf
    have hf : (none : Option (Int32 × Tw)) = some _ := hf
    cases hf
  | succ n ih =>
    intro v1 τ hf
    have hf : t_X9_done_L44_b F k72 (t_X9_done_L44 F k72 n) v1 τ = some (rv, τF) := hf
    unfold t_X9_done_L44_b at hf
    refine P.iload_n 1 (pc' := 45) dX9_done_44 rfl rfl rfl ?_
    refine P.sipush (v := 456) (pc' := 48) dX9_done_45 rfl (by decide) ?_
    refine P.icmp_ge (tgt := 72) (pc' := 51) dX9_done_48 (by decide) rfl (fun y1 => ?_) (fun y1 => ?_)
    · have hf := (if_pos y1).symm.trans hf
      exact PW.sub [0] rfl (hk72 _ hf)
    · have hf := (if_neg y1).symm.trans hf
      refine P.aload_n 0 (pc' := 52) dX9_done_51 rfl rfl rfl ?_
      refine P.get (v := .ref (tw + 27)) (pc' := 55) ci9 39 (by decide) (T_gf rfl) q1594 (Or.inl rfl) dX9_done_52 rfl ?_
      refine P.iload_n 1 (pc' := 56) dX9_done_55 rfl rfl rfl ?_
      refine P.aload_n 0 (pc' := 57) dX9_done_56 rfl rfl rfl ?_
      refine P.get (v := .ref (tw + 27)) (pc' := 60) ci9 39 (by decide) (T_gf rfl) q1594 (Or.inl rfl) dX9_done_57 rfl ?_
      refine P.iload_n 1 (pc' := 61) dX9_done_60 rfl rfl rfl ?_
      refine P.bipush (v := 24) (pc' := 63) dX9_done_61 rfl (by decide) ?_
      refine P.iadd (pc' := 64) dX9_done_63 rfl ?_
      obtain ⟨x2, h3, hf⟩ := ob hf
      refine P.iald (t := 0) (pc' := 65) rfl (T_aI rfl h3) dX9_done_64 rfl ?_
      obtain ⟨τ5, h4, hf⟩ := ob hf
      refine P.iast (pc' := 66) (T_sA rfl (by decide) h4) dX9_done_65 rfl ?_
      obtain ⟨x6, e7, hf⟩ := nm_i hf
      refine P.iinc 1 (pc' := 69) (lv' := [(1, .int x6), (0, .ref tw)]) dX9_done_66 rfl rfl (by decide) e7 (Nat.le_of_ble_eq_true rfl) rfl ?_
      refine P.goto (tgt := 44) dX9_done_69 (by decide) ?_
      exact PW.sub [1, 0] rfl (ih _ _ hf)
noncomputable def t_X9_done (F : Nat) (τ : Tw) : Option (Int32 × Tw) :=
  Option.bind (taI τ 7 1260 1) fun x1 =>
  if x1 = 0 then
    some (0, τ)
  else
    Option.bind (t_X9_keep F 20 τ) fun q4 =>
    Option.bind (t_X9_makesAll F q4) fun q6 =>
    if q6.1 = 0 then
      if (q6.2.1 40) = 20 then
        t_X9_done_L44 F
          (fun τ10 =>
            nm (tsI τ10 40 19) fun τ11 =>
            t_X9_done_L80 F F 0 τ11)
           F 0 q6.2
      else
        t_X9_done_L80 F F 0 q6.2
    else
      Option.bind (t_X9_putBack F 20 q6.2) fun q13 =>
      some ((-2), q13)
set_option maxHeartbeats 4000000 in
theorem ok_X9_done {g : Gx} (F : Nat) (tw : Nat) (μ : Sw) (τ : Tw) {rv : Int32} {τF : Tw} (hf : t_X9_done F τ = some (rv, τF)) : Cl g 6 yX9_done cX9_done 2 (some Jvm.ClassFile.FieldType.int) [.ref tw] (mT tw τ μ) (some (.int rv)) (mT tw τF μ) := by
  unfold t_X9_done at hf
  refine Cl.of (own := RX9) (ini := false) (by decide +kernel) rfl (by decide) (Nat.le_of_ble_eq_true rfl) ?_
  show PW g mX9_done 6 (mT tw τ μ) (mT tw τF μ) (QN g (some (.int rv)) (mT tw τ μ) (mT tw τF μ)) 0 [(0, .ref tw)] [] (mT tw τ μ)
  refine P.aload_n 0 (pc' := 1) dX9_done_0 rfl rfl rfl ?_
  refine P.get (v := .ref (tw + 7)) (pc' := 4) ci9 13 (by decide) (T_gf rfl) q1568 (Or.inl rfl) dX9_done_1 rfl ?_
  refine P.iconst (v := 1) (pc' := 5) dX9_done_4 rfl (by decide) ?_
  obtain ⟨x1, h2, hf⟩ := ob hf
  refine P.iald (t := 0) (pc' := 6) rfl (T_aI rfl h2) dX9_done_5 rfl ?_
  refine P.if_ne (tgt := 11) (pc' := 9) dX9_done_6 (by decide) rfl (fun y3 => ?_) (fun y3 => ?_)
  · have hf := (if_neg y3).symm.trans hf
    refine P.aload_n 0 (pc' := 12) dX9_done_11 rfl rfl rfl ?_
    refine P.bipush (v := 20) (pc' := 14) dX9_done_12 rfl (by decide) ?_
    obtain ⟨q4, h5, hf⟩ := ob hf
    refine P.callV (pc' := 17) (As := [.int 20]) 1 (ok_X9_keep F 20 tw μ τ h5) (Nat.le_of_ble_eq_true rfl) (lw_V q2092 q2094 qs137 q172 q2095) rfl yok_X9_keep rfl (Nat.le_of_ble_eq_true rfl) ci9 T_oc (by decide) rfl dX9_done_14 rfl ?_
    refine P.aload_n 0 (pc' := 18) dX9_done_17 rfl rfl rfl ?_
    obtain ⟨q6, h7, hf⟩ := ob hf
    refine P.callV (pc' := 21) (As := []) 0 (ok_X9_makesAll F tw μ q4 h7) (Nat.le_of_ble_eq_true rfl) (lw_V q2096 q2098 qs138 q172 q2099) rfl yok_X9_makesAll rfl (Nat.le_of_ble_eq_true rfl) ci9 T_oc (by decide) rfl dX9_done_18 rfl ?_
    refine P.if_eq (tgt := 33) (pc' := 24) dX9_done_21 (by decide) rfl (fun y8 => ?_) (fun y8 => ?_)
    · have hf := (if_pos y8).symm.trans hf
      refine P.aload_n 0 (pc' := 34) dX9_done_33 rfl rfl rfl ?_
      refine P.get (v := .int (q6.2.1 40)) (pc' := 37) ci9 40 (by decide) (T_gf rfl) q1595 (Or.inl rfl) dX9_done_34 rfl ?_
      refine P.bipush (v := 20) (pc' := 39) dX9_done_37 rfl (by decide) ?_
      refine P.icmp_ne (tgt := 78) (pc' := 42) dX9_done_39 (by decide) rfl (fun y9 => ?_) (fun y9 => ?_)
      · have hf := (if_neg y9).symm.trans hf
        refine P.iconst (v := 0) (pc' := 79) dX9_done_78 rfl (by decide) ?_
        refine P.istore_n (pc' := 80) (lv' := [(1, .int 0), (0, .ref tw)]) dX9_done_79 rfl rfl (Nat.le_of_ble_eq_true rfl) rfl ?_
        exact PW.sub [1, 0] rfl (ok_t_X9_done_L80 F tw μ F _ _ hf)
      · have hf := (if_pos y9).symm.trans hf
        refine P.iconst (v := 0) (pc' := 43) dX9_done_42 rfl (by decide) ?_
        refine P.istore_n (pc' := 44) (lv' := [(1, .int 0), (0, .ref tw)]) dX9_done_43 rfl rfl (Nat.le_of_ble_eq_true rfl) rfl ?_
        refine PW.sub [1, 0] rfl (ok_t_X9_done_L44 F tw μ _ ?_ F _ _ hf)
        · intro τ10 hf
          refine P.aload_n 0 (pc' := 73) dX9_done_72 rfl rfl rfl ?_
          refine P.bipush (v := 19) (pc' := 75) dX9_done_73 rfl (by decide) ?_
          obtain ⟨τ11, e12, hf⟩ := nm_i hf
          refine P.put (v := .int 19) (pc' := 78) ci9 40 (by decide) (T_put rfl (by decide) e12) q1595 (Or.inl rfl) rfl rfl rfl dX9_done_75 rfl ?_
          refine P.iconst (v := 0) (pc' := 79) dX9_done_78 rfl (by decide) ?_
          refine P.istore_n (pc' := 80) (lv' := [(1, .int 0), (0, .ref tw)]) dX9_done_79 rfl rfl (Nat.le_of_ble_eq_true rfl) rfl ?_
          exact PW.sub [1, 0] rfl (ok_t_X9_done_L80 F tw μ F _ _ hf)
    · have hf := (if_neg y8).symm.trans hf
      refine P.aload_n 0 (pc' := 25) dX9_done_24 rfl rfl rfl ?_
      refine P.bipush (v := 20) (pc' := 27) dX9_done_25 rfl (by decide) ?_
      obtain ⟨q13, h14, hf⟩ := ob hf
      refine P.callV (pc' := 30) (As := [.int 20]) 1 (ok_X9_putBack F 20 tw μ q6.2 h14) (Nat.le_of_ble_eq_true rfl) (lw_V q2104 q2106 qs140 q172 q2107) rfl yok_X9_putBack rfl (Nat.le_of_ble_eq_true rfl) ci9 T_oc (by decide) rfl dX9_done_27 rfl ?_
      refine P.bipush (v := (-2)) (pc' := 32) dX9_done_30 rfl (by decide) ?_
      cases hf; exact P.iret rfl dX9_done_32
  · have hf := (if_pos y3).symm.trans hf
    refine P.iconst (v := 0) (pc' := 10) dX9_done_9 rfl (by decide) ?_
    cases hf; exact P.iret rfl dX9_done_10
abbrev mX9_undo : Ym := (RX9, cX9_undo, 1, (some Jvm.ClassFile.FieldType.boolean), false, [])
noncomputable def t_X9_undo (F : Nat) (τ : Tw) : Option (Int32 × Tw) :=
  if (τ.1 40) = 0 then
    some (0, τ)
  else
    nm (tsI τ 40 ((τ.1 40) - 1)) fun τ2 =>
    Option.bind (t_X9_putBack F (τ2.1 40) τ2) fun q4 =>
    some (1, q4)
set_option maxHeartbeats 4000000 in
theorem ok_X9_undo {g : Gx} (F : Nat) (tw : Nat) (μ : Sw) (τ : Tw) {rv : Int32} {τF : Tw} (hf : t_X9_undo F τ = some (rv, τF)) : Cl g 2 yX9_undo cX9_undo 1 (some Jvm.ClassFile.FieldType.boolean) [.ref tw] (mT tw τ μ) (some (.int rv)) (mT tw τF μ) := by
  unfold t_X9_undo at hf
  refine Cl.of (own := RX9) (ini := false) (by decide +kernel) rfl (by decide) (Nat.le_of_ble_eq_true rfl) ?_
  show PW g mX9_undo 2 (mT tw τ μ) (mT tw τF μ) (QN g (some (.int rv)) (mT tw τ μ) (mT tw τF μ)) 0 [(0, .ref tw)] [] (mT tw τ μ)
  refine P.aload_n 0 (pc' := 1) dX9_undo_0 rfl rfl rfl ?_
  refine P.get (v := .int (τ.1 40)) (pc' := 4) ci9 40 (by decide) (T_gf rfl) q1595 (Or.inl rfl) dX9_undo_1 rfl ?_
  refine P.if_ne (tgt := 9) (pc' := 7) dX9_undo_4 (by decide) rfl (fun y1 => ?_) (fun y1 => ?_)
  · have hf := (if_neg y1).symm.trans hf
    refine P.aload_n 0 (pc' := 10) dX9_undo_9 rfl rfl rfl ?_
    refine P.dup (pc' := 11) dX9_undo_10 rfl rfl ?_
    refine P.get (v := .int (τ.1 40)) (pc' := 14) ci9 40 (by decide) (T_gf rfl) q1595 (Or.inl rfl) dX9_undo_11 rfl ?_
    refine P.iconst (v := 1) (pc' := 15) dX9_undo_14 rfl (by decide) ?_
    refine P.isub (pc' := 16) dX9_undo_15 rfl ?_
    obtain ⟨τ2, e3, hf⟩ := nm_i hf
    refine P.put (v := .int ((τ.1 40) - 1)) (pc' := 19) ci9 40 (by decide) (T_put rfl (by decide) e3) q1595 (Or.inl rfl) rfl rfl rfl dX9_undo_16 rfl ?_
    refine P.aload_n 0 (pc' := 20) dX9_undo_19 rfl rfl rfl ?_
    refine P.aload_n 0 (pc' := 21) dX9_undo_20 rfl rfl rfl ?_
    refine P.get (v := .int (τ2.1 40)) (pc' := 24) ci9 40 (by decide) (T_gf rfl) q1595 (Or.inl rfl) dX9_undo_21 rfl ?_
    obtain ⟨q4, h5, hf⟩ := ob hf
    refine P.callV (pc' := 27) (As := [.int (τ2.1 40)]) 1 (ok_X9_putBack F (τ2.1 40) tw μ τ2 h5) (Nat.le_of_ble_eq_true rfl) (lw_V q2104 q2106 qs140 q172 q2107) rfl yok_X9_putBack rfl (Nat.le_of_ble_eq_true rfl) ci9 T_oc (by decide) rfl dX9_undo_24 rfl ?_
    refine P.iconst (v := 1) (pc' := 28) dX9_undo_27 rfl (by decide) ?_
    cases hf; exact P.zret rfl (Or.inr rfl) dX9_undo_28
  · have hf := (if_pos y1).symm.trans hf
    refine P.iconst (v := 0) (pc' := 8) dX9_undo_7 rfl (by decide) ?_
    cases hf; exact P.zret rfl (Or.inl rfl) dX9_undo_8
abbrev mX9_brings : Ym := (RX9, cX9_brings, 3, none, false, [])
noncomputable def t_X9_brings_L8_b (F : Nat) (c1 : Int32) (self : Int32 → Tw → Option Tw) (v2 : Int32) (τ : Tw) : Option Tw :=
  if (τ.1 42) ≤ v2 then
    some τ
  else
    if ((c1 >>> (v2 &&& 31)) &&& 1) = 1 then
      Option.bind (taI τ 28 16 v2) fun x5 =>
      Option.bind (taI τ 29 16 v2) fun x7 =>
      Option.bind (tsA τ 7 0 1260 (10 + x5) x7) fun τ10 =>
      nm (v2 + 1) fun x11 =>
      self x11 τ10
    else
      nm (v2 + 1) fun x3 =>
      self x3 τ
noncomputable def t_X9_brings_L8 (F : Nat) (c1 : Int32) (n : Nat) : Int32 → Tw → Option Tw := Nat.rec (motive := fun _ => Int32 → Tw → Option Tw) (fun _ _ => none) (fun _ self => t_X9_brings_L8_b F c1 self) n
set_option maxHeartbeats 4000000 in
theorem ok_t_X9_brings_L8 {g : Gx} {μ0 : Sw} {τF : Tw} (F : Nat) (tw : Nat) (μ : Sw) (c1 : Int32) : ∀ (n : Nat) (v2 : Int32) (τ : Tw), t_X9_brings_L8 F c1 n v2 τ = some τF → PW g mX9_brings 2 μ0 (mT tw τF μ) (QN g none μ0 (mT tw τF μ)) 8 [(0, .ref tw), (1, .int c1), (2, .int v2)] [] (mT tw τ μ) := by
  intro n
  induction n with
  | zero =>
    intro v2 τ hf
    have hf : (none : Option Tw) = some _ := hf
    cases hf
  | succ n ih =>
    intro v2 τ hf
    have hf : t_X9_brings_L8_b F c1 (t_X9_brings_L8 F c1 n) v2 τ = some τF := hf
    unfold t_X9_brings_L8_b at hf
    refine P.iload_n 2 (pc' := 9) dX9_brings_8 rfl rfl rfl ?_
    refine P.aload_n 0 (pc' := 10) dX9_brings_9 rfl rfl rfl ?_
    refine P.get (v := .int (τ.1 42)) (pc' := 13) ci9 42 (by decide) (T_gf rfl) q1597 (Or.inl rfl) dX9_brings_10 rfl ?_
    refine P.icmp_ge (tgt := 51) (pc' := 16) dX9_brings_13 (by decide) rfl (fun y1 => ?_) (fun y1 => ?_)
    · have hf := (if_pos y1).symm.trans hf
      cases hf; exact P.vret rfl dX9_brings_51
    · have hf := (if_neg y1).symm.trans hf
      refine P.iload_n 1 (pc' := 17) dX9_brings_16 rfl rfl rfl ?_
      refine P.iload_n 2 (pc' := 18) dX9_brings_17 rfl rfl rfl ?_
      refine P.ishr (pc' := 19) dX9_brings_18 rfl ?_
      refine P.iconst (v := 1) (pc' := 20) dX9_brings_19 rfl (by decide) ?_
      refine P.iand (pc' := 21) dX9_brings_20 rfl ?_
      refine P.iconst (v := 1) (pc' := 22) dX9_brings_21 rfl (by decide) ?_
      refine P.icmp_ne (tgt := 45) (pc' := 25) dX9_brings_22 (by decide) rfl (fun y2 => ?_) (fun y2 => ?_)
      · have hf := (if_neg y2).symm.trans hf
        obtain ⟨x3, e4, hf⟩ := nm_i hf
        refine P.iinc 2 (pc' := 48) (lv' := [(2, .int x3), (0, .ref tw), (1, .int c1)]) dX9_brings_45 rfl rfl (by decide) e4 (Nat.le_of_ble_eq_true rfl) rfl ?_
        refine P.goto (tgt := 8) dX9_brings_48 (by decide) ?_
        exact PW.sub [1, 2, 0] rfl (ih _ _ hf)
      · have hf := (if_pos y2).symm.trans hf
        refine P.aload_n 0 (pc' := 26) dX9_brings_25 rfl rfl rfl ?_
        refine P.get (v := .ref (tw + 7)) (pc' := 29) ci9 13 (by decide) (T_gf rfl) q1568 (Or.inl rfl) dX9_brings_26 rfl ?_
        refine P.bipush (v := 10) (pc' := 31) dX9_brings_29 rfl (by decide) ?_
        refine P.aload_n 0 (pc' := 32) dX9_brings_31 rfl rfl rfl ?_
        refine P.get (v := .ref (tw + 28)) (pc' := 35) ci9 43 (by decide) (T_gf rfl) q1598 (Or.inl rfl) dX9_brings_32 rfl ?_
        refine P.iload_n 2 (pc' := 36) dX9_brings_35 rfl rfl rfl ?_
        obtain ⟨x5, h6, hf⟩ := ob hf
        refine P.iald (t := 0) (pc' := 37) rfl (T_aI rfl h6) dX9_brings_36 rfl ?_
        refine P.iadd (pc' := 38) dX9_brings_37 rfl ?_
        refine P.aload_n 0 (pc' := 39) dX9_brings_38 rfl rfl rfl ?_
        refine P.get (v := .ref (tw + 29)) (pc' := 42) ci9 44 (by decide) (T_gf rfl) q1599 (Or.inl rfl) dX9_brings_39 rfl ?_
        refine P.iload_n 2 (pc' := 43) dX9_brings_42 rfl rfl rfl ?_
        obtain ⟨x7, h8, hf⟩ := ob hf
        refine P.iald (t := 0) (pc' := 44) rfl (T_aI rfl h8) dX9_brings_43 rfl ?_
        obtain ⟨τ10, h9, hf⟩ := ob hf
        refine P.iast (pc' := 45) (T_sA rfl (by decide) h9) dX9_brings_44 rfl ?_
        obtain ⟨x11, e12, hf⟩ := nm_i hf
        refine P.iinc 2 (pc' := 48) (lv' := [(2, .int x11), (0, .ref tw), (1, .int c1)]) dX9_brings_45 rfl rfl (by decide) e12 (Nat.le_of_ble_eq_true rfl) rfl ?_
        refine P.goto (tgt := 8) dX9_brings_48 (by decide) ?_
        exact PW.sub [1, 2, 0] rfl (ih _ _ hf)
noncomputable def t_X9_brings (F : Nat) (p1 : Int32) (τ : Tw) : Option Tw :=
  Option.bind (t_X9_putBack F 20 τ) fun q1 =>
  t_X9_brings_L8 F p1 F 0 q1
set_option maxHeartbeats 4000000 in
theorem ok_X9_brings {g : Gx} (F : Nat) (p1 : Int32) (tw : Nat) (μ : Sw) (τ : Tw) {τF : Tw} (hf : t_X9_brings F p1 τ = some τF) : Cl g 2 yX9_brings cX9_brings 3 none [.ref tw, .int p1] (mT tw τ μ) none (mT tw τF μ) := by
  unfold t_X9_brings at hf
  refine Cl.of (own := RX9) (ini := false) (by decide +kernel) rfl (by decide) (Nat.le_of_ble_eq_true rfl) ?_
  show PW g mX9_brings 2 (mT tw τ μ) (mT tw τF μ) (QN g none (mT tw τ μ) (mT tw τF μ)) 0 [(0, .ref tw), (1, .int p1)] [] (mT tw τ μ)
  refine P.aload_n 0 (pc' := 1) dX9_brings_0 rfl rfl rfl ?_
  refine P.bipush (v := 20) (pc' := 3) dX9_brings_1 rfl (by decide) ?_
  obtain ⟨q1, h2, hf⟩ := ob hf
  refine P.callV (pc' := 6) (As := [.int 20]) 1 (ok_X9_putBack F 20 tw μ τ h2) (Nat.le_of_ble_eq_true rfl) (lw_V q2104 q2106 qs140 q172 q2107) rfl yok_X9_putBack rfl (Nat.le_of_ble_eq_true rfl) ci9 T_oc (by decide) rfl dX9_brings_3 rfl ?_
  refine P.iconst (v := 0) (pc' := 7) dX9_brings_6 rfl (by decide) ?_
  refine P.istore_n (pc' := 8) (lv' := [(2, .int 0), (0, .ref tw), (1, .int p1)]) dX9_brings_7 rfl rfl (Nat.le_of_ble_eq_true rfl) rfl ?_
  exact PW.sub [1, 2, 0] rfl (ok_t_X9_brings_L8 F tw μ p1 F _ _ hf)
