set_option maxRecDepth 100000
theorem yok_X9_brings : yOK yX9_brings 1 := ⟨by decide +kernel, by decide +kernel, by decide +kernel⟩
abbrev mX9_layNights : Ym := (RX9, cX9_layNights, 5, none, false, [])
noncomputable def t_X9_layNights_L24_b (F : Nat) (k66 : Tw → Option Tw) (c1 : Int32) (c2 : Int32) (self : Int32 → Tw → Option Tw) (v3 : Int32) (τ : Tw) : Option Tw :=
  if c2 ≤ v3 then
    k66 τ
  else
    Option.bind (t_X9_brings F v3 τ) fun q2 =>
    Option.bind (t_X9_reachedAt F 12 (-1) (-1) q2) fun q4 =>
    if (c1 &&& (q4.1 ^^^ (-1))) = 0 then
      Option.bind (tsA q4.2 30 4 256 v3 1) fun τ12 =>
      nm (v3 + 1) fun x13 =>
      self x13 τ12
    else
      Option.bind (tsA q4.2 30 4 256 v3 0) fun τ8 =>
      nm (v3 + 1) fun x9 =>
      self x9 τ8
noncomputable def t_X9_layNights_L24 (F : Nat) (k66 : Tw → Option Tw) (c1 : Int32) (c2 : Int32) (n : Nat) : Int32 → Tw → Option Tw := Nat.rec (motive := fun _ => Int32 → Tw → Option Tw) (fun _ _ => none) (fun _ self => t_X9_layNights_L24_b F k66 c1 c2 self) n
set_option maxHeartbeats 4000000 in
theorem ok_t_X9_layNights_L24 {g : Gx} {μ0 : Sw} {τF : Tw} (F : Nat) (tw : Nat) (μ : Sw) (c1 : Int32) (c2 : Int32) (k66 : Tw → Option Tw) (hk66 : ∀ (τ : Tw), k66 τ = some τF → PW g mX9_layNights 5 μ0 (mT tw τF μ) (QN g none μ0 (mT tw τF μ)) 66 [(0, .ref tw), (2, .int c2)] [] (mT tw τ μ)) : ∀ (n : Nat) (v3 : Int32) (τ : Tw), t_X9_layNights_L24 F k66 c1 c2 n v3 τ = some τF → PW g mX9_layNights 5 μ0 (mT tw τF μ) (QN g none μ0 (mT tw τF μ)) 24 [(0, .ref tw), (1, .int c1), (2, .int c2), (3, .int v3)] [] (mT tw τ μ) := by
  intro n
  induction n with
  | zero =>
    intro v3 τ hf
    have hf : (none : Option Tw) = some _ := hf
    cases hf
  | succ n ih =>
    intro v3 τ hf
    have hf : t_X9_layNights_L24_b F k66 c1 c2 (t_X9_layNights_L24 F k66 c1 c2 n) v3 τ = some τF := hf
    unfold t_X9_layNights_L24_b at hf
    refine P.iload_n 3 (pc' := 25) dX9_layNights_24 rfl rfl rfl ?_
    refine P.iload_n 2 (pc' := 26) dX9_layNights_25 rfl rfl rfl ?_
    refine P.icmp_ge (tgt := 66) (pc' := 29) dX9_layNights_26 (by decide) rfl (fun y1 => ?_) (fun y1 => ?_)
    · have hf := (if_pos y1).symm.trans hf
      exact PW.sub [0, 2] rfl (hk66 _ hf)
    · have hf := (if_neg y1).symm.trans hf
      refine P.aload_n 0 (pc' := 30) dX9_layNights_29 rfl rfl rfl ?_
      refine P.iload_n 3 (pc' := 31) dX9_layNights_30 rfl rfl rfl ?_
      obtain ⟨q2, h3, hf⟩ := ob hf
      refine P.callV (pc' := 34) (As := [.int v3]) 1 (ok_X9_brings F v3 tw μ τ h3) (Nat.le_of_ble_eq_true rfl) (lw_V q2124 q2126 qs142 q172 q2127) rfl yok_X9_brings rfl (Nat.le_of_ble_eq_true rfl) ci9 T_oc (by decide) rfl dX9_layNights_31 rfl ?_
      refine P.aload_n 0 (pc' := 35) dX9_layNights_34 rfl rfl rfl ?_
      refine P.get (v := .ref (tw + 30)) (pc' := 38) ci9 45 (by decide) (T_gf rfl) q1600 (Or.inl rfl) dX9_layNights_35 rfl ?_
      refine P.iload_n 3 (pc' := 39) dX9_layNights_38 rfl rfl rfl ?_
      refine P.iload_n 1 (pc' := 40) dX9_layNights_39 rfl rfl rfl ?_
      refine P.aload_n 0 (pc' := 41) dX9_layNights_40 rfl rfl rfl ?_
      refine P.bipush (v := 12) (pc' := 43) dX9_layNights_41 rfl (by decide) ?_
      refine P.iconst (v := (-1)) (pc' := 44) dX9_layNights_43 rfl (by decide) ?_
      refine P.iconst (v := (-1)) (pc' := 45) dX9_layNights_44 rfl (by decide) ?_
      obtain ⟨q4, h5, hf⟩ := ob hf
      refine P.callV (pc' := 48) (As := [.int 12, .int (-1), .int (-1)]) 3 (ok_X9_reachedAt F 12 (-1) (-1) tw μ q2 h5) (Nat.le_of_ble_eq_true rfl) (lw_V q1993 q1995 qs124 q172 q1996) rfl yok_X9_reachedAt rfl (Nat.le_of_ble_eq_true rfl) ci9 T_oc (Nat.le_of_ble_eq_true rfl) rfl dX9_layNights_45 rfl ?_
      refine P.iconst (v := (-1)) (pc' := 49) dX9_layNights_48 rfl (by decide) ?_
      refine P.ixor (pc' := 50) dX9_layNights_49 rfl ?_
      refine P.iand (pc' := 51) dX9_layNights_50 rfl ?_
      refine P.if_ne (tgt := 58) (pc' := 54) dX9_layNights_51 (by decide) rfl (fun y6 => ?_) (fun y6 => ?_)
      · have hf := (if_neg y6).symm.trans hf
        refine P.iconst (v := 0) (pc' := 59) dX9_layNights_58 rfl (by decide) ?_
        obtain ⟨τ8, h7, hf⟩ := ob hf
        refine P.zast (pc' := 60) (T_sA rfl (by decide) h7) dX9_layNights_59 rfl ?_
        obtain ⟨x9, e10, hf⟩ := nm_i hf
        refine P.iinc 3 (pc' := 63) (lv' := [(3, .int x9), (0, .ref tw), (1, .int c1), (2, .int c2)]) dX9_layNights_60 rfl rfl (by decide) e10 (Nat.le_of_ble_eq_true rfl) rfl ?_
        refine P.goto (tgt := 24) dX9_layNights_63 (by decide) ?_
        exact PW.sub [1, 2, 3, 0] rfl (ih _ _ hf)
      · have hf := (if_pos y6).symm.trans hf
        refine P.iconst (v := 1) (pc' := 55) dX9_layNights_54 rfl (by decide) ?_
        refine P.goto (tgt := 59) dX9_layNights_55 (by decide) ?_
        obtain ⟨τ12, h11, hf⟩ := ob hf
        refine P.zast (pc' := 60) (T_sA rfl (by decide) h11) dX9_layNights_59 rfl ?_
        obtain ⟨x13, e14, hf⟩ := nm_i hf
        refine P.iinc 3 (pc' := 63) (lv' := [(3, .int x13), (0, .ref tw), (1, .int c1), (2, .int c2)]) dX9_layNights_60 rfl rfl (by decide) e14 (Nat.le_of_ble_eq_true rfl) rfl ?_
        refine P.goto (tgt := 24) dX9_layNights_63 (by decide) ?_
        exact PW.sub [1, 2, 3, 0] rfl (ih _ _ hf)
noncomputable def t_X9_layNights_L103_b (F : Nat) (k178 : Tw → Option Tw) (c2 : Int32) (c3 : Int32) (self : Int32 → Tw → Option Tw) (v4 : Int32) (τ : Tw) : Option Tw :=
  if c2 ≤ v4 then
    k178 τ
  else
    if (v4 &&& c3) = 0 then
      Option.bind (p_X9_bitsOf F v4) fun q5 =>
      Option.bind (taI τ 6 420 6) fun x7 =>
      if x7 < q5 then
        nm (v4 + 1) fun x10 =>
        self x10 τ
      else
        Option.bind (taI τ 30 256 (c3 ||| v4)) fun x12 =>
        if x12 = 0 then
          nm (v4 + 1) fun x25 =>
          self x25 τ
        else
          Option.bind (taI τ 31 256 c3) fun x15 =>
          Option.bind (taI τ 31 256 (c3 ||| v4)) fun x17 =>
          Option.bind (p_X9_least F x15 (x17 + 1)) fun q19 =>
          Option.bind (tsA τ 31 0 256 c3 q19) fun τ22 =>
          nm (v4 + 1) fun x23 =>
          self x23 τ22
    else
      nm (v4 + 1) fun x3 =>
      self x3 τ
noncomputable def t_X9_layNights_L103 (F : Nat) (k178 : Tw → Option Tw) (c2 : Int32) (c3 : Int32) (n : Nat) : Int32 → Tw → Option Tw := Nat.rec (motive := fun _ => Int32 → Tw → Option Tw) (fun _ _ => none) (fun _ self => t_X9_layNights_L103_b F k178 c2 c3 self) n
set_option maxHeartbeats 4000000 in
theorem ok_t_X9_layNights_L103 {g : Gx} {μ0 : Sw} {τF : Tw} (F : Nat) (tw : Nat) (μ : Sw) (c2 : Int32) (c3 : Int32) (k178 : Tw → Option Tw) (hk178 : ∀ (τ : Tw), k178 τ = some τF → PW g mX9_layNights 5 μ0 (mT tw τF μ) (QN g none μ0 (mT tw τF μ)) 178 [(0, .ref tw), (2, .int c2), (3, .int c3)] [] (mT tw τ μ)) : ∀ (n : Nat) (v4 : Int32) (τ : Tw), t_X9_layNights_L103 F k178 c2 c3 n v4 τ = some τF → PW g mX9_layNights 5 μ0 (mT tw τF μ) (QN g none μ0 (mT tw τF μ)) 103 [(0, .ref tw), (2, .int c2), (3, .int c3), (4, .int v4)] [] (mT tw τ μ) := by
  intro n
  induction n with
  | zero =>
    intro v4 τ hf
    have hf : (none : Option Tw) = some _ := hf
    cases hf
  | succ n ih =>
    intro v4 τ hf
    have hf : t_X9_layNights_L103_b F k178 c2 c3 (t_X9_layNights_L103 F k178 c2 c3 n) v4 τ = some τF := hf
    unfold t_X9_layNights_L103_b at hf
    refine P.iload 3 (pc' := 105) dX9_layNights_103 rfl rfl ?_
    refine P.iload_n 1 (pc' := 106) dX9_layNights_105 rfl rfl rfl ?_
    refine P.icmp_ge (tgt := 178) (pc' := 109) dX9_layNights_106 (by decide) rfl (fun y1 => ?_) (fun y1 => ?_)
    · have hf := (if_pos y1).symm.trans hf
      exact PW.sub [0, 1, 2] rfl (hk178 _ hf)
    · have hf := (if_neg y1).symm.trans hf
      refine P.iload 3 (pc' := 111) dX9_layNights_109 rfl rfl ?_
      refine P.iload_n 2 (pc' := 112) dX9_layNights_111 rfl rfl rfl ?_
      refine P.iand (pc' := 113) dX9_layNights_112 rfl ?_
      refine P.if_ne (tgt := 172) (pc' := 116) dX9_layNights_113 (by decide) rfl (fun y2 => ?_) (fun y2 => ?_)
      · have hf := (if_neg y2).symm.trans hf
        obtain ⟨x3, e4, hf⟩ := nm_i hf
        refine P.iinc 3 (pc' := 175) (lv' := [(4, .int x3), (0, .ref tw), (2, .int c2), (3, .int c3)]) dX9_layNights_172 rfl rfl (by decide) e4 (Nat.le_of_ble_eq_true rfl) rfl ?_
        refine P.goto (tgt := 103) dX9_layNights_175 (by decide) ?_
        exact PW.sub [1, 2, 3, 0] rfl (ih _ _ hf)
      · have hf := (if_pos y2).symm.trans hf
        refine P.iload 3 (pc' := 118) dX9_layNights_116 rfl rfl ?_
        obtain ⟨q5, h6, hf⟩ := ob hf
        refine P.callS (pc' := 121) (As := [.int v4]) 1 (ok_X9_bitsOf F v4 (mT tw τ μ) h6) (Nat.le_of_ble_eq_true rfl) (lw_S q2021 q2022 q172 q2023) yok_X9_bitsOf rfl (Nat.le_of_ble_eq_true rfl) (by decide) rfl dX9_layNights_118 rfl ?_
        refine P.aload_n 0 (pc' := 122) dX9_layNights_121 rfl rfl rfl ?_
        refine P.get (v := .ref (tw + 6)) (pc' := 125) ci9 12 (by decide) (T_gf rfl) q1567 (Or.inl rfl) dX9_layNights_122 rfl ?_
        refine P.bipush (v := 6) (pc' := 127) dX9_layNights_125 rfl (by decide) ?_
        obtain ⟨x7, h8, hf⟩ := ob hf
        refine P.iald (t := 0) (pc' := 128) rfl (T_aI rfl h8) dX9_layNights_127 rfl ?_
        refine P.icmp_gt (tgt := 172) (pc' := 131) dX9_layNights_128 (by decide) rfl (fun y9 => ?_) (fun y9 => ?_)
        · have hf := (if_pos y9).symm.trans hf
          obtain ⟨x10, e11, hf⟩ := nm_i hf
          refine P.iinc 3 (pc' := 175) (lv' := [(4, .int x10), (0, .ref tw), (2, .int c2), (3, .int c3)]) dX9_layNights_172 rfl rfl (by decide) e11 (Nat.le_of_ble_eq_true rfl) rfl ?_
          refine P.goto (tgt := 103) dX9_layNights_175 (by decide) ?_
          exact PW.sub [1, 2, 3, 0] rfl (ih _ _ hf)
        · have hf := (if_neg y9).symm.trans hf
          refine P.aload_n 0 (pc' := 132) dX9_layNights_131 rfl rfl rfl ?_
          refine P.get (v := .ref (tw + 30)) (pc' := 135) ci9 45 (by decide) (T_gf rfl) q1600 (Or.inl rfl) dX9_layNights_132 rfl ?_
          refine P.iload_n 2 (pc' := 136) dX9_layNights_135 rfl rfl rfl ?_
          refine P.iload 3 (pc' := 138) dX9_layNights_136 rfl rfl ?_
          refine P.ior (pc' := 139) dX9_layNights_138 rfl ?_
          obtain ⟨x12, h13, hf⟩ := ob hf
          refine P.zald (t := 4) (pc' := 140) rfl (T_aI rfl h13) dX9_layNights_139 rfl ?_
          refine P.if_ne (tgt := 146) (pc' := 143) dX9_layNights_140 (by decide) rfl (fun y14 => ?_) (fun y14 => ?_)
          · have hf := (if_neg y14).symm.trans hf
            refine P.aload_n 0 (pc' := 147) dX9_layNights_146 rfl rfl rfl ?_
            refine P.get (v := .ref (tw + 31)) (pc' := 150) ci9 46 (by decide) (T_gf rfl) q1601 (Or.inl rfl) dX9_layNights_147 rfl ?_
            refine P.iload_n 2 (pc' := 151) dX9_layNights_150 rfl rfl rfl ?_
            refine P.aload_n 0 (pc' := 152) dX9_layNights_151 rfl rfl rfl ?_
            refine P.get (v := .ref (tw + 31)) (pc' := 155) ci9 46 (by decide) (T_gf rfl) q1601 (Or.inl rfl) dX9_layNights_152 rfl ?_
            refine P.iload_n 2 (pc' := 156) dX9_layNights_155 rfl rfl rfl ?_
            obtain ⟨x15, h16, hf⟩ := ob hf
            refine P.iald (t := 0) (pc' := 157) rfl (T_aI rfl h16) dX9_layNights_156 rfl ?_
            refine P.aload_n 0 (pc' := 158) dX9_layNights_157 rfl rfl rfl ?_
            refine P.get (v := .ref (tw + 31)) (pc' := 161) ci9 46 (by decide) (T_gf rfl) q1601 (Or.inl rfl) dX9_layNights_158 rfl ?_
            refine P.iload_n 2 (pc' := 162) dX9_layNights_161 rfl rfl rfl ?_
            refine P.iload 3 (pc' := 164) dX9_layNights_162 rfl rfl ?_
            refine P.ior (pc' := 165) dX9_layNights_164 rfl ?_
            obtain ⟨x17, h18, hf⟩ := ob hf
            refine P.iald (t := 0) (pc' := 166) rfl (T_aI rfl h18) dX9_layNights_165 rfl ?_
            refine P.iconst (v := 1) (pc' := 167) dX9_layNights_166 rfl (by decide) ?_
            refine P.iadd (pc' := 168) dX9_layNights_167 rfl ?_
            obtain ⟨q19, h20, hf⟩ := ob hf
            refine P.callS (pc' := 171) (As := [.int x15, .int (x17 + 1)]) 2 (ok_X9_least F x15 (x17 + 1) (mT tw τ μ) h20) (Nat.le_of_ble_eq_true rfl) (lw_S q2077 q2078 q172 q2079) yok_X9_least rfl (Nat.le_of_ble_eq_true rfl) (Nat.le_of_ble_eq_true rfl) rfl dX9_layNights_168 rfl ?_
            obtain ⟨τ22, h21, hf⟩ := ob hf
            refine P.iast (pc' := 172) (T_sA rfl (by decide) h21) dX9_layNights_171 rfl ?_
            obtain ⟨x23, e24, hf⟩ := nm_i hf
            refine P.iinc 3 (pc' := 175) (lv' := [(4, .int x23), (0, .ref tw), (2, .int c2), (3, .int c3)]) dX9_layNights_172 rfl rfl (by decide) e24 (Nat.le_of_ble_eq_true rfl) rfl ?_
            refine P.goto (tgt := 103) dX9_layNights_175 (by decide) ?_
            exact PW.sub [1, 2, 3, 0] rfl (ih _ _ hf)
          · have hf := (if_pos y14).symm.trans hf
            refine P.goto (tgt := 172) dX9_layNights_143 (by decide) ?_
            obtain ⟨x25, e26, hf⟩ := nm_i hf
            refine P.iinc 3 (pc' := 175) (lv' := [(4, .int x25), (0, .ref tw), (2, .int c2), (3, .int c3)]) dX9_layNights_172 rfl rfl (by decide) e26 (Nat.le_of_ble_eq_true rfl) rfl ?_
            refine P.goto (tgt := 103) dX9_layNights_175 (by decide) ?_
            exact PW.sub [1, 2, 3, 0] rfl (ih _ _ hf)
noncomputable def t_X9_layNights_L76_b (F : Nat) (c2 : Int32) (self : Int32 → Tw → Option Tw) (v3 : Int32) (τ : Tw) : Option Tw :=
  if v3 < 0 then
    some τ
  else
    if v3 = (c2 - 1) then
      Option.bind (tsA τ 31 0 256 v3 0) fun τ9 =>
      t_X9_layNights_L103 F
        (fun τ10 =>
          nm (v3 + (-1)) fun x11 =>
          self x11 τ10)
        c2 v3 F 1 τ9
    else
      Option.bind (tsA τ 31 0 256 v3 1000000) fun τ4 =>
      t_X9_layNights_L103 F
        (fun τ5 =>
          nm (v3 + (-1)) fun x6 =>
          self x6 τ5)
        c2 v3 F 1 τ4
noncomputable def t_X9_layNights_L76 (F : Nat) (c2 : Int32) (n : Nat) : Int32 → Tw → Option Tw := Nat.rec (motive := fun _ => Int32 → Tw → Option Tw) (fun _ _ => none) (fun _ self => t_X9_layNights_L76_b F c2 self) n
set_option maxHeartbeats 4000000 in
theorem ok_t_X9_layNights_L76 {g : Gx} {μ0 : Sw} {τF : Tw} (F : Nat) (tw : Nat) (μ : Sw) (c2 : Int32) : ∀ (n : Nat) (v3 : Int32) (τ : Tw), t_X9_layNights_L76 F c2 n v3 τ = some τF → PW g mX9_layNights 5 μ0 (mT tw τF μ) (QN g none μ0 (mT tw τF μ)) 76 [(0, .ref tw), (2, .int c2), (3, .int v3)] [] (mT tw τ μ) := by
  intro n
  induction n with
  | zero =>
    intro v3 τ hf
    have hf : (none : Option Tw) = some _ := hf
    cases hf
  | succ n ih =>
    intro v3 τ hf
    have hf : t_X9_layNights_L76_b F c2 (t_X9_layNights_L76 F c2 n) v3 τ = some τF := hf
    unfold t_X9_layNights_L76_b at hf
    refine P.iload_n 2 (pc' := 77) dX9_layNights_76 rfl rfl rfl ?_
    refine P.if_lt (tgt := 184) (pc' := 80) dX9_layNights_77 (by decide) rfl (fun y1 => ?_) (fun y1 => ?_)
    · have hf := (if_pos y1).symm.trans hf
      cases hf; exact P.vret rfl dX9_layNights_184
    · have hf := (if_neg y1).symm.trans hf
      refine P.aload_n 0 (pc' := 81) dX9_layNights_80 rfl rfl rfl ?_
      refine P.get (v := .ref (tw + 31)) (pc' := 84) ci9 46 (by decide) (T_gf rfl) q1601 (Or.inl rfl) dX9_layNights_81 rfl ?_
      refine P.iload_n 2 (pc' := 85) dX9_layNights_84 rfl rfl rfl ?_
      refine P.iload_n 2 (pc' := 86) dX9_layNights_85 rfl rfl rfl ?_
      refine P.iload_n 1 (pc' := 87) dX9_layNights_86 rfl rfl rfl ?_
      refine P.iconst (v := 1) (pc' := 88) dX9_layNights_87 rfl (by decide) ?_
      refine P.isub (pc' := 89) dX9_layNights_88 rfl ?_
      refine P.icmp_ne (tgt := 96) (pc' := 92) dX9_layNights_89 (by decide) rfl (fun y2 => ?_) (fun y2 => ?_)
      · have hf := (if_neg y2).symm.trans hf
        refine P.ldc_w (v := 1000000) (pc' := 99) dX9_layNights_96 rfl q2076 ?_
        obtain ⟨τ4, h3, hf⟩ := ob hf
        refine P.iast (pc' := 100) (T_sA rfl (by decide) h3) dX9_layNights_99 rfl ?_
        refine P.iconst (v := 1) (pc' := 101) dX9_layNights_100 rfl (by decide) ?_
        refine P.istore (pc' := 103) (lv' := [(4, .int 1), (0, .ref tw), (2, .int c2), (3, .int v3)]) dX9_layNights_101 rfl (Nat.le_of_ble_eq_true rfl) rfl ?_
        refine PW.sub [1, 2, 3, 0] rfl (ok_t_X9_layNights_L103 F tw μ c2 v3 _ ?_ F _ _ hf)
        · intro τ5 hf
          obtain ⟨x6, e7, hf⟩ := nm_i hf
          refine P.iinc 2 (pc' := 181) (lv' := [(3, .int x6), (0, .ref tw), (2, .int c2)]) dX9_layNights_178 rfl rfl (by decide) e7 (Nat.le_of_ble_eq_true rfl) rfl ?_
          refine P.goto (tgt := 76) dX9_layNights_181 (by decide) ?_
          exact PW.sub [1, 2, 0] rfl (ih _ _ hf)
      · have hf := (if_pos y2).symm.trans hf
        refine P.iconst (v := 0) (pc' := 93) dX9_layNights_92 rfl (by decide) ?_
        refine P.goto (tgt := 99) dX9_layNights_93 (by decide) ?_
        obtain ⟨τ9, h8, hf⟩ := ob hf
        refine P.iast (pc' := 100) (T_sA rfl (by decide) h8) dX9_layNights_99 rfl ?_
        refine P.iconst (v := 1) (pc' := 101) dX9_layNights_100 rfl (by decide) ?_
        refine P.istore (pc' := 103) (lv' := [(4, .int 1), (0, .ref tw), (2, .int c2), (3, .int v3)]) dX9_layNights_101 rfl (Nat.le_of_ble_eq_true rfl) rfl ?_
        refine PW.sub [1, 2, 3, 0] rfl (ok_t_X9_layNights_L103 F tw μ c2 v3 _ ?_ F _ _ hf)
        · intro τ10 hf
          obtain ⟨x11, e12, hf⟩ := nm_i hf
          refine P.iinc 2 (pc' := 181) (lv' := [(3, .int x11), (0, .ref tw), (2, .int c2)]) dX9_layNights_178 rfl rfl (by decide) e12 (Nat.le_of_ble_eq_true rfl) rfl ?_
          refine P.goto (tgt := 76) dX9_layNights_181 (by decide) ?_
          exact PW.sub [1, 2, 0] rfl (ih _ _ hf)
noncomputable def t_X9_layNights (F : Nat) (τ : Tw) : Option Tw :=
  Option.bind (t_X9_reachedAt F 12 (-1) (-1) τ) fun q1 =>
  nm ((1 : Int32) <<< ((q1.2.1 42) &&& 31)) fun x3 =>
  Option.bind (t_X9_keep F 20 q1.2) fun q5 =>
  t_X9_layNights_L24 F
    (fun τ7 =>
      Option.bind (t_X9_putBack F 20 τ7) fun q8 =>
      nm (x3 - 1) fun x10 =>
      t_X9_layNights_L76 F x3 F x10 q8)
    q1.1 x3 F 0 q5
set_option maxHeartbeats 4000000 in
theorem ok_X9_layNights {g : Gx} (F : Nat) (tw : Nat) (μ : Sw) (τ : Tw) {τF : Tw} (hf : t_X9_layNights F τ = some τF) : Cl g 5 yX9_layNights cX9_layNights 5 none [.ref tw] (mT tw τ μ) none (mT tw τF μ) := by
  unfold t_X9_layNights at hf
  refine Cl.of (own := RX9) (ini := false) (by decide +kernel) rfl (by decide) (Nat.le_of_ble_eq_true rfl) ?_
  show PW g mX9_layNights 5 (mT tw τ μ) (mT tw τF μ) (QN g none (mT tw τ μ) (mT tw τF μ)) 0 [(0, .ref tw)] [] (mT tw τ μ)
  refine P.aload_n 0 (pc' := 1) dX9_layNights_0 rfl rfl rfl ?_
  refine P.bipush (v := 12) (pc' := 3) dX9_layNights_1 rfl (by decide) ?_
  refine P.iconst (v := (-1)) (pc' := 4) dX9_layNights_3 rfl (by decide) ?_
  refine P.iconst (v := (-1)) (pc' := 5) dX9_layNights_4 rfl (by decide) ?_
  obtain ⟨q1, h2, hf⟩ := ob hf
  refine P.callV (pc' := 8) (As := [.int 12, .int (-1), .int (-1)]) 3 (ok_X9_reachedAt F 12 (-1) (-1) tw μ τ h2) (Nat.le_of_ble_eq_true rfl) (lw_V q1993 q1995 qs124 q172 q1996) rfl yok_X9_reachedAt rfl (Nat.le_of_ble_eq_true rfl) ci9 T_oc (by decide) rfl dX9_layNights_5 rfl ?_
  refine P.istore_n (pc' := 9) (lv' := [(1, .int q1.1), (0, .ref tw)]) dX9_layNights_8 rfl rfl (Nat.le_of_ble_eq_true rfl) rfl ?_
  refine P.iconst (v := 1) (pc' := 10) dX9_layNights_9 rfl (by decide) ?_
  refine P.aload_n 1 (pc' := 11) dX9_layNights_10 rfl rfl rfl ?_
  refine P.get (v := .int (q1.2.1 42)) (pc' := 14) ci9 42 (by decide) (T_gf rfl) q1597 (Or.inl rfl) dX9_layNights_11 rfl ?_
  refine P.ishl (pc' := 15) dX9_layNights_14 rfl ?_
  obtain ⟨x3, e4, hf⟩ := nm_i hf
  refine P.nmi e4 ?_
  refine P.istore_n (pc' := 16) (lv' := [(2, .int x3), (1, .int q1.1), (0, .ref tw)]) dX9_layNights_15 rfl rfl (Nat.le_of_ble_eq_true rfl) rfl ?_
  refine P.aload_n 2 (pc' := 17) dX9_layNights_16 rfl rfl rfl ?_
  refine P.bipush (v := 20) (pc' := 19) dX9_layNights_17 rfl (by decide) ?_
  obtain ⟨q5, h6, hf⟩ := ob hf
  refine P.callV (pc' := 22) (As := [.int 20]) 1 (ok_X9_keep F 20 tw μ q1.2 h6) (Nat.le_of_ble_eq_true rfl) (lw_V q2092 q2094 qs137 q172 q2095) rfl yok_X9_keep rfl (Nat.le_of_ble_eq_true rfl) ci9 T_oc (by decide) rfl dX9_layNights_19 rfl ?_
  refine P.iconst (v := 0) (pc' := 23) dX9_layNights_22 rfl (by decide) ?_
  refine P.istore_n (pc' := 24) (lv' := [(3, .int 0), (2, .int x3), (1, .int q1.1), (0, .ref tw)]) dX9_layNights_23 rfl rfl (Nat.le_of_ble_eq_true rfl) rfl ?_
  refine PW.sub [3, 2, 1, 0] rfl (ok_t_X9_layNights_L24 F tw μ q1.1 x3 _ ?_ F _ _ hf)
  · intro τ7 hf
    refine P.aload_n 0 (pc' := 67) dX9_layNights_66 rfl rfl rfl ?_
    refine P.bipush (v := 20) (pc' := 69) dX9_layNights_67 rfl (by decide) ?_
    obtain ⟨q8, h9, hf⟩ := ob hf
    refine P.callV (pc' := 72) (As := [.int 20]) 1 (ok_X9_putBack F 20 tw μ τ7 h9) (Nat.le_of_ble_eq_true rfl) (lw_V q2104 q2106 qs140 q172 q2107) rfl yok_X9_putBack rfl (Nat.le_of_ble_eq_true rfl) ci9 T_oc (by decide) rfl dX9_layNights_69 rfl ?_
    refine P.iload_n 1 (pc' := 73) dX9_layNights_72 rfl rfl rfl ?_
    refine P.iconst (v := 1) (pc' := 74) dX9_layNights_73 rfl (by decide) ?_
    refine P.isub (pc' := 75) dX9_layNights_74 rfl ?_
    obtain ⟨x10, e11, hf⟩ := nm_i hf
    refine P.nmi e11 ?_
    refine P.istore_n (pc' := 76) (lv' := [(3, .int x10), (0, .ref tw), (2, .int x3)]) dX9_layNights_75 rfl rfl (Nat.le_of_ble_eq_true rfl) rfl ?_
    exact PW.sub [1, 2, 0] rfl (ok_t_X9_layNights_L76 F tw μ x3 F _ _ hf)
abbrev mX9_firstNight : Ym := (RX9, cX9_firstNight, 4, (some Jvm.ClassFile.FieldType.int), false, [])
noncomputable def t_X9_firstNight_L4_b (F : Nat) (k80 : Int32 → Option Int32) (τ : Tw) (self : Int32 → Int32 → Option Int32) (v1 : Int32) (v2 : Int32) : Option Int32 :=
  if ((1 : Int32) <<< ((τ.1 42) &&& 31)) ≤ v2 then
    k80 v1
  else
    Option.bind (p_X9_bitsOf F v2) fun q2 =>
    Option.bind (taI τ 6 420 6) fun x4 =>
    if x4 < q2 then
      nm (v2 + 1) fun x7 =>
      self v1 x7
    else
      Option.bind (taI τ 30 256 v2) fun x9 =>
      if x9 = 0 then
        nm (v2 + 1) fun x12 =>
        self v1 x12
      else
        Option.bind (taI τ 31 256 v2) fun x14 =>
        Option.bind (taI τ 31 256 0) fun x16 =>
        if (x14 + 1) = x16 then
          if v1 = 0 then
            nm (v2 + 1) fun x20 =>
            self v2 x20
          else
            Option.bind (p_X9_bitsOf F v2) fun q22 =>
            Option.bind (p_X9_bitsOf F v1) fun q24 =>
            if q24 ≤ q22 then
              nm (v2 + 1) fun x27 =>
              self v1 x27
            else
              nm (v2 + 1) fun x29 =>
              self v2 x29
        else
          nm (v2 + 1) fun x31 =>
          self v1 x31
noncomputable def t_X9_firstNight_L4 (F : Nat) (k80 : Int32 → Option Int32) (τ : Tw) (n : Nat) : Int32 → Int32 → Option Int32 := Nat.rec (motive := fun _ => Int32 → Int32 → Option Int32) (fun _ _ => none) (fun _ self => t_X9_firstNight_L4_b F k80 τ self) n
set_option maxHeartbeats 4000000 in
theorem ok_t_X9_firstNight_L4 {g : Gx} {μ0 : Sw} {rv : Int32} (F : Nat) (tw : Nat) (μ : Sw) (τ : Tw) (k80 : Int32 → Option Int32) (hk80 : ∀ (w1 : Int32), k80 w1 = some rv → PW g mX9_firstNight 2 μ0 (mT tw τ μ) (QN g (some (.int rv)) μ0 (mT tw τ μ)) 80 [(0, .ref tw), (1, .int w1)] [] (mT tw τ μ)) : ∀ (n : Nat) (v1 : Int32) (v2 : Int32), t_X9_firstNight_L4 F k80 τ n v1 v2 = some rv → PW g mX9_firstNight 2 μ0 (mT tw τ μ) (QN g (some (.int rv)) μ0 (mT tw τ μ)) 4 [(0, .ref tw), (1, .int v1), (2, .int v2)] [] (mT tw τ μ) := by
  intro n
  induction n with
  | zero =>
    intro v1 v2 hf
    have hf : (none : Option Int32) = some _ := hf
    cases hf
  | succ n ih =>
    intro v1 v2 hf
    have hf : t_X9_firstNight_L4_b F k80 τ (t_X9_firstNight_L4 F k80 τ n) v1 v2 = some rv := hf
    unfold t_X9_firstNight_L4_b at hf
    refine P.iload_n 2 (pc' := 5) dX9_firstNight_4 rfl rfl rfl ?_
    refine P.iconst (v := 1) (pc' := 6) dX9_firstNight_5 rfl (by decide) ?_
    refine P.aload_n 0 (pc' := 7) dX9_firstNight_6 rfl rfl rfl ?_
    refine P.get (v := .int (τ.1 42)) (pc' := 10) ci9 42 (by decide) (T_gf rfl) q1597 (Or.inl rfl) dX9_firstNight_7 rfl ?_
    refine P.ishl (pc' := 11) dX9_firstNight_10 rfl ?_
    refine P.icmp_ge (tgt := 80) (pc' := 14) dX9_firstNight_11 (by decide) rfl (fun y1 => ?_) (fun y1 => ?_)
    · have hf := (if_pos y1).symm.trans hf
      exact PW.sub [0, 1] rfl (hk80 _ hf)
    · have hf := (if_neg y1).symm.trans hf
      refine P.iload_n 2 (pc' := 15) dX9_firstNight_14 rfl rfl rfl ?_
      obtain ⟨q2, h3, hf⟩ := ob hf
      refine P.callS (pc' := 18) (As := [.int v2]) 1 (ok_X9_bitsOf F v2 (mT tw τ μ) h3) (Nat.le_of_ble_eq_true rfl) (lw_S q2021 q2022 q172 q2023) yok_X9_bitsOf rfl (Nat.le_of_ble_eq_true rfl) (by decide) rfl dX9_firstNight_15 rfl ?_
      refine P.aload_n 0 (pc' := 19) dX9_firstNight_18 rfl rfl rfl ?_
      refine P.get (v := .ref (tw + 6)) (pc' := 22) ci9 12 (by decide) (T_gf rfl) q1567 (Or.inl rfl) dX9_firstNight_19 rfl ?_
      refine P.bipush (v := 6) (pc' := 24) dX9_firstNight_22 rfl (by decide) ?_
      obtain ⟨x4, h5, hf⟩ := ob hf
      refine P.iald (t := 0) (pc' := 25) rfl (T_aI rfl h5) dX9_firstNight_24 rfl ?_
      refine P.icmp_gt (tgt := 74) (pc' := 28) dX9_firstNight_25 (by decide) rfl (fun y6 => ?_) (fun y6 => ?_)
      · have hf := (if_pos y6).symm.trans hf
        obtain ⟨x7, e8, hf⟩ := nm_i hf
        refine P.iinc 2 (pc' := 77) (lv' := [(2, .int x7), (0, .ref tw), (1, .int v1)]) dX9_firstNight_74 rfl rfl (by decide) e8 (Nat.le_of_ble_eq_true rfl) rfl ?_
        refine P.goto (tgt := 4) dX9_firstNight_77 (by decide) ?_
        exact PW.sub [1, 2, 0] rfl (ih _ _ hf)
      · have hf := (if_neg y6).symm.trans hf
        refine P.aload_n 0 (pc' := 29) dX9_firstNight_28 rfl rfl rfl ?_
        refine P.get (v := .ref (tw + 30)) (pc' := 32) ci9 45 (by decide) (T_gf rfl) q1600 (Or.inl rfl) dX9_firstNight_29 rfl ?_
        refine P.iload_n 2 (pc' := 33) dX9_firstNight_32 rfl rfl rfl ?_
        obtain ⟨x9, h10, hf⟩ := ob hf
        refine P.zald (t := 4) (pc' := 34) rfl (T_aI rfl h10) dX9_firstNight_33 rfl ?_
        refine P.if_eq (tgt := 74) (pc' := 37) dX9_firstNight_34 (by decide) rfl (fun y11 => ?_) (fun y11 => ?_)
        · have hf := (if_pos y11).symm.trans hf
          obtain ⟨x12, e13, hf⟩ := nm_i hf
          refine P.iinc 2 (pc' := 77) (lv' := [(2, .int x12), (0, .ref tw), (1, .int v1)]) dX9_firstNight_74 rfl rfl (by decide) e13 (Nat.le_of_ble_eq_true rfl) rfl ?_
          refine P.goto (tgt := 4) dX9_firstNight_77 (by decide) ?_
          exact PW.sub [1, 2, 0] rfl (ih _ _ hf)
        · have hf := (if_neg y11).symm.trans hf
          refine P.aload_n 0 (pc' := 38) dX9_firstNight_37 rfl rfl rfl ?_
          refine P.get (v := .ref (tw + 31)) (pc' := 41) ci9 46 (by decide) (T_gf rfl) q1601 (Or.inl rfl) dX9_firstNight_38 rfl ?_
          refine P.iload_n 2 (pc' := 42) dX9_firstNight_41 rfl rfl rfl ?_
          obtain ⟨x14, h15, hf⟩ := ob hf
          refine P.iald (t := 0) (pc' := 43) rfl (T_aI rfl h15) dX9_firstNight_42 rfl ?_
          refine P.iconst (v := 1) (pc' := 44) dX9_firstNight_43 rfl (by decide) ?_
          refine P.iadd (pc' := 45) dX9_firstNight_44 rfl ?_
          refine P.aload_n 0 (pc' := 46) dX9_firstNight_45 rfl rfl rfl ?_
          refine P.get (v := .ref (tw + 31)) (pc' := 49) ci9 46 (by decide) (T_gf rfl) q1601 (Or.inl rfl) dX9_firstNight_46 rfl ?_
          refine P.iconst (v := 0) (pc' := 50) dX9_firstNight_49 rfl (by decide) ?_
          obtain ⟨x16, h17, hf⟩ := ob hf
          refine P.iald (t := 0) (pc' := 51) rfl (T_aI rfl h17) dX9_firstNight_50 rfl ?_
          refine P.icmp_eq (tgt := 57) (pc' := 54) dX9_firstNight_51 (by decide) rfl (fun y18 => ?_) (fun y18 => ?_)
          · have hf := (if_pos y18).symm.trans hf
            refine P.iload_n 1 (pc' := 58) dX9_firstNight_57 rfl rfl rfl ?_
            refine P.if_eq (tgt := 72) (pc' := 61) dX9_firstNight_58 (by decide) rfl (fun y19 => ?_) (fun y19 => ?_)
            · have hf := (if_pos y19).symm.trans hf
              refine P.iload_n 2 (pc' := 73) dX9_firstNight_72 rfl rfl rfl ?_
              refine P.istore_n (pc' := 74) (lv' := [(1, .int v2), (0, .ref tw), (2, .int v2)]) dX9_firstNight_73 rfl rfl (Nat.le_of_ble_eq_true rfl) rfl ?_
              obtain ⟨x20, e21, hf⟩ := nm_i hf
              refine P.iinc 2 (pc' := 77) (lv' := [(2, .int x20), (1, .int v2), (0, .ref tw)]) dX9_firstNight_74 rfl rfl (by decide) e21 (Nat.le_of_ble_eq_true rfl) rfl ?_
              refine P.goto (tgt := 4) dX9_firstNight_77 (by decide) ?_
              exact PW.sub [2, 1, 0] rfl (ih _ _ hf)
            · have hf := (if_neg y19).symm.trans hf
              refine P.iload_n 2 (pc' := 62) dX9_firstNight_61 rfl rfl rfl ?_
              obtain ⟨q22, h23, hf⟩ := ob hf
              refine P.callS (pc' := 65) (As := [.int v2]) 1 (ok_X9_bitsOf F v2 (mT tw τ μ) h23) (Nat.le_of_ble_eq_true rfl) (lw_S q2021 q2022 q172 q2023) yok_X9_bitsOf rfl (Nat.le_of_ble_eq_true rfl) (by decide) rfl dX9_firstNight_62 rfl ?_
              refine P.iload_n 1 (pc' := 66) dX9_firstNight_65 rfl rfl rfl ?_
              obtain ⟨q24, h25, hf⟩ := ob hf
              refine P.callS (pc' := 69) (As := [.int v1]) 1 (ok_X9_bitsOf F v1 (mT tw τ μ) h25) (Nat.le_of_ble_eq_true rfl) (lw_S q2021 q2022 q172 q2023) yok_X9_bitsOf rfl (Nat.le_of_ble_eq_true rfl) (Nat.le_of_ble_eq_true rfl) rfl dX9_firstNight_66 rfl ?_
              refine P.icmp_ge (tgt := 74) (pc' := 72) dX9_firstNight_69 (by decide) rfl (fun y26 => ?_) (fun y26 => ?_)
              · have hf := (if_pos y26).symm.trans hf
                obtain ⟨x27, e28, hf⟩ := nm_i hf
                refine P.iinc 2 (pc' := 77) (lv' := [(2, .int x27), (0, .ref tw), (1, .int v1)]) dX9_firstNight_74 rfl rfl (by decide) e28 (Nat.le_of_ble_eq_true rfl) rfl ?_
                refine P.goto (tgt := 4) dX9_firstNight_77 (by decide) ?_
                exact PW.sub [1, 2, 0] rfl (ih _ _ hf)
              · have hf := (if_neg y26).symm.trans hf
                refine P.iload_n 2 (pc' := 73) dX9_firstNight_72 rfl rfl rfl ?_
                refine P.istore_n (pc' := 74) (lv' := [(1, .int v2), (0, .ref tw), (2, .int v2)]) dX9_firstNight_73 rfl rfl (Nat.le_of_ble_eq_true rfl) rfl ?_
                obtain ⟨x29, e30, hf⟩ := nm_i hf
                refine P.iinc 2 (pc' := 77) (lv' := [(2, .int x29), (1, .int v2), (0, .ref tw)]) dX9_firstNight_74 rfl rfl (by decide) e30 (Nat.le_of_ble_eq_true rfl) rfl ?_
                refine P.goto (tgt := 4) dX9_firstNight_77 (by decide) ?_
                exact PW.sub [2, 1, 0] rfl (ih _ _ hf)
          · have hf := (if_neg y18).symm.trans hf
            refine P.goto (tgt := 74) dX9_firstNight_54 (by decide) ?_
            obtain ⟨x31, e32, hf⟩ := nm_i hf
            refine P.iinc 2 (pc' := 77) (lv' := [(2, .int x31), (0, .ref tw), (1, .int v1)]) dX9_firstNight_74 rfl rfl (by decide) e32 (Nat.le_of_ble_eq_true rfl) rfl ?_
            refine P.goto (tgt := 4) dX9_firstNight_77 (by decide) ?_
            exact PW.sub [1, 2, 0] rfl (ih _ _ hf)
noncomputable def t_X9_firstNight_L84_b (F : Nat) (c1 : Int32) (τ : Tw) (self : Int32 → Int32 → Option Int32) (v2 : Int32) (v3 : Int32) : Option Int32 :=
  if (τ.1 42) ≤ v3 then
    some v2
  else
    if ((c1 >>> (v3 &&& 31)) &&& 1) = 1 then
      Option.bind (taI τ 28 16 v3) fun x5 =>
      nm (v2 ||| ((1 : Int32) <<< (x5 &&& 31))) fun x7 =>
      nm (v3 + 1) fun x9 =>
      self x7 x9
    else
      nm (v3 + 1) fun x3 =>
      self v2 x3
noncomputable def t_X9_firstNight_L84 (F : Nat) (c1 : Int32) (τ : Tw) (n : Nat) : Int32 → Int32 → Option Int32 := Nat.rec (motive := fun _ => Int32 → Int32 → Option Int32) (fun _ _ => none) (fun _ self => t_X9_firstNight_L84_b F c1 τ self) n
set_option maxHeartbeats 4000000 in
theorem ok_t_X9_firstNight_L84 {g : Gx} {μ0 : Sw} {rv : Int32} (F : Nat) (tw : Nat) (μ : Sw) (c1 : Int32) (τ : Tw) : ∀ (n : Nat) (v2 : Int32) (v3 : Int32), t_X9_firstNight_L84 F c1 τ n v2 v3 = some rv → PW g mX9_firstNight 2 μ0 (mT tw τ μ) (QN g (some (.int rv)) μ0 (mT tw τ μ)) 84 [(0, .ref tw), (1, .int c1), (2, .int v2), (3, .int v3)] [] (mT tw τ μ) := by
  intro n
  induction n with
  | zero =>
    intro v2 v3 hf
    have hf : (none : Option Int32) = some _ := hf
    cases hf
  | succ n ih =>
    intro v2 v3 hf
    have hf : t_X9_firstNight_L84_b F c1 τ (t_X9_firstNight_L84 F c1 τ n) v2 v3 = some rv := hf
    unfold t_X9_firstNight_L84_b at hf
    refine P.iload_n 3 (pc' := 85) dX9_firstNight_84 rfl rfl rfl ?_
    refine P.aload_n 0 (pc' := 86) dX9_firstNight_85 rfl rfl rfl ?_
    refine P.get (v := .int (τ.1 42)) (pc' := 89) ci9 42 (by decide) (T_gf rfl) q1597 (Or.inl rfl) dX9_firstNight_86 rfl ?_
    refine P.icmp_ge (tgt := 118) (pc' := 92) dX9_firstNight_89 (by decide) rfl (fun y1 => ?_) (fun y1 => ?_)
    · have hf := (if_pos y1).symm.trans hf
      refine P.iload_n 2 (pc' := 119) dX9_firstNight_118 rfl rfl rfl ?_
      cases hf; exact P.iret rfl dX9_firstNight_119
    · have hf := (if_neg y1).symm.trans hf
      refine P.iload_n 1 (pc' := 93) dX9_firstNight_92 rfl rfl rfl ?_
      refine P.iload_n 3 (pc' := 94) dX9_firstNight_93 rfl rfl rfl ?_
      refine P.ishr (pc' := 95) dX9_firstNight_94 rfl ?_
      refine P.iconst (v := 1) (pc' := 96) dX9_firstNight_95 rfl (by decide) ?_
      refine P.iand (pc' := 97) dX9_firstNight_96 rfl ?_
      refine P.iconst (v := 1) (pc' := 98) dX9_firstNight_97 rfl (by decide) ?_
      refine P.icmp_ne (tgt := 112) (pc' := 101) dX9_firstNight_98 (by decide) rfl (fun y2 => ?_) (fun y2 => ?_)
      · have hf := (if_neg y2).symm.trans hf
        obtain ⟨x3, e4, hf⟩ := nm_i hf
        refine P.iinc 3 (pc' := 115) (lv' := [(3, .int x3), (0, .ref tw), (1, .int c1), (2, .int v2)]) dX9_firstNight_112 rfl rfl (by decide) e4 (Nat.le_of_ble_eq_true rfl) rfl ?_
        refine P.goto (tgt := 84) dX9_firstNight_115 (by decide) ?_
        exact PW.sub [1, 2, 3, 0] rfl (ih _ _ hf)
      · have hf := (if_pos y2).symm.trans hf
        refine P.iload_n 2 (pc' := 102) dX9_firstNight_101 rfl rfl rfl ?_
        refine P.iconst (v := 1) (pc' := 103) dX9_firstNight_102 rfl (by decide) ?_
        refine P.aload_n 0 (pc' := 104) dX9_firstNight_103 rfl rfl rfl ?_
        refine P.get (v := .ref (tw + 28)) (pc' := 107) ci9 43 (by decide) (T_gf rfl) q1598 (Or.inl rfl) dX9_firstNight_104 rfl ?_
        refine P.iload_n 3 (pc' := 108) dX9_firstNight_107 rfl rfl rfl ?_
        obtain ⟨x5, h6, hf⟩ := ob hf
        refine P.iald (t := 0) (pc' := 109) rfl (T_aI rfl h6) dX9_firstNight_108 rfl ?_
        refine P.ishl (pc' := 110) dX9_firstNight_109 rfl ?_
        refine P.ior (pc' := 111) dX9_firstNight_110 rfl ?_
        obtain ⟨x7, e8, hf⟩ := nm_i hf
        refine P.nmi e8 ?_
        refine P.istore_n (pc' := 112) (lv' := [(2, .int x7), (0, .ref tw), (1, .int c1), (3, .int v3)]) dX9_firstNight_111 rfl rfl (Nat.le_of_ble_eq_true rfl) rfl ?_
        obtain ⟨x9, e10, hf⟩ := nm_i hf
        refine P.iinc 3 (pc' := 115) (lv' := [(3, .int x9), (2, .int x7), (0, .ref tw), (1, .int c1)]) dX9_firstNight_112 rfl rfl (by decide) e10 (Nat.le_of_ble_eq_true rfl) rfl ?_
        refine P.goto (tgt := 84) dX9_firstNight_115 (by decide) ?_
        exact PW.sub [2, 3, 1, 0] rfl (ih _ _ hf)
noncomputable def t_X9_firstNight (F : Nat) (τ : Tw) : Option Int32 :=
  t_X9_firstNight_L4 F
    (fun w1 =>
      t_X9_firstNight_L84 F w1 τ F 0 0)
    τ F 0 1
set_option maxHeartbeats 4000000 in
theorem ok_X9_firstNight {g : Gx} (F : Nat) (tw : Nat) (μ : Sw) (τ : Tw) {rv : Int32} (hf : t_X9_firstNight F τ = some rv) : Cl g 2 yX9_firstNight cX9_firstNight 4 (some Jvm.ClassFile.FieldType.int) [.ref tw] (mT tw τ μ) (some (.int rv)) (mT tw τ μ) := by
  unfold t_X9_firstNight at hf
  refine Cl.of (own := RX9) (ini := false) (by decide +kernel) rfl (by decide) (Nat.le_of_ble_eq_true rfl) ?_
  show PW g mX9_firstNight 2 (mT tw τ μ) (mT tw τ μ) (QN g (some (.int rv)) (mT tw τ μ) (mT tw τ μ)) 0 [(0, .ref tw)] [] (mT tw τ μ)
  refine P.iconst (v := 0) (pc' := 1) dX9_firstNight_0 rfl (by decide) ?_
  refine P.istore_n (pc' := 2) (lv' := [(1, .int 0), (0, .ref tw)]) dX9_firstNight_1 rfl rfl (Nat.le_of_ble_eq_true rfl) rfl ?_
  refine P.iconst (v := 1) (pc' := 3) dX9_firstNight_2 rfl (by decide) ?_
  refine P.istore_n (pc' := 4) (lv' := [(2, .int 1), (1, .int 0), (0, .ref tw)]) dX9_firstNight_3 rfl rfl (Nat.le_of_ble_eq_true rfl) rfl ?_
  refine PW.sub [2, 1, 0] rfl (ok_t_X9_firstNight_L4 F tw μ τ _ ?_ F _ _ hf)
  · intro w1 hf
    refine P.iconst (v := 0) (pc' := 81) dX9_firstNight_80 rfl (by decide) ?_
    refine P.istore_n (pc' := 82) (lv' := [(2, .int 0), (0, .ref tw), (1, .int w1)]) dX9_firstNight_81 rfl rfl (Nat.le_of_ble_eq_true rfl) rfl ?_
    refine P.iconst (v := 0) (pc' := 83) dX9_firstNight_82 rfl (by decide) ?_
    refine P.istore_n (pc' := 84) (lv' := [(3, .int 0), (2, .int 0), (0, .ref tw), (1, .int w1)]) dX9_firstNight_83 rfl rfl (Nat.le_of_ble_eq_true rfl) rfl ?_
    exact PW.sub [2, 3, 1, 0] rfl (ok_t_X9_firstNight_L84 F tw μ w1 τ F _ _ hf)
theorem yok_X9_firstNight : yOK yX9_firstNight 0 := ⟨by decide +kernel, by decide +kernel, by decide +kernel⟩
theorem yok_X9_layNights : yOK yX9_layNights 0 := ⟨by decide +kernel, by decide +kernel, by decide +kernel⟩
abbrev mX9_nights : Ym := (RX9, cX9_nights, 4, (some Jvm.ClassFile.FieldType.int), false, [])
noncomputable def t_X9_nights_L23_b (F : Nat) (k84 : Tw → Option (Int32 × Tw)) (c1 : Int32) (c2 : Int32) (self : Int32 → Tw → Option (Int32 × Tw)) (v3 : Int32) (τ : Tw) : Option (Int32 × Tw) :=
  Option.bind (taI τ 6 420 0) fun x1 =>
  if x1 ≤ v3 then
    k84 τ
  else
    if ((c2 >>> (v3 &&& 31)) &&& 1) = 0 then
      nm (v3 + 1) fun x15 =>
      self x15 τ
    else
      Option.bind (tsA τ 28 0 16 (τ.1 42) v3) fun τ6 =>
      Option.bind (t_X9_dueOf F v3 τ6) fun q7 =>
      Option.bind (tsA q7.2 29 0 16 (τ6.1 42) q7.1) fun τ10 =>
      nm (tsI τ10 42 ((τ10.1 42) + 1)) fun τ11 =>
      nm (v3 + 1) fun x13 =>
      self x13 τ11
noncomputable def t_X9_nights_L23 (F : Nat) (k84 : Tw → Option (Int32 × Tw)) (c1 : Int32) (c2 : Int32) (n : Nat) : Int32 → Tw → Option (Int32 × Tw) := Nat.rec (motive := fun _ => Int32 → Tw → Option (Int32 × Tw)) (fun _ _ => none) (fun _ self => t_X9_nights_L23_b F k84 c1 c2 self) n
set_option maxHeartbeats 4000000 in
theorem ok_t_X9_nights_L23 {g : Gx} {μ0 : Sw} {rv : Int32} {τF : Tw} (F : Nat) (tw : Nat) (μ : Sw) (c1 : Int32) (c2 : Int32) (k84 : Tw → Option (Int32 × Tw)) (hk84 : ∀ (τ : Tw), k84 τ = some (rv, τF) → PW g mX9_nights 6 μ0 (mT tw τF μ) (QN g (some (.int rv)) μ0 (mT tw τF μ)) 84 [(0, .ref tw), (1, .int c1)] [] (mT tw τ μ)) : ∀ (n : Nat) (v3 : Int32) (τ : Tw), t_X9_nights_L23 F k84 c1 c2 n v3 τ = some (rv, τF) → PW g mX9_nights 6 μ0 (mT tw τF μ) (QN g (some (.int rv)) μ0 (mT tw τF μ)) 23 [(0, .ref tw), (1, .int c1), (2, .int c2), (3, .int v3)] [] (mT tw τ μ) := by
  intro n
  induction n with
  | zero =>
    intro v3 τ hf
    have hf : (none : Option (Int32 × Tw)) = some _ := hf
    cases hf
  | succ n ih =>
    intro v3 τ hf
    have hf : t_X9_nights_L23_b F k84 c1 c2 (t_X9_nights_L23 F k84 c1 c2 n) v3 τ = some (rv, τF) := hf
    unfold t_X9_nights_L23_b at hf
    refine P.iload_n 3 (pc' := 24) dX9_nights_23 rfl rfl rfl ?_
    refine P.aload_n 0 (pc' := 25) dX9_nights_24 rfl rfl rfl ?_
    refine P.get (v := .ref (tw + 6)) (pc' := 28) ci9 12 (by decide) (T_gf rfl) q1567 (Or.inl rfl) dX9_nights_25 rfl ?_
    refine P.iconst (v := 0) (pc' := 29) dX9_nights_28 rfl (by decide) ?_
    obtain ⟨x1, h2, hf⟩ := ob hf
    refine P.iald (t := 0) (pc' := 30) rfl (T_aI rfl h2) dX9_nights_29 rfl ?_
    refine P.icmp_ge (tgt := 84) (pc' := 33) dX9_nights_30 (by decide) rfl (fun y3 => ?_) (fun y3 => ?_)
    · have hf := (if_pos y3).symm.trans hf
      exact PW.sub [0, 1] rfl (hk84 _ hf)
    · have hf := (if_neg y3).symm.trans hf
      refine P.iload_n 2 (pc' := 34) dX9_nights_33 rfl rfl rfl ?_
      refine P.iload_n 3 (pc' := 35) dX9_nights_34 rfl rfl rfl ?_
      refine P.ishr (pc' := 36) dX9_nights_35 rfl ?_
      refine P.iconst (v := 1) (pc' := 37) dX9_nights_36 rfl (by decide) ?_
      refine P.iand (pc' := 38) dX9_nights_37 rfl ?_
      refine P.if_ne (tgt := 44) (pc' := 41) dX9_nights_38 (by decide) rfl (fun y4 => ?_) (fun y4 => ?_)
      · have hf := (if_neg y4).symm.trans hf
        refine P.aload_n 0 (pc' := 45) dX9_nights_44 rfl rfl rfl ?_
        refine P.get (v := .ref (tw + 28)) (pc' := 48) ci9 43 (by decide) (T_gf rfl) q1598 (Or.inl rfl) dX9_nights_45 rfl ?_
        refine P.aload_n 0 (pc' := 49) dX9_nights_48 rfl rfl rfl ?_
        refine P.get (v := .int (τ.1 42)) (pc' := 52) ci9 42 (by decide) (T_gf rfl) q1597 (Or.inl rfl) dX9_nights_49 rfl ?_
        refine P.iload_n 3 (pc' := 53) dX9_nights_52 rfl rfl rfl ?_
        obtain ⟨τ6, h5, hf⟩ := ob hf
        refine P.iast (pc' := 54) (T_sA rfl (by decide) h5) dX9_nights_53 rfl ?_
        refine P.aload_n 0 (pc' := 55) dX9_nights_54 rfl rfl rfl ?_
        refine P.get (v := .ref (tw + 29)) (pc' := 58) ci9 44 (by decide) (T_gf rfl) q1599 (Or.inl rfl) dX9_nights_55 rfl ?_
        refine P.aload_n 0 (pc' := 59) dX9_nights_58 rfl rfl rfl ?_
        refine P.get (v := .int (τ6.1 42)) (pc' := 62) ci9 42 (by decide) (T_gf rfl) q1597 (Or.inl rfl) dX9_nights_59 rfl ?_
        refine P.aload_n 0 (pc' := 63) dX9_nights_62 rfl rfl rfl ?_
        refine P.iload_n 3 (pc' := 64) dX9_nights_63 rfl rfl rfl ?_
        obtain ⟨q7, h8, hf⟩ := ob hf
        refine P.callV (pc' := 67) (As := [.int v3]) 1 (ok_X9_dueOf F v3 tw μ τ6 h8) (Nat.le_of_ble_eq_true rfl) (lw_V q1936 q1938 qs118 q172 q1939) rfl yok_X9_dueOf rfl (Nat.le_of_ble_eq_true rfl) ci9 T_oc (Nat.le_of_ble_eq_true rfl) rfl dX9_nights_64 rfl ?_
        obtain ⟨τ10, h9, hf⟩ := ob hf
        refine P.iast (pc' := 68) (T_sA rfl (by decide) h9) dX9_nights_67 rfl ?_
        refine P.aload_n 0 (pc' := 69) dX9_nights_68 rfl rfl rfl ?_
        refine P.dup (pc' := 70) dX9_nights_69 rfl rfl ?_
        refine P.get (v := .int (τ10.1 42)) (pc' := 73) ci9 42 (by decide) (T_gf rfl) q1597 (Or.inl rfl) dX9_nights_70 rfl ?_
        refine P.iconst (v := 1) (pc' := 74) dX9_nights_73 rfl (by decide) ?_
        refine P.iadd (pc' := 75) dX9_nights_74 rfl ?_
        obtain ⟨τ11, e12, hf⟩ := nm_i hf
        refine P.put (v := .int ((τ10.1 42) + 1)) (pc' := 78) ci9 42 (by decide) (T_put rfl (by decide) e12) q1597 (Or.inl rfl) rfl rfl rfl dX9_nights_75 rfl ?_
        obtain ⟨x13, e14, hf⟩ := nm_i hf
        refine P.iinc 3 (pc' := 81) (lv' := [(3, .int x13), (0, .ref tw), (1, .int c1), (2, .int c2)]) dX9_nights_78 rfl rfl (by decide) e14 (Nat.le_of_ble_eq_true rfl) rfl ?_
        refine P.goto (tgt := 23) dX9_nights_81 (by decide) ?_
        exact PW.sub [1, 2, 3, 0] rfl (ih _ _ hf)
      · have hf := (if_pos y4).symm.trans hf
        refine P.goto (tgt := 78) dX9_nights_41 (by decide) ?_
        obtain ⟨x15, e16, hf⟩ := nm_i hf
        refine P.iinc 3 (pc' := 81) (lv' := [(3, .int x15), (0, .ref tw), (1, .int c1), (2, .int c2)]) dX9_nights_78 rfl rfl (by decide) e16 (Nat.le_of_ble_eq_true rfl) rfl ?_
        refine P.goto (tgt := 23) dX9_nights_81 (by decide) ?_
        exact PW.sub [1, 2, 3, 0] rfl (ih _ _ hf)
noncomputable def t_X9_nights (F : Nat) (p1 : Int32) (τ : Tw) : Option (Int32 × Tw) :=
  Option.bind (p_X9_isIn F p1 0 2) fun q1 =>
  if q1 = 0 then
    some ((-1), τ)
  else
    Option.bind (t_X9_untrue F τ) fun q4 =>
    nm (tsI q4.2 42 0) fun τ6 =>
    t_X9_nights_L23 F
      (fun τ8 =>
        if p1 = 2 then
          Option.bind (taI τ8 6 420 6) fun x22 =>
          Option.bind (taI τ8 6 420 6) fun x24 =>
          Option.bind (dvO (((τ8.1 42) + x22) - 1) x24) fun x26 =>
          some (x26, τ8)
        else
          if (τ8.1 42) ≤ 8 then
            if (τ8.1 42) = 0 then
              some (0, τ8)
            else
              Option.bind (t_X9_layNights F τ8) fun q12 =>
              Option.bind (taI q12 31 256 0) fun x14 =>
              if x14 < 1000000 then
                if p1 = 0 then
                  Option.bind (taI q12 31 256 0) fun x20 =>
                  some (x20, q12)
                else
                  Option.bind (t_X9_firstNight F q12) fun q18 =>
                  some (q18, q12)
              else
                some ((-2), q12)
          else
            some ((-2), τ8))
      p1 q4.1 F 0 τ6
set_option maxHeartbeats 4000000 in
theorem ok_X9_nights {g : Gx} (F : Nat) (p1 : Int32) (tw : Nat) (μ : Sw) (τ : Tw) {rv : Int32} {τF : Tw} (hf : t_X9_nights F p1 τ = some (rv, τF)) : Cl g 6 yX9_nights cX9_nights 4 (some Jvm.ClassFile.FieldType.int) [.ref tw, .int p1] (mT tw τ μ) (some (.int rv)) (mT tw τF μ) := by
  unfold t_X9_nights at hf
  refine Cl.of (own := RX9) (ini := false) (by decide +kernel) rfl (by decide) (Nat.le_of_ble_eq_true rfl) ?_
  show PW g mX9_nights 6 (mT tw τ μ) (mT tw τF μ) (QN g (some (.int rv)) (mT tw τ μ) (mT tw τF μ)) 0 [(0, .ref tw), (1, .int p1)] [] (mT tw τ μ)
  refine P.iload_n 1 (pc' := 1) dX9_nights_0 rfl rfl rfl ?_
  refine P.iconst (v := 0) (pc' := 2) dX9_nights_1 rfl (by decide) ?_
  refine P.iconst (v := 2) (pc' := 3) dX9_nights_2 rfl (by decide) ?_
  obtain ⟨q1, h2, hf⟩ := ob hf
  refine P.callS (pc' := 6) (As := [.int p1, .int 0, .int 2]) 3 (ok_X9_isIn F p1 0 2 (mT tw τ μ) h2) (Nat.le_of_ble_eq_true rfl) (lw_S q1971 q1972 q172 q1973) yok_X9_isIn rfl (Nat.le_of_ble_eq_true rfl) (by decide) rfl dX9_nights_3 rfl ?_
  refine P.if_ne (tgt := 11) (pc' := 9) dX9_nights_6 (by decide) rfl (fun y3 => ?_) (fun y3 => ?_)
  · have hf := (if_neg y3).symm.trans hf
    refine P.aload_n 0 (pc' := 12) dX9_nights_11 rfl rfl rfl ?_
    obtain ⟨q4, h5, hf⟩ := ob hf
    refine P.callV (pc' := 15) (As := []) 0 (ok_X9_untrue F tw μ τ h5) (Nat.le_of_ble_eq_true rfl) (lw_V q2036 q2038 qs129 q172 q2039) rfl yok_X9_untrue rfl (Nat.le_of_ble_eq_true rfl) ci9 T_oc (by decide) rfl dX9_nights_12 rfl ?_
    refine P.istore_n (pc' := 16) (lv' := [(2, .int q4.1), (0, .ref tw), (1, .int p1)]) dX9_nights_15 rfl rfl (Nat.le_of_ble_eq_true rfl) rfl ?_
    refine P.aload_n 1 (pc' := 17) dX9_nights_16 rfl rfl rfl ?_
    refine P.iconst (v := 0) (pc' := 18) dX9_nights_17 rfl (by decide) ?_
    obtain ⟨τ6, e7, hf⟩ := nm_i hf
    refine P.put (v := .int 0) (pc' := 21) ci9 42 (by decide) (T_put rfl (by decide) e7) q1597 (Or.inl rfl) rfl rfl rfl dX9_nights_18 rfl ?_
    refine P.iconst (v := 0) (pc' := 22) dX9_nights_21 rfl (by decide) ?_
    refine P.istore_n (pc' := 23) (lv' := [(3, .int 0), (2, .int q4.1), (0, .ref tw), (1, .int p1)]) dX9_nights_22 rfl rfl (Nat.le_of_ble_eq_true rfl) rfl ?_
    refine PW.sub [2, 3, 1, 0] rfl (ok_t_X9_nights_L23 F tw μ p1 q4.1 _ ?_ F _ _ hf)
    · intro τ8 hf
      refine P.iload_n 1 (pc' := 85) dX9_nights_84 rfl rfl rfl ?_
      refine P.iconst (v := 2) (pc' := 86) dX9_nights_85 rfl (by decide) ?_
      refine P.icmp_ne (tgt := 112) (pc' := 89) dX9_nights_86 (by decide) rfl (fun y9 => ?_) (fun y9 => ?_)
      · have hf := (if_neg y9).symm.trans hf
        refine P.aload_n 0 (pc' := 113) dX9_nights_112 rfl rfl rfl ?_
        refine P.get (v := .int (τ8.1 42)) (pc' := 116) ci9 42 (by decide) (T_gf rfl) q1597 (Or.inl rfl) dX9_nights_113 rfl ?_
        refine P.bipush (v := 8) (pc' := 118) dX9_nights_116 rfl (by decide) ?_
        refine P.icmp_le (tgt := 124) (pc' := 121) dX9_nights_118 (by decide) rfl (fun y10 => ?_) (fun y10 => ?_)
        · have hf := (if_pos y10).symm.trans hf
          refine P.aload_n 0 (pc' := 125) dX9_nights_124 rfl rfl rfl ?_
          refine P.get (v := .int (τ8.1 42)) (pc' := 128) ci9 42 (by decide) (T_gf rfl) q1597 (Or.inl rfl) dX9_nights_125 rfl ?_
          refine P.if_ne (tgt := 133) (pc' := 131) dX9_nights_128 (by decide) rfl (fun y11 => ?_) (fun y11 => ?_)
          · have hf := (if_neg y11).symm.trans hf
            refine P.aload_n 0 (pc' := 134) dX9_nights_133 rfl rfl rfl ?_
            obtain ⟨q12, h13, hf⟩ := ob hf
            refine P.callV (pc' := 137) (As := []) 0 (ok_X9_layNights F tw μ τ8 h13) (Nat.le_of_ble_eq_true rfl) (lw_V q2120 q2122 qs141 q172 q2123) rfl yok_X9_layNights rfl (Nat.le_of_ble_eq_true rfl) ci9 T_oc (by decide) rfl dX9_nights_134 rfl ?_
            refine P.aload_n 0 (pc' := 138) dX9_nights_137 rfl rfl rfl ?_
            refine P.get (v := .ref (tw + 31)) (pc' := 141) ci9 46 (by decide) (T_gf rfl) q1601 (Or.inl rfl) dX9_nights_138 rfl ?_
            refine P.iconst (v := 0) (pc' := 142) dX9_nights_141 rfl (by decide) ?_
            obtain ⟨x14, h15, hf⟩ := ob hf
            refine P.iald (t := 0) (pc' := 143) rfl (T_aI rfl h15) dX9_nights_142 rfl ?_
            refine P.ldc_w (v := 1000000) (pc' := 146) dX9_nights_143 rfl q2076 ?_
            refine P.icmp_lt (tgt := 154) (pc' := 149) dX9_nights_146 (by decide) rfl (fun y16 => ?_) (fun y16 => ?_)
            · have hf := (if_pos y16).symm.trans hf
              refine P.iload_n 1 (pc' := 155) dX9_nights_154 rfl rfl rfl ?_
              refine P.if_ne (tgt := 167) (pc' := 158) dX9_nights_155 (by decide) rfl (fun y17 => ?_) (fun y17 => ?_)
              · have hf := (if_neg y17).symm.trans hf
                refine P.aload_n 0 (pc' := 168) dX9_nights_167 rfl rfl rfl ?_
                obtain ⟨q18, h19, hf⟩ := ob hf
                refine P.callV (pc' := 171) (As := []) 0 (ok_X9_firstNight F tw μ q12 h19) (Nat.le_of_ble_eq_true rfl) (lw_V q2128 q2130 qs143 q172 q2131) rfl yok_X9_firstNight rfl (Nat.le_of_ble_eq_true rfl) ci9 T_oc (by decide) rfl dX9_nights_168 rfl ?_
                cases hf; exact P.iret rfl dX9_nights_171
              · have hf := (if_pos y17).symm.trans hf
                refine P.aload_n 0 (pc' := 159) dX9_nights_158 rfl rfl rfl ?_
                refine P.get (v := .ref (tw + 31)) (pc' := 162) ci9 46 (by decide) (T_gf rfl) q1601 (Or.inl rfl) dX9_nights_159 rfl ?_
                refine P.iconst (v := 0) (pc' := 163) dX9_nights_162 rfl (by decide) ?_
                obtain ⟨x20, h21, hf⟩ := ob hf
                refine P.iald (t := 0) (pc' := 164) rfl (T_aI rfl h21) dX9_nights_163 rfl ?_
                refine P.goto (tgt := 171) dX9_nights_164 (by decide) ?_
                cases hf; exact P.iret rfl dX9_nights_171
            · have hf := (if_neg y16).symm.trans hf
              refine P.bipush (v := (-2)) (pc' := 151) dX9_nights_149 rfl (by decide) ?_
              refine P.goto (tgt := 171) dX9_nights_151 (by decide) ?_
              cases hf; exact P.iret rfl dX9_nights_171
          · have hf := (if_pos y11).symm.trans hf
            refine P.iconst (v := 0) (pc' := 132) dX9_nights_131 rfl (by decide) ?_
            cases hf; exact P.iret rfl dX9_nights_132
        · have hf := (if_neg y10).symm.trans hf
          refine P.bipush (v := (-2)) (pc' := 123) dX9_nights_121 rfl (by decide) ?_
          cases hf; exact P.iret rfl dX9_nights_123
      · have hf := (if_pos y9).symm.trans hf
        refine P.aload_n 0 (pc' := 90) dX9_nights_89 rfl rfl rfl ?_
        refine P.get (v := .int (τ8.1 42)) (pc' := 93) ci9 42 (by decide) (T_gf rfl) q1597 (Or.inl rfl) dX9_nights_90 rfl ?_
        refine P.aload_n 0 (pc' := 94) dX9_nights_93 rfl rfl rfl ?_
        refine P.get (v := .ref (tw + 6)) (pc' := 97) ci9 12 (by decide) (T_gf rfl) q1567 (Or.inl rfl) dX9_nights_94 rfl ?_
        refine P.bipush (v := 6) (pc' := 99) dX9_nights_97 rfl (by decide) ?_
        obtain ⟨x22, h23, hf⟩ := ob hf
        refine P.iald (t := 0) (pc' := 100) rfl (T_aI rfl h23) dX9_nights_99 rfl ?_
        refine P.iadd (pc' := 101) dX9_nights_100 rfl ?_
        refine P.iconst (v := 1) (pc' := 102) dX9_nights_101 rfl (by decide) ?_
        refine P.isub (pc' := 103) dX9_nights_102 rfl ?_
        refine P.aload_n 0 (pc' := 104) dX9_nights_103 rfl rfl rfl ?_
        refine P.get (v := .ref (tw + 6)) (pc' := 107) ci9 12 (by decide) (T_gf rfl) q1567 (Or.inl rfl) dX9_nights_104 rfl ?_
        refine P.bipush (v := 6) (pc' := 109) dX9_nights_107 rfl (by decide) ?_
        obtain ⟨x24, h25, hf⟩ := ob hf
        refine P.iald (t := 0) (pc' := 110) rfl (T_aI rfl h25) dX9_nights_109 rfl ?_
        obtain ⟨x26, h27, hf⟩ := ob hf
        refine P.idivO (pc' := 111) h27 dX9_nights_110 rfl ?_
        cases hf; exact P.iret rfl dX9_nights_111
  · have hf := (if_pos y3).symm.trans hf
    refine P.iconst (v := (-1)) (pc' := 10) dX9_nights_9 rfl (by decide) ?_
    cases hf; exact P.iret rfl dX9_nights_10
abbrev mX9_isBetween : Ym := (RX9, cX9_isBetween, 4, (some Jvm.ClassFile.FieldType.boolean), false, [])
noncomputable def t_X9_isBetween (F : Nat) (p1 : Int32) (p2 : Int32) (p3 : Int32) (τ : Tw) : Option Int32 :=
  if p1 ≤ p2 then
    if p1 ≤ p3 then
      some 0
    else
      if p2 ≤ p1 then
        some 0
      else
        some 1
  else
    if p1 < p3 then
      some 1
    else
      if p1 ≤ p3 then
        some 0
      else
        if p2 ≤ p1 then
          some 0
        else
          some 1
set_option maxHeartbeats 4000000 in
theorem ok_X9_isBetween {g : Gx} (F : Nat) (p1 : Int32) (p2 : Int32) (p3 : Int32) (tw : Nat) (μ : Sw) (τ : Tw) {rv : Int32} (hf : t_X9_isBetween F p1 p2 p3 τ = some rv) : Cl g 1 yX9_isBetween cX9_isBetween 4 (some Jvm.ClassFile.FieldType.boolean) [.ref tw, .int p1, .int p2, .int p3] (mT tw τ μ) (some (.int rv)) (mT tw τ μ) := by
  unfold t_X9_isBetween at hf
  refine Cl.of (own := RX9) (ini := false) (by decide +kernel) rfl (by decide) (Nat.le_of_ble_eq_true rfl) ?_
  show PW g mX9_isBetween 1 (mT tw τ μ) (mT tw τ μ) (QN g (some (.int rv)) (mT tw τ μ) (mT tw τ μ)) 0 [(0, .ref tw), (1, .int p1), (2, .int p2), (3, .int p3)] [] (mT tw τ μ)
  refine P.iload_n 1 (pc' := 1) dX9_isBetween_0 rfl rfl rfl ?_
  refine P.iload_n 2 (pc' := 2) dX9_isBetween_1 rfl rfl rfl ?_
  refine P.icmp_le (tgt := 10) (pc' := 5) dX9_isBetween_2 (by decide) rfl (fun y1 => ?_) (fun y1 => ?_)
  · have hf := (if_pos y1).symm.trans hf
    refine P.iload_n 1 (pc' := 11) dX9_isBetween_10 rfl rfl rfl ?_
    refine P.iload_n 3 (pc' := 12) dX9_isBetween_11 rfl rfl rfl ?_
    refine P.icmp_le (tgt := 24) (pc' := 15) dX9_isBetween_12 (by decide) rfl (fun y2 => ?_) (fun y2 => ?_)
    · have hf := (if_pos y2).symm.trans hf
      refine P.iconst (v := 0) (pc' := 25) dX9_isBetween_24 rfl (by decide) ?_
      cases hf; exact P.zret rfl (Or.inl rfl) dX9_isBetween_25
    · have hf := (if_neg y2).symm.trans hf
      refine P.iload_n 1 (pc' := 16) dX9_isBetween_15 rfl rfl rfl ?_
      refine P.iload_n 2 (pc' := 17) dX9_isBetween_16 rfl rfl rfl ?_
      refine P.icmp_ge (tgt := 24) (pc' := 20) dX9_isBetween_17 (by decide) rfl (fun y3 => ?_) (fun y3 => ?_)
      · have hf := (if_pos y3).symm.trans hf
        refine P.iconst (v := 0) (pc' := 25) dX9_isBetween_24 rfl (by decide) ?_
        cases hf; exact P.zret rfl (Or.inl rfl) dX9_isBetween_25
      · have hf := (if_neg y3).symm.trans hf
        refine P.iconst (v := 1) (pc' := 21) dX9_isBetween_20 rfl (by decide) ?_
        refine P.goto (tgt := 25) dX9_isBetween_21 (by decide) ?_
        cases hf; exact P.zret rfl (Or.inr rfl) dX9_isBetween_25
  · have hf := (if_neg y1).symm.trans hf
    refine P.iload_n 1 (pc' := 6) dX9_isBetween_5 rfl rfl rfl ?_
    refine P.iload_n 3 (pc' := 7) dX9_isBetween_6 rfl rfl rfl ?_
    refine P.icmp_lt (tgt := 20) (pc' := 10) dX9_isBetween_7 (by decide) rfl (fun y4 => ?_) (fun y4 => ?_)
    · have hf := (if_pos y4).symm.trans hf
      refine P.iconst (v := 1) (pc' := 21) dX9_isBetween_20 rfl (by decide) ?_
      refine P.goto (tgt := 25) dX9_isBetween_21 (by decide) ?_
      cases hf; exact P.zret rfl (Or.inr rfl) dX9_isBetween_25
    · have hf := (if_neg y4).symm.trans hf
      refine P.iload_n 1 (pc' := 11) dX9_isBetween_10 rfl rfl rfl ?_
      refine P.iload_n 3 (pc' := 12) dX9_isBetween_11 rfl rfl rfl ?_
      refine P.icmp_le (tgt := 24) (pc' := 15) dX9_isBetween_12 (by decide) rfl (fun y5 => ?_) (fun y5 => ?_)
      · have hf := (if_pos y5).symm.trans hf
        refine P.iconst (v := 0) (pc' := 25) dX9_isBetween_24 rfl (by decide) ?_
        cases hf; exact P.zret rfl (Or.inl rfl) dX9_isBetween_25
      · have hf := (if_neg y5).symm.trans hf
        refine P.iload_n 1 (pc' := 16) dX9_isBetween_15 rfl rfl rfl ?_
        refine P.iload_n 2 (pc' := 17) dX9_isBetween_16 rfl rfl rfl ?_
        refine P.icmp_ge (tgt := 24) (pc' := 20) dX9_isBetween_17 (by decide) rfl (fun y6 => ?_) (fun y6 => ?_)
        · have hf := (if_pos y6).symm.trans hf
          refine P.iconst (v := 0) (pc' := 25) dX9_isBetween_24 rfl (by decide) ?_
          cases hf; exact P.zret rfl (Or.inl rfl) dX9_isBetween_25
        · have hf := (if_neg y6).symm.trans hf
          refine P.iconst (v := 1) (pc' := 21) dX9_isBetween_20 rfl (by decide) ?_
          refine P.goto (tgt := 25) dX9_isBetween_21 (by decide) ?_
          cases hf; exact P.zret rfl (Or.inr rfl) dX9_isBetween_25
abbrev mX9_isBelow : Ym := (RX9, cX9_isBelow, 6, (some Jvm.ClassFile.FieldType.boolean), false, [])
noncomputable def t_X9_isBelow_j31 (F : Nat) (v1 : Int32) (v4 : Int32) (s0 : Int32) (τ : Tw) : Option Int32 :=
  Option.bind (t_X9_heightOf F v1 τ) fun q1 =>
  Option.bind (t_X9_heightOf F v4 τ) fun q3 =>
  Option.bind (t_X9_xOf F s0 τ) fun q5 =>
  Option.bind (t_X9_xOf F v4 τ) fun q7 =>
  Option.bind (t_X9_heightOf F s0 τ) fun q9 =>
  Option.bind (t_X9_heightOf F v4 τ) fun q11 =>
  Option.bind (t_X9_xOf F v1 τ) fun q13 =>
  Option.bind (t_X9_xOf F v4 τ) fun q15 =>
  if ((q9 - q11) * (q13 - q15)) ≤ ((q1 - q3) * (q5 - q7)) then
    some 0
  else
    some 1
set_option maxHeartbeats 4000000 in
theorem ok_t_X9_isBelow_j31 {g : Gx} {μ0 : Sw} {rv : Int32} (F : Nat) (tw : Nat) (μ : Sw) (v1 : Int32) (v4 : Int32) (s0 : Int32) (τ : Tw) (hf : t_X9_isBelow_j31 F v1 v4 s0 τ = some rv) : PW g mX9_isBelow 2 μ0 (mT tw τ μ) (QN g (some (.int rv)) μ0 (mT tw τ μ)) 31 [(0, .ref tw), (1, .int v1), (4, .int v4)] [.int s0] (mT tw τ μ) := by
  unfold t_X9_isBelow_j31 at hf
  refine P.istore (pc' := 33) (lv' := [(5, .int s0), (0, .ref tw), (1, .int v1), (4, .int v4)]) dX9_isBelow_31 rfl (Nat.le_of_ble_eq_true rfl) rfl ?_
  refine P.aload_n 1 (pc' := 34) dX9_isBelow_33 rfl rfl rfl ?_
  refine P.iload_n 2 (pc' := 35) dX9_isBelow_34 rfl rfl rfl ?_
  obtain ⟨q1, h2, hf⟩ := ob hf
  refine P.callV (pc' := 38) (As := [.int v1]) 1 (ok_X9_heightOf F v1 tw μ τ h2) (Nat.le_of_ble_eq_true rfl) (lw_V q1928 q1930 qs116 q172 q1931) rfl yok_X9_heightOf rfl (Nat.le_of_ble_eq_true rfl) ci9 T_oc (by decide) rfl dX9_isBelow_35 rfl ?_
  refine P.aload_n 1 (pc' := 39) dX9_isBelow_38 rfl rfl rfl ?_
  refine P.iload 3 (pc' := 41) dX9_isBelow_39 rfl rfl ?_
  obtain ⟨q3, h4, hf⟩ := ob hf
  refine P.callV (pc' := 44) (As := [.int v4]) 1 (ok_X9_heightOf F v4 tw μ τ h4) (Nat.le_of_ble_eq_true rfl) (lw_V q1928 q1930 qs116 q172 q1931) rfl yok_X9_heightOf rfl (Nat.le_of_ble_eq_true rfl) ci9 T_oc (Nat.le_of_ble_eq_true rfl) rfl dX9_isBelow_41 rfl ?_
  refine P.isub (pc' := 45) dX9_isBelow_44 rfl ?_
  refine P.aload_n 1 (pc' := 46) dX9_isBelow_45 rfl rfl rfl ?_
  refine P.iload 0 (pc' := 48) dX9_isBelow_46 rfl rfl ?_
  obtain ⟨q5, h6, hf⟩ := ob hf
  refine P.callV (pc' := 51) (As := [.int s0]) 1 (ok_X9_xOf F s0 tw μ τ h6) (Nat.le_of_ble_eq_true rfl) (lw_V q1924 q1926 qs115 q172 q1927) rfl yok_X9_xOf rfl (Nat.le_of_ble_eq_true rfl) ci9 T_oc (Nat.le_of_ble_eq_true rfl) rfl dX9_isBelow_48 rfl ?_
  refine P.aload_n 1 (pc' := 52) dX9_isBelow_51 rfl rfl rfl ?_
  refine P.iload 3 (pc' := 54) dX9_isBelow_52 rfl rfl ?_
  obtain ⟨q7, h8, hf⟩ := ob hf
  refine P.callV (pc' := 57) (As := [.int v4]) 1 (ok_X9_xOf F v4 tw μ τ h8) (Nat.le_of_ble_eq_true rfl) (lw_V q1924 q1926 qs115 q172 q1927) rfl yok_X9_xOf rfl (Nat.le_of_ble_eq_true rfl) ci9 T_oc (Nat.le_of_ble_eq_true rfl) rfl dX9_isBelow_54 rfl ?_
  refine P.isub (pc' := 58) dX9_isBelow_57 rfl ?_
  refine P.imul (pc' := 59) dX9_isBelow_58 rfl ?_
  refine P.aload_n 1 (pc' := 60) dX9_isBelow_59 rfl rfl rfl ?_
  refine P.iload 0 (pc' := 62) dX9_isBelow_60 rfl rfl ?_
  obtain ⟨q9, h10, hf⟩ := ob hf
  refine P.callV (pc' := 65) (As := [.int s0]) 1 (ok_X9_heightOf F s0 tw μ τ h10) (Nat.le_of_ble_eq_true rfl) (lw_V q1928 q1930 qs116 q172 q1931) rfl yok_X9_heightOf rfl (Nat.le_of_ble_eq_true rfl) ci9 T_oc (Nat.le_of_ble_eq_true rfl) rfl dX9_isBelow_62 rfl ?_
  refine P.aload_n 1 (pc' := 66) dX9_isBelow_65 rfl rfl rfl ?_
  refine P.iload 3 (pc' := 68) dX9_isBelow_66 rfl rfl ?_
  obtain ⟨q11, h12, hf⟩ := ob hf
  refine P.callV (pc' := 71) (As := [.int v4]) 1 (ok_X9_heightOf F v4 tw μ τ h12) (Nat.le_of_ble_eq_true rfl) (lw_V q1928 q1930 qs116 q172 q1931) rfl yok_X9_heightOf rfl (Nat.le_of_ble_eq_true rfl) ci9 T_oc (Nat.le_of_ble_eq_true rfl) rfl dX9_isBelow_68 rfl ?_
  refine P.isub (pc' := 72) dX9_isBelow_71 rfl ?_
  refine P.aload_n 1 (pc' := 73) dX9_isBelow_72 rfl rfl rfl ?_
  refine P.iload_n 2 (pc' := 74) dX9_isBelow_73 rfl rfl rfl ?_
  obtain ⟨q13, h14, hf⟩ := ob hf
  refine P.callV (pc' := 77) (As := [.int v1]) 1 (ok_X9_xOf F v1 tw μ τ h14) (Nat.le_of_ble_eq_true rfl) (lw_V q1924 q1926 qs115 q172 q1927) rfl yok_X9_xOf rfl (Nat.le_of_ble_eq_true rfl) ci9 T_oc (Nat.le_of_ble_eq_true rfl) rfl dX9_isBelow_74 rfl ?_
  refine P.aload_n 1 (pc' := 78) dX9_isBelow_77 rfl rfl rfl ?_
  refine P.iload 3 (pc' := 80) dX9_isBelow_78 rfl rfl ?_
  obtain ⟨q15, h16, hf⟩ := ob hf
  refine P.callV (pc' := 83) (As := [.int v4]) 1 (ok_X9_xOf F v4 tw μ τ h16) (Nat.le_of_ble_eq_true rfl) (lw_V q1924 q1926 qs115 q172 q1927) rfl yok_X9_xOf rfl (Nat.le_of_ble_eq_true rfl) ci9 T_oc (Nat.le_of_ble_eq_true rfl) rfl dX9_isBelow_80 rfl ?_
  refine P.isub (pc' := 84) dX9_isBelow_83 rfl ?_
  refine P.imul (pc' := 85) dX9_isBelow_84 rfl ?_
  refine P.icmp_ge (tgt := 92) (pc' := 88) dX9_isBelow_85 (by decide) rfl (fun y17 => ?_) (fun y17 => ?_)
  · have hf := (if_pos y17).symm.trans hf
    refine P.iconst (v := 0) (pc' := 93) dX9_isBelow_92 rfl (by decide) ?_
    cases hf; exact P.zret rfl (Or.inl rfl) dX9_isBelow_93
  · have hf := (if_neg y17).symm.trans hf
    refine P.iconst (v := 1) (pc' := 89) dX9_isBelow_88 rfl (by decide) ?_
    refine P.goto (tgt := 93) dX9_isBelow_89 (by decide) ?_
    cases hf; exact P.zret rfl (Or.inr rfl) dX9_isBelow_93
noncomputable def t_X9_isBelow_j18 (F : Nat) (v1 : Int32) (v2 : Int32) (v3 : Int32) (s0 : Int32) (τ : Tw) : Option Int32 :=
  if s0 = v2 then
    t_X9_isBelow_j31 F v1 s0 v3 τ
  else
    t_X9_isBelow_j31 F v1 s0 v2 τ
set_option maxHeartbeats 4000000 in
theorem ok_t_X9_isBelow_j18 {g : Gx} {μ0 : Sw} {rv : Int32} (F : Nat) (tw : Nat) (μ : Sw) (v1 : Int32) (v2 : Int32) (v3 : Int32) (s0 : Int32) (τ : Tw) (hf : t_X9_isBelow_j18 F v1 v2 v3 s0 τ = some rv) : PW g mX9_isBelow 2 μ0 (mT tw τ μ) (QN g (some (.int rv)) μ0 (mT tw τ μ)) 18 [(0, .ref tw), (1, .int v1), (2, .int v2), (3, .int v3)] [.int s0] (mT tw τ μ) := by
  unfold t_X9_isBelow_j18 at hf
  refine P.istore (pc' := 20) (lv' := [(4, .int s0), (0, .ref tw), (1, .int v1), (2, .int v2), (3, .int v3)]) dX9_isBelow_18 rfl (Nat.le_of_ble_eq_true rfl) rfl ?_
  refine P.iload 0 (pc' := 22) dX9_isBelow_20 rfl rfl ?_
  refine P.iload_n 3 (pc' := 23) dX9_isBelow_22 rfl rfl rfl ?_
  refine P.icmp_ne (tgt := 30) (pc' := 26) dX9_isBelow_23 (by decide) rfl (fun y1 => ?_) (fun y1 => ?_)
  · have hf := (if_neg y1).symm.trans hf
    refine P.iload_n 3 (pc' := 31) dX9_isBelow_30 rfl rfl rfl ?_
    exact PW.sub [1, 2, 0] rfl (ok_t_X9_isBelow_j31 F tw μ v1 s0 v2 τ hf)
  · have hf := (if_pos y1).symm.trans hf
    refine P.iload_n 4 (pc' := 27) dX9_isBelow_26 rfl rfl rfl ?_
    refine P.goto (tgt := 31) dX9_isBelow_27 (by decide) ?_
    exact PW.sub [1, 2, 0] rfl (ok_t_X9_isBelow_j31 F tw μ v1 s0 v3 τ hf)
noncomputable def t_X9_isBelow (F : Nat) (p1 : Int32) (p2 : Int32) (p3 : Int32) (τ : Tw) : Option Int32 :=
  Option.bind (t_X9_xOf F p2 τ) fun q1 =>
  Option.bind (t_X9_xOf F p3 τ) fun q3 =>
  if q3 ≤ q1 then
    t_X9_isBelow_j18 F p1 p2 p3 p3 τ
  else
    t_X9_isBelow_j18 F p1 p2 p3 p2 τ
set_option maxHeartbeats 4000000 in
theorem ok_X9_isBelow {g : Gx} (F : Nat) (p1 : Int32) (p2 : Int32) (p3 : Int32) (tw : Nat) (μ : Sw) (τ : Tw) {rv : Int32} (hf : t_X9_isBelow F p1 p2 p3 τ = some rv) : Cl g 2 yX9_isBelow cX9_isBelow 6 (some Jvm.ClassFile.FieldType.boolean) [.ref tw, .int p1, .int p2, .int p3] (mT tw τ μ) (some (.int rv)) (mT tw τ μ) := by
  unfold t_X9_isBelow at hf
  refine Cl.of (own := RX9) (ini := false) (by decide +kernel) rfl (by decide) (Nat.le_of_ble_eq_true rfl) ?_
  show PW g mX9_isBelow 2 (mT tw τ μ) (mT tw τ μ) (QN g (some (.int rv)) (mT tw τ μ) (mT tw τ μ)) 0 [(0, .ref tw), (1, .int p1), (2, .int p2), (3, .int p3)] [] (mT tw τ μ)
  refine P.aload_n 0 (pc' := 1) dX9_isBelow_0 rfl rfl rfl ?_
  refine P.iload_n 2 (pc' := 2) dX9_isBelow_1 rfl rfl rfl ?_
  obtain ⟨q1, h2, hf⟩ := ob hf
  refine P.callV (pc' := 5) (As := [.int p2]) 1 (ok_X9_xOf F p2 tw μ τ h2) (Nat.le_of_ble_eq_true rfl) (lw_V q1924 q1926 qs115 q172 q1927) rfl yok_X9_xOf rfl (Nat.le_of_ble_eq_true rfl) ci9 T_oc (by decide) rfl dX9_isBelow_2 rfl ?_
  refine P.aload_n 0 (pc' := 6) dX9_isBelow_5 rfl rfl rfl ?_
  refine P.iload_n 3 (pc' := 7) dX9_isBelow_6 rfl rfl rfl ?_
  obtain ⟨q3, h4, hf⟩ := ob hf
  refine P.callV (pc' := 10) (As := [.int p3]) 1 (ok_X9_xOf F p3 tw μ τ h4) (Nat.le_of_ble_eq_true rfl) (lw_V q1924 q1926 qs115 q172 q1927) rfl yok_X9_xOf rfl (Nat.le_of_ble_eq_true rfl) ci9 T_oc (Nat.le_of_ble_eq_true rfl) rfl dX9_isBelow_7 rfl ?_
  refine P.icmp_ge (tgt := 17) (pc' := 13) dX9_isBelow_10 (by decide) rfl (fun y5 => ?_) (fun y5 => ?_)
  · have hf := (if_pos y5).symm.trans hf
    refine P.iload_n 3 (pc' := 18) dX9_isBelow_17 rfl rfl rfl ?_
    exact PW.sub [0, 1, 2, 3] rfl (ok_t_X9_isBelow_j18 F tw μ p1 p2 p3 p3 τ hf)
  · have hf := (if_neg y5).symm.trans hf
    refine P.iload_n 2 (pc' := 14) dX9_isBelow_13 rfl rfl rfl ?_
    refine P.goto (tgt := 18) dX9_isBelow_14 (by decide) ?_
    exact PW.sub [0, 1, 2, 3] rfl (ok_t_X9_isBelow_j18 F tw μ p1 p2 p3 p2 τ hf)
theorem yok_X9_isBelow : yOK yX9_isBelow 3 := ⟨by decide +kernel, by decide +kernel, by decide +kernel⟩
theorem yok_X9_isBetween : yOK yX9_isBetween 3 := ⟨by decide +kernel, by decide +kernel, by decide +kernel⟩
abbrev mX9_looks : Ym := (RX9, cX9_looks, 4, (some Jvm.ClassFile.FieldType.int), false, [])
noncomputable def t_X9_looks_L53_b (F : Nat) (c1 : Int32) (c2 : Int32) (τ : Tw) (self : Int32 → Option Int32) (v3 : Int32) : Option Int32 :=
  Option.bind (taI τ 6 420 0) fun x1 =>
  if x1 ≤ v3 then
    some 1
  else
    Option.bind (t_X9_xOf F v3 τ) fun q4 =>
    Option.bind (t_X9_xOf F c1 τ) fun q6 =>
    Option.bind (t_X9_xOf F c2 τ) fun q8 =>
    Option.bind (t_X9_isBetween F q4 q6 q8 τ) fun q10 =>
    if q10 = 0 then
      nm (v3 + 1) fun x13 =>
      self x13
    else
      Option.bind (t_X9_isBelow F v3 c1 c2 τ) fun q15 =>
      if q15 = 0 then
        some 0
      else
        nm (v3 + 1) fun x18 =>
        self x18
noncomputable def t_X9_looks_L53 (F : Nat) (c1 : Int32) (c2 : Int32) (τ : Tw) (n : Nat) : Int32 → Option Int32 := Nat.rec (motive := fun _ => Int32 → Option Int32) (fun _ => none) (fun _ self => t_X9_looks_L53_b F c1 c2 τ self) n
set_option maxHeartbeats 4000000 in
theorem ok_t_X9_looks_L53 {g : Gx} {μ0 : Sw} {rv : Int32} (F : Nat) (tw : Nat) (μ : Sw) (c1 : Int32) (c2 : Int32) (τ : Tw) : ∀ (n : Nat) (v3 : Int32), t_X9_looks_L53 F c1 c2 τ n v3 = some rv → PW g mX9_looks 3 μ0 (mT tw τ μ) (QN g (some (.int rv)) μ0 (mT tw τ μ)) 53 [(0, .ref tw), (1, .int c1), (2, .int c2), (3, .int v3)] [] (mT tw τ μ) := by
  intro n
  induction n with
  | zero =>
    intro v3 hf
    have hf : (none : Option Int32) = some _ := hf
    cases hf
  | succ n ih =>
    intro v3 hf
    have hf : t_X9_looks_L53_b F c1 c2 τ (t_X9_looks_L53 F c1 c2 τ n) v3 = some rv := hf
    unfold t_X9_looks_L53_b at hf
    refine P.iload_n 3 (pc' := 54) dX9_looks_53 rfl rfl rfl ?_
    refine P.aload_n 0 (pc' := 55) dX9_looks_54 rfl rfl rfl ?_
    refine P.get (v := .ref (tw + 6)) (pc' := 58) ci9 12 (by decide) (T_gf rfl) q1567 (Or.inl rfl) dX9_looks_55 rfl ?_
    refine P.iconst (v := 0) (pc' := 59) dX9_looks_58 rfl (by decide) ?_
    obtain ⟨x1, h2, hf⟩ := ob hf
    refine P.iald (t := 0) (pc' := 60) rfl (T_aI rfl h2) dX9_looks_59 rfl ?_
    refine P.icmp_ge (tgt := 103) (pc' := 63) dX9_looks_60 (by decide) rfl (fun y3 => ?_) (fun y3 => ?_)
    · have hf := (if_pos y3).symm.trans hf
      refine P.iconst (v := 1) (pc' := 104) dX9_looks_103 rfl (by decide) ?_
      cases hf; exact P.iret rfl dX9_looks_104
    · have hf := (if_neg y3).symm.trans hf
      refine P.aload_n 0 (pc' := 64) dX9_looks_63 rfl rfl rfl ?_
      refine P.aload_n 0 (pc' := 65) dX9_looks_64 rfl rfl rfl ?_
      refine P.iload_n 3 (pc' := 66) dX9_looks_65 rfl rfl rfl ?_
      obtain ⟨q4, h5, hf⟩ := ob hf
      refine P.callV (pc' := 69) (As := [.int v3]) 1 (ok_X9_xOf F v3 tw μ τ h5) (Nat.le_of_ble_eq_true rfl) (lw_V q1924 q1926 qs115 q172 q1927) rfl yok_X9_xOf rfl (Nat.le_of_ble_eq_true rfl) ci9 T_oc (Nat.le_of_ble_eq_true rfl) rfl dX9_looks_66 rfl ?_
      refine P.aload_n 0 (pc' := 70) dX9_looks_69 rfl rfl rfl ?_
      refine P.iload_n 1 (pc' := 71) dX9_looks_70 rfl rfl rfl ?_
      obtain ⟨q6, h7, hf⟩ := ob hf
      refine P.callV (pc' := 74) (As := [.int c1]) 1 (ok_X9_xOf F c1 tw μ τ h7) (Nat.le_of_ble_eq_true rfl) (lw_V q1924 q1926 qs115 q172 q1927) rfl yok_X9_xOf rfl (Nat.le_of_ble_eq_true rfl) ci9 T_oc (Nat.le_of_ble_eq_true rfl) rfl dX9_looks_71 rfl ?_
      refine P.aload_n 0 (pc' := 75) dX9_looks_74 rfl rfl rfl ?_
      refine P.iload_n 2 (pc' := 76) dX9_looks_75 rfl rfl rfl ?_
      obtain ⟨q8, h9, hf⟩ := ob hf
      refine P.callV (pc' := 79) (As := [.int c2]) 1 (ok_X9_xOf F c2 tw μ τ h9) (Nat.le_of_ble_eq_true rfl) (lw_V q1924 q1926 qs115 q172 q1927) rfl yok_X9_xOf rfl (Nat.le_of_ble_eq_true rfl) ci9 T_oc (Nat.le_of_ble_eq_true rfl) rfl dX9_looks_76 rfl ?_
      obtain ⟨q10, h11, hf⟩ := ob hf
      refine P.callV (pc' := 82) (As := [.int q4, .int q6, .int q8]) 3 (ok_X9_isBetween F q4 q6 q8 tw μ τ h11) (Nat.le_of_ble_eq_true rfl) (lw_V q2136 q2138 qs144 q172 q2139) rfl yok_X9_isBetween rfl (Nat.le_of_ble_eq_true rfl) ci9 T_oc (by decide) rfl dX9_looks_79 rfl ?_
      refine P.if_eq (tgt := 97) (pc' := 85) dX9_looks_82 (by decide) rfl (fun y12 => ?_) (fun y12 => ?_)
      · have hf := (if_pos y12).symm.trans hf
        obtain ⟨x13, e14, hf⟩ := nm_i hf
        refine P.iinc 3 (pc' := 100) (lv' := [(3, .int x13), (0, .ref tw), (1, .int c1), (2, .int c2)]) dX9_looks_97 rfl rfl (by decide) e14 (Nat.le_of_ble_eq_true rfl) rfl ?_
        refine P.goto (tgt := 53) dX9_looks_100 (by decide) ?_
        exact PW.sub [1, 2, 3, 0] rfl (ih _ hf)
      · have hf := (if_neg y12).symm.trans hf
        refine P.aload_n 0 (pc' := 86) dX9_looks_85 rfl rfl rfl ?_
        refine P.iload_n 3 (pc' := 87) dX9_looks_86 rfl rfl rfl ?_
        refine P.iload_n 1 (pc' := 88) dX9_looks_87 rfl rfl rfl ?_
        refine P.iload_n 2 (pc' := 89) dX9_looks_88 rfl rfl rfl ?_
        obtain ⟨q15, h16, hf⟩ := ob hf
        refine P.callV (pc' := 92) (As := [.int v3, .int c1, .int c2]) 3 (ok_X9_isBelow F v3 c1 c2 tw μ τ h16) (Nat.le_of_ble_eq_true rfl) (lw_V q2140 q2142 qs145 q172 q2143) rfl yok_X9_isBelow rfl (Nat.le_of_ble_eq_true rfl) ci9 T_oc (by decide) rfl dX9_looks_89 rfl ?_
        refine P.if_ne (tgt := 97) (pc' := 95) dX9_looks_92 (by decide) rfl (fun y17 => ?_) (fun y17 => ?_)
        · have hf := (if_neg y17).symm.trans hf
          obtain ⟨x18, e19, hf⟩ := nm_i hf
          refine P.iinc 3 (pc' := 100) (lv' := [(3, .int x18), (0, .ref tw), (1, .int c1), (2, .int c2)]) dX9_looks_97 rfl rfl (by decide) e19 (Nat.le_of_ble_eq_true rfl) rfl ?_
          refine P.goto (tgt := 53) dX9_looks_100 (by decide) ?_
          exact PW.sub [1, 2, 3, 0] rfl (ih _ hf)
        · have hf := (if_pos y17).symm.trans hf
          refine P.iconst (v := 0) (pc' := 96) dX9_looks_95 rfl (by decide) ?_
          cases hf; exact P.iret rfl dX9_looks_96
noncomputable def t_X9_looks (F : Nat) (p1 : Int32) (p2 : Int32) (τ : Tw) : Option Int32 :=
  Option.bind (t_X9_isHouse F p1 τ) fun q1 =>
  if q1 = 0 then
    some (-1)
  else
    Option.bind (t_X9_isHouse F p2 τ) fun q4 =>
    if q4 = 0 then
      some (-1)
    else
      if p1 = p2 then
        some (-1)
      else
        Option.bind (t_X9_heightOf F p1 τ) fun q8 =>
        Option.bind (t_X9_heightOf F p2 τ) fun q10 =>
        if q8 ≤ q10 then
          some 0
        else
          Option.bind (t_X9_xOf F p1 τ) fun q13 =>
          Option.bind (t_X9_xOf F p2 τ) fun q15 =>
          if q13 = q15 then
            some 0
          else
            t_X9_looks_L53 F p1 p2 τ F 0
set_option maxHeartbeats 4000000 in
theorem ok_X9_looks {g : Gx} (F : Nat) (p1 : Int32) (p2 : Int32) (tw : Nat) (μ : Sw) (τ : Tw) {rv : Int32} (hf : t_X9_looks F p1 p2 τ = some rv) : Cl g 3 yX9_looks cX9_looks 4 (some Jvm.ClassFile.FieldType.int) [.ref tw, .int p1, .int p2] (mT tw τ μ) (some (.int rv)) (mT tw τ μ) := by
  unfold t_X9_looks at hf
  refine Cl.of (own := RX9) (ini := false) (by decide +kernel) rfl (by decide) (Nat.le_of_ble_eq_true rfl) ?_
  show PW g mX9_looks 3 (mT tw τ μ) (mT tw τ μ) (QN g (some (.int rv)) (mT tw τ μ) (mT tw τ μ)) 0 [(0, .ref tw), (1, .int p1), (2, .int p2)] [] (mT tw τ μ)
  refine P.aload_n 0 (pc' := 1) dX9_looks_0 rfl rfl rfl ?_
  refine P.iload_n 1 (pc' := 2) dX9_looks_1 rfl rfl rfl ?_
  obtain ⟨q1, h2, hf⟩ := ob hf
  refine P.callV (pc' := 5) (As := [.int p1]) 1 (ok_X9_isHouse F p1 tw μ τ h2) (Nat.le_of_ble_eq_true rfl) (lw_V q1920 q1922 qs114 q172 q1923) rfl yok_X9_isHouse rfl (Nat.le_of_ble_eq_true rfl) ci9 T_oc (by decide) rfl dX9_looks_2 rfl ?_
  refine P.if_eq (tgt := 21) (pc' := 8) dX9_looks_5 (by decide) rfl (fun y3 => ?_) (fun y3 => ?_)
  · have hf := (if_pos y3).symm.trans hf
    refine P.iconst (v := (-1)) (pc' := 22) dX9_looks_21 rfl (by decide) ?_
    cases hf; exact P.iret rfl dX9_looks_22
  · have hf := (if_neg y3).symm.trans hf
    refine P.aload_n 0 (pc' := 9) dX9_looks_8 rfl rfl rfl ?_
    refine P.iload_n 2 (pc' := 10) dX9_looks_9 rfl rfl rfl ?_
    obtain ⟨q4, h5, hf⟩ := ob hf
    refine P.callV (pc' := 13) (As := [.int p2]) 1 (ok_X9_isHouse F p2 tw μ τ h5) (Nat.le_of_ble_eq_true rfl) (lw_V q1920 q1922 qs114 q172 q1923) rfl yok_X9_isHouse rfl (Nat.le_of_ble_eq_true rfl) ci9 T_oc (by decide) rfl dX9_looks_10 rfl ?_
    refine P.if_eq (tgt := 21) (pc' := 16) dX9_looks_13 (by decide) rfl (fun y6 => ?_) (fun y6 => ?_)
    · have hf := (if_pos y6).symm.trans hf
      refine P.iconst (v := (-1)) (pc' := 22) dX9_looks_21 rfl (by decide) ?_
      cases hf; exact P.iret rfl dX9_looks_22
    · have hf := (if_neg y6).symm.trans hf
      refine P.iload_n 1 (pc' := 17) dX9_looks_16 rfl rfl rfl ?_
      refine P.iload_n 2 (pc' := 18) dX9_looks_17 rfl rfl rfl ?_
      refine P.icmp_ne (tgt := 23) (pc' := 21) dX9_looks_18 (by decide) rfl (fun y7 => ?_) (fun y7 => ?_)
      · have hf := (if_neg y7).symm.trans hf
        refine P.aload_n 0 (pc' := 24) dX9_looks_23 rfl rfl rfl ?_
        refine P.iload_n 1 (pc' := 25) dX9_looks_24 rfl rfl rfl ?_
        obtain ⟨q8, h9, hf⟩ := ob hf
        refine P.callV (pc' := 28) (As := [.int p1]) 1 (ok_X9_heightOf F p1 tw μ τ h9) (Nat.le_of_ble_eq_true rfl) (lw_V q1928 q1930 qs116 q172 q1931) rfl yok_X9_heightOf rfl (Nat.le_of_ble_eq_true rfl) ci9 T_oc (by decide) rfl dX9_looks_25 rfl ?_
        refine P.aload_n 0 (pc' := 29) dX9_looks_28 rfl rfl rfl ?_
        refine P.iload_n 2 (pc' := 30) dX9_looks_29 rfl rfl rfl ?_
        obtain ⟨q10, h11, hf⟩ := ob hf
        refine P.callV (pc' := 33) (As := [.int p2]) 1 (ok_X9_heightOf F p2 tw μ τ h11) (Nat.le_of_ble_eq_true rfl) (lw_V q1928 q1930 qs116 q172 q1931) rfl yok_X9_heightOf rfl (Nat.le_of_ble_eq_true rfl) ci9 T_oc (Nat.le_of_ble_eq_true rfl) rfl dX9_looks_30 rfl ?_
        refine P.icmp_le (tgt := 49) (pc' := 36) dX9_looks_33 (by decide) rfl (fun y12 => ?_) (fun y12 => ?_)
        · have hf := (if_pos y12).symm.trans hf
          refine P.iconst (v := 0) (pc' := 50) dX9_looks_49 rfl (by decide) ?_
          cases hf; exact P.iret rfl dX9_looks_50
        · have hf := (if_neg y12).symm.trans hf
          refine P.aload_n 0 (pc' := 37) dX9_looks_36 rfl rfl rfl ?_
          refine P.iload_n 1 (pc' := 38) dX9_looks_37 rfl rfl rfl ?_
          obtain ⟨q13, h14, hf⟩ := ob hf
          refine P.callV (pc' := 41) (As := [.int p1]) 1 (ok_X9_xOf F p1 tw μ τ h14) (Nat.le_of_ble_eq_true rfl) (lw_V q1924 q1926 qs115 q172 q1927) rfl yok_X9_xOf rfl (Nat.le_of_ble_eq_true rfl) ci9 T_oc (by decide) rfl dX9_looks_38 rfl ?_
          refine P.aload_n 0 (pc' := 42) dX9_looks_41 rfl rfl rfl ?_
          refine P.iload_n 2 (pc' := 43) dX9_looks_42 rfl rfl rfl ?_
          obtain ⟨q15, h16, hf⟩ := ob hf
          refine P.callV (pc' := 46) (As := [.int p2]) 1 (ok_X9_xOf F p2 tw μ τ h16) (Nat.le_of_ble_eq_true rfl) (lw_V q1924 q1926 qs115 q172 q1927) rfl yok_X9_xOf rfl (Nat.le_of_ble_eq_true rfl) ci9 T_oc (Nat.le_of_ble_eq_true rfl) rfl dX9_looks_43 rfl ?_
          refine P.icmp_ne (tgt := 51) (pc' := 49) dX9_looks_46 (by decide) rfl (fun y17 => ?_) (fun y17 => ?_)
          · have hf := (if_neg y17).symm.trans hf
            refine P.iconst (v := 0) (pc' := 52) dX9_looks_51 rfl (by decide) ?_
            refine P.istore_n (pc' := 53) (lv' := [(3, .int 0), (0, .ref tw), (1, .int p1), (2, .int p2)]) dX9_looks_52 rfl rfl (Nat.le_of_ble_eq_true rfl) rfl ?_
            exact PW.sub [1, 2, 3, 0] rfl (ok_t_X9_looks_L53 F tw μ p1 p2 τ F _ hf)
          · have hf := (if_pos y17).symm.trans hf
            refine P.iconst (v := 0) (pc' := 50) dX9_looks_49 rfl (by decide) ?_
            cases hf; exact P.iret rfl dX9_looks_50
      · have hf := (if_pos y7).symm.trans hf
        refine P.iconst (v := (-1)) (pc' := 22) dX9_looks_21 rfl (by decide) ?_
        cases hf; exact P.iret rfl dX9_looks_22
abbrev mX9_light : Ym := (RX9, cX9_light, 7, (some Jvm.ClassFile.FieldType.int), false, [])
noncomputable def t_X9_light_L17_b (F : Nat) (c1 : Int32) (τ : Tw) (self : Int32 → Int32 → Int32 → Option Int32) (v2 : Int32) (v3 : Int32) (v4 : Int32) : Option Int32 :=
  Option.bind (taI τ 6 420 0) fun x1 =>
  if x1 ≤ v4 then
    if v2 = 0 then
      if v3 = 0 then
        some (0 + 0)
      else
        some (0 + 2)
    else
      if v3 = 0 then
        some (1 + 0)
      else
        some (1 + 2)
  else
    Option.bind (t_X9_heightOf F v4 τ) fun q7 =>
    Option.bind (t_X9_heightOf F c1 τ) fun q9 =>
    nm (q7 - q9) fun x11 =>
    Option.bind (t_X9_xOf F v4 τ) fun q13 =>
    Option.bind (t_X9_xOf F c1 τ) fun q15 =>
    nm (q13 - q15) fun x17 =>
    if 0 ≤ x17 then
      if x17 ≤ 0 then
        nm (v4 + 1) fun x21 =>
        self v2 v3 x21
      else
        if x11 < x17 then
          nm (v4 + 1) fun x24 =>
          self v2 v3 x24
        else
          nm (v4 + 1) fun x26 =>
          self v2 0 x26
    else
      if x11 < (-x17) then
        if x17 ≤ 0 then
          nm (v4 + 1) fun x30 =>
          self v2 v3 x30
        else
          if x11 < x17 then
            nm (v4 + 1) fun x33 =>
            self v2 v3 x33
          else
            nm (v4 + 1) fun x35 =>
            self v2 0 x35
      else
        if x17 ≤ 0 then
          nm (v4 + 1) fun x38 =>
          self 0 v3 x38
        else
          if x11 < x17 then
            nm (v4 + 1) fun x41 =>
            self 0 v3 x41
          else
            nm (v4 + 1) fun x43 =>
            self 0 0 x43
noncomputable def t_X9_light_L17 (F : Nat) (c1 : Int32) (τ : Tw) (n : Nat) : Int32 → Int32 → Int32 → Option Int32 := Nat.rec (motive := fun _ => Int32 → Int32 → Int32 → Option Int32) (fun _ _ _ => none) (fun _ self => t_X9_light_L17_b F c1 τ self) n
set_option maxHeartbeats 4000000 in
theorem ok_t_X9_light_L17 {g : Gx} {μ0 : Sw} {rv : Int32} (F : Nat) (tw : Nat) (μ : Sw) (c1 : Int32) (τ : Tw) : ∀ (n : Nat) (v2 : Int32) (v3 : Int32) (v4 : Int32), t_X9_light_L17 F c1 τ n v2 v3 v4 = some rv → PW g mX9_light 2 μ0 (mT tw τ μ) (QN g (some (.int rv)) μ0 (mT tw τ μ)) 17 [(0, .ref tw), (1, .int c1), (2, .int v2), (3, .int v3), (4, .int v4)] [] (mT tw τ μ) := by
  intro n
  induction n with
  | zero =>
    intro v2 v3 v4 hf
    have hf : (none : Option Int32) = some _ := hf
    cases hf
  | succ n ih =>
    intro v2 v3 v4 hf
    have hf : t_X9_light_L17_b F c1 τ (t_X9_light_L17 F c1 τ n) v2 v3 v4 = some rv := hf
    unfold t_X9_light_L17_b at hf
    refine P.iload 4 (pc' := 19) dX9_light_17 rfl rfl ?_
    refine P.aload_n 0 (pc' := 20) dX9_light_19 rfl rfl rfl ?_
    refine P.get (v := .ref (tw + 6)) (pc' := 23) ci9 12 (by decide) (T_gf rfl) q1567 (Or.inl rfl) dX9_light_20 rfl ?_
    refine P.iconst (v := 0) (pc' := 24) dX9_light_23 rfl (by decide) ?_
    obtain ⟨x1, h2, hf⟩ := ob hf
    refine P.iald (t := 0) (pc' := 25) rfl (T_aI rfl h2) dX9_light_24 rfl ?_
    refine P.icmp_ge (tgt := 91) (pc' := 28) dX9_light_25 (by decide) rfl (fun y3 => ?_) (fun y3 => ?_)
    · have hf := (if_pos y3).symm.trans hf
      refine P.iload_n 2 (pc' := 92) dX9_light_91 rfl rfl rfl ?_
      refine P.if_eq (tgt := 99) (pc' := 95) dX9_light_92 (by decide) rfl (fun y4 => ?_) (fun y4 => ?_)
      · have hf := (if_pos y4).symm.trans hf
        refine P.iconst (v := 0) (pc' := 100) dX9_light_99 rfl (by decide) ?_
        refine P.iload_n 3 (pc' := 101) dX9_light_100 rfl rfl rfl ?_
        refine P.if_eq (tgt := 108) (pc' := 104) dX9_light_101 (by decide) rfl (fun y5 => ?_) (fun y5 => ?_)
        · have hf := (if_pos y5).symm.trans hf
          refine P.iconst (v := 0) (pc' := 109) dX9_light_108 rfl (by decide) ?_
          refine P.iadd (pc' := 110) dX9_light_109 rfl ?_
          cases hf; exact P.iret rfl dX9_light_110
        · have hf := (if_neg y5).symm.trans hf
          refine P.iconst (v := 2) (pc' := 105) dX9_light_104 rfl (by decide) ?_
          refine P.goto (tgt := 109) dX9_light_105 (by decide) ?_
          refine P.iadd (pc' := 110) dX9_light_109 rfl ?_
          cases hf; exact P.iret rfl dX9_light_110
      · have hf := (if_neg y4).symm.trans hf
        refine P.iconst (v := 1) (pc' := 96) dX9_light_95 rfl (by decide) ?_
        refine P.goto (tgt := 100) dX9_light_96 (by decide) ?_
        refine P.iload_n 3 (pc' := 101) dX9_light_100 rfl rfl rfl ?_
        refine P.if_eq (tgt := 108) (pc' := 104) dX9_light_101 (by decide) rfl (fun y6 => ?_) (fun y6 => ?_)
        · have hf := (if_pos y6).symm.trans hf
          refine P.iconst (v := 0) (pc' := 109) dX9_light_108 rfl (by decide) ?_
          refine P.iadd (pc' := 110) dX9_light_109 rfl ?_
          cases hf; exact P.iret rfl dX9_light_110
        · have hf := (if_neg y6).symm.trans hf
          refine P.iconst (v := 2) (pc' := 105) dX9_light_104 rfl (by decide) ?_
          refine P.goto (tgt := 109) dX9_light_105 (by decide) ?_
          refine P.iadd (pc' := 110) dX9_light_109 rfl ?_
          cases hf; exact P.iret rfl dX9_light_110
    · have hf := (if_neg y3).symm.trans hf
      refine P.aload_n 0 (pc' := 29) dX9_light_28 rfl rfl rfl ?_
      refine P.iload 4 (pc' := 31) dX9_light_29 rfl rfl ?_
      obtain ⟨q7, h8, hf⟩ := ob hf
      refine P.callV (pc' := 34) (As := [.int v4]) 1 (ok_X9_heightOf F v4 tw μ τ h8) (Nat.le_of_ble_eq_true rfl) (lw_V q1928 q1930 qs116 q172 q1931) rfl yok_X9_heightOf rfl (Nat.le_of_ble_eq_true rfl) ci9 T_oc (by decide) rfl dX9_light_31 rfl ?_
      refine P.aload_n 0 (pc' := 35) dX9_light_34 rfl rfl rfl ?_
      refine P.iload_n 1 (pc' := 36) dX9_light_35 rfl rfl rfl ?_
      obtain ⟨q9, h10, hf⟩ := ob hf
      refine P.callV (pc' := 39) (As := [.int c1]) 1 (ok_X9_heightOf F c1 tw μ τ h10) (Nat.le_of_ble_eq_true rfl) (lw_V q1928 q1930 qs116 q172 q1931) rfl yok_X9_heightOf rfl (Nat.le_of_ble_eq_true rfl) ci9 T_oc (Nat.le_of_ble_eq_true rfl) rfl dX9_light_36 rfl ?_
      refine P.isub (pc' := 40) dX9_light_39 rfl ?_
      obtain ⟨x11, e12, hf⟩ := nm_i hf
      refine P.nmi e12 ?_
      refine P.istore (pc' := 42) (lv' := [(5, .int x11), (0, .ref tw), (1, .int c1), (2, .int v2), (3, .int v3), (4, .int v4)]) dX9_light_40 rfl (Nat.le_of_ble_eq_true rfl) rfl ?_
      refine P.aload_n 1 (pc' := 43) dX9_light_42 rfl rfl rfl ?_
      refine P.iload 5 (pc' := 45) dX9_light_43 rfl rfl ?_
      obtain ⟨q13, h14, hf⟩ := ob hf
      refine P.callV (pc' := 48) (As := [.int v4]) 1 (ok_X9_xOf F v4 tw μ τ h14) (Nat.le_of_ble_eq_true rfl) (lw_V q1924 q1926 qs115 q172 q1927) rfl yok_X9_xOf rfl (Nat.le_of_ble_eq_true rfl) ci9 T_oc (by decide) rfl dX9_light_45 rfl ?_
      refine P.aload_n 1 (pc' := 49) dX9_light_48 rfl rfl rfl ?_
      refine P.iload_n 2 (pc' := 50) dX9_light_49 rfl rfl rfl ?_
      obtain ⟨q15, h16, hf⟩ := ob hf
      refine P.callV (pc' := 53) (As := [.int c1]) 1 (ok_X9_xOf F c1 tw μ τ h16) (Nat.le_of_ble_eq_true rfl) (lw_V q1924 q1926 qs115 q172 q1927) rfl yok_X9_xOf rfl (Nat.le_of_ble_eq_true rfl) ci9 T_oc (Nat.le_of_ble_eq_true rfl) rfl dX9_light_50 rfl ?_
      refine P.isub (pc' := 54) dX9_light_53 rfl ?_
      obtain ⟨x17, e18, hf⟩ := nm_i hf
      refine P.nmi e18 ?_
      refine P.istore (pc' := 56) (lv' := [(6, .int x17), (5, .int x11), (0, .ref tw), (1, .int c1), (2, .int v2), (3, .int v3), (4, .int v4)]) dX9_light_54 rfl (Nat.le_of_ble_eq_true rfl) rfl ?_
      refine P.iload 0 (pc' := 58) dX9_light_56 rfl rfl ?_
      refine P.if_ge (tgt := 71) (pc' := 61) dX9_light_58 (by decide) rfl (fun y19 => ?_) (fun y19 => ?_)
      · have hf := (if_pos y19).symm.trans hf
        refine P.iload 0 (pc' := 73) dX9_light_71 rfl rfl ?_
        refine P.if_le (tgt := 85) (pc' := 76) dX9_light_73 (by decide) rfl (fun y20 => ?_) (fun y20 => ?_)
        · have hf := (if_pos y20).symm.trans hf
          obtain ⟨x21, e22, hf⟩ := nm_i hf
          refine P.iinc 6 (pc' := 88) (lv' := [(4, .int x21), (6, .int x17), (5, .int x11), (0, .ref tw), (1, .int c1), (2, .int v2), (3, .int v3)]) dX9_light_85 rfl rfl (by decide) e22 (Nat.le_of_ble_eq_true rfl) rfl ?_
          refine P.goto (tgt := 17) dX9_light_88 (by decide) ?_
          exact PW.sub [3, 4, 5, 6, 0] rfl (ih _ _ _ hf)
        · have hf := (if_neg y20).symm.trans hf
          refine P.iload 1 (pc' := 78) dX9_light_76 rfl rfl ?_
          refine P.iload 0 (pc' := 80) dX9_light_78 rfl rfl ?_
          refine P.icmp_lt (tgt := 85) (pc' := 83) dX9_light_80 (by decide) rfl (fun y23 => ?_) (fun y23 => ?_)
          · have hf := (if_pos y23).symm.trans hf
            obtain ⟨x24, e25, hf⟩ := nm_i hf
            refine P.iinc 6 (pc' := 88) (lv' := [(4, .int x24), (6, .int x17), (5, .int x11), (0, .ref tw), (1, .int c1), (2, .int v2), (3, .int v3)]) dX9_light_85 rfl rfl (by decide) e25 (Nat.le_of_ble_eq_true rfl) rfl ?_
            refine P.goto (tgt := 17) dX9_light_88 (by decide) ?_
            exact PW.sub [3, 4, 5, 6, 0] rfl (ih _ _ _ hf)
          · have hf := (if_neg y23).symm.trans hf
            refine P.iconst (v := 0) (pc' := 84) dX9_light_83 rfl (by decide) ?_
            refine P.istore_n (pc' := 85) (lv' := [(3, .int 0), (6, .int x17), (5, .int x11), (0, .ref tw), (1, .int c1), (2, .int v2), (4, .int v4)]) dX9_light_84 rfl rfl (Nat.le_of_ble_eq_true rfl) rfl ?_
            obtain ⟨x26, e27, hf⟩ := nm_i hf
            refine P.iinc 6 (pc' := 88) (lv' := [(4, .int x26), (3, .int 0), (6, .int x17), (5, .int x11), (0, .ref tw), (1, .int c1), (2, .int v2)]) dX9_light_85 rfl rfl (by decide) e27 (Nat.le_of_ble_eq_true rfl) rfl ?_
            refine P.goto (tgt := 17) dX9_light_88 (by decide) ?_
            exact PW.sub [4, 5, 6, 1, 0] rfl (ih _ _ _ hf)
      · have hf := (if_neg y19).symm.trans hf
        refine P.iload 1 (pc' := 63) dX9_light_61 rfl rfl ?_
        refine P.iload 0 (pc' := 65) dX9_light_63 rfl rfl ?_
        refine P.ineg (pc' := 66) dX9_light_65 rfl ?_
        refine P.icmp_lt (tgt := 71) (pc' := 69) dX9_light_66 (by decide) rfl (fun y28 => ?_) (fun y28 => ?_)
        · have hf := (if_pos y28).symm.trans hf
          refine P.iload 0 (pc' := 73) dX9_light_71 rfl rfl ?_
          refine P.if_le (tgt := 85) (pc' := 76) dX9_light_73 (by decide) rfl (fun y29 => ?_) (fun y29 => ?_)
          · have hf := (if_pos y29).symm.trans hf
            obtain ⟨x30, e31, hf⟩ := nm_i hf
            refine P.iinc 6 (pc' := 88) (lv' := [(4, .int x30), (6, .int x17), (5, .int x11), (0, .ref tw), (1, .int c1), (2, .int v2), (3, .int v3)]) dX9_light_85 rfl rfl (by decide) e31 (Nat.le_of_ble_eq_true rfl) rfl ?_
            refine P.goto (tgt := 17) dX9_light_88 (by decide) ?_
            exact PW.sub [3, 4, 5, 6, 0] rfl (ih _ _ _ hf)
          · have hf := (if_neg y29).symm.trans hf
            refine P.iload 1 (pc' := 78) dX9_light_76 rfl rfl ?_
            refine P.iload 0 (pc' := 80) dX9_light_78 rfl rfl ?_
            refine P.icmp_lt (tgt := 85) (pc' := 83) dX9_light_80 (by decide) rfl (fun y32 => ?_) (fun y32 => ?_)
            · have hf := (if_pos y32).symm.trans hf
              obtain ⟨x33, e34, hf⟩ := nm_i hf
              refine P.iinc 6 (pc' := 88) (lv' := [(4, .int x33), (6, .int x17), (5, .int x11), (0, .ref tw), (1, .int c1), (2, .int v2), (3, .int v3)]) dX9_light_85 rfl rfl (by decide) e34 (Nat.le_of_ble_eq_true rfl) rfl ?_
              refine P.goto (tgt := 17) dX9_light_88 (by decide) ?_
              exact PW.sub [3, 4, 5, 6, 0] rfl (ih _ _ _ hf)
            · have hf := (if_neg y32).symm.trans hf
              refine P.iconst (v := 0) (pc' := 84) dX9_light_83 rfl (by decide) ?_
              refine P.istore_n (pc' := 85) (lv' := [(3, .int 0), (6, .int x17), (5, .int x11), (0, .ref tw), (1, .int c1), (2, .int v2), (4, .int v4)]) dX9_light_84 rfl rfl (Nat.le_of_ble_eq_true rfl) rfl ?_
              obtain ⟨x35, e36, hf⟩ := nm_i hf
              refine P.iinc 6 (pc' := 88) (lv' := [(4, .int x35), (3, .int 0), (6, .int x17), (5, .int x11), (0, .ref tw), (1, .int c1), (2, .int v2)]) dX9_light_85 rfl rfl (by decide) e36 (Nat.le_of_ble_eq_true rfl) rfl ?_
              refine P.goto (tgt := 17) dX9_light_88 (by decide) ?_
              exact PW.sub [4, 5, 6, 1, 0] rfl (ih _ _ _ hf)
        · have hf := (if_neg y28).symm.trans hf
          refine P.iconst (v := 0) (pc' := 70) dX9_light_69 rfl (by decide) ?_
          refine P.istore_n (pc' := 71) (lv' := [(2, .int 0), (6, .int x17), (5, .int x11), (0, .ref tw), (1, .int c1), (3, .int v3), (4, .int v4)]) dX9_light_70 rfl rfl (Nat.le_of_ble_eq_true rfl) rfl ?_
          refine P.iload 1 (pc' := 73) dX9_light_71 rfl rfl ?_
          refine P.if_le (tgt := 85) (pc' := 76) dX9_light_73 (by decide) rfl (fun y37 => ?_) (fun y37 => ?_)
          · have hf := (if_pos y37).symm.trans hf
            obtain ⟨x38, e39, hf⟩ := nm_i hf
            refine P.iinc 6 (pc' := 88) (lv' := [(4, .int x38), (2, .int 0), (6, .int x17), (5, .int x11), (0, .ref tw), (1, .int c1), (3, .int v3)]) dX9_light_85 rfl rfl (by decide) e39 (Nat.le_of_ble_eq_true rfl) rfl ?_
            refine P.goto (tgt := 17) dX9_light_88 (by decide) ?_
            exact PW.sub [4, 5, 1, 6, 0] rfl (ih _ _ _ hf)
          · have hf := (if_neg y37).symm.trans hf
            refine P.iload 2 (pc' := 78) dX9_light_76 rfl rfl ?_
            refine P.iload 1 (pc' := 80) dX9_light_78 rfl rfl ?_
            refine P.icmp_lt (tgt := 85) (pc' := 83) dX9_light_80 (by decide) rfl (fun y40 => ?_) (fun y40 => ?_)
            · have hf := (if_pos y40).symm.trans hf
              obtain ⟨x41, e42, hf⟩ := nm_i hf
              refine P.iinc 6 (pc' := 88) (lv' := [(4, .int x41), (2, .int 0), (6, .int x17), (5, .int x11), (0, .ref tw), (1, .int c1), (3, .int v3)]) dX9_light_85 rfl rfl (by decide) e42 (Nat.le_of_ble_eq_true rfl) rfl ?_
              refine P.goto (tgt := 17) dX9_light_88 (by decide) ?_
              exact PW.sub [4, 5, 1, 6, 0] rfl (ih _ _ _ hf)
            · have hf := (if_neg y40).symm.trans hf
              refine P.iconst (v := 0) (pc' := 84) dX9_light_83 rfl (by decide) ?_
              refine P.istore_n (pc' := 85) (lv' := [(3, .int 0), (2, .int 0), (6, .int x17), (5, .int x11), (0, .ref tw), (1, .int c1), (4, .int v4)]) dX9_light_84 rfl rfl (Nat.le_of_ble_eq_true rfl) rfl ?_
              obtain ⟨x43, e44, hf⟩ := nm_i hf
              refine P.iinc 6 (pc' := 88) (lv' := [(4, .int x43), (3, .int 0), (2, .int 0), (6, .int x17), (5, .int x11), (0, .ref tw), (1, .int c1)]) dX9_light_85 rfl rfl (by decide) e44 (Nat.le_of_ble_eq_true rfl) rfl ?_
              refine P.goto (tgt := 17) dX9_light_88 (by decide) ?_
              exact PW.sub [5, 6, 2, 1, 0] rfl (ih _ _ _ hf)
noncomputable def t_X9_light (F : Nat) (p1 : Int32) (τ : Tw) : Option Int32 :=
  Option.bind (t_X9_isHouse F p1 τ) fun q1 =>
  if q1 = 0 then
    some (-1)
  else
    t_X9_light_L17 F p1 τ F 1 1 0
set_option maxHeartbeats 4000000 in
theorem ok_X9_light {g : Gx} (F : Nat) (p1 : Int32) (tw : Nat) (μ : Sw) (τ : Tw) {rv : Int32} (hf : t_X9_light F p1 τ = some rv) : Cl g 2 yX9_light cX9_light 7 (some Jvm.ClassFile.FieldType.int) [.ref tw, .int p1] (mT tw τ μ) (some (.int rv)) (mT tw τ μ) := by
  unfold t_X9_light at hf
  refine Cl.of (own := RX9) (ini := false) (by decide +kernel) rfl (by decide) (Nat.le_of_ble_eq_true rfl) ?_
  show PW g mX9_light 2 (mT tw τ μ) (mT tw τ μ) (QN g (some (.int rv)) (mT tw τ μ) (mT tw τ μ)) 0 [(0, .ref tw), (1, .int p1)] [] (mT tw τ μ)
  refine P.aload_n 0 (pc' := 1) dX9_light_0 rfl rfl rfl ?_
  refine P.iload_n 1 (pc' := 2) dX9_light_1 rfl rfl rfl ?_
  obtain ⟨q1, h2, hf⟩ := ob hf
  refine P.callV (pc' := 5) (As := [.int p1]) 1 (ok_X9_isHouse F p1 tw μ τ h2) (Nat.le_of_ble_eq_true rfl) (lw_V q1920 q1922 qs114 q172 q1923) rfl yok_X9_isHouse rfl (Nat.le_of_ble_eq_true rfl) ci9 T_oc (by decide) rfl dX9_light_2 rfl ?_
  refine P.if_ne (tgt := 10) (pc' := 8) dX9_light_5 (by decide) rfl (fun y3 => ?_) (fun y3 => ?_)
  · have hf := (if_neg y3).symm.trans hf
    refine P.iconst (v := 1) (pc' := 11) dX9_light_10 rfl (by decide) ?_
    refine P.istore_n (pc' := 12) (lv' := [(2, .int 1), (0, .ref tw), (1, .int p1)]) dX9_light_11 rfl rfl (Nat.le_of_ble_eq_true rfl) rfl ?_
    refine P.iconst (v := 1) (pc' := 13) dX9_light_12 rfl (by decide) ?_
    refine P.istore_n (pc' := 14) (lv' := [(3, .int 1), (2, .int 1), (0, .ref tw), (1, .int p1)]) dX9_light_13 rfl rfl (Nat.le_of_ble_eq_true rfl) rfl ?_
    refine P.iconst (v := 0) (pc' := 15) dX9_light_14 rfl (by decide) ?_
    refine P.istore (pc' := 17) (lv' := [(4, .int 0), (3, .int 1), (2, .int 1), (0, .ref tw), (1, .int p1)]) dX9_light_15 rfl (Nat.le_of_ble_eq_true rfl) rfl ?_
    exact PW.sub [3, 4, 2, 1, 0] rfl (ok_t_X9_light_L17 F tw μ p1 τ F _ _ _ hf)
  · have hf := (if_pos y3).symm.trans hf
    refine P.iconst (v := (-1)) (pc' := 9) dX9_light_8 rfl (by decide) ?_
    cases hf; exact P.iret rfl dX9_light_9
theorem yok_X9_isWind : yOK yX9_isWind 1 := ⟨by decide +kernel, by decide +kernel, by decide +kernel⟩
abbrev mX9_sway : Ym := (RX9, cX9_sway, 3, (some Jvm.ClassFile.FieldType.int), false, [])
noncomputable def t_X9_sway (F : Nat) (p1 : Int32) (p2 : Int32) (τ : Tw) : Option (Int32 × Tw) :=
  Option.bind (t_X9_isHouse F p1 τ) fun q1 =>
  if q1 = 0 then
    some ((-1), τ)
  else
    Option.bind (p_X9_isWind F p2) fun q4 =>
    if q4 = 0 then
      some ((-1), τ)
    else
      Option.bind (t_X9_swayOf F p1 p2 τ) fun q7 =>
      some (q7.1, q7.2)
set_option maxHeartbeats 4000000 in
theorem ok_X9_sway {g : Gx} (F : Nat) (p1 : Int32) (p2 : Int32) (tw : Nat) (μ : Sw) (τ : Tw) {rv : Int32} {τF : Tw} (hf : t_X9_sway F p1 p2 τ = some (rv, τF)) : Cl g 4 yX9_sway cX9_sway 3 (some Jvm.ClassFile.FieldType.int) [.ref tw, .int p1, .int p2] (mT tw τ μ) (some (.int rv)) (mT tw τF μ) := by
  unfold t_X9_sway at hf
  refine Cl.of (own := RX9) (ini := false) (by decide +kernel) rfl (by decide) (Nat.le_of_ble_eq_true rfl) ?_
  show PW g mX9_sway 4 (mT tw τ μ) (mT tw τF μ) (QN g (some (.int rv)) (mT tw τ μ) (mT tw τF μ)) 0 [(0, .ref tw), (1, .int p1), (2, .int p2)] [] (mT tw τ μ)
  refine P.aload_n 0 (pc' := 1) dX9_sway_0 rfl rfl rfl ?_
  refine P.iload_n 1 (pc' := 2) dX9_sway_1 rfl rfl rfl ?_
  obtain ⟨q1, h2, hf⟩ := ob hf
  refine P.callV (pc' := 5) (As := [.int p1]) 1 (ok_X9_isHouse F p1 tw μ τ h2) (Nat.le_of_ble_eq_true rfl) (lw_V q1920 q1922 qs114 q172 q1923) rfl yok_X9_isHouse rfl (Nat.le_of_ble_eq_true rfl) ci9 T_oc (by decide) rfl dX9_sway_2 rfl ?_
  refine P.if_eq (tgt := 24) (pc' := 8) dX9_sway_5 (by decide) rfl (fun y3 => ?_) (fun y3 => ?_)
  · have hf := (if_pos y3).symm.trans hf
    refine P.iconst (v := (-1)) (pc' := 25) dX9_sway_24 rfl (by decide) ?_
    cases hf; exact P.iret rfl dX9_sway_25
  · have hf := (if_neg y3).symm.trans hf
    refine P.iload_n 2 (pc' := 9) dX9_sway_8 rfl rfl rfl ?_
    obtain ⟨q4, h5, hf⟩ := ob hf
    refine P.callS (pc' := 12) (As := [.int p2]) 1 (ok_X9_isWind F p2 (mT tw τ μ) h5) (Nat.le_of_ble_eq_true rfl) (lw_S q2152 q2153 q172 q2154) yok_X9_isWind rfl (Nat.le_of_ble_eq_true rfl) (by decide) rfl dX9_sway_9 rfl ?_
    refine P.if_eq (tgt := 24) (pc' := 15) dX9_sway_12 (by decide) rfl (fun y6 => ?_) (fun y6 => ?_)
    · have hf := (if_pos y6).symm.trans hf
      refine P.iconst (v := (-1)) (pc' := 25) dX9_sway_24 rfl (by decide) ?_
      cases hf; exact P.iret rfl dX9_sway_25
    · have hf := (if_neg y6).symm.trans hf
      refine P.aload_n 0 (pc' := 16) dX9_sway_15 rfl rfl rfl ?_
      refine P.iload_n 1 (pc' := 17) dX9_sway_16 rfl rfl rfl ?_
      refine P.iload_n 2 (pc' := 18) dX9_sway_17 rfl rfl rfl ?_
      obtain ⟨q7, h8, hf⟩ := ob hf
      refine P.callV (pc' := 21) (As := [.int p1, .int p2]) 2 (ok_X9_swayOf F p1 p2 tw μ τ h8) (Nat.le_of_ble_eq_true rfl) (lw_V q2044 q2046 qs131 q172 q2047) rfl yok_X9_swayOf rfl (Nat.le_of_ble_eq_true rfl) ci9 T_oc (by decide) rfl dX9_sway_18 rfl ?_
      refine P.goto (tgt := 25) dX9_sway_21 (by decide) ?_
      cases hf; exact P.iret rfl dX9_sway_25
abbrev mX9_goneBeside : Ym := (RX9, cX9_goneBeside, 7, (some Jvm.ClassFile.FieldType.int), false, [])
noncomputable def t_X9_goneBeside_j67 (F : Nat) (self : Int32 → Int32 → Option Int32) (v1 : Int32) (v2 : Int32) (v3 : Int32) (v4 : Int32) (v5 : Int32) (v6 : Int32) (τ : Tw) : Option Int32 :=
  if v6 = v1 then
    nm (v3 ||| ((1 : Int32) <<< (v5 &&& 31))) fun x4 =>
    nm (v4 + 1) fun x6 =>
    self x4 x6
  else
    nm (v4 + 1) fun x2 =>
    self v3 x2
set_option maxHeartbeats 4000000 in
theorem ok_t_X9_goneBeside_j67 {g : Gx} {μ0 : Sw} {rv : Int32} (F : Nat) (tw : Nat) (μ : Sw) (v1 : Int32) (v2 : Int32) (v3 : Int32) (v4 : Int32) (v5 : Int32) (v6 : Int32) (τ : Tw) (self : Int32 → Int32 → Option Int32) (ih : ∀ (w3 : Int32) (w4 : Int32), self w3 w4 = some rv → PW g mX9_goneBeside 2 μ0 (mT tw τ μ) (QN g (some (.int rv)) μ0 (mT tw τ μ)) 5 [(0, .ref tw), (1, .int v1), (2, .int v2), (3, .int w3), (4, .int w4)] [] (mT tw τ μ)) (hf : t_X9_goneBeside_j67 F self v1 v2 v3 v4 v5 v6 τ = some rv) : PW g mX9_goneBeside 2 μ0 (mT tw τ μ) (QN g (some (.int rv)) μ0 (mT tw τ μ)) 67 [(0, .ref tw), (1, .int v1), (2, .int v2), (3, .int v3), (4, .int v4), (5, .int v5), (6, .int v6)] [] (mT tw τ μ) := by
  unfold t_X9_goneBeside_j67 at hf
  refine P.iload 6 (pc' := 69) dX9_goneBeside_67 rfl rfl ?_
  refine P.iload_n 1 (pc' := 70) dX9_goneBeside_69 rfl rfl rfl ?_
  refine P.icmp_ne (tgt := 80) (pc' := 73) dX9_goneBeside_70 (by decide) rfl (fun y1 => ?_) (fun y1 => ?_)
  · have hf := (if_neg y1).symm.trans hf
    obtain ⟨x2, e3, hf⟩ := nm_i hf
    refine P.iinc 4 (pc' := 83) (lv' := [(4, .int x2), (0, .ref tw), (1, .int v1), (2, .int v2), (3, .int v3), (5, .int v5), (6, .int v6)]) dX9_goneBeside_80 rfl rfl (by decide) e3 (Nat.le_of_ble_eq_true rfl) rfl ?_
    refine P.goto (tgt := 5) dX9_goneBeside_83 (by decide) ?_
    exact PW.sub [1, 2, 3, 4, 0] rfl (ih _ _ hf)
  · have hf := (if_pos y1).symm.trans hf
    refine P.iload_n 3 (pc' := 74) dX9_goneBeside_73 rfl rfl rfl ?_
    refine P.iconst (v := 1) (pc' := 75) dX9_goneBeside_74 rfl (by decide) ?_
    refine P.iload 5 (pc' := 77) dX9_goneBeside_75 rfl rfl ?_
    refine P.ishl (pc' := 78) dX9_goneBeside_77 rfl ?_
    refine P.ior (pc' := 79) dX9_goneBeside_78 rfl ?_
    obtain ⟨x4, e5, hf⟩ := nm_i hf
    refine P.nmi e5 ?_
    refine P.istore_n (pc' := 80) (lv' := [(3, .int x4), (0, .ref tw), (1, .int v1), (2, .int v2), (4, .int v4), (5, .int v5), (6, .int v6)]) dX9_goneBeside_79 rfl rfl (Nat.le_of_ble_eq_true rfl) rfl ?_
    obtain ⟨x6, e7, hf⟩ := nm_i hf
    refine P.iinc 4 (pc' := 83) (lv' := [(4, .int x6), (3, .int x4), (0, .ref tw), (1, .int v1), (2, .int v2), (5, .int v5), (6, .int v6)]) dX9_goneBeside_80 rfl rfl (by decide) e7 (Nat.le_of_ble_eq_true rfl) rfl ?_
    refine P.goto (tgt := 5) dX9_goneBeside_83 (by decide) ?_
    exact PW.sub [2, 3, 4, 1, 0] rfl (ih _ _ hf)
noncomputable def t_X9_goneBeside_L5_b (F : Nat) (c1 : Int32) (c2 : Int32) (τ : Tw) (self : Int32 → Int32 → Option Int32) (v3 : Int32) (v4 : Int32) : Option Int32 :=
  Option.bind (taI τ 6 420 3) fun x1 =>
  if x1 ≤ v4 then
    Option.bind (p_X9_bitsOf F (v3 &&& c2)) fun q4 =>
    some q4
  else
    Option.bind (taI τ 6 420 (120 + (3 * v4))) fun x6 =>
    Option.bind (taI τ 6 420 ((120 + (3 * v4)) + 1)) fun x8 =>
    if 0 ≤ x8 then
      if x6 = c1 then
        nm (v3 ||| ((1 : Int32) <<< (x8 &&& 31))) fun x12 =>
        t_X9_goneBeside_j67 F self c1 c2 x12 v4 x6 x8 τ
      else
        t_X9_goneBeside_j67 F self c1 c2 v3 v4 x6 x8 τ
    else
      nm (v4 + 1) fun x14 =>
      self v3 x14
noncomputable def t_X9_goneBeside_L5 (F : Nat) (c1 : Int32) (c2 : Int32) (τ : Tw) (n : Nat) : Int32 → Int32 → Option Int32 := Nat.rec (motive := fun _ => Int32 → Int32 → Option Int32) (fun _ _ => none) (fun _ self => t_X9_goneBeside_L5_b F c1 c2 τ self) n
set_option maxHeartbeats 4000000 in
theorem ok_t_X9_goneBeside_L5 {g : Gx} {μ0 : Sw} {rv : Int32} (F : Nat) (tw : Nat) (μ : Sw) (c1 : Int32) (c2 : Int32) (τ : Tw) : ∀ (n : Nat) (v3 : Int32) (v4 : Int32), t_X9_goneBeside_L5 F c1 c2 τ n v3 v4 = some rv → PW g mX9_goneBeside 2 μ0 (mT tw τ μ) (QN g (some (.int rv)) μ0 (mT tw τ μ)) 5 [(0, .ref tw), (1, .int c1), (2, .int c2), (3, .int v3), (4, .int v4)] [] (mT tw τ μ) := by
  intro n
  induction n with
  | zero =>
    intro v3 v4 hf
    have hf : (none : Option Int32) = some _ := hf
    cases hf
  | succ n ih =>
    intro v3 v4 hf
    have hf : t_X9_goneBeside_L5_b F c1 c2 τ (t_X9_goneBeside_L5 F c1 c2 τ n) v3 v4 = some rv := hf
    unfold t_X9_goneBeside_L5_b at hf
    refine P.iload 4 (pc' := 7) dX9_goneBeside_5 rfl rfl ?_
    refine P.aload_n 0 (pc' := 8) dX9_goneBeside_7 rfl rfl rfl ?_
    refine P.get (v := .ref (tw + 6)) (pc' := 11) ci9 12 (by decide) (T_gf rfl) q1567 (Or.inl rfl) dX9_goneBeside_8 rfl ?_
    refine P.iconst (v := 3) (pc' := 12) dX9_goneBeside_11 rfl (by decide) ?_
    obtain ⟨x1, h2, hf⟩ := ob hf
    refine P.iald (t := 0) (pc' := 13) rfl (T_aI rfl h2) dX9_goneBeside_12 rfl ?_
    refine P.icmp_ge (tgt := 86) (pc' := 16) dX9_goneBeside_13 (by decide) rfl (fun y3 => ?_) (fun y3 => ?_)
    · have hf := (if_pos y3).symm.trans hf
      refine P.iload_n 3 (pc' := 87) dX9_goneBeside_86 rfl rfl rfl ?_
      refine P.iload_n 2 (pc' := 88) dX9_goneBeside_87 rfl rfl rfl ?_
      refine P.iand (pc' := 89) dX9_goneBeside_88 rfl ?_
      obtain ⟨q4, h5, hf⟩ := ob hf
      refine P.callS (pc' := 92) (As := [.int (v3 &&& c2)]) 1 (ok_X9_bitsOf F (v3 &&& c2) (mT tw τ μ) h5) (Nat.le_of_ble_eq_true rfl) (lw_S q2021 q2022 q172 q2023) yok_X9_bitsOf rfl (Nat.le_of_ble_eq_true rfl) (by decide) rfl dX9_goneBeside_89 rfl ?_
      cases hf; exact P.iret rfl dX9_goneBeside_92
    · have hf := (if_neg y3).symm.trans hf
      refine P.aload_n 0 (pc' := 17) dX9_goneBeside_16 rfl rfl rfl ?_
      refine P.get (v := .ref (tw + 6)) (pc' := 20) ci9 12 (by decide) (T_gf rfl) q1567 (Or.inl rfl) dX9_goneBeside_17 rfl ?_
      refine P.bipush (v := 120) (pc' := 22) dX9_goneBeside_20 rfl (by decide) ?_
      refine P.iconst (v := 3) (pc' := 23) dX9_goneBeside_22 rfl (by decide) ?_
      refine P.iload 4 (pc' := 25) dX9_goneBeside_23 rfl rfl ?_
      refine P.imul (pc' := 26) dX9_goneBeside_25 rfl ?_
      refine P.iadd (pc' := 27) dX9_goneBeside_26 rfl ?_
      obtain ⟨x6, h7, hf⟩ := ob hf
      refine P.iald (t := 0) (pc' := 28) rfl (T_aI rfl h7) dX9_goneBeside_27 rfl ?_
      refine P.istore (pc' := 30) (lv' := [(5, .int x6), (0, .ref tw), (1, .int c1), (2, .int c2), (3, .int v3), (4, .int v4)]) dX9_goneBeside_28 rfl (Nat.le_of_ble_eq_true rfl) rfl ?_
      refine P.aload_n 1 (pc' := 31) dX9_goneBeside_30 rfl rfl rfl ?_
      refine P.get (v := .ref (tw + 6)) (pc' := 34) ci9 12 (by decide) (T_gf rfl) q1567 (Or.inl rfl) dX9_goneBeside_31 rfl ?_
      refine P.bipush (v := 120) (pc' := 36) dX9_goneBeside_34 rfl (by decide) ?_
      refine P.iconst (v := 3) (pc' := 37) dX9_goneBeside_36 rfl (by decide) ?_
      refine P.iload 5 (pc' := 39) dX9_goneBeside_37 rfl rfl ?_
      refine P.imul (pc' := 40) dX9_goneBeside_39 rfl ?_
      refine P.iadd (pc' := 41) dX9_goneBeside_40 rfl ?_
      refine P.iconst (v := 1) (pc' := 42) dX9_goneBeside_41 rfl (by decide) ?_
      refine P.iadd (pc' := 43) dX9_goneBeside_42 rfl ?_
      obtain ⟨x8, h9, hf⟩ := ob hf
      refine P.iald (t := 0) (pc' := 44) rfl (T_aI rfl h9) dX9_goneBeside_43 rfl ?_
      refine P.istore (pc' := 46) (lv' := [(6, .int x8), (5, .int x6), (0, .ref tw), (1, .int c1), (2, .int c2), (3, .int v3), (4, .int v4)]) dX9_goneBeside_44 rfl (Nat.le_of_ble_eq_true rfl) rfl ?_
      refine P.iload 0 (pc' := 48) dX9_goneBeside_46 rfl rfl ?_
      refine P.if_ge (tgt := 54) (pc' := 51) dX9_goneBeside_48 (by decide) rfl (fun y10 => ?_) (fun y10 => ?_)
      · have hf := (if_pos y10).symm.trans hf
        refine P.iload 1 (pc' := 56) dX9_goneBeside_54 rfl rfl ?_
        refine P.iload_n 3 (pc' := 57) dX9_goneBeside_56 rfl rfl rfl ?_
        refine P.icmp_ne (tgt := 67) (pc' := 60) dX9_goneBeside_57 (by decide) rfl (fun y11 => ?_) (fun y11 => ?_)
        · have hf := (if_neg y11).symm.trans hf
          exact PW.sub [2, 3, 4, 5, 6, 1, 0] rfl (ok_t_X9_goneBeside_j67 F tw μ c1 c2 v3 v4 x6 x8 τ _ ih hf)
        · have hf := (if_pos y11).symm.trans hf
          refine P.iload_n 5 (pc' := 61) dX9_goneBeside_60 rfl rfl rfl ?_
          refine P.iconst (v := 1) (pc' := 62) dX9_goneBeside_61 rfl (by decide) ?_
          refine P.iload 0 (pc' := 64) dX9_goneBeside_62 rfl rfl ?_
          refine P.ishl (pc' := 65) dX9_goneBeside_64 rfl ?_
          refine P.ior (pc' := 66) dX9_goneBeside_65 rfl ?_
          obtain ⟨x12, e13, hf⟩ := nm_i hf
          refine P.nmi e13 ?_
          refine P.istore_n (pc' := 67) (lv' := [(3, .int x12), (6, .int x8), (5, .int x6), (0, .ref tw), (1, .int c1), (2, .int c2), (4, .int v4)]) dX9_goneBeside_66 rfl rfl (Nat.le_of_ble_eq_true rfl) rfl ?_
          exact PW.sub [3, 4, 5, 0, 6, 2, 1] rfl (ok_t_X9_goneBeside_j67 F tw μ c1 c2 x12 v4 x6 x8 τ _ ih hf)
      · have hf := (if_neg y10).symm.trans hf
        refine P.goto (tgt := 80) dX9_goneBeside_51 (by decide) ?_
        obtain ⟨x14, e15, hf⟩ := nm_i hf
        refine P.iinc 6 (pc' := 83) (lv' := [(4, .int x14), (6, .int x8), (5, .int x6), (0, .ref tw), (1, .int c1), (2, .int c2), (3, .int v3)]) dX9_goneBeside_80 rfl rfl (by decide) e15 (Nat.le_of_ble_eq_true rfl) rfl ?_
        refine P.goto (tgt := 5) dX9_goneBeside_83 (by decide) ?_
        exact PW.sub [3, 4, 5, 6, 0] rfl (ih _ _ hf)
noncomputable def t_X9_goneBeside (F : Nat) (p1 : Int32) (p2 : Int32) (τ : Tw) : Option Int32 :=
  t_X9_goneBeside_L5 F p1 p2 τ F 0 0
set_option maxHeartbeats 4000000 in
theorem ok_X9_goneBeside {g : Gx} (F : Nat) (p1 : Int32) (p2 : Int32) (tw : Nat) (μ : Sw) (τ : Tw) {rv : Int32} (hf : t_X9_goneBeside F p1 p2 τ = some rv) : Cl g 2 yX9_goneBeside cX9_goneBeside 7 (some Jvm.ClassFile.FieldType.int) [.ref tw, .int p1, .int p2] (mT tw τ μ) (some (.int rv)) (mT tw τ μ) := by
  unfold t_X9_goneBeside at hf
  refine Cl.of (own := RX9) (ini := false) (by decide +kernel) rfl (by decide) (Nat.le_of_ble_eq_true rfl) ?_
  show PW g mX9_goneBeside 2 (mT tw τ μ) (mT tw τ μ) (QN g (some (.int rv)) (mT tw τ μ) (mT tw τ μ)) 0 [(0, .ref tw), (1, .int p1), (2, .int p2)] [] (mT tw τ μ)
  refine P.iconst (v := 0) (pc' := 1) dX9_goneBeside_0 rfl (by decide) ?_
  refine P.istore_n (pc' := 2) (lv' := [(3, .int 0), (0, .ref tw), (1, .int p1), (2, .int p2)]) dX9_goneBeside_1 rfl rfl (Nat.le_of_ble_eq_true rfl) rfl ?_
  refine P.iconst (v := 0) (pc' := 3) dX9_goneBeside_2 rfl (by decide) ?_
  refine P.istore (pc' := 5) (lv' := [(4, .int 0), (3, .int 0), (0, .ref tw), (1, .int p1), (2, .int p2)]) dX9_goneBeside_3 rfl (Nat.le_of_ble_eq_true rfl) rfl ?_
  exact PW.sub [2, 3, 4, 1, 0] rfl (ok_t_X9_goneBeside_L5 F tw μ p1 p2 τ F _ _ hf)
theorem yok_X9_goneBeside : yOK yX9_goneBeside 2 := ⟨by decide +kernel, by decide +kernel, by decide +kernel⟩
abbrev mX9_isFalling : Ym := (RX9, cX9_isFalling, 5, (some Jvm.ClassFile.FieldType.boolean), false, [])
noncomputable def t_X9_isFalling (F : Nat) (p1 : Int32) (p2 : Int32) (p3 : Int32) (τ : Tw) : Option (Int32 × Tw) :=
  Option.bind (t_X9_swayOf F p1 p2 τ) fun q1 =>
  Option.bind (t_X9_look F p1 p2 q1.2) fun q3 =>
  Option.bind (t_X9_goneBeside F p1 p3 q3) fun q5 =>
  Option.bind (tsA q3 23 0 9 7 q5) fun τ8 =>
  Option.bind (tsA τ8 23 0 9 8 q1.1) fun τ10 =>
  Option.bind (t_X9_isRule F 8 190 τ10) fun q11 =>
  if q11.1 = 0 ∨ q11.1 = 1 then
    some (q11.1, q11.2)
  else
    none
set_option maxHeartbeats 4000000 in
theorem ok_X9_isFalling {g : Gx} (F : Nat) (p1 : Int32) (p2 : Int32) (p3 : Int32) (tw : Nat) (μ : Sw) (τ : Tw) {rv : Int32} {τF : Tw} (hf : t_X9_isFalling F p1 p2 p3 τ = some (rv, τF)) : Cl g 5 yX9_isFalling cX9_isFalling 5 (some Jvm.ClassFile.FieldType.boolean) [.ref tw, .int p1, .int p2, .int p3] (mT tw τ μ) (some (.int rv)) (mT tw τF μ) := by
  unfold t_X9_isFalling at hf
  refine Cl.of (own := RX9) (ini := false) (by decide +kernel) rfl (by decide) (Nat.le_of_ble_eq_true rfl) ?_
  show PW g mX9_isFalling 5 (mT tw τ μ) (mT tw τF μ) (QN g (some (.int rv)) (mT tw τ μ) (mT tw τF μ)) 0 [(0, .ref tw), (1, .int p1), (2, .int p2), (3, .int p3)] [] (mT tw τ μ)
  refine P.aload_n 0 (pc' := 1) dX9_isFalling_0 rfl rfl rfl ?_
  refine P.iload_n 1 (pc' := 2) dX9_isFalling_1 rfl rfl rfl ?_
  refine P.iload_n 2 (pc' := 3) dX9_isFalling_2 rfl rfl rfl ?_
  obtain ⟨q1, h2, hf⟩ := ob hf
  refine P.callV (pc' := 6) (As := [.int p1, .int p2]) 2 (ok_X9_swayOf F p1 p2 tw μ τ h2) (Nat.le_of_ble_eq_true rfl) (lw_V q2044 q2046 qs131 q172 q2047) rfl yok_X9_swayOf rfl (Nat.le_of_ble_eq_true rfl) ci9 T_oc (by decide) rfl dX9_isFalling_3 rfl ?_
  refine P.istore (pc' := 8) (lv' := [(4, .int q1.1), (0, .ref tw), (1, .int p1), (2, .int p2), (3, .int p3)]) dX9_isFalling_6 rfl (Nat.le_of_ble_eq_true rfl) rfl ?_
  refine P.aload_n 1 (pc' := 9) dX9_isFalling_8 rfl rfl rfl ?_
  refine P.iload_n 2 (pc' := 10) dX9_isFalling_9 rfl rfl rfl ?_
  refine P.iload_n 3 (pc' := 11) dX9_isFalling_10 rfl rfl rfl ?_
  obtain ⟨q3, h4, hf⟩ := ob hf
  refine P.callV (pc' := 14) (As := [.int p1, .int p2]) 2 (ok_X9_look F p1 p2 tw μ q1.2 h4) (Nat.le_of_ble_eq_true rfl) (lw_V q2048 q2050 qs132 q172 q2051) rfl yok_X9_look rfl (Nat.le_of_ble_eq_true rfl) ci9 T_oc (by decide) rfl dX9_isFalling_11 rfl ?_
  refine P.aload_n 1 (pc' := 15) dX9_isFalling_14 rfl rfl rfl ?_
  refine P.get (v := .ref (tw + 23)) (pc' := 18) ci9 34 (by decide) (T_gf rfl) q1589 (Or.inl rfl) dX9_isFalling_15 rfl ?_
  refine P.bipush (v := 7) (pc' := 20) dX9_isFalling_18 rfl (by decide) ?_
  refine P.aload_n 1 (pc' := 21) dX9_isFalling_20 rfl rfl rfl ?_
  refine P.iload_n 2 (pc' := 22) dX9_isFalling_21 rfl rfl rfl ?_
  refine P.iload_n 4 (pc' := 23) dX9_isFalling_22 rfl rfl rfl ?_
  obtain ⟨q5, h6, hf⟩ := ob hf
  refine P.callV (pc' := 26) (As := [.int p1, .int p3]) 2 (ok_X9_goneBeside F p1 p3 tw μ q3 h6) (Nat.le_of_ble_eq_true rfl) (lw_V q2167 q2169 qs148 q172 q2170) rfl yok_X9_goneBeside rfl (Nat.le_of_ble_eq_true rfl) ci9 T_oc (Nat.le_of_ble_eq_true rfl) rfl dX9_isFalling_23 rfl ?_
  obtain ⟨τ8, h7, hf⟩ := ob hf
  refine P.iast (pc' := 27) (T_sA rfl (by decide) h7) dX9_isFalling_26 rfl ?_
  refine P.aload_n 1 (pc' := 28) dX9_isFalling_27 rfl rfl rfl ?_
  refine P.get (v := .ref (tw + 23)) (pc' := 31) ci9 34 (by decide) (T_gf rfl) q1589 (Or.inl rfl) dX9_isFalling_28 rfl ?_
  refine P.bipush (v := 8) (pc' := 33) dX9_isFalling_31 rfl (by decide) ?_
  refine P.iload 0 (pc' := 35) dX9_isFalling_33 rfl rfl ?_
  obtain ⟨τ10, h9, hf⟩ := ob hf
  refine P.iast (pc' := 36) (T_sA rfl (by decide) h9) dX9_isFalling_35 rfl ?_
  refine P.aload_n 1 (pc' := 37) dX9_isFalling_36 rfl rfl rfl ?_
  refine P.bipush (v := 8) (pc' := 39) dX9_isFalling_37 rfl (by decide) ?_
  refine P.sipush (v := 190) (pc' := 42) dX9_isFalling_39 rfl (by decide) ?_
  obtain ⟨q11, h12, hf⟩ := ob hf
  refine P.callV (pc' := 45) (As := [.int 8, .int 190]) 2 (ok_X9_isRule F 8 190 tw μ τ10 h12) (Nat.le_of_ble_eq_true rfl) (lw_V q2052 q2054 qs133 q172 q2055) rfl yok_X9_isRule rfl (Nat.le_of_ble_eq_true rfl) ci9 T_oc (by decide) rfl dX9_isFalling_42 rfl ?_
  by_cases y13 : q11.1 = 0 ∨ q11.1 = 1
  · have hf := (if_pos y13).symm.trans hf
    cases hf; exact P.zret rfl y13 dX9_isFalling_45
  · have hf := (if_neg y13).symm.trans hf
    cases hf
theorem yok_X9_isFalling : yOK yX9_isFalling 3 := ⟨by decide +kernel, by decide +kernel, by decide +kernel⟩
abbrev mX9_chains : Ym := (RX9, cX9_chains, 7, none, false, [])
noncomputable def t_X9_chains_L2_b (F : Nat) (k22 : Tw → Option Tw) (c1 : Int32) (c2 : Int32) (self : Int32 → Tw → Option Tw) (v3 : Int32) (τ : Tw) : Option Tw :=
  if 16 ≤ v3 then
    k22 τ
  else
    Option.bind (tsA τ 32 0 16 v3 (-2)) fun τ3 =>
    nm (v3 + 1) fun x4 =>
    self x4 τ3
noncomputable def t_X9_chains_L2 (F : Nat) (k22 : Tw → Option Tw) (c1 : Int32) (c2 : Int32) (n : Nat) : Int32 → Tw → Option Tw := Nat.rec (motive := fun _ => Int32 → Tw → Option Tw) (fun _ _ => none) (fun _ self => t_X9_chains_L2_b F k22 c1 c2 self) n
set_option maxHeartbeats 4000000 in
theorem ok_t_X9_chains_L2 {g : Gx} {μ0 : Sw} {τF : Tw} (F : Nat) (tw : Nat) (μ : Sw) (c1 : Int32) (c2 : Int32) (k22 : Tw → Option Tw) (hk22 : ∀ (τ : Tw), k22 τ = some τF → PW g mX9_chains 6 μ0 (mT tw τF μ) (QN g none μ0 (mT tw τF μ)) 22 [(0, .ref tw), (1, .int c1), (2, .int c2)] [] (mT tw τ μ)) : ∀ (n : Nat) (v3 : Int32) (τ : Tw), t_X9_chains_L2 F k22 c1 c2 n v3 τ = some τF → PW g mX9_chains 6 μ0 (mT tw τF μ) (QN g none μ0 (mT tw τF μ)) 2 [(0, .ref tw), (1, .int c1), (2, .int c2), (3, .int v3)] [] (mT tw τ μ) := by
  intro n
  induction n with
  | zero =>
    intro v3 τ hf
    have hf : (none : Option Tw) = some _ := hf
    cases hf
  | succ n ih =>
    intro v3 τ hf
    have hf : t_X9_chains_L2_b F k22 c1 c2 (t_X9_chains_L2 F k22 c1 c2 n) v3 τ = some τF := hf
    unfold t_X9_chains_L2_b at hf
    refine P.iload_n 3 (pc' := 3) dX9_chains_2 rfl rfl rfl ?_
    refine P.bipush (v := 16) (pc' := 5) dX9_chains_3 rfl (by decide) ?_
    refine P.icmp_ge (tgt := 22) (pc' := 8) dX9_chains_5 (by decide) rfl (fun y1 => ?_) (fun y1 => ?_)
    · have hf := (if_pos y1).symm.trans hf
      exact PW.sub [0, 1, 2] rfl (hk22 _ hf)
    · have hf := (if_neg y1).symm.trans hf
      refine P.aload_n 0 (pc' := 9) dX9_chains_8 rfl rfl rfl ?_
      refine P.get (v := .ref (tw + 32)) (pc' := 12) ci9 47 (by decide) (T_gf rfl) q1602 (Or.inl rfl) dX9_chains_9 rfl ?_
      refine P.iload_n 3 (pc' := 13) dX9_chains_12 rfl rfl rfl ?_
      refine P.bipush (v := (-2)) (pc' := 15) dX9_chains_13 rfl (by decide) ?_
      obtain ⟨τ3, h2, hf⟩ := ob hf
      refine P.iast (pc' := 16) (T_sA rfl (by decide) h2) dX9_chains_15 rfl ?_
      obtain ⟨x4, e5, hf⟩ := nm_i hf
      refine P.iinc 3 (pc' := 19) (lv' := [(3, .int x4), (0, .ref tw), (1, .int c1), (2, .int c2)]) dX9_chains_16 rfl rfl (by decide) e5 (Nat.le_of_ble_eq_true rfl) rfl ?_
      refine P.goto (tgt := 2) dX9_chains_19 (by decide) ?_
      exact PW.sub [1, 2, 3, 0] rfl (ih _ _ hf)
noncomputable def t_X9_chains_L56_b (F : Nat) (k121 : Int32 → Tw → Option Tw) (c2 : Int32) (c4 : Int32) (self : Int32 → Int32 → Tw → Option Tw) (v5 : Int32) (v6 : Int32) (τ : Tw) : Option Tw :=
  Option.bind (taI τ 6 420 0) fun x1 =>
  if x1 ≤ v6 then
    k121 v5 τ
  else
    if (((τ.1 48) >>> (v6 &&& 31)) &&& 1) = 1 then
      nm (v6 + 1) fun x5 =>
      self v5 x5 τ
    else
      Option.bind (t_X9_isFalling F v6 c2 (τ.1 48) τ) fun q7 =>
      if q7.1 = 0 then
        nm (v6 + 1) fun x16 =>
        self v5 x16 q7.2
      else
        nm (v5 ||| ((1 : Int32) <<< (v6 &&& 31))) fun x10 =>
        Option.bind (tsA q7.2 32 0 16 v6 c4) fun τ13 =>
        nm (v6 + 1) fun x14 =>
        self x10 x14 τ13
noncomputable def t_X9_chains_L56 (F : Nat) (k121 : Int32 → Tw → Option Tw) (c2 : Int32) (c4 : Int32) (n : Nat) : Int32 → Int32 → Tw → Option Tw := Nat.rec (motive := fun _ => Int32 → Int32 → Tw → Option Tw) (fun _ _ _ => none) (fun _ self => t_X9_chains_L56_b F k121 c2 c4 self) n
set_option maxHeartbeats 4000000 in
theorem ok_t_X9_chains_L56 {g : Gx} {μ0 : Sw} {τF : Tw} (F : Nat) (tw : Nat) (μ : Sw) (c2 : Int32) (c4 : Int32) (k121 : Int32 → Tw → Option Tw) (hk121 : ∀ (w5 : Int32) (τ : Tw), k121 w5 τ = some τF → PW g mX9_chains 6 μ0 (mT tw τF μ) (QN g none μ0 (mT tw τF μ)) 121 [(0, .ref tw), (2, .int c2), (4, .int c4), (5, .int w5)] [] (mT tw τ μ)) : ∀ (n : Nat) (v5 : Int32) (v6 : Int32) (τ : Tw), t_X9_chains_L56 F k121 c2 c4 n v5 v6 τ = some τF → PW g mX9_chains 6 μ0 (mT tw τF μ) (QN g none μ0 (mT tw τF μ)) 56 [(0, .ref tw), (2, .int c2), (4, .int c4), (5, .int v5), (6, .int v6)] [] (mT tw τ μ) := by
  intro n
  induction n with
  | zero =>
    intro v5 v6 τ hf
    have hf : (none : Option Tw) = some _ := hf
    cases hf
  | succ n ih =>
    intro v5 v6 τ hf
    have hf : t_X9_chains_L56_b F k121 c2 c4 (t_X9_chains_L56 F k121 c2 c4 n) v5 v6 τ = some τF := hf
    unfold t_X9_chains_L56_b at hf
    refine P.iload 4 (pc' := 58) dX9_chains_56 rfl rfl ?_
    refine P.aload_n 0 (pc' := 59) dX9_chains_58 rfl rfl rfl ?_
    refine P.get (v := .ref (tw + 6)) (pc' := 62) ci9 12 (by decide) (T_gf rfl) q1567 (Or.inl rfl) dX9_chains_59 rfl ?_
    refine P.iconst (v := 0) (pc' := 63) dX9_chains_62 rfl (by decide) ?_
    obtain ⟨x1, h2, hf⟩ := ob hf
    refine P.iald (t := 0) (pc' := 64) rfl (T_aI rfl h2) dX9_chains_63 rfl ?_
    refine P.icmp_ge (tgt := 121) (pc' := 67) dX9_chains_64 (by decide) rfl (fun y3 => ?_) (fun y3 => ?_)
    · have hf := (if_pos y3).symm.trans hf
      exact PW.sub [0, 1, 2, 3] rfl (hk121 _ _ hf)
    · have hf := (if_neg y3).symm.trans hf
      refine P.aload_n 0 (pc' := 68) dX9_chains_67 rfl rfl rfl ?_
      refine P.get (v := .int (τ.1 48)) (pc' := 71) ci9 48 (by decide) (T_gf rfl) q1603 (Or.inl rfl) dX9_chains_68 rfl ?_
      refine P.iload 4 (pc' := 73) dX9_chains_71 rfl rfl ?_
      refine P.ishr (pc' := 74) dX9_chains_73 rfl ?_
      refine P.iconst (v := 1) (pc' := 75) dX9_chains_74 rfl (by decide) ?_
      refine P.iand (pc' := 76) dX9_chains_75 rfl ?_
      refine P.iconst (v := 1) (pc' := 77) dX9_chains_76 rfl (by decide) ?_
      refine P.icmp_eq (tgt := 115) (pc' := 80) dX9_chains_77 (by decide) rfl (fun y4 => ?_) (fun y4 => ?_)
      · have hf := (if_pos y4).symm.trans hf
        obtain ⟨x5, e6, hf⟩ := nm_i hf
        refine P.iinc 4 (pc' := 118) (lv' := [(6, .int x5), (0, .ref tw), (2, .int c2), (4, .int c4), (5, .int v5)]) dX9_chains_115 rfl rfl (by decide) e6 (Nat.le_of_ble_eq_true rfl) rfl ?_
        refine P.goto (tgt := 56) dX9_chains_118 (by decide) ?_
        exact PW.sub [1, 2, 3, 4, 0] rfl (ih _ _ _ hf)
      · have hf := (if_neg y4).symm.trans hf
        refine P.aload_n 0 (pc' := 81) dX9_chains_80 rfl rfl rfl ?_
        refine P.iload 4 (pc' := 83) dX9_chains_81 rfl rfl ?_
        refine P.iload_n 1 (pc' := 84) dX9_chains_83 rfl rfl rfl ?_
        refine P.aload_n 0 (pc' := 85) dX9_chains_84 rfl rfl rfl ?_
        refine P.get (v := .int (τ.1 48)) (pc' := 88) ci9 48 (by decide) (T_gf rfl) q1603 (Or.inl rfl) dX9_chains_85 rfl ?_
        obtain ⟨q7, h8, hf⟩ := ob hf
        refine P.callV (pc' := 91) (As := [.int v6, .int c2, .int (τ.1 48)]) 3 (ok_X9_isFalling F v6 c2 (τ.1 48) tw μ τ h8) (Nat.le_of_ble_eq_true rfl) (lw_V q2163 q2165 qs147 q172 q2166) rfl yok_X9_isFalling rfl (Nat.le_of_ble_eq_true rfl) ci9 T_oc (by decide) rfl dX9_chains_88 rfl ?_
        refine P.if_ne (tgt := 97) (pc' := 94) dX9_chains_91 (by decide) rfl (fun y9 => ?_) (fun y9 => ?_)
        · have hf := (if_neg y9).symm.trans hf
          refine P.iload 3 (pc' := 99) dX9_chains_97 rfl rfl ?_
          refine P.iconst (v := 1) (pc' := 100) dX9_chains_99 rfl (by decide) ?_
          refine P.iload 4 (pc' := 102) dX9_chains_100 rfl rfl ?_
          refine P.ishl (pc' := 103) dX9_chains_102 rfl ?_
          refine P.ior (pc' := 104) dX9_chains_103 rfl ?_
          obtain ⟨x10, e11, hf⟩ := nm_i hf
          refine P.nmi e11 ?_
          refine P.istore (pc' := 106) (lv' := [(5, .int x10), (0, .ref tw), (2, .int c2), (4, .int c4), (6, .int v6)]) dX9_chains_104 rfl (Nat.le_of_ble_eq_true rfl) rfl ?_
          refine P.aload_n 1 (pc' := 107) dX9_chains_106 rfl rfl rfl ?_
          refine P.get (v := .ref (tw + 32)) (pc' := 110) ci9 47 (by decide) (T_gf rfl) q1602 (Or.inl rfl) dX9_chains_107 rfl ?_
          refine P.iload 4 (pc' := 112) dX9_chains_110 rfl rfl ?_
          refine P.iload 3 (pc' := 114) dX9_chains_112 rfl rfl ?_
          obtain ⟨τ13, h12, hf⟩ := ob hf
          refine P.iast (pc' := 115) (T_sA rfl (by decide) h12) dX9_chains_114 rfl ?_
          obtain ⟨x14, e15, hf⟩ := nm_i hf
          refine P.iinc 4 (pc' := 118) (lv' := [(6, .int x14), (5, .int x10), (0, .ref tw), (2, .int c2), (4, .int c4)]) dX9_chains_115 rfl rfl (by decide) e15 (Nat.le_of_ble_eq_true rfl) rfl ?_
          refine P.goto (tgt := 56) dX9_chains_118 (by decide) ?_
          exact PW.sub [2, 3, 4, 1, 0] rfl (ih _ _ _ hf)
        · have hf := (if_pos y9).symm.trans hf
          refine P.goto (tgt := 115) dX9_chains_94 (by decide) ?_
          obtain ⟨x16, e17, hf⟩ := nm_i hf
          refine P.iinc 4 (pc' := 118) (lv' := [(6, .int x16), (0, .ref tw), (2, .int c2), (4, .int c4), (5, .int v5)]) dX9_chains_115 rfl rfl (by decide) e17 (Nat.le_of_ble_eq_true rfl) rfl ?_
          refine P.goto (tgt := 56) dX9_chains_118 (by decide) ?_
          exact PW.sub [1, 2, 3, 4, 0] rfl (ih _ _ _ hf)
noncomputable def t_X9_chains_j131 (F : Nat) (self : Int32 → Int32 → Tw → Option Tw) (v2 : Int32) (v4 : Int32) (v5 : Int32) (s0 : Int32) (τ : Tw) : Option Tw :=
  if s0 = 0 then
    nm (tsI τ 48 ((τ.1 48) ||| v5)) fun τ2 =>
    nm (v4 + 1) fun x4 =>
    self s0 x4 τ2
  else
    nm (tsI τ 49 v4) fun τ6 =>
    nm (tsI τ6 48 ((τ6.1 48) ||| v5)) fun τ8 =>
    nm (v4 + 1) fun x10 =>
    self s0 x10 τ8
set_option maxHeartbeats 4000000 in
theorem ok_t_X9_chains_j131 {g : Gx} {μ0 : Sw} {τF : Tw} (F : Nat) (tw : Nat) (μ : Sw) (v2 : Int32) (v4 : Int32) (v5 : Int32) (s0 : Int32) (τ : Tw) (self : Int32 → Int32 → Tw → Option Tw) (ih : ∀ (w3 : Int32) (w4 : Int32) (τ : Tw), self w3 w4 τ = some τF → PW g mX9_chains 6 μ0 (mT tw τF μ) (QN g none μ0 (mT tw τF μ)) 46 [(0, .ref tw), (2, .int v2), (3, .int w3), (4, .int w4)] [] (mT tw τ μ)) (hf : t_X9_chains_j131 F self v2 v4 v5 s0 τ = some τF) : PW g mX9_chains 6 μ0 (mT tw τF μ) (QN g none μ0 (mT tw τF μ)) 131 [(0, .ref tw), (2, .int v2), (4, .int v4), (5, .int v5)] [.int s0] (mT tw τ μ) := by
  unfold t_X9_chains_j131 at hf
  refine P.istore_n (pc' := 132) (lv' := [(3, .int s0), (0, .ref tw), (2, .int v2), (4, .int v4), (5, .int v5)]) dX9_chains_131 rfl rfl (Nat.le_of_ble_eq_true rfl) rfl ?_
  refine P.iload_n 0 (pc' := 133) dX9_chains_132 rfl rfl rfl ?_
  refine P.if_eq (tgt := 142) (pc' := 136) dX9_chains_133 (by decide) rfl (fun y1 => ?_) (fun y1 => ?_)
  · have hf := (if_pos y1).symm.trans hf
    refine P.aload_n 1 (pc' := 143) dX9_chains_142 rfl rfl rfl ?_
    refine P.dup (pc' := 144) dX9_chains_143 rfl rfl ?_
    refine P.get (v := .int (τ.1 48)) (pc' := 147) ci9 48 (by decide) (T_gf rfl) q1603 (Or.inl rfl) dX9_chains_144 rfl ?_
    refine P.iload 4 (pc' := 149) dX9_chains_147 rfl rfl ?_
    refine P.ior (pc' := 150) dX9_chains_149 rfl ?_
    obtain ⟨τ2, e3, hf⟩ := nm_i hf
    refine P.put (v := .int ((τ.1 48) ||| v5)) (pc' := 153) ci9 48 (by decide) (T_put rfl (by decide) e3) q1603 (Or.inl rfl) rfl rfl rfl dX9_chains_150 rfl ?_
    obtain ⟨x4, e5, hf⟩ := nm_i hf
    refine P.iinc 3 (pc' := 156) (lv' := [(4, .int x4), (3, .int s0), (0, .ref tw), (2, .int v2), (5, .int v5)]) dX9_chains_153 rfl rfl (by decide) e5 (Nat.le_of_ble_eq_true rfl) rfl ?_
    refine P.goto (tgt := 46) dX9_chains_156 (by decide) ?_
    exact PW.sub [2, 3, 1, 0] rfl (ih _ _ _ hf)
  · have hf := (if_neg y1).symm.trans hf
    refine P.aload_n 1 (pc' := 137) dX9_chains_136 rfl rfl rfl ?_
    refine P.iload 3 (pc' := 139) dX9_chains_137 rfl rfl ?_
    obtain ⟨τ6, e7, hf⟩ := nm_i hf
    refine P.put (v := .int v4) (pc' := 142) ci9 49 (by decide) (T_put rfl (by decide) e7) q1604 (Or.inl rfl) rfl rfl rfl dX9_chains_139 rfl ?_
    refine P.aload_n 1 (pc' := 143) dX9_chains_142 rfl rfl rfl ?_
    refine P.dup (pc' := 144) dX9_chains_143 rfl rfl ?_
    refine P.get (v := .int (τ6.1 48)) (pc' := 147) ci9 48 (by decide) (T_gf rfl) q1603 (Or.inl rfl) dX9_chains_144 rfl ?_
    refine P.iload 4 (pc' := 149) dX9_chains_147 rfl rfl ?_
    refine P.ior (pc' := 150) dX9_chains_149 rfl ?_
    obtain ⟨τ8, e9, hf⟩ := nm_i hf
    refine P.put (v := .int ((τ6.1 48) ||| v5)) (pc' := 153) ci9 48 (by decide) (T_put rfl (by decide) e9) q1603 (Or.inl rfl) rfl rfl rfl dX9_chains_150 rfl ?_
    obtain ⟨x10, e11, hf⟩ := nm_i hf
    refine P.iinc 3 (pc' := 156) (lv' := [(4, .int x10), (3, .int s0), (0, .ref tw), (2, .int v2), (5, .int v5)]) dX9_chains_153 rfl rfl (by decide) e11 (Nat.le_of_ble_eq_true rfl) rfl ?_
    refine P.goto (tgt := 46) dX9_chains_156 (by decide) ?_
    exact PW.sub [2, 3, 1, 0] rfl (ih _ _ _ hf)
noncomputable def t_X9_chains_L46_b (F : Nat) (c2 : Int32) (self : Int32 → Int32 → Tw → Option Tw) (v3 : Int32) (v4 : Int32) (τ : Tw) : Option Tw :=
  if v3 = 0 then
    some τ
  else
    t_X9_chains_L56 F
      (fun w2 τ3 =>
        if w2 = 0 then
          t_X9_chains_j131 F self c2 v4 w2 0 τ3
        else
          t_X9_chains_j131 F self c2 v4 w2 1 τ3)
      c2 v4 F 0 0 τ
noncomputable def t_X9_chains_L46 (F : Nat) (c2 : Int32) (n : Nat) : Int32 → Int32 → Tw → Option Tw := Nat.rec (motive := fun _ => Int32 → Int32 → Tw → Option Tw) (fun _ _ _ => none) (fun _ self => t_X9_chains_L46_b F c2 self) n
set_option maxHeartbeats 4000000 in
theorem ok_t_X9_chains_L46 {g : Gx} {μ0 : Sw} {τF : Tw} (F : Nat) (tw : Nat) (μ : Sw) (c2 : Int32) : ∀ (n : Nat) (v3 : Int32) (v4 : Int32) (τ : Tw), t_X9_chains_L46 F c2 n v3 v4 τ = some τF → PW g mX9_chains 6 μ0 (mT tw τF μ) (QN g none μ0 (mT tw τF μ)) 46 [(0, .ref tw), (2, .int c2), (3, .int v3), (4, .int v4)] [] (mT tw τ μ) := by
  intro n
  induction n with
  | zero =>
    intro v3 v4 τ hf
    have hf : (none : Option Tw) = some _ := hf
    cases hf
  | succ n ih =>
    intro v3 v4 τ hf
    have hf : t_X9_chains_L46_b F c2 (t_X9_chains_L46 F c2 n) v3 v4 τ = some τF := hf
    unfold t_X9_chains_L46_b at hf
    refine P.iload_n 2 (pc' := 47) dX9_chains_46 rfl rfl rfl ?_
    refine P.if_eq (tgt := 159) (pc' := 50) dX9_chains_47 (by decide) rfl (fun y1 => ?_) (fun y1 => ?_)
    · have hf := (if_pos y1).symm.trans hf
      cases hf; exact P.vret rfl dX9_chains_159
    · have hf := (if_neg y1).symm.trans hf
      refine P.iconst (v := 0) (pc' := 51) dX9_chains_50 rfl (by decide) ?_
      refine P.istore (pc' := 53) (lv' := [(5, .int 0), (0, .ref tw), (2, .int c2), (3, .int v3), (4, .int v4)]) dX9_chains_51 rfl (Nat.le_of_ble_eq_true rfl) rfl ?_
      refine P.iconst (v := 0) (pc' := 54) dX9_chains_53 rfl (by decide) ?_
      refine P.istore (pc' := 56) (lv' := [(6, .int 0), (5, .int 0), (0, .ref tw), (2, .int c2), (3, .int v3), (4, .int v4)]) dX9_chains_54 rfl (Nat.le_of_ble_eq_true rfl) rfl ?_
      refine PW.sub [2, 3, 5, 1, 0] rfl (ok_t_X9_chains_L56 F tw μ c2 v4 _ ?_ F _ _ _ hf)
      · intro w2 τ3 hf
        refine P.iload 3 (pc' := 123) dX9_chains_121 rfl rfl ?_
        refine P.if_eq (tgt := 130) (pc' := 126) dX9_chains_123 (by decide) rfl (fun y4 => ?_) (fun y4 => ?_)
        · have hf := (if_pos y4).symm.trans hf
          refine P.iconst (v := 0) (pc' := 131) dX9_chains_130 rfl (by decide) ?_
          exact PW.sub [0, 1, 2, 3] rfl (ok_t_X9_chains_j131 F tw μ c2 v4 w2 0 τ3 _ ih hf)
        · have hf := (if_neg y4).symm.trans hf
          refine P.iconst (v := 1) (pc' := 127) dX9_chains_126 rfl (by decide) ?_
          refine P.goto (tgt := 131) dX9_chains_127 (by decide) ?_
          exact PW.sub [0, 1, 2, 3] rfl (ok_t_X9_chains_j131 F tw μ c2 v4 w2 1 τ3 _ ih hf)
noncomputable def t_X9_chains (F : Nat) (p1 : Int32) (p2 : Int32) (τ : Tw) : Option Tw :=
  t_X9_chains_L2 F
    (fun τ1 =>
      Option.bind (tsA τ1 32 0 16 p1 0) fun τ3 =>
      nm (tsI τ3 48 ((1 : Int32) <<< (p1 &&& 31))) fun τ4 =>
      nm (tsI τ4 49 0) fun τ6 =>
      t_X9_chains_L46 F p2 F 1 1 τ6)
    p1 p2 F 0 τ
set_option maxHeartbeats 4000000 in
theorem ok_X9_chains {g : Gx} (F : Nat) (p1 : Int32) (p2 : Int32) (tw : Nat) (μ : Sw) (τ : Tw) {τF : Tw} (hf : t_X9_chains F p1 p2 τ = some τF) : Cl g 6 yX9_chains cX9_chains 7 none [.ref tw, .int p1, .int p2] (mT tw τ μ) none (mT tw τF μ) := by
  unfold t_X9_chains at hf
  refine Cl.of (own := RX9) (ini := false) (by decide +kernel) rfl (by decide) (Nat.le_of_ble_eq_true rfl) ?_
  show PW g mX9_chains 6 (mT tw τ μ) (mT tw τF μ) (QN g none (mT tw τ μ) (mT tw τF μ)) 0 [(0, .ref tw), (1, .int p1), (2, .int p2)] [] (mT tw τ μ)
  refine P.iconst (v := 0) (pc' := 1) dX9_chains_0 rfl (by decide) ?_
  refine P.istore_n (pc' := 2) (lv' := [(3, .int 0), (0, .ref tw), (1, .int p1), (2, .int p2)]) dX9_chains_1 rfl rfl (Nat.le_of_ble_eq_true rfl) rfl ?_
  refine PW.sub [1, 2, 3, 0] rfl (ok_t_X9_chains_L2 F tw μ p1 p2 _ ?_ F _ _ hf)
  · intro τ1 hf
    refine P.aload_n 0 (pc' := 23) dX9_chains_22 rfl rfl rfl ?_
    refine P.get (v := .ref (tw + 32)) (pc' := 26) ci9 47 (by decide) (T_gf rfl) q1602 (Or.inl rfl) dX9_chains_23 rfl ?_
    refine P.iload_n 1 (pc' := 27) dX9_chains_26 rfl rfl rfl ?_
    refine P.iconst (v := 0) (pc' := 28) dX9_chains_27 rfl (by decide) ?_
    obtain ⟨τ3, h2, hf⟩ := ob hf
    refine P.iast (pc' := 29) (T_sA rfl (by decide) h2) dX9_chains_28 rfl ?_
    refine P.aload_n 0 (pc' := 30) dX9_chains_29 rfl rfl rfl ?_
    refine P.iconst (v := 1) (pc' := 31) dX9_chains_30 rfl (by decide) ?_
    refine P.iload_n 1 (pc' := 32) dX9_chains_31 rfl rfl rfl ?_
    refine P.ishl (pc' := 33) dX9_chains_32 rfl ?_
    obtain ⟨τ4, e5, hf⟩ := nm_i hf
    refine P.put (v := .int ((1 : Int32) <<< (p1 &&& 31))) (pc' := 36) ci9 48 (by decide) (T_put rfl (by decide) e5) q1603 (Or.inl rfl) rfl rfl rfl dX9_chains_33 rfl ?_
    refine P.aload_n 0 (pc' := 37) dX9_chains_36 rfl rfl rfl ?_
    refine P.iconst (v := 0) (pc' := 38) dX9_chains_37 rfl (by decide) ?_
    obtain ⟨τ6, e7, hf⟩ := nm_i hf
    refine P.put (v := .int 0) (pc' := 41) ci9 49 (by decide) (T_put rfl (by decide) e7) q1604 (Or.inl rfl) rfl rfl rfl dX9_chains_38 rfl ?_
    refine P.iconst (v := 1) (pc' := 42) dX9_chains_41 rfl (by decide) ?_
    refine P.istore_n (pc' := 43) (lv' := [(3, .int 1), (0, .ref tw), (1, .int p1), (2, .int p2)]) dX9_chains_42 rfl rfl (Nat.le_of_ble_eq_true rfl) rfl ?_
    refine P.iconst (v := 1) (pc' := 44) dX9_chains_43 rfl (by decide) ?_
    refine P.istore (pc' := 46) (lv' := [(4, .int 1), (3, .int 1), (0, .ref tw), (1, .int p1), (2, .int p2)]) dX9_chains_44 rfl (Nat.le_of_ble_eq_true rfl) rfl ?_
    exact PW.sub [2, 4, 1, 0] rfl (ok_t_X9_chains_L46 F tw μ p2 F _ _ _ hf)
theorem yok_X9_chains : yOK yX9_chains 2 := ⟨by decide +kernel, by decide +kernel, by decide +kernel⟩
abbrev mX9_chain : Ym := (RX9, cX9_chain, 4, (some Jvm.ClassFile.FieldType.int), false, [])
noncomputable def t_X9_chain_j37 (F : Nat) (v1 : Int32) (v2 : Int32) (v3 : Int32) (τ : Tw) : Option (Int32 × Tw) :=
  Option.bind (t_X9_chains F v1 v2 τ) fun q1 =>
  if v3 = 0 then
    Option.bind (p_X9_bitsOf F (q1.1 48)) fun q7 =>
    some (q7, q1)
  else
    if v3 = 1 then
      some (q1.1 49, q1)
    else
      Option.bind (taI q1 32 16 (v3 - 10)) fun x5 =>
      some (x5, q1)
set_option maxHeartbeats 4000000 in
theorem ok_t_X9_chain_j37 {g : Gx} {μ0 : Sw} {rv : Int32} {τF : Tw} (F : Nat) (tw : Nat) (μ : Sw) (v1 : Int32) (v2 : Int32) (v3 : Int32) (τ : Tw) (hf : t_X9_chain_j37 F v1 v2 v3 τ = some (rv, τF)) : PW g mX9_chain 7 μ0 (mT tw τF μ) (QN g (some (.int rv)) μ0 (mT tw τF μ)) 37 [(0, .ref tw), (1, .int v1), (2, .int v2), (3, .int v3)] [] (mT tw τ μ) := by
  unfold t_X9_chain_j37 at hf
  refine P.aload_n 0 (pc' := 38) dX9_chain_37 rfl rfl rfl ?_
  refine P.iload_n 1 (pc' := 39) dX9_chain_38 rfl rfl rfl ?_
  refine P.iload_n 2 (pc' := 40) dX9_chain_39 rfl rfl rfl ?_
  obtain ⟨q1, h2, hf⟩ := ob hf
  refine P.callV (pc' := 43) (As := [.int v1, .int v2]) 2 (ok_X9_chains F v1 v2 tw μ τ h2) (Nat.le_of_ble_eq_true rfl) (lw_V q2159 q2161 qs146 q172 q2162) rfl yok_X9_chains rfl (Nat.le_of_ble_eq_true rfl) ci9 T_oc (by decide) rfl dX9_chain_40 rfl ?_
  refine P.iload_n 3 (pc' := 44) dX9_chain_43 rfl rfl rfl ?_
  refine P.if_ne (tgt := 57) (pc' := 47) dX9_chain_44 (by decide) rfl (fun y3 => ?_) (fun y3 => ?_)
  · have hf := (if_neg y3).symm.trans hf
    refine P.iload_n 3 (pc' := 58) dX9_chain_57 rfl rfl rfl ?_
    refine P.iconst (v := 1) (pc' := 59) dX9_chain_58 rfl (by decide) ?_
    refine P.icmp_ne (tgt := 69) (pc' := 62) dX9_chain_59 (by decide) rfl (fun y4 => ?_) (fun y4 => ?_)
    · have hf := (if_neg y4).symm.trans hf
      refine P.aload_n 0 (pc' := 70) dX9_chain_69 rfl rfl rfl ?_
      refine P.get (v := .ref (tw + 32)) (pc' := 73) ci9 47 (by decide) (T_gf rfl) q1602 (Or.inl rfl) dX9_chain_70 rfl ?_
      refine P.iload_n 3 (pc' := 74) dX9_chain_73 rfl rfl rfl ?_
      refine P.bipush (v := 10) (pc' := 76) dX9_chain_74 rfl (by decide) ?_
      refine P.isub (pc' := 77) dX9_chain_76 rfl ?_
      obtain ⟨x5, h6, hf⟩ := ob hf
      refine P.iald (t := 0) (pc' := 78) rfl (T_aI rfl h6) dX9_chain_77 rfl ?_
      cases hf; exact P.iret rfl dX9_chain_78
    · have hf := (if_pos y4).symm.trans hf
      refine P.aload_n 0 (pc' := 63) dX9_chain_62 rfl rfl rfl ?_
      refine P.get (v := .int (q1.1 49)) (pc' := 66) ci9 49 (by decide) (T_gf rfl) q1604 (Or.inl rfl) dX9_chain_63 rfl ?_
      refine P.goto (tgt := 78) dX9_chain_66 (by decide) ?_
      cases hf; exact P.iret rfl dX9_chain_78
  · have hf := (if_pos y3).symm.trans hf
    refine P.aload_n 0 (pc' := 48) dX9_chain_47 rfl rfl rfl ?_
    refine P.get (v := .int (q1.1 48)) (pc' := 51) ci9 48 (by decide) (T_gf rfl) q1603 (Or.inl rfl) dX9_chain_48 rfl ?_
    obtain ⟨q7, h8, hf⟩ := ob hf
    refine P.callS (pc' := 54) (As := [.int (q1.1 48)]) 1 (ok_X9_bitsOf F (q1.1 48) (mT tw q1 μ) h8) (Nat.le_of_ble_eq_true rfl) (lw_S q2021 q2022 q172 q2023) yok_X9_bitsOf rfl (Nat.le_of_ble_eq_true rfl) (by decide) rfl dX9_chain_51 rfl ?_
    refine P.goto (tgt := 78) dX9_chain_54 (by decide) ?_
    cases hf; exact P.iret rfl dX9_chain_78
noncomputable def t_X9_chain (F : Nat) (p1 : Int32) (p2 : Int32) (p3 : Int32) (τ : Tw) : Option (Int32 × Tw) :=
  Option.bind (t_X9_isHouse F p1 τ) fun q1 =>
  if q1 = 0 then
    some ((-1), τ)
  else
    Option.bind (p_X9_isWind F p2) fun q4 =>
    if q4 = 0 then
      some ((-1), τ)
    else
      Option.bind (p_X9_isIn F p3 0 1) fun q7 =>
      if q7 = 0 then
        Option.bind (t_X9_isHouse F (p3 - 10) τ) fun q10 =>
        if q10 = 0 then
          some ((-1), τ)
        else
          t_X9_chain_j37 F p1 p2 p3 τ
      else
        t_X9_chain_j37 F p1 p2 p3 τ
set_option maxHeartbeats 4000000 in
theorem ok_X9_chain {g : Gx} (F : Nat) (p1 : Int32) (p2 : Int32) (p3 : Int32) (tw : Nat) (μ : Sw) (τ : Tw) {rv : Int32} {τF : Tw} (hf : t_X9_chain F p1 p2 p3 τ = some (rv, τF)) : Cl g 7 yX9_chain cX9_chain 4 (some Jvm.ClassFile.FieldType.int) [.ref tw, .int p1, .int p2, .int p3] (mT tw τ μ) (some (.int rv)) (mT tw τF μ) := by
  unfold t_X9_chain at hf
  refine Cl.of (own := RX9) (ini := false) (by decide +kernel) rfl (by decide) (Nat.le_of_ble_eq_true rfl) ?_
  show PW g mX9_chain 7 (mT tw τ μ) (mT tw τF μ) (QN g (some (.int rv)) (mT tw τ μ) (mT tw τF μ)) 0 [(0, .ref tw), (1, .int p1), (2, .int p2), (3, .int p3)] [] (mT tw τ μ)
  refine P.aload_n 0 (pc' := 1) dX9_chain_0 rfl rfl rfl ?_
  refine P.iload_n 1 (pc' := 2) dX9_chain_1 rfl rfl rfl ?_
  obtain ⟨q1, h2, hf⟩ := ob hf
  refine P.callV (pc' := 5) (As := [.int p1]) 1 (ok_X9_isHouse F p1 tw μ τ h2) (Nat.le_of_ble_eq_true rfl) (lw_V q1920 q1922 qs114 q172 q1923) rfl yok_X9_isHouse rfl (Nat.le_of_ble_eq_true rfl) ci9 T_oc (by decide) rfl dX9_chain_2 rfl ?_
  refine P.if_eq (tgt := 35) (pc' := 8) dX9_chain_5 (by decide) rfl (fun y3 => ?_) (fun y3 => ?_)
  · have hf := (if_pos y3).symm.trans hf
    refine P.iconst (v := (-1)) (pc' := 36) dX9_chain_35 rfl (by decide) ?_
    cases hf; exact P.iret rfl dX9_chain_36
  · have hf := (if_neg y3).symm.trans hf
    refine P.iload_n 2 (pc' := 9) dX9_chain_8 rfl rfl rfl ?_
    obtain ⟨q4, h5, hf⟩ := ob hf
    refine P.callS (pc' := 12) (As := [.int p2]) 1 (ok_X9_isWind F p2 (mT tw τ μ) h5) (Nat.le_of_ble_eq_true rfl) (lw_S q2152 q2153 q172 q2154) yok_X9_isWind rfl (Nat.le_of_ble_eq_true rfl) (by decide) rfl dX9_chain_9 rfl ?_
    refine P.if_eq (tgt := 35) (pc' := 15) dX9_chain_12 (by decide) rfl (fun y6 => ?_) (fun y6 => ?_)
    · have hf := (if_pos y6).symm.trans hf
      refine P.iconst (v := (-1)) (pc' := 36) dX9_chain_35 rfl (by decide) ?_
      cases hf; exact P.iret rfl dX9_chain_36
    · have hf := (if_neg y6).symm.trans hf
      refine P.iload_n 3 (pc' := 16) dX9_chain_15 rfl rfl rfl ?_
      refine P.iconst (v := 0) (pc' := 17) dX9_chain_16 rfl (by decide) ?_
      refine P.iconst (v := 1) (pc' := 18) dX9_chain_17 rfl (by decide) ?_
      obtain ⟨q7, h8, hf⟩ := ob hf
      refine P.callS (pc' := 21) (As := [.int p3, .int 0, .int 1]) 3 (ok_X9_isIn F p3 0 1 (mT tw τ μ) h8) (Nat.le_of_ble_eq_true rfl) (lw_S q1971 q1972 q172 q1973) yok_X9_isIn rfl (Nat.le_of_ble_eq_true rfl) (by decide) rfl dX9_chain_18 rfl ?_
      refine P.if_ne (tgt := 37) (pc' := 24) dX9_chain_21 (by decide) rfl (fun y9 => ?_) (fun y9 => ?_)
      · have hf := (if_neg y9).symm.trans hf
        exact PW.sub [0, 1, 2, 3] rfl (ok_t_X9_chain_j37 F tw μ p1 p2 p3 τ hf)
      · have hf := (if_pos y9).symm.trans hf
        refine P.aload_n 0 (pc' := 25) dX9_chain_24 rfl rfl rfl ?_
        refine P.iload_n 3 (pc' := 26) dX9_chain_25 rfl rfl rfl ?_
        refine P.bipush (v := 10) (pc' := 28) dX9_chain_26 rfl (by decide) ?_
        refine P.isub (pc' := 29) dX9_chain_28 rfl ?_
        obtain ⟨q10, h11, hf⟩ := ob hf
        refine P.callV (pc' := 32) (As := [.int (p3 - 10)]) 1 (ok_X9_isHouse F (p3 - 10) tw μ τ h11) (Nat.le_of_ble_eq_true rfl) (lw_V q1920 q1922 qs114 q172 q1923) rfl yok_X9_isHouse rfl (Nat.le_of_ble_eq_true rfl) ci9 T_oc (by decide) rfl dX9_chain_29 rfl ?_
        refine P.if_ne (tgt := 37) (pc' := 35) dX9_chain_32 (by decide) rfl (fun y12 => ?_) (fun y12 => ?_)
        · have hf := (if_neg y12).symm.trans hf
          exact PW.sub [0, 1, 2, 3] rfl (ok_t_X9_chain_j37 F tw μ p1 p2 p3 τ hf)
        · have hf := (if_pos y12).symm.trans hf
          refine P.iconst (v := (-1)) (pc' := 36) dX9_chain_35 rfl (by decide) ?_
          cases hf; exact P.iret rfl dX9_chain_36
abbrev mX9_dread : Ym := (RX9, cX9_dread, 5, (some Jvm.ClassFile.FieldType.int), false, [])
noncomputable def t_X9_dread_L17_b (F : Nat) (c1 : Int32) (self : Int32 → Int32 → Int32 → Tw → Option (Int32 × Tw)) (v2 : Int32) (v3 : Int32) (v4 : Int32) (τ : Tw) : Option (Int32 × Tw) :=
  Option.bind (taI τ 6 420 0) fun x1 =>
  if x1 ≤ v4 then
    some (v2, τ)
  else
    Option.bind (t_X9_chains F v4 c1 τ) fun q4 =>
    if v2 < 0 then
      Option.bind (p_X9_bitsOf F (q4.1 48)) fun q7 =>
      nm (v4 + 1) fun x9 =>
      self v4 q7 x9 q4
    else
      Option.bind (p_X9_bitsOf F (q4.1 48)) fun q11 =>
      if v3 < q11 then
        Option.bind (p_X9_bitsOf F (q4.1 48)) fun q14 =>
        nm (v4 + 1) fun x16 =>
        self v4 q14 x16 q4
      else
        nm (v4 + 1) fun x18 =>
        self v2 v3 x18 q4
noncomputable def t_X9_dread_L17 (F : Nat) (c1 : Int32) (n : Nat) : Int32 → Int32 → Int32 → Tw → Option (Int32 × Tw) := Nat.rec (motive := fun _ => Int32 → Int32 → Int32 → Tw → Option (Int32 × Tw)) (fun _ _ _ _ => none) (fun _ self => t_X9_dread_L17_b F c1 self) n
set_option maxHeartbeats 4000000 in
theorem ok_t_X9_dread_L17 {g : Gx} {μ0 : Sw} {rv : Int32} {τF : Tw} (F : Nat) (tw : Nat) (μ : Sw) (c1 : Int32) : ∀ (n : Nat) (v2 : Int32) (v3 : Int32) (v4 : Int32) (τ : Tw), t_X9_dread_L17 F c1 n v2 v3 v4 τ = some (rv, τF) → PW g mX9_dread 7 μ0 (mT tw τF μ) (QN g (some (.int rv)) μ0 (mT tw τF μ)) 17 [(0, .ref tw), (1, .int c1), (2, .int v2), (3, .int v3), (4, .int v4)] [] (mT tw τ μ) := by
  intro n
  induction n with
  | zero =>
    intro v2 v3 v4 τ hf
    have hf : (none : Option (Int32 × Tw)) = some _ := hf
    cases hf
  | succ n ih =>
    intro v2 v3 v4 τ hf
    have hf : t_X9_dread_L17_b F c1 (t_X9_dread_L17 F c1 n) v2 v3 v4 τ = some (rv, τF) := hf
    unfold t_X9_dread_L17_b at hf
    refine P.iload 4 (pc' := 19) dX9_dread_17 rfl rfl ?_
    refine P.aload_n 0 (pc' := 20) dX9_dread_19 rfl rfl rfl ?_
    refine P.get (v := .ref (tw + 6)) (pc' := 23) ci9 12 (by decide) (T_gf rfl) q1567 (Or.inl rfl) dX9_dread_20 rfl ?_
    refine P.iconst (v := 0) (pc' := 24) dX9_dread_23 rfl (by decide) ?_
    obtain ⟨x1, h2, hf⟩ := ob hf
    refine P.iald (t := 0) (pc' := 25) rfl (T_aI rfl h2) dX9_dread_24 rfl ?_
    refine P.icmp_ge (tgt := 70) (pc' := 28) dX9_dread_25 (by decide) rfl (fun y3 => ?_) (fun y3 => ?_)
    · have hf := (if_pos y3).symm.trans hf
      refine P.iload_n 2 (pc' := 71) dX9_dread_70 rfl rfl rfl ?_
      cases hf; exact P.iret rfl dX9_dread_71
    · have hf := (if_neg y3).symm.trans hf
      refine P.aload_n 0 (pc' := 29) dX9_dread_28 rfl rfl rfl ?_
      refine P.iload 4 (pc' := 31) dX9_dread_29 rfl rfl ?_
      refine P.iload_n 1 (pc' := 32) dX9_dread_31 rfl rfl rfl ?_
      obtain ⟨q4, h5, hf⟩ := ob hf
      refine P.callV (pc' := 35) (As := [.int v4, .int c1]) 2 (ok_X9_chains F v4 c1 tw μ τ h5) (Nat.le_of_ble_eq_true rfl) (lw_V q2159 q2161 qs146 q172 q2162) rfl yok_X9_chains rfl (Nat.le_of_ble_eq_true rfl) ci9 T_oc (by decide) rfl dX9_dread_32 rfl ?_
      refine P.iload_n 2 (pc' := 36) dX9_dread_35 rfl rfl rfl ?_
      refine P.if_lt (tgt := 53) (pc' := 39) dX9_dread_36 (by decide) rfl (fun y6 => ?_) (fun y6 => ?_)
      · have hf := (if_pos y6).symm.trans hf
        refine P.iload 4 (pc' := 55) dX9_dread_53 rfl rfl ?_
        refine P.istore_n (pc' := 56) (lv' := [(2, .int v4), (0, .ref tw), (1, .int c1), (3, .int v3), (4, .int v4)]) dX9_dread_55 rfl rfl (Nat.le_of_ble_eq_true rfl) rfl ?_
        refine P.aload_n 1 (pc' := 57) dX9_dread_56 rfl rfl rfl ?_
        refine P.get (v := .int (q4.1 48)) (pc' := 60) ci9 48 (by decide) (T_gf rfl) q1603 (Or.inl rfl) dX9_dread_57 rfl ?_
        obtain ⟨q7, h8, hf⟩ := ob hf
        refine P.callS (pc' := 63) (As := [.int (q4.1 48)]) 1 (ok_X9_bitsOf F (q4.1 48) (mT tw q4 μ) h8) (Nat.le_of_ble_eq_true rfl) (lw_S q2021 q2022 q172 q2023) yok_X9_bitsOf rfl (Nat.le_of_ble_eq_true rfl) (by decide) rfl dX9_dread_60 rfl ?_
        refine P.istore_n (pc' := 64) (lv' := [(3, .int q7), (2, .int v4), (0, .ref tw), (1, .int c1), (4, .int v4)]) dX9_dread_63 rfl rfl (Nat.le_of_ble_eq_true rfl) rfl ?_
        obtain ⟨x9, e10, hf⟩ := nm_i hf
        refine P.iinc 4 (pc' := 67) (lv' := [(4, .int x9), (3, .int q7), (2, .int v4), (0, .ref tw), (1, .int c1)]) dX9_dread_64 rfl rfl (by decide) e10 (Nat.le_of_ble_eq_true rfl) rfl ?_
        refine P.goto (tgt := 17) dX9_dread_67 (by decide) ?_
        exact PW.sub [3, 4, 2, 1, 0] rfl (ih _ _ _ _ hf)
      · have hf := (if_neg y6).symm.trans hf
        refine P.aload_n 0 (pc' := 40) dX9_dread_39 rfl rfl rfl ?_
        refine P.get (v := .int (q4.1 48)) (pc' := 43) ci9 48 (by decide) (T_gf rfl) q1603 (Or.inl rfl) dX9_dread_40 rfl ?_
        obtain ⟨q11, h12, hf⟩ := ob hf
        refine P.callS (pc' := 46) (As := [.int (q4.1 48)]) 1 (ok_X9_bitsOf F (q4.1 48) (mT tw q4 μ) h12) (Nat.le_of_ble_eq_true rfl) (lw_S q2021 q2022 q172 q2023) yok_X9_bitsOf rfl (Nat.le_of_ble_eq_true rfl) (by decide) rfl dX9_dread_43 rfl ?_
        refine P.iload_n 3 (pc' := 47) dX9_dread_46 rfl rfl rfl ?_
        refine P.icmp_gt (tgt := 53) (pc' := 50) dX9_dread_47 (by decide) rfl (fun y13 => ?_) (fun y13 => ?_)
        · have hf := (if_pos y13).symm.trans hf
          refine P.iload 4 (pc' := 55) dX9_dread_53 rfl rfl ?_
          refine P.istore_n (pc' := 56) (lv' := [(2, .int v4), (0, .ref tw), (1, .int c1), (3, .int v3), (4, .int v4)]) dX9_dread_55 rfl rfl (Nat.le_of_ble_eq_true rfl) rfl ?_
          refine P.aload_n 1 (pc' := 57) dX9_dread_56 rfl rfl rfl ?_
          refine P.get (v := .int (q4.1 48)) (pc' := 60) ci9 48 (by decide) (T_gf rfl) q1603 (Or.inl rfl) dX9_dread_57 rfl ?_
          obtain ⟨q14, h15, hf⟩ := ob hf
          refine P.callS (pc' := 63) (As := [.int (q4.1 48)]) 1 (ok_X9_bitsOf F (q4.1 48) (mT tw q4 μ) h15) (Nat.le_of_ble_eq_true rfl) (lw_S q2021 q2022 q172 q2023) yok_X9_bitsOf rfl (Nat.le_of_ble_eq_true rfl) (by decide) rfl dX9_dread_60 rfl ?_
          refine P.istore_n (pc' := 64) (lv' := [(3, .int q14), (2, .int v4), (0, .ref tw), (1, .int c1), (4, .int v4)]) dX9_dread_63 rfl rfl (Nat.le_of_ble_eq_true rfl) rfl ?_
          obtain ⟨x16, e17, hf⟩ := nm_i hf
          refine P.iinc 4 (pc' := 67) (lv' := [(4, .int x16), (3, .int q14), (2, .int v4), (0, .ref tw), (1, .int c1)]) dX9_dread_64 rfl rfl (by decide) e17 (Nat.le_of_ble_eq_true rfl) rfl ?_
          refine P.goto (tgt := 17) dX9_dread_67 (by decide) ?_
          exact PW.sub [3, 4, 2, 1, 0] rfl (ih _ _ _ _ hf)
        · have hf := (if_neg y13).symm.trans hf
          refine P.goto (tgt := 64) dX9_dread_50 (by decide) ?_
          obtain ⟨x18, e19, hf⟩ := nm_i hf
          refine P.iinc 4 (pc' := 67) (lv' := [(4, .int x18), (0, .ref tw), (1, .int c1), (2, .int v2), (3, .int v3)]) dX9_dread_64 rfl rfl (by decide) e19 (Nat.le_of_ble_eq_true rfl) rfl ?_
          refine P.goto (tgt := 17) dX9_dread_67 (by decide) ?_
          exact PW.sub [1, 2, 3, 4, 0] rfl (ih _ _ _ _ hf)
noncomputable def t_X9_dread (F : Nat) (p1 : Int32) (τ : Tw) : Option (Int32 × Tw) :=
  Option.bind (p_X9_isWind F p1) fun q1 =>
  if q1 = 0 then
    some ((-1), τ)
  else
    t_X9_dread_L17 F p1 F (-2) 0 0 τ
set_option maxHeartbeats 4000000 in
theorem ok_X9_dread {g : Gx} (F : Nat) (p1 : Int32) (tw : Nat) (μ : Sw) (τ : Tw) {rv : Int32} {τF : Tw} (hf : t_X9_dread F p1 τ = some (rv, τF)) : Cl g 7 yX9_dread cX9_dread 5 (some Jvm.ClassFile.FieldType.int) [.ref tw, .int p1] (mT tw τ μ) (some (.int rv)) (mT tw τF μ) := by
  unfold t_X9_dread at hf
  refine Cl.of (own := RX9) (ini := false) (by decide +kernel) rfl (by decide) (Nat.le_of_ble_eq_true rfl) ?_
  show PW g mX9_dread 7 (mT tw τ μ) (mT tw τF μ) (QN g (some (.int rv)) (mT tw τ μ) (mT tw τF μ)) 0 [(0, .ref tw), (1, .int p1)] [] (mT tw τ μ)
  refine P.iload_n 1 (pc' := 1) dX9_dread_0 rfl rfl rfl ?_
  obtain ⟨q1, h2, hf⟩ := ob hf
  refine P.callS (pc' := 4) (As := [.int p1]) 1 (ok_X9_isWind F p1 (mT tw τ μ) h2) (Nat.le_of_ble_eq_true rfl) (lw_S q2152 q2153 q172 q2154) yok_X9_isWind rfl (Nat.le_of_ble_eq_true rfl) (by decide) rfl dX9_dread_1 rfl ?_
  refine P.if_ne (tgt := 9) (pc' := 7) dX9_dread_4 (by decide) rfl (fun y3 => ?_) (fun y3 => ?_)
  · have hf := (if_neg y3).symm.trans hf
    refine P.bipush (v := (-2)) (pc' := 11) dX9_dread_9 rfl (by decide) ?_
    refine P.istore_n (pc' := 12) (lv' := [(2, .int (-2)), (0, .ref tw), (1, .int p1)]) dX9_dread_11 rfl rfl (Nat.le_of_ble_eq_true rfl) rfl ?_
    refine P.iconst (v := 0) (pc' := 13) dX9_dread_12 rfl (by decide) ?_
    refine P.istore_n (pc' := 14) (lv' := [(3, .int 0), (2, .int (-2)), (0, .ref tw), (1, .int p1)]) dX9_dread_13 rfl rfl (Nat.le_of_ble_eq_true rfl) rfl ?_
    refine P.iconst (v := 0) (pc' := 15) dX9_dread_14 rfl (by decide) ?_
    refine P.istore (pc' := 17) (lv' := [(4, .int 0), (3, .int 0), (2, .int (-2)), (0, .ref tw), (1, .int p1)]) dX9_dread_15 rfl (Nat.le_of_ble_eq_true rfl) rfl ?_
    exact PW.sub [3, 4, 2, 1, 0] rfl (ok_t_X9_dread_L17 F tw μ p1 F _ _ _ _ hf)
  · have hf := (if_pos y3).symm.trans hf
    refine P.iconst (v := (-1)) (pc' := 8) dX9_dread_7 rfl (by decide) ?_
    cases hf; exact P.iret rfl dX9_dread_8
