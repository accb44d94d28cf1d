set_option maxRecDepth 100000
/-! a reference out of an array that may be null -/
def nif {α β : Type} (x : Option (Option α)) (n : Option β) (f : α → Option β) : Option β := match x with
  | some (some a) => f a
  | some none => n
  | none => none
theorem nif_c {α β : Type} {x : Option (Option α)} {n : Option β} {f : α → Option β} {r : β} (h : nif x n f = some r) : (x = some none ∧ n = some r) ∨ (∃ a, x = some (some a) ∧ f a = some r) := by
  cases x with
  | none => cases h
  | some x =>
    cases x with
    | none => exact Or.inl ⟨rfl, h⟩
    | some a => exact Or.inr ⟨a, rfl, h⟩
theorem aR_of {μ : Sw} {t a x : Nat} {i : Int32} (h : aQ μ t a i = some (some x)) : aR μ t a i = some x := by
  unfold aR
  rw [h]
theorem yok_X0_isMark : yOK yX0_isMark 3 := ⟨by decide +kernel, by decide +kernel, by decide +kernel⟩
abbrev mX0_ends : Ym := (RX0, cX0_ends, 11, (some Jvm.ClassFile.FieldType.int), false, [])
noncomputable def f_X0_ends_L91_b (F : Nat) (k169 : Option Int32) (c0 : Nat) (c1 : Int32) (c2 : Int32) (c3 : Int32) (c4 : Int32) (c5 : Int32) (c6 : Int32) (c7 : Int32) (c8 : Nat) (μ : Sw) (self : Int32 → Option Int32) (v9 : Int32) : Option Int32 :=
  if c7 ≤ v9 then
    k169
  else
    Option.bind (gfR μ c0 0 4) fun x2 =>
    Option.bind (gfR μ x2 6 5) fun x4 =>
    Option.bind (oc μ x4 20) fun u8 =>
    Option.bind (f_J2_get F x4 v9 μ) fun q6 =>
    Option.bind (oc μ q6 19) fun u10 =>
    Option.bind (oc μ c0 0) fun u14 =>
    Option.bind (f_X0_isMark F c0 v9 c1 c4 μ) fun q12 =>
    if q12 = 0 then
      nm (v9 + 1) fun x17 =>
      self x17
    else
      Option.bind (gfI μ c8 19 3) fun x19 =>
      Option.bind (gfI μ q6 19 3) fun x21 =>
      Option.bind (gfI μ c8 19 2) fun x23 =>
      Option.bind (gfI μ q6 19 2) fun x25 =>
      if (ab (x19 - x21)) ≤ (c3 * (ab (x23 - x25))) then
        nm (v9 + 1) fun x28 =>
        self x28
      else
        some (-2)
noncomputable def f_X0_ends_L91 (F : Nat) (k169 : Option Int32) (c0 : Nat) (c1 : Int32) (c2 : Int32) (c3 : Int32) (c4 : Int32) (c5 : Int32) (c6 : Int32) (c7 : Int32) (c8 : Nat) (μ : Sw) (n : Nat) : Int32 → Option Int32 := Nat.rec (motive := fun _ => Int32 → Option Int32) (fun _ => none) (fun _ self => f_X0_ends_L91_b F k169 c0 c1 c2 c3 c4 c5 c6 c7 c8 μ self) n
set_option maxHeartbeats 4000000 in
theorem ok_f_X0_ends_L91 {g : Gx} {μ0 : Sw} {rv : Int32} (F : Nat) (c0 : Nat) (c1 : Int32) (c2 : Int32) (c3 : Int32) (c4 : Int32) (c5 : Int32) (c6 : Int32) (c7 : Int32) (c8 : Nat) (μ : Sw) (k169 : Option Int32) (hk169 : k169 = some rv → PW g mX0_ends 6 μ0 μ (QN g (some (.int rv)) μ0 μ) 169 [(0, .ref c0), (1, .int c1), (2, .int c2), (3, .int c3), (4, .int c4), (5, .int c5), (6, .int c6), (7, .int c7), (8, .ref c8)] [] μ) : ∀ (n : Nat) (v9 : Int32), f_X0_ends_L91 F k169 c0 c1 c2 c3 c4 c5 c6 c7 c8 μ n v9 = some rv → PW g mX0_ends 6 μ0 μ (QN g (some (.int rv)) μ0 μ) 91 [(0, .ref c0), (1, .int c1), (2, .int c2), (3, .int c3), (4, .int c4), (5, .int c5), (6, .int c6), (7, .int c7), (8, .ref c8), (9, .int v9)] [] μ := by
  intro n
  induction n with
  | zero =>
    intro v9 hf
    have hf : (none : Option Int32) = some _ := hf
    cases hf
  | succ n ih =>
    intro v9 hf
    have hf : f_X0_ends_L91_b F k169 c0 c1 c2 c3 c4 c5 c6 c7 c8 μ (f_X0_ends_L91 F k169 c0 c1 c2 c3 c4 c5 c6 c7 c8 μ n) v9 = some rv := hf
    unfold f_X0_ends_L91_b at hf
    refine P.iload 9 (pc' := 93) dX0_ends_91 rfl rfl ?_
    refine P.iload 7 (pc' := 95) dX0_ends_93 rfl rfl ?_
    refine P.icmp_ge (tgt := 169) (pc' := 98) dX0_ends_95 (by decide) rfl (fun y1 => ?_) (fun y1 => ?_)
    · have hf := (if_pos y1).symm.trans hf
      exact PW.sub [0, 1, 2, 3, 4, 5, 6, 7, 8] rfl (hk169 hf)
    · have hf := (if_neg y1).symm.trans hf
      refine P.aload_n 0 (pc' := 99) dX0_ends_98 rfl rfl rfl ?_
      obtain ⟨x2, h3, hf⟩ := ob hf
      refine P.get (pc' := 102) ci0 4 (by decide) (gfR_spec h3) q479 (Or.inl rfl) dX0_ends_99 rfl ?_
      obtain ⟨x4, h5, hf⟩ := ob hf
      refine P.getN (pc' := 105) ci6 5 (by decide) (gfR_spec h5) q425 (Or.inl rfl) dX0_ends_102 rfl ?_
      refine P.iload 9 (pc' := 107) dX0_ends_105 rfl rfl ?_
      obtain ⟨u8, h9, hf⟩ := ob hf
      obtain ⟨q6, h7, hf⟩ := ob hf
      refine P.callV (pc' := 110) (As := [.int v9]) 1 (ok_J2_get F x4 v9 μ h7) (Nat.le_of_ble_eq_true rfl) (lw_V q1007 q1008 q1009 q165 q1010) rfl yok_J2_get rfl (Nat.le_of_ble_eq_true rfl) ci20 h9 (by decide) rfl dX0_ends_107 rfl ?_
      obtain ⟨u10, h11, hf⟩ := ob hf
      refine P.castS (u := u10) (pc' := 113) ci19 q1417 h11 dX0_ends_110 rfl ?_
      refine P.astore (pc' := 115) (lv' := [(10, .ref q6), (0, .ref c0), (1, .int c1), (2, .int c2), (3, .int c3), (4, .int c4), (5, .int c5), (6, .int c6), (7, .int c7), (8, .ref c8), (9, .int v9)]) dX0_ends_113 rfl (Nat.le_of_ble_eq_true rfl) rfl ?_
      refine P.aload_n 1 (pc' := 116) dX0_ends_115 rfl rfl rfl ?_
      refine P.iload 10 (pc' := 118) dX0_ends_116 rfl rfl ?_
      refine P.iload_n 2 (pc' := 119) dX0_ends_118 rfl rfl rfl ?_
      refine P.iload 5 (pc' := 121) dX0_ends_119 rfl rfl ?_
      obtain ⟨u14, h15, hf⟩ := ob hf
      obtain ⟨q12, h13, hf⟩ := ob hf
      refine P.callV (pc' := 124) (As := [.int v9, .int c1, .int c4]) 3 (ok_X0_isMark F c0 v9 c1 c4 μ h13) (Nat.le_of_ble_eq_true rfl) (lw_V q1480 q1482 qs71 q159 q1483) rfl yok_X0_isMark rfl (Nat.le_of_ble_eq_true rfl) ci0 h15 (by decide) rfl dX0_ends_121 rfl ?_
      refine P.if_eq (tgt := 163) (pc' := 127) dX0_ends_124 (by decide) rfl (fun y16 => ?_) (fun y16 => ?_)
      · have hf := (if_pos y16).symm.trans hf
        obtain ⟨x17, e18, hf⟩ := nm_i hf
        refine P.iinc 10 (pc' := 166) (lv' := [(9, .int x17), (10, .ref q6), (0, .ref c0), (1, .int c1), (2, .int c2), (3, .int c3), (4, .int c4), (5, .int c5), (6, .int c6), (7, .int c7), (8, .ref c8)]) dX0_ends_163 rfl rfl (by decide) e18 (Nat.le_of_ble_eq_true rfl) rfl ?_
        refine P.goto (tgt := 91) dX0_ends_166 (by decide) ?_
        exact PW.sub [2, 3, 4, 5, 6, 7, 8, 9, 10, 0] rfl (ih _ hf)
      · have hf := (if_neg y16).symm.trans hf
        refine P.aload 9 (pc' := 129) dX0_ends_127 rfl rfl ?_
        obtain ⟨x19, h20, hf⟩ := ob hf
        refine P.getN (pc' := 132) ci19 3 (by decide) (gfI_spec h20) q1430 (Or.inl rfl) dX0_ends_129 rfl ?_
        refine P.aload 0 (pc' := 134) dX0_ends_132 rfl rfl ?_
        obtain ⟨x21, h22, hf⟩ := ob hf
        refine P.getN (pc' := 137) ci19 3 (by decide) (gfI_spec h22) q1430 (Or.inl rfl) dX0_ends_134 rfl ?_
        refine P.isub (pc' := 138) dX0_ends_137 rfl ?_
        refine P.mabs (pc' := 141) q1137 q1138 q183 q1139 (Nat.le_of_ble_eq_true rfl) (by decide) dX0_ends_138 rfl ?_
        refine P.iload_n 4 (pc' := 142) dX0_ends_141 rfl rfl rfl ?_
        refine P.aload 9 (pc' := 144) dX0_ends_142 rfl rfl ?_
        obtain ⟨x23, h24, hf⟩ := ob hf
        refine P.getN (pc' := 147) ci19 2 (by decide) (gfI_spec h24) q1428 (Or.inl rfl) dX0_ends_144 rfl ?_
        refine P.aload 0 (pc' := 149) dX0_ends_147 rfl rfl ?_
        obtain ⟨x25, h26, hf⟩ := ob hf
        refine P.getN (pc' := 152) ci19 2 (by decide) (gfI_spec h26) q1428 (Or.inl rfl) dX0_ends_149 rfl ?_
        refine P.isub (pc' := 153) dX0_ends_152 rfl ?_
        refine P.mabs (pc' := 156) q1137 q1138 q183 q1139 (Nat.le_of_ble_eq_true rfl) (Nat.le_of_ble_eq_true rfl) dX0_ends_153 rfl ?_
        refine P.imul (pc' := 157) dX0_ends_156 rfl ?_
        refine P.icmp_le (tgt := 163) (pc' := 160) dX0_ends_157 (by decide) rfl (fun y27 => ?_) (fun y27 => ?_)
        · have hf := (if_pos y27).symm.trans hf
          obtain ⟨x28, e29, hf⟩ := nm_i hf
          refine P.iinc 10 (pc' := 166) (lv' := [(9, .int x28), (10, .ref q6), (0, .ref c0), (1, .int c1), (2, .int c2), (3, .int c3), (4, .int c4), (5, .int c5), (6, .int c6), (7, .int c7), (8, .ref c8)]) dX0_ends_163 rfl rfl (by decide) e29 (Nat.le_of_ble_eq_true rfl) rfl ?_
          refine P.goto (tgt := 91) dX0_ends_166 (by decide) ?_
          exact PW.sub [2, 3, 4, 5, 6, 7, 8, 9, 10, 0] rfl (ih _ hf)
        · have hf := (if_neg y27).symm.trans hf
          refine P.bipush (v := (-2)) (pc' := 162) dX0_ends_160 rfl (by decide) ?_
          cases hf; exact P.iret rfl dX0_ends_162
noncomputable def f_X0_ends_L49_b (F : Nat) (c0 : Nat) (c1 : Int32) (c2 : Int32) (c3 : Int32) (c4 : Int32) (μ : Sw) (self : Int32 → Int32 → Int32 → Option Int32) (v5 : Int32) (v6 : Int32) (v7 : Int32) : Option Int32 :=
  if c4 ≤ v7 then
    some ((100 * v5) + v6)
  else
    Option.bind (oc μ c0 0) fun u4 =>
    Option.bind (f_X0_isMark F c0 v7 c1 c4 μ) fun q2 =>
    if q2 = 0 then
      nm (v7 + 1) fun x31 =>
      self v5 v6 x31
    else
      Option.bind (gfR μ c0 0 4) fun x7 =>
      Option.bind (gfR μ x7 6 5) fun x9 =>
      Option.bind (oc μ x9 20) fun u13 =>
      Option.bind (f_J2_get F x9 v7 μ) fun q11 =>
      Option.bind (oc μ q11 19) fun u15 =>
      f_X0_ends_L91 F
        (
          Option.bind (gfI μ q11 19 2) fun x17 =>
          nm (c3 * (ab (c2 - x17))) fun x19 =>
          Option.bind (gfI μ q11 19 3) fun x21 =>
          nm (mx v5 (x21 - x19)) fun x23 =>
          Option.bind (gfI μ q11 19 3) fun x25 =>
          nm (mn v6 (x25 + x19)) fun x27 =>
          nm (v7 + 1) fun x29 =>
          self x23 x27 x29)
        c0 c1 c2 c3 c4 v5 v6 v7 q11 μ F 0
noncomputable def f_X0_ends_L49 (F : Nat) (c0 : Nat) (c1 : Int32) (c2 : Int32) (c3 : Int32) (c4 : Int32) (μ : Sw) (n : Nat) : Int32 → Int32 → Int32 → Option Int32 := Nat.rec (motive := fun _ => Int32 → Int32 → Int32 → Option Int32) (fun _ _ _ => none) (fun _ self => f_X0_ends_L49_b F c0 c1 c2 c3 c4 μ self) n
set_option maxHeartbeats 4000000 in
theorem ok_f_X0_ends_L49 {g : Gx} {μ0 : Sw} {rv : Int32} (F : Nat) (c0 : Nat) (c1 : Int32) (c2 : Int32) (c3 : Int32) (c4 : Int32) (μ : Sw) : ∀ (n : Nat) (v5 : Int32) (v6 : Int32) (v7 : Int32), f_X0_ends_L49 F c0 c1 c2 c3 c4 μ n v5 v6 v7 = some rv → PW g mX0_ends 6 μ0 μ (QN g (some (.int rv)) μ0 μ) 49 [(0, .ref c0), (1, .int c1), (2, .int c2), (3, .int c3), (4, .int c4), (5, .int v5), (6, .int v6), (7, .int v7)] [] μ := by
  intro n
  induction n with
  | zero =>
    intro v5 v6 v7 hf
    have hf : (none : Option Int32) = some _ := hf
    cases hf
  | succ n ih =>
    intro v5 v6 v7 hf
    have hf : f_X0_ends_L49_b F c0 c1 c2 c3 c4 μ (f_X0_ends_L49 F c0 c1 c2 c3 c4 μ n) v5 v6 v7 = some rv := hf
    unfold f_X0_ends_L49_b at hf
    refine P.iload 7 (pc' := 51) dX0_ends_49 rfl rfl ?_
    refine P.iload 4 (pc' := 53) dX0_ends_51 rfl rfl ?_
    refine P.icmp_ge (tgt := 219) (pc' := 56) dX0_ends_53 (by decide) rfl (fun y1 => ?_) (fun y1 => ?_)
    · have hf := (if_pos y1).symm.trans hf
      refine P.bipush (v := 100) (pc' := 221) dX0_ends_219 rfl (by decide) ?_
      refine P.iload 5 (pc' := 223) dX0_ends_221 rfl rfl ?_
      refine P.imul (pc' := 224) dX0_ends_223 rfl ?_
      refine P.iload 6 (pc' := 226) dX0_ends_224 rfl rfl ?_
      refine P.iadd (pc' := 227) dX0_ends_226 rfl ?_
      cases hf; exact P.iret rfl dX0_ends_227
    · have hf := (if_neg y1).symm.trans hf
      refine P.aload_n 0 (pc' := 57) dX0_ends_56 rfl rfl rfl ?_
      refine P.iload 7 (pc' := 59) dX0_ends_57 rfl rfl ?_
      refine P.iload_n 1 (pc' := 60) dX0_ends_59 rfl rfl rfl ?_
      refine P.iload 4 (pc' := 62) dX0_ends_60 rfl rfl ?_
      obtain ⟨u4, h5, hf⟩ := ob hf
      obtain ⟨q2, h3, hf⟩ := ob hf
      refine P.callV (pc' := 65) (As := [.int v7, .int c1, .int c4]) 3 (ok_X0_isMark F c0 v7 c1 c4 μ h3) (Nat.le_of_ble_eq_true rfl) (lw_V q1480 q1482 qs71 q159 q1483) rfl yok_X0_isMark rfl (Nat.le_of_ble_eq_true rfl) ci0 h5 (by decide) rfl dX0_ends_62 rfl ?_
      refine P.if_ne (tgt := 71) (pc' := 68) dX0_ends_65 (by decide) rfl (fun y6 => ?_) (fun y6 => ?_)
      · have hf := (if_neg y6).symm.trans hf
        refine P.aload_n 0 (pc' := 72) dX0_ends_71 rfl rfl rfl ?_
        obtain ⟨x7, h8, hf⟩ := ob hf
        refine P.get (pc' := 75) ci0 4 (by decide) (gfR_spec h8) q479 (Or.inl rfl) dX0_ends_72 rfl ?_
        obtain ⟨x9, h10, hf⟩ := ob hf
        refine P.getN (pc' := 78) ci6 5 (by decide) (gfR_spec h10) q425 (Or.inl rfl) dX0_ends_75 rfl ?_
        refine P.iload 7 (pc' := 80) dX0_ends_78 rfl rfl ?_
        obtain ⟨u13, h14, hf⟩ := ob hf
        obtain ⟨q11, h12, hf⟩ := ob hf
        refine P.callV (pc' := 83) (As := [.int v7]) 1 (ok_J2_get F x9 v7 μ h12) (Nat.le_of_ble_eq_true rfl) (lw_V q1007 q1008 q1009 q165 q1010) rfl yok_J2_get rfl (Nat.le_of_ble_eq_true rfl) ci20 h14 (by decide) rfl dX0_ends_80 rfl ?_
        obtain ⟨u15, h16, hf⟩ := ob hf
        refine P.castS (u := u15) (pc' := 86) ci19 q1417 h16 dX0_ends_83 rfl ?_
        refine P.astore (pc' := 88) (lv' := [(8, .ref q11), (0, .ref c0), (1, .int c1), (2, .int c2), (3, .int c3), (4, .int c4), (5, .int v5), (6, .int v6), (7, .int v7)]) dX0_ends_86 rfl (Nat.le_of_ble_eq_true rfl) rfl ?_
        refine P.iconst (v := 0) (pc' := 89) dX0_ends_88 rfl (by decide) ?_
        refine P.istore (pc' := 91) (lv' := [(9, .int 0), (8, .ref q11), (0, .ref c0), (1, .int c1), (2, .int c2), (3, .int c3), (4, .int c4), (5, .int v5), (6, .int v6), (7, .int v7)]) dX0_ends_89 rfl (Nat.le_of_ble_eq_true rfl) rfl ?_
        refine PW.sub [2, 3, 4, 5, 6, 7, 8, 9, 1, 0] rfl (ok_f_X0_ends_L91 F c0 c1 c2 c3 c4 v5 v6 v7 q11 μ _ ?_ F _ hf)
        · intro hf
          refine P.iload_n 3 (pc' := 170) dX0_ends_169 rfl rfl rfl ?_
          refine P.iload_n 2 (pc' := 171) dX0_ends_170 rfl rfl rfl ?_
          refine P.aload 8 (pc' := 173) dX0_ends_171 rfl rfl ?_
          obtain ⟨x17, h18, hf⟩ := ob hf
          refine P.getN (pc' := 176) ci19 2 (by decide) (gfI_spec h18) q1428 (Or.inl rfl) dX0_ends_173 rfl ?_
          refine P.isub (pc' := 177) dX0_ends_176 rfl ?_
          refine P.mabs (pc' := 180) q1137 q1138 q183 q1139 (Nat.le_of_ble_eq_true rfl) (Nat.le_of_ble_eq_true rfl) dX0_ends_177 rfl ?_
          refine P.imul (pc' := 181) dX0_ends_180 rfl ?_
          obtain ⟨x19, e20, hf⟩ := nm_i hf
          refine P.nmi e20 ?_
          refine P.istore (pc' := 183) (lv' := [(9, .int x19), (0, .ref c0), (1, .int c1), (2, .int c2), (3, .int c3), (4, .int c4), (5, .int v5), (6, .int v6), (7, .int v7), (8, .ref q11)]) dX0_ends_181 rfl (Nat.le_of_ble_eq_true rfl) rfl ?_
          refine P.iload 6 (pc' := 185) dX0_ends_183 rfl rfl ?_
          refine P.aload 9 (pc' := 187) dX0_ends_185 rfl rfl ?_
          obtain ⟨x21, h22, hf⟩ := ob hf
          refine P.getN (pc' := 190) ci19 3 (by decide) (gfI_spec h22) q1430 (Or.inl rfl) dX0_ends_187 rfl ?_
          refine P.iload 0 (pc' := 192) dX0_ends_190 rfl rfl ?_
          refine P.isub (pc' := 193) dX0_ends_192 rfl ?_
          refine P.mmax (pc' := 196) q1086 q816 q183 q817 (Nat.le_of_ble_eq_true rfl) (by decide) dX0_ends_193 rfl ?_
          obtain ⟨x23, e24, hf⟩ := nm_i hf
          refine P.nmi e24 ?_
          refine P.istore (pc' := 198) (lv' := [(5, .int x23), (9, .int x19), (0, .ref c0), (1, .int c1), (2, .int c2), (3, .int c3), (4, .int c4), (6, .int v6), (7, .int v7), (8, .ref q11)]) dX0_ends_196 rfl (Nat.le_of_ble_eq_true rfl) rfl ?_
          refine P.iload 7 (pc' := 200) dX0_ends_198 rfl rfl ?_
          refine P.aload 9 (pc' := 202) dX0_ends_200 rfl rfl ?_
          obtain ⟨x25, h26, hf⟩ := ob hf
          refine P.getN (pc' := 205) ci19 3 (by decide) (gfI_spec h26) q1430 (Or.inl rfl) dX0_ends_202 rfl ?_
          refine P.iload 1 (pc' := 207) dX0_ends_205 rfl rfl ?_
          refine P.iadd (pc' := 208) dX0_ends_207 rfl ?_
          refine P.mmin (pc' := 211) q1087 q857 q183 q858 (Nat.le_of_ble_eq_true rfl) (by decide) dX0_ends_208 rfl ?_
          obtain ⟨x27, e28, hf⟩ := nm_i hf
          refine P.nmi e28 ?_
          refine P.istore (pc' := 213) (lv' := [(6, .int x27), (5, .int x23), (9, .int x19), (0, .ref c0), (1, .int c1), (2, .int c2), (3, .int c3), (4, .int c4), (7, .int v7), (8, .ref q11)]) dX0_ends_211 rfl (Nat.le_of_ble_eq_true rfl) rfl ?_
          obtain ⟨x29, e30, hf⟩ := nm_i hf
          refine P.iinc 8 (pc' := 216) (lv' := [(7, .int x29), (6, .int x27), (5, .int x23), (9, .int x19), (0, .ref c0), (1, .int c1), (2, .int c2), (3, .int c3), (4, .int c4), (8, .ref q11)]) dX0_ends_213 rfl rfl (by decide) e30 (Nat.le_of_ble_eq_true rfl) rfl ?_
          refine P.goto (tgt := 49) dX0_ends_216 (by decide) ?_
          exact PW.sub [4, 5, 6, 7, 8, 2, 1, 0] rfl (ih _ _ _ hf)
      · have hf := (if_pos y6).symm.trans hf
        refine P.goto (tgt := 213) dX0_ends_68 (by decide) ?_
        obtain ⟨x31, e32, hf⟩ := nm_i hf
        refine P.iinc 7 (pc' := 216) (lv' := [(7, .int x31), (0, .ref c0), (1, .int c1), (2, .int c2), (3, .int c3), (4, .int c4), (5, .int v5), (6, .int v6)]) dX0_ends_213 rfl rfl (by decide) e32 (Nat.le_of_ble_eq_true rfl) rfl ?_
        refine P.goto (tgt := 49) dX0_ends_216 (by decide) ?_
        exact PW.sub [1, 2, 3, 4, 5, 6, 7, 0] rfl (ih _ _ _ hf)
noncomputable def f_X0_ends (F : Nat) (this : Nat) (p1 : Int32) (p2 : Int32) (p3 : Int32) (p4 : Int32) (μ : Sw) : Option Int32 :=
  Option.bind (oc μ this 0) fun u3 =>
  Option.bind (f_X0_isHouse F this p1 μ) fun q1 =>
  if q1 = 0 then
    some (-1)
  else
    Option.bind (p_X0_within F p2 0 99) fun q6 =>
    if q6 = 0 then
      some (-1)
    else
      Option.bind (p_X0_within F p3 0 99) fun q9 =>
      if q9 = 0 then
        some (-1)
      else
        Option.bind (oc μ this 0) fun u14 =>
        Option.bind (f_X0_isKnown F this p4 μ) fun q12 =>
        if q12 = 0 then
          some (-1)
        else
          f_X0_ends_L49 F this p1 p2 p3 p4 μ F 0 99 0
set_option maxHeartbeats 4000000 in
theorem ok_X0_ends {g : Gx} (F : Nat) (this : Nat) (p1 : Int32) (p2 : Int32) (p3 : Int32) (p4 : Int32) (μ : Sw) {rv : Int32} (hf : f_X0_ends F this p1 p2 p3 p4 μ = some rv) : Cl g 6 yX0_ends cX0_ends 11 (some Jvm.ClassFile.FieldType.int) [.ref this, .int p1, .int p2, .int p3, .int p4] μ (some (.int rv)) μ := by
  unfold f_X0_ends at hf
  refine Cl.of (own := RX0) (ini := false) (by decide +kernel) rfl (by decide) (Nat.le_of_ble_eq_true rfl) ?_
  show PW g mX0_ends 6 μ μ (QN g (some (.int rv)) μ μ) 0 [(0, .ref this), (1, .int p1), (2, .int p2), (3, .int p3), (4, .int p4)] [] μ
  refine P.aload_n 0 (pc' := 1) dX0_ends_0 rfl rfl rfl ?_
  refine P.iload_n 1 (pc' := 2) dX0_ends_1 rfl rfl rfl ?_
  obtain ⟨u3, h4, hf⟩ := ob hf
  obtain ⟨q1, h2, hf⟩ := ob hf
  refine P.callV (pc' := 5) (As := [.int p1]) 1 (ok_X0_isHouse F this p1 μ h2) (Nat.le_of_ble_eq_true rfl) (lw_V q1030 q1032 qs33 q159 q1033) rfl yok_X0_isHouse rfl (Nat.le_of_ble_eq_true rfl) ci0 h4 (by decide) rfl dX0_ends_2 rfl ?_
  refine P.if_eq (tgt := 37) (pc' := 8) dX0_ends_5 (by decide) rfl (fun y5 => ?_) (fun y5 => ?_)
  · have hf := (if_pos y5).symm.trans hf
    refine P.iconst (v := (-1)) (pc' := 38) dX0_ends_37 rfl (by decide) ?_
    cases hf; exact P.iret rfl dX0_ends_38
  · have hf := (if_neg y5).symm.trans hf
    refine P.iload_n 2 (pc' := 9) dX0_ends_8 rfl rfl rfl ?_
    refine P.iconst (v := 0) (pc' := 10) dX0_ends_9 rfl (by decide) ?_
    refine P.bipush (v := 99) (pc' := 12) dX0_ends_10 rfl (by decide) ?_
    obtain ⟨q6, h7, hf⟩ := ob hf
    refine P.callS (pc' := 15) (As := [.int p2, .int 0, .int 99]) 3 (ok_X0_within F p2 0 99 μ h7) (Nat.le_of_ble_eq_true rfl) (lw_S q1038 q557 q159 q558) yok_X0_within rfl (Nat.le_of_ble_eq_true rfl) (by decide) rfl dX0_ends_12 rfl ?_
    refine P.if_eq (tgt := 37) (pc' := 18) dX0_ends_15 (by decide) rfl (fun y8 => ?_) (fun y8 => ?_)
    · have hf := (if_pos y8).symm.trans hf
      refine P.iconst (v := (-1)) (pc' := 38) dX0_ends_37 rfl (by decide) ?_
      cases hf; exact P.iret rfl dX0_ends_38
    · have hf := (if_neg y8).symm.trans hf
      refine P.iload_n 3 (pc' := 19) dX0_ends_18 rfl rfl rfl ?_
      refine P.iconst (v := 0) (pc' := 20) dX0_ends_19 rfl (by decide) ?_
      refine P.bipush (v := 99) (pc' := 22) dX0_ends_20 rfl (by decide) ?_
      obtain ⟨q9, h10, hf⟩ := ob hf
      refine P.callS (pc' := 25) (As := [.int p3, .int 0, .int 99]) 3 (ok_X0_within F p3 0 99 μ h10) (Nat.le_of_ble_eq_true rfl) (lw_S q1038 q557 q159 q558) yok_X0_within rfl (Nat.le_of_ble_eq_true rfl) (by decide) rfl dX0_ends_22 rfl ?_
      refine P.if_eq (tgt := 37) (pc' := 28) dX0_ends_25 (by decide) rfl (fun y11 => ?_) (fun y11 => ?_)
      · have hf := (if_pos y11).symm.trans hf
        refine P.iconst (v := (-1)) (pc' := 38) dX0_ends_37 rfl (by decide) ?_
        cases hf; exact P.iret rfl dX0_ends_38
      · have hf := (if_neg y11).symm.trans hf
        refine P.aload_n 0 (pc' := 29) dX0_ends_28 rfl rfl rfl ?_
        refine P.iload 4 (pc' := 31) dX0_ends_29 rfl rfl ?_
        obtain ⟨u14, h15, hf⟩ := ob hf
        obtain ⟨q12, h13, hf⟩ := ob hf
        refine P.callV (pc' := 34) (As := [.int p4]) 1 (ok_X0_isKnown F this p4 μ h13) (Nat.le_of_ble_eq_true rfl) (lw_V q1456 q1458 qs67 q159 q1459) rfl yok_X0_isKnown rfl (Nat.le_of_ble_eq_true rfl) ci0 h15 (by decide) rfl dX0_ends_31 rfl ?_
        refine P.if_ne (tgt := 39) (pc' := 37) dX0_ends_34 (by decide) rfl (fun y16 => ?_) (fun y16 => ?_)
        · have hf := (if_neg y16).symm.trans hf
          refine P.iconst (v := 0) (pc' := 40) dX0_ends_39 rfl (by decide) ?_
          refine P.istore (pc' := 42) (lv' := [(5, .int 0), (0, .ref this), (1, .int p1), (2, .int p2), (3, .int p3), (4, .int p4)]) dX0_ends_40 rfl (Nat.le_of_ble_eq_true rfl) rfl ?_
          refine P.bipush (v := 99) (pc' := 44) dX0_ends_42 rfl (by decide) ?_
          refine P.istore (pc' := 46) (lv' := [(6, .int 99), (5, .int 0), (0, .ref this), (1, .int p1), (2, .int p2), (3, .int p3), (4, .int p4)]) dX0_ends_44 rfl (Nat.le_of_ble_eq_true rfl) rfl ?_
          refine P.iconst (v := 0) (pc' := 47) dX0_ends_46 rfl (by decide) ?_
          refine P.istore (pc' := 49) (lv' := [(7, .int 0), (6, .int 99), (5, .int 0), (0, .ref this), (1, .int p1), (2, .int p2), (3, .int p3), (4, .int p4)]) dX0_ends_47 rfl (Nat.le_of_ble_eq_true rfl) rfl ?_
          exact PW.sub [3, 4, 5, 6, 7, 2, 1, 0] rfl (ok_f_X0_ends_L49 F this p1 p2 p3 p4 μ F _ _ _ hf)
        · have hf := (if_pos y16).symm.trans hf
          refine P.iconst (v := (-1)) (pc' := 38) dX0_ends_37 rfl (by decide) ?_
          cases hf; exact P.iret rfl dX0_ends_38
theorem yok_X0_lot : yOK yX0_lot 3 := ⟨by decide +kernel, by decide +kernel, by decide +kernel⟩
abbrev mX0_yearBy : Ym := (RX0, cX0_yearBy, 8, (some Jvm.ClassFile.FieldType.int), false, [])
noncomputable def f_X0_yearBy_L81_b (F : Nat) (c0 : Nat) (self : Int32 → Int32 → Int32 → Sw → Option (Int32 × Sw)) (v4 : Int32) (v5 : Int32) (v6 : Int32) (μ : Sw) : Option (Int32 × Sw) :=
  Option.bind (oc μ c0 0) fun u3 =>
  Option.bind (f_X0_houses F c0 μ) fun q1 =>
  if q1 ≤ v6 then
    some (v4, μ)
  else
    Option.bind (gfR μ c0 0 3) fun x6 =>
    Option.bind (gfI μ x6 3 11) fun x8 =>
    if x8 ≤ v5 then
      some (v4, μ)
    else
      Option.bind (oc μ c0 0) fun u13 =>
      Option.bind (f_X0_dueOf F c0 v6 μ) fun q11 =>
      Option.bind (gfR q11.2 c0 0 4) fun x15 =>
      Option.bind (gfR q11.2 x15 6 0) fun x17 =>
      Option.bind (aI q11.2 0 x17 v6) fun x19 =>
      nm (q11.1 - x19) fun x21 =>
      if x21 = 0 then
        nm (v6 + 1) fun x48 =>
        self v4 v5 x48 q11.2
      else
        Option.bind (gfR q11.2 c0 0 3) fun x24 =>
        Option.bind (gfI q11.2 x24 3 12) fun x26 =>
        Option.bind (gfR q11.2 c0 0 3) fun x28 =>
        Option.bind (gfI q11.2 x28 3 12) fun x30 =>
        nm (mn (mx x21 (-x26)) x30) fun x32 =>
        Option.bind (gfR q11.2 c0 0 4) fun x34 =>
        Option.bind (gfR q11.2 x34 6 0) fun x36 =>
        Option.bind (aI q11.2 0 x36 v6) fun x38 =>
        Option.bind (sI q11.2 0 x36 v6 (x38 + x32)) fun μ41 =>
        nm (v4 + (ab x32)) fun x42 =>
        nm (v5 + 1) fun x44 =>
        nm (v6 + 1) fun x46 =>
        self x42 x44 x46 μ41
noncomputable def f_X0_yearBy_L81 (F : Nat) (c0 : Nat) (n : Nat) : Int32 → Int32 → Int32 → Sw → Option (Int32 × Sw) := Nat.rec (motive := fun _ => Int32 → Int32 → Int32 → Sw → Option (Int32 × Sw)) (fun _ _ _ _ => none) (fun _ self => f_X0_yearBy_L81_b F c0 self) n
set_option maxHeartbeats 4000000 in
theorem ok_f_X0_yearBy_L81 {g : Gx} {μ0 : Sw} {rv : Int32} {μF : Sw} (F : Nat) (c0 : Nat) : ∀ (n : Nat) (v4 : Int32) (v5 : Int32) (v6 : Int32) (μ : Sw), f_X0_yearBy_L81 F c0 n v4 v5 v6 μ = some (rv, μF) → PW g mX0_yearBy 413 μ0 μF (QN g (some (.int rv)) μ0 μF) 81 [(0, .ref c0), (4, .int v4), (5, .int v5), (6, .int v6)] [] μ := by
  intro n
  induction n with
  | zero =>
    intro v4 v5 v6 μ hf
    have hf : (none : Option (Int32 × Sw)) = some _ := hf
    cases hf
  | succ n ih =>
    intro v4 v5 v6 μ hf
    have hf : f_X0_yearBy_L81_b F c0 (f_X0_yearBy_L81 F c0 n) v4 v5 v6 μ = some (rv, μF) := hf
    unfold f_X0_yearBy_L81_b at hf
    refine P.iload 3 (pc' := 83) dX0_yearBy_81 rfl rfl ?_
    refine P.aload_n 0 (pc' := 84) dX0_yearBy_83 rfl rfl rfl ?_
    obtain ⟨u3, h4, hf⟩ := ob hf
    obtain ⟨q1, h2, hf⟩ := ob hf
    refine P.callV (pc' := 87) (As := []) 0 (ok_X0_houses F c0 μ h2) (Nat.le_of_ble_eq_true rfl) (lw_V q1034 q1036 qs34 q159 q1037) rfl yok_X0_houses rfl (Nat.le_of_ble_eq_true rfl) ci0 h4 (Nat.le_of_ble_eq_true rfl) rfl dX0_yearBy_84 rfl ?_
    refine P.icmp_ge (tgt := 188) (pc' := 90) dX0_yearBy_87 (by decide) rfl (fun y5 => ?_) (fun y5 => ?_)
    · have hf := (if_pos y5).symm.trans hf
      refine P.iload 1 (pc' := 190) dX0_yearBy_188 rfl rfl ?_
      cases hf; exact P.iret rfl dX0_yearBy_190
    · have hf := (if_neg y5).symm.trans hf
      refine P.iload 2 (pc' := 92) dX0_yearBy_90 rfl rfl ?_
      refine P.aload_n 0 (pc' := 93) dX0_yearBy_92 rfl rfl rfl ?_
      obtain ⟨x6, h7, hf⟩ := ob hf
      refine P.get (pc' := 96) ci0 3 (by decide) (gfR_spec h7) q478 (Or.inl rfl) dX0_yearBy_93 rfl ?_
      obtain ⟨x8, h9, hf⟩ := ob hf
      refine P.getN (pc' := 99) ci3 11 (by decide) (gfI_spec h9) q358 (Or.inl rfl) dX0_yearBy_96 rfl ?_
      refine P.icmp_ge (tgt := 188) (pc' := 102) dX0_yearBy_99 (by decide) rfl (fun y10 => ?_) (fun y10 => ?_)
      · have hf := (if_pos y10).symm.trans hf
        refine P.iload 1 (pc' := 190) dX0_yearBy_188 rfl rfl ?_
        cases hf; exact P.iret rfl dX0_yearBy_190
      · have hf := (if_neg y10).symm.trans hf
        refine P.aload_n 0 (pc' := 103) dX0_yearBy_102 rfl rfl rfl ?_
        refine P.iload 3 (pc' := 105) dX0_yearBy_103 rfl rfl ?_
        obtain ⟨u13, h14, hf⟩ := ob hf
        obtain ⟨q11, h12, hf⟩ := ob hf
        refine P.callV (pc' := 108) (As := [.int v6]) 1 (ok_X0_dueOf F c0 v6 μ h12) (Nat.le_of_ble_eq_true rfl) (lw_V q1043 q1045 qs36 q159 q1046) rfl yok_X0_dueOf rfl (Nat.le_of_ble_eq_true rfl) ci0 h14 (by decide) rfl dX0_yearBy_105 rfl ?_
        refine P.aload_n 0 (pc' := 109) dX0_yearBy_108 rfl rfl rfl ?_
        obtain ⟨x15, h16, hf⟩ := ob hf
        refine P.get (pc' := 112) ci0 4 (by decide) (gfR_spec h16) q479 (Or.inl rfl) dX0_yearBy_109 rfl ?_
        obtain ⟨x17, h18, hf⟩ := ob hf
        refine P.getN (pc' := 115) ci6 0 (by decide) (gfR_spec h18) q414 (Or.inl rfl) dX0_yearBy_112 rfl ?_
        refine P.iload 3 (pc' := 117) dX0_yearBy_115 rfl rfl ?_
        obtain ⟨x19, h20, hf⟩ := ob hf
        refine P.iald (t := 0) (pc' := 118) rfl h20 dX0_yearBy_117 rfl ?_
        refine P.isub (pc' := 119) dX0_yearBy_118 rfl ?_
        obtain ⟨x21, e22, hf⟩ := nm_i hf
        refine P.nmi e22 ?_
        refine P.istore (pc' := 121) (lv' := [(7, .int x21), (0, .ref c0), (4, .int v4), (5, .int v5), (6, .int v6)]) dX0_yearBy_119 rfl (Nat.le_of_ble_eq_true rfl) rfl ?_
        refine P.iload 0 (pc' := 123) dX0_yearBy_121 rfl rfl ?_
        refine P.if_ne (tgt := 129) (pc' := 126) dX0_yearBy_123 (by decide) rfl (fun y23 => ?_) (fun y23 => ?_)
        · have hf := (if_neg y23).symm.trans hf
          refine P.iload 0 (pc' := 131) dX0_yearBy_129 rfl rfl ?_
          refine P.aload_n 1 (pc' := 132) dX0_yearBy_131 rfl rfl rfl ?_
          obtain ⟨x24, h25, hf⟩ := ob hf
          refine P.get (pc' := 135) ci0 3 (by decide) (gfR_spec h25) q478 (Or.inl rfl) dX0_yearBy_132 rfl ?_
          obtain ⟨x26, h27, hf⟩ := ob hf
          refine P.getN (pc' := 138) ci3 12 (by decide) (gfI_spec h27) q361 (Or.inl rfl) dX0_yearBy_135 rfl ?_
          refine P.ineg (pc' := 139) dX0_yearBy_138 rfl ?_
          refine P.mmax (pc' := 142) q1086 q816 q183 q817 (Nat.le_of_ble_eq_true rfl) (by decide) dX0_yearBy_139 rfl ?_
          refine P.aload_n 1 (pc' := 143) dX0_yearBy_142 rfl rfl rfl ?_
          obtain ⟨x28, h29, hf⟩ := ob hf
          refine P.get (pc' := 146) ci0 3 (by decide) (gfR_spec h29) q478 (Or.inl rfl) dX0_yearBy_143 rfl ?_
          obtain ⟨x30, h31, hf⟩ := ob hf
          refine P.getN (pc' := 149) ci3 12 (by decide) (gfI_spec h31) q361 (Or.inl rfl) dX0_yearBy_146 rfl ?_
          refine P.mmin (pc' := 152) q1087 q857 q183 q858 (Nat.le_of_ble_eq_true rfl) (by decide) dX0_yearBy_149 rfl ?_
          obtain ⟨x32, e33, hf⟩ := nm_i hf
          refine P.nmi e33 ?_
          refine P.istore (pc' := 154) (lv' := [(7, .int x32), (0, .ref c0), (4, .int v4), (5, .int v5), (6, .int v6)]) dX0_yearBy_152 rfl (Nat.le_of_ble_eq_true rfl) rfl ?_
          refine P.aload_n 1 (pc' := 155) dX0_yearBy_154 rfl rfl rfl ?_
          obtain ⟨x34, h35, hf⟩ := ob hf
          refine P.get (pc' := 158) ci0 4 (by decide) (gfR_spec h35) q479 (Or.inl rfl) dX0_yearBy_155 rfl ?_
          obtain ⟨x36, h37, hf⟩ := ob hf
          refine P.getN (pc' := 161) ci6 0 (by decide) (gfR_spec h37) q414 (Or.inl rfl) dX0_yearBy_158 rfl ?_
          refine P.iload 4 (pc' := 163) dX0_yearBy_161 rfl rfl ?_
          refine P.dup2 (pc' := 164) dX0_yearBy_163 rfl rfl rfl ?_
          obtain ⟨x38, h39, hf⟩ := ob hf
          refine P.iald (t := 0) (pc' := 165) rfl h39 dX0_yearBy_164 rfl ?_
          refine P.iload 0 (pc' := 167) dX0_yearBy_165 rfl rfl ?_
          refine P.iadd (pc' := 168) dX0_yearBy_167 rfl ?_
          obtain ⟨μ41, h40, hf⟩ := ob hf
          refine P.iast (pc' := 169) h40 dX0_yearBy_168 rfl ?_
          refine P.iload 2 (pc' := 171) dX0_yearBy_169 rfl rfl ?_
          refine P.iload 0 (pc' := 173) dX0_yearBy_171 rfl rfl ?_
          refine P.mabs (pc' := 176) q1137 q1138 q183 q1139 (Nat.le_of_ble_eq_true rfl) (Nat.le_of_ble_eq_true rfl) dX0_yearBy_173 rfl ?_
          refine P.iadd (pc' := 177) dX0_yearBy_176 rfl ?_
          obtain ⟨x42, e43, hf⟩ := nm_i hf
          refine P.nmi e43 ?_
          refine P.istore (pc' := 179) (lv' := [(4, .int x42), (7, .int x32), (0, .ref c0), (5, .int v5), (6, .int v6)]) dX0_yearBy_177 rfl (Nat.le_of_ble_eq_true rfl) rfl ?_
          obtain ⟨x44, e45, hf⟩ := nm_i hf
          refine P.iinc 3 (pc' := 182) (lv' := [(5, .int x44), (4, .int x42), (7, .int x32), (0, .ref c0), (6, .int v6)]) dX0_yearBy_179 rfl rfl (by decide) e45 (Nat.le_of_ble_eq_true rfl) rfl ?_
          obtain ⟨x46, e47, hf⟩ := nm_i hf
          refine P.iinc 4 (pc' := 185) (lv' := [(6, .int x46), (5, .int x44), (4, .int x42), (7, .int x32), (0, .ref c0)]) dX0_yearBy_182 rfl rfl (by decide) e47 (Nat.le_of_ble_eq_true rfl) rfl ?_
          refine P.goto (tgt := 81) dX0_yearBy_185 (by decide) ?_
          exact PW.sub [4, 2, 1, 0] rfl (ih _ _ _ _ hf)
        · have hf := (if_pos y23).symm.trans hf
          refine P.goto (tgt := 182) dX0_yearBy_126 (by decide) ?_
          obtain ⟨x48, e49, hf⟩ := nm_i hf
          refine P.iinc 4 (pc' := 185) (lv' := [(6, .int x48), (7, .int x21), (0, .ref c0), (4, .int v4), (5, .int v5)]) dX0_yearBy_182 rfl rfl (by decide) e49 (Nat.le_of_ble_eq_true rfl) rfl ?_
          refine P.goto (tgt := 81) dX0_yearBy_185 (by decide) ?_
          exact PW.sub [2, 3, 4, 0] rfl (ih _ _ _ _ hf)
noncomputable def f_X0_yearBy (F : Nat) (this : Nat) (p1 : Int32) (p2 : Int32) (μ : Sw) : Option (Int32 × Sw) :=
  Option.bind (gfR μ this 0 4) fun x1 =>
  Option.bind (gfR μ x1 6 1) fun x3 =>
  Option.bind (oc μ this 0) fun u7 =>
  Option.bind (f_X0_houses F this μ) fun q5 =>
  Option.bind (p_X0_lot F p1 (10 * p2) q5) fun q9 =>
  Option.bind (sI μ 0 x3 q9 (-1)) fun μ12 =>
  Option.bind (gfR μ12 this 0 3) fun x13 =>
  Option.bind (gfI μ12 x13 3 6) fun x15 =>
  Option.bind (p_X0_lot F p1 ((10 * p2) + 1) x15) fun q17 =>
  Option.bind (oc μ12 this 0) fun u21 =>
  Option.bind (f_X0_holderOf F this q17 μ12) fun q19 =>
  if 0 ≤ q19 then
    f_X0_yearBy_L81 F this F 0 0 0 μ12
  else
    Option.bind (gfR μ12 this 0 4) fun x24 =>
    Option.bind (gfR μ12 x24 6 1) fun x26 =>
    Option.bind (oc μ12 this 0) fun u30 =>
    Option.bind (f_X0_houses F this μ12) fun q28 =>
    Option.bind (p_X0_lot F p1 ((10 * p2) + 2) q28) fun q32 =>
    Option.bind (f_X0_gives F x26 q32 q17 μ12) fun q34 =>
    f_X0_yearBy_L81 F this F 0 0 0 q34
set_option maxHeartbeats 4000000 in
theorem ok_X0_yearBy {g : Gx} (F : Nat) (this : Nat) (p1 : Int32) (p2 : Int32) (μ : Sw) {rv : Int32} {μF : Sw} (hf : f_X0_yearBy F this p1 p2 μ = some (rv, μF)) : Cl g 413 yX0_yearBy cX0_yearBy 8 (some Jvm.ClassFile.FieldType.int) [.ref this, .int p1, .int p2] μ (some (.int rv)) μF := by
  unfold f_X0_yearBy at hf
  refine Cl.of (own := RX0) (ini := false) (by decide +kernel) rfl (by decide) (Nat.le_of_ble_eq_true rfl) ?_
  show PW g mX0_yearBy 413 μ μF (QN g (some (.int rv)) μ μF) 0 [(0, .ref this), (1, .int p1), (2, .int p2)] [] μ
  refine P.aload_n 0 (pc' := 1) dX0_yearBy_0 rfl rfl rfl ?_
  obtain ⟨x1, h2, hf⟩ := ob hf
  refine P.get (pc' := 4) ci0 4 (by decide) (gfR_spec h2) q479 (Or.inl rfl) dX0_yearBy_1 rfl ?_
  obtain ⟨x3, h4, hf⟩ := ob hf
  refine P.getN (pc' := 7) ci6 1 (by decide) (gfR_spec h4) q416 (Or.inl rfl) dX0_yearBy_4 rfl ?_
  refine P.iload_n 1 (pc' := 8) dX0_yearBy_7 rfl rfl rfl ?_
  refine P.bipush (v := 10) (pc' := 10) dX0_yearBy_8 rfl (by decide) ?_
  refine P.iload_n 2 (pc' := 11) dX0_yearBy_10 rfl rfl rfl ?_
  refine P.imul (pc' := 12) dX0_yearBy_11 rfl ?_
  refine P.aload_n 0 (pc' := 13) dX0_yearBy_12 rfl rfl rfl ?_
  obtain ⟨u7, h8, hf⟩ := ob hf
  obtain ⟨q5, h6, hf⟩ := ob hf
  refine P.callV (pc' := 16) (As := []) 0 (ok_X0_houses F this μ h6) (Nat.le_of_ble_eq_true rfl) (lw_V q1034 q1036 qs34 q159 q1037) rfl yok_X0_houses rfl (Nat.le_of_ble_eq_true rfl) ci0 h8 (Nat.le_of_ble_eq_true rfl) rfl dX0_yearBy_13 rfl ?_
  obtain ⟨q9, h10, hf⟩ := ob hf
  refine P.callS (pc' := 19) (As := [.int p1, .int (10 * p2), .int q5]) 3 (ok_X0_lot F p1 (10 * p2) q5 μ h10) (Nat.le_of_ble_eq_true rfl) (lw_S q1492 q1493 q159 q1494) yok_X0_lot rfl (Nat.le_of_ble_eq_true rfl) (Nat.le_of_ble_eq_true rfl) rfl dX0_yearBy_16 rfl ?_
  refine P.iconst (v := (-1)) (pc' := 20) dX0_yearBy_19 rfl (by decide) ?_
  obtain ⟨μ12, h11, hf⟩ := ob hf
  refine P.iast (pc' := 21) h11 dX0_yearBy_20 rfl ?_
  refine P.iload_n 1 (pc' := 22) dX0_yearBy_21 rfl rfl rfl ?_
  refine P.bipush (v := 10) (pc' := 24) dX0_yearBy_22 rfl (by decide) ?_
  refine P.iload_n 2 (pc' := 25) dX0_yearBy_24 rfl rfl rfl ?_
  refine P.imul (pc' := 26) dX0_yearBy_25 rfl ?_
  refine P.iconst (v := 1) (pc' := 27) dX0_yearBy_26 rfl (by decide) ?_
  refine P.iadd (pc' := 28) dX0_yearBy_27 rfl ?_
  refine P.aload_n 0 (pc' := 29) dX0_yearBy_28 rfl rfl rfl ?_
  obtain ⟨x13, h14, hf⟩ := ob hf
  refine P.get (pc' := 32) ci0 3 (by decide) (gfR_spec h14) q478 (Or.inl rfl) dX0_yearBy_29 rfl ?_
  obtain ⟨x15, h16, hf⟩ := ob hf
  refine P.getN (pc' := 35) ci3 6 (by decide) (gfI_spec h16) q345 (Or.inl rfl) dX0_yearBy_32 rfl ?_
  obtain ⟨q17, h18, hf⟩ := ob hf
  refine P.callS (pc' := 38) (As := [.int p1, .int ((10 * p2) + 1), .int x15]) 3 (ok_X0_lot F p1 ((10 * p2) + 1) x15 μ12 h18) (Nat.le_of_ble_eq_true rfl) (lw_S q1492 q1493 q159 q1494) yok_X0_lot rfl (Nat.le_of_ble_eq_true rfl) (by decide) rfl dX0_yearBy_35 rfl ?_
  refine P.istore_n (pc' := 39) (lv' := [(3, .int q17), (0, .ref this), (1, .int p1), (2, .int p2)]) dX0_yearBy_38 rfl rfl (Nat.le_of_ble_eq_true rfl) rfl ?_
  refine P.aload_n 1 (pc' := 40) dX0_yearBy_39 rfl rfl rfl ?_
  refine P.iload_n 0 (pc' := 41) dX0_yearBy_40 rfl rfl rfl ?_
  obtain ⟨u21, h22, hf⟩ := ob hf
  obtain ⟨q19, h20, hf⟩ := ob hf
  refine P.callV (pc' := 44) (As := [.int q17]) 1 (ok_X0_holderOf F this q17 μ12 h20) (Nat.le_of_ble_eq_true rfl) (lw_V q1101 q1103 qs39 q159 q1104) rfl yok_X0_holderOf rfl (Nat.le_of_ble_eq_true rfl) ci0 h22 (by decide) rfl dX0_yearBy_41 rfl ?_
  refine P.if_ge (tgt := 72) (pc' := 47) dX0_yearBy_44 (by decide) rfl (fun y23 => ?_) (fun y23 => ?_)
  · have hf := (if_pos y23).symm.trans hf
    refine P.iconst (v := 0) (pc' := 73) dX0_yearBy_72 rfl (by decide) ?_
    refine P.istore (pc' := 75) (lv' := [(4, .int 0), (3, .int q17), (0, .ref this), (1, .int p1), (2, .int p2)]) dX0_yearBy_73 rfl (Nat.le_of_ble_eq_true rfl) rfl ?_
    refine P.iconst (v := 0) (pc' := 76) dX0_yearBy_75 rfl (by decide) ?_
    refine P.istore (pc' := 78) (lv' := [(5, .int 0), (4, .int 0), (3, .int q17), (0, .ref this), (1, .int p1), (2, .int p2)]) dX0_yearBy_76 rfl (Nat.le_of_ble_eq_true rfl) rfl ?_
    refine P.iconst (v := 0) (pc' := 79) dX0_yearBy_78 rfl (by decide) ?_
    refine P.istore (pc' := 81) (lv' := [(6, .int 0), (5, .int 0), (4, .int 0), (3, .int q17), (0, .ref this), (1, .int p1), (2, .int p2)]) dX0_yearBy_79 rfl (Nat.le_of_ble_eq_true rfl) rfl ?_
    exact PW.sub [4, 2, 1, 0] rfl (ok_f_X0_yearBy_L81 F this F _ _ _ _ hf)
  · have hf := (if_neg y23).symm.trans hf
    refine P.aload_n 1 (pc' := 48) dX0_yearBy_47 rfl rfl rfl ?_
    obtain ⟨x24, h25, hf⟩ := ob hf
    refine P.get (pc' := 51) ci0 4 (by decide) (gfR_spec h25) q479 (Or.inl rfl) dX0_yearBy_48 rfl ?_
    obtain ⟨x26, h27, hf⟩ := ob hf
    refine P.getN (pc' := 54) ci6 1 (by decide) (gfR_spec h27) q416 (Or.inl rfl) dX0_yearBy_51 rfl ?_
    refine P.iload_n 2 (pc' := 55) dX0_yearBy_54 rfl rfl rfl ?_
    refine P.bipush (v := 10) (pc' := 57) dX0_yearBy_55 rfl (by decide) ?_
    refine P.iload_n 3 (pc' := 58) dX0_yearBy_57 rfl rfl rfl ?_
    refine P.imul (pc' := 59) dX0_yearBy_58 rfl ?_
    refine P.iconst (v := 2) (pc' := 60) dX0_yearBy_59 rfl (by decide) ?_
    refine P.iadd (pc' := 61) dX0_yearBy_60 rfl ?_
    refine P.aload_n 1 (pc' := 62) dX0_yearBy_61 rfl rfl rfl ?_
    obtain ⟨u30, h31, hf⟩ := ob hf
    obtain ⟨q28, h29, hf⟩ := ob hf
    refine P.callV (pc' := 65) (As := []) 0 (ok_X0_houses F this μ12 h29) (Nat.le_of_ble_eq_true rfl) (lw_V q1034 q1036 qs34 q159 q1037) rfl yok_X0_houses rfl (Nat.le_of_ble_eq_true rfl) ci0 h31 (Nat.le_of_ble_eq_true rfl) rfl dX0_yearBy_62 rfl ?_
    obtain ⟨q32, h33, hf⟩ := ob hf
    refine P.callS (pc' := 68) (As := [.int p1, .int ((10 * p2) + 2), .int q28]) 3 (ok_X0_lot F p1 ((10 * p2) + 2) q28 μ12 h33) (Nat.le_of_ble_eq_true rfl) (lw_S q1492 q1493 q159 q1494) yok_X0_lot rfl (Nat.le_of_ble_eq_true rfl) (Nat.le_of_ble_eq_true rfl) rfl dX0_yearBy_65 rfl ?_
    refine P.iload_n 0 (pc' := 69) dX0_yearBy_68 rfl rfl rfl ?_
    obtain ⟨q34, h35, hf⟩ := ob hf
    refine P.callS (pc' := 72) (As := [.ref x26, .int q32, .int q17]) 3 (ok_X0_gives F x26 q32 q17 μ12 h35) (Nat.le_of_ble_eq_true rfl) (lw_S q1096 q869 q159 q870) yok_X0_gives rfl (Nat.le_of_ble_eq_true rfl) (by decide) rfl dX0_yearBy_69 rfl ?_
    refine P.iconst (v := 0) (pc' := 73) dX0_yearBy_72 rfl (by decide) ?_
    refine P.istore (pc' := 75) (lv' := [(4, .int 0), (3, .int q17), (0, .ref this), (1, .int p1), (2, .int p2)]) dX0_yearBy_73 rfl (Nat.le_of_ble_eq_true rfl) rfl ?_
    refine P.iconst (v := 0) (pc' := 76) dX0_yearBy_75 rfl (by decide) ?_
    refine P.istore (pc' := 78) (lv' := [(5, .int 0), (4, .int 0), (3, .int q17), (0, .ref this), (1, .int p1), (2, .int p2)]) dX0_yearBy_76 rfl (Nat.le_of_ble_eq_true rfl) rfl ?_
    refine P.iconst (v := 0) (pc' := 79) dX0_yearBy_78 rfl (by decide) ?_
    refine P.istore (pc' := 81) (lv' := [(6, .int 0), (5, .int 0), (4, .int 0), (3, .int q17), (0, .ref this), (1, .int p1), (2, .int p2)]) dX0_yearBy_79 rfl (Nat.le_of_ble_eq_true rfl) rfl ?_
    exact PW.sub [4, 2, 1, 0] rfl (ok_f_X0_yearBy_L81 F this F _ _ _ _ hf)
theorem yok_X0_yearBy : yOK yX0_yearBy 2 := ⟨by decide +kernel, by decide +kernel, by decide +kernel⟩
abbrev mX0_years : Ym := (RX0, cX0_years, 5, (some Jvm.ClassFile.FieldType.int), false, [])
noncomputable def f_X0_years_L22_b (F : Nat) (c0 : Nat) (c1 : Int32) (c2 : Int32) (self : Int32 → Int32 → Sw → Option (Int32 × Sw)) (v3 : Int32) (v4 : Int32) (μ : Sw) : Option (Int32 × Sw) :=
  if c2 ≤ v4 then
    some (v3, μ)
  else
    Option.bind (oc μ c0 0) fun u4 =>
    Option.bind (f_X0_houses F c0 μ) fun q2 =>
    if q2 ≤ 0 then
      some (v3, μ)
    else
      Option.bind (gfR μ c0 0 3) fun x7 =>
      Option.bind (gfI μ x7 3 6) fun x9 =>
      if x9 ≤ 0 then
        some (v3, μ)
      else
        Option.bind (oc μ c0 0) fun u14 =>
        Option.bind (f_X0_yearBy F c0 c1 v4 μ) fun q12 =>
        nm (v3 + q12.1) fun x16 =>
        nm (v4 + 1) fun x18 =>
        self x16 x18 q12.2
noncomputable def f_X0_years_L22 (F : Nat) (c0 : Nat) (c1 : Int32) (c2 : Int32) (n : Nat) : Int32 → Int32 → Sw → Option (Int32 × Sw) := Nat.rec (motive := fun _ => Int32 → Int32 → Sw → Option (Int32 × Sw)) (fun _ _ _ => none) (fun _ self => f_X0_years_L22_b F c0 c1 c2 self) n
set_option maxHeartbeats 4000000 in
theorem ok_f_X0_years_L22 {g : Gx} {μ0 : Sw} {rv : Int32} {μF : Sw} (F : Nat) (c0 : Nat) (c1 : Int32) (c2 : Int32) : ∀ (n : Nat) (v3 : Int32) (v4 : Int32) (μ : Sw), f_X0_years_L22 F c0 c1 c2 n v3 v4 μ = some (rv, μF) → PW g mX0_years 414 μ0 μF (QN g (some (.int rv)) μ0 μF) 22 [(0, .ref c0), (1, .int c1), (2, .int c2), (3, .int v3), (4, .int v4)] [] μ := by
  intro n
  induction n with
  | zero =>
    intro v3 v4 μ hf
    have hf : (none : Option (Int32 × Sw)) = some _ := hf
    cases hf
  | succ n ih =>
    intro v3 v4 μ hf
    have hf : f_X0_years_L22_b F c0 c1 c2 (f_X0_years_L22 F c0 c1 c2 n) v3 v4 μ = some (rv, μF) := hf
    unfold f_X0_years_L22_b at hf
    refine P.iload 4 (pc' := 24) dX0_years_22 rfl rfl ?_
    refine P.iload_n 2 (pc' := 25) dX0_years_24 rfl rfl rfl ?_
    refine P.icmp_ge (tgt := 61) (pc' := 28) dX0_years_25 (by decide) rfl (fun y1 => ?_) (fun y1 => ?_)
    · have hf := (if_pos y1).symm.trans hf
      refine P.iload_n 3 (pc' := 62) dX0_years_61 rfl rfl rfl ?_
      cases hf; exact P.iret rfl dX0_years_62
    · have hf := (if_neg y1).symm.trans hf
      refine P.aload_n 0 (pc' := 29) dX0_years_28 rfl rfl rfl ?_
      obtain ⟨u4, h5, hf⟩ := ob hf
      obtain ⟨q2, h3, hf⟩ := ob hf
      refine P.callV (pc' := 32) (As := []) 0 (ok_X0_houses F c0 μ h3) (Nat.le_of_ble_eq_true rfl) (lw_V q1034 q1036 qs34 q159 q1037) rfl yok_X0_houses rfl (Nat.le_of_ble_eq_true rfl) ci0 h5 (by decide) rfl dX0_years_29 rfl ?_
      refine P.if_le (tgt := 61) (pc' := 35) dX0_years_32 (by decide) rfl (fun y6 => ?_) (fun y6 => ?_)
      · have hf := (if_pos y6).symm.trans hf
        refine P.iload_n 3 (pc' := 62) dX0_years_61 rfl rfl rfl ?_
        cases hf; exact P.iret rfl dX0_years_62
      · have hf := (if_neg y6).symm.trans hf
        refine P.aload_n 0 (pc' := 36) dX0_years_35 rfl rfl rfl ?_
        obtain ⟨x7, h8, hf⟩ := ob hf
        refine P.get (pc' := 39) ci0 3 (by decide) (gfR_spec h8) q478 (Or.inl rfl) dX0_years_36 rfl ?_
        obtain ⟨x9, h10, hf⟩ := ob hf
        refine P.getN (pc' := 42) ci3 6 (by decide) (gfI_spec h10) q345 (Or.inl rfl) dX0_years_39 rfl ?_
        refine P.if_le (tgt := 61) (pc' := 45) dX0_years_42 (by decide) rfl (fun y11 => ?_) (fun y11 => ?_)
        · have hf := (if_pos y11).symm.trans hf
          refine P.iload_n 3 (pc' := 62) dX0_years_61 rfl rfl rfl ?_
          cases hf; exact P.iret rfl dX0_years_62
        · have hf := (if_neg y11).symm.trans hf
          refine P.iload_n 3 (pc' := 46) dX0_years_45 rfl rfl rfl ?_
          refine P.aload_n 0 (pc' := 47) dX0_years_46 rfl rfl rfl ?_
          refine P.iload_n 1 (pc' := 48) dX0_years_47 rfl rfl rfl ?_
          refine P.iload 4 (pc' := 50) dX0_years_48 rfl rfl ?_
          obtain ⟨u14, h15, hf⟩ := ob hf
          obtain ⟨q12, h13, hf⟩ := ob hf
          refine P.callV (pc' := 53) (As := [.int c1, .int v4]) 2 (ok_X0_yearBy F c0 c1 v4 μ h13) (Nat.le_of_ble_eq_true rfl) (lw_V q1488 q1490 qs72 q159 q1491) rfl yok_X0_yearBy rfl (Nat.le_of_ble_eq_true rfl) ci0 h15 (Nat.le_of_ble_eq_true rfl) rfl dX0_years_50 rfl ?_
          refine P.iadd (pc' := 54) dX0_years_53 rfl ?_
          obtain ⟨x16, e17, hf⟩ := nm_i hf
          refine P.nmi e17 ?_
          refine P.istore_n (pc' := 55) (lv' := [(3, .int x16), (0, .ref c0), (1, .int c1), (2, .int c2), (4, .int v4)]) dX0_years_54 rfl rfl (Nat.le_of_ble_eq_true rfl) rfl ?_
          obtain ⟨x18, e19, hf⟩ := nm_i hf
          refine P.iinc 4 (pc' := 58) (lv' := [(4, .int x18), (3, .int x16), (0, .ref c0), (1, .int c1), (2, .int c2)]) dX0_years_55 rfl rfl (by decide) e19 (Nat.le_of_ble_eq_true rfl) rfl ?_
          refine P.goto (tgt := 22) dX0_years_58 (by decide) ?_
          exact PW.sub [2, 3, 4, 1, 0] rfl (ih _ _ _ hf)
noncomputable def f_X0_years (F : Nat) (this : Nat) (p1 : Int32) (p2 : Int32) (μ : Sw) : Option (Int32 × Sw) :=
  Option.bind (p_X0_within F p2 1 40) fun q1 =>
  if q1 = 0 then
    some ((-1), μ)
  else
    Option.bind (pf μ this 0 9 (.int 0)) fun μ4 =>
    f_X0_years_L22 F this p1 p2 F 0 0 μ4
set_option maxHeartbeats 4000000 in
theorem ok_X0_years {g : Gx} (F : Nat) (this : Nat) (p1 : Int32) (p2 : Int32) (μ : Sw) {rv : Int32} {μF : Sw} (hf : f_X0_years F this p1 p2 μ = some (rv, μF)) : Cl g 414 yX0_years cX0_years 5 (some Jvm.ClassFile.FieldType.int) [.ref this, .int p1, .int p2] μ (some (.int rv)) μF := by
  unfold f_X0_years at hf
  refine Cl.of (own := RX0) (ini := false) (by decide +kernel) rfl (by decide) (Nat.le_of_ble_eq_true rfl) ?_
  show PW g mX0_years 414 μ μF (QN g (some (.int rv)) μ μF) 0 [(0, .ref this), (1, .int p1), (2, .int p2)] [] μ
  refine P.iload_n 2 (pc' := 1) dX0_years_0 rfl rfl rfl ?_
  refine P.iconst (v := 1) (pc' := 2) dX0_years_1 rfl (by decide) ?_
  refine P.bipush (v := 40) (pc' := 4) dX0_years_2 rfl (by decide) ?_
  obtain ⟨q1, h2, hf⟩ := ob hf
  refine P.callS (pc' := 7) (As := [.int p2, .int 1, .int 40]) 3 (ok_X0_within F p2 1 40 μ h2) (Nat.le_of_ble_eq_true rfl) (lw_S q1038 q557 q159 q558) yok_X0_within rfl (Nat.le_of_ble_eq_true rfl) (by decide) rfl dX0_years_4 rfl ?_
  refine P.if_ne (tgt := 12) (pc' := 10) dX0_years_7 (by decide) rfl (fun y3 => ?_) (fun y3 => ?_)
  · have hf := (if_neg y3).symm.trans hf
    refine P.aload_n 0 (pc' := 13) dX0_years_12 rfl rfl rfl ?_
    refine P.iconst (v := 0) (pc' := 14) dX0_years_13 rfl (by decide) ?_
    obtain ⟨μ4, h5, hf⟩ := ob hf
    refine P.put (v := .int 0) (pc' := 17) ci0 9 (by decide) h5 q484 (Or.inl rfl) rfl rfl rfl dX0_years_14 rfl ?_
    refine P.iconst (v := 0) (pc' := 18) dX0_years_17 rfl (by decide) ?_
    refine P.istore_n (pc' := 19) (lv' := [(3, .int 0), (0, .ref this), (1, .int p1), (2, .int p2)]) dX0_years_18 rfl rfl (Nat.le_of_ble_eq_true rfl) rfl ?_
    refine P.iconst (v := 0) (pc' := 20) dX0_years_19 rfl (by decide) ?_
    refine P.istore (pc' := 22) (lv' := [(4, .int 0), (3, .int 0), (0, .ref this), (1, .int p1), (2, .int p2)]) dX0_years_20 rfl (Nat.le_of_ble_eq_true rfl) rfl ?_
    exact PW.sub [2, 3, 4, 1, 0] rfl (ok_f_X0_years_L22 F this p1 p2 F _ _ _ hf)
  · have hf := (if_pos y3).symm.trans hf
    refine P.iconst (v := (-1)) (pc' := 11) dX0_years_10 rfl (by decide) ?_
    cases hf; exact P.iret rfl dX0_years_11
abbrev mJ2_toArray : Ym := (RJ2, cJ2_toArray, 1, (some (Jvm.ClassFile.FieldType.array (Jvm.ClassFile.FieldType.object "java/lang/Object"))), false, [])
noncomputable def f_J2_toArray (F : Nat) (this : Nat) (μ : Sw) : Option (Nat × Sw) :=
  Option.bind (gfR μ this 20 1) fun x1 =>
  Option.bind (gfI μ this 20 2) fun x3 =>
  Option.bind (f_J13_copyOf F x1 x3 μ) fun q5 =>
  some (q5.1, q5.2)
set_option maxHeartbeats 4000000 in
theorem ok_J2_toArray {g : Gx} (F : Nat) (this : Nat) (μ : Sw) {rv : Nat} {μF : Sw} (hf : f_J2_toArray F this μ = some (rv, μF)) : Cl g 4 yJ2_toArray cJ2_toArray 1 (some (Jvm.ClassFile.FieldType.array (Jvm.ClassFile.FieldType.object "java/lang/Object"))) [.ref this] μ (some (.ref rv)) μF := by
  unfold f_J2_toArray at hf
  refine Cl.of (own := RJ2) (ini := false) (by decide +kernel) rfl (by decide) (Nat.le_of_ble_eq_true rfl) ?_
  show PW g mJ2_toArray 4 μ μF (QN g (some (.ref rv)) μ μF) 0 [(0, .ref this)] [] μ
  refine P.aload_n 0 (pc' := 1) dJ2_toArray_0 rfl rfl rfl ?_
  obtain ⟨x1, h2, hf⟩ := ob hf
  refine P.get (pc' := 4) ci20 1 (by decide) (gfR_spec h2) q291 (Or.inl rfl) dJ2_toArray_1 rfl ?_
  refine P.aload_n 0 (pc' := 5) dJ2_toArray_4 rfl rfl rfl ?_
  obtain ⟨x3, h4, hf⟩ := ob hf
  refine P.get (pc' := 8) ci20 2 (by decide) (gfI_spec h4) q292 (Or.inl rfl) dJ2_toArray_5 rfl ?_
  obtain ⟨q5, h6, hf⟩ := ob hf
  refine P.callS (pc' := 11) (As := [.ref x1, .int x3]) 2 (ok_J13_copyOf F x1 x3 μ h6) (Nat.le_of_ble_eq_true rfl) (lw_S q822 q823 q184 q824) yok_J13_copyOf rfl (Nat.le_of_ble_eq_true rfl) (by decide) rfl dJ2_toArray_8 rfl ?_
  cases hf; exact P.aret rfl (Or.inr ⟨_, rfl⟩) dJ2_toArray_11
abbrev mJ2_addAll : Ym := (RJ2, cJ2_addAll, 6, (some Jvm.ClassFile.FieldType.boolean), false, [])
noncomputable def f_J2_addAll_j56 (F : Nat) (v0 : Nat) (v2 : Nat) (v3 : Int32) (v4 : Nat) (v5 : Int32) (μ : Sw) : Option (Int32 × Sw) :=
  Option.bind (cpQ μ 6 v2 0 v4 v5 v3) fun μ1 =>
  Option.bind (pf μ1 v0 20 2 (.int (v5 + v3))) fun μ3 =>
  some (1, μ3)
set_option maxHeartbeats 4000000 in
theorem ok_f_J2_addAll_j56 {g : Gx} {μ0 : Sw} {rv : Int32} {μF : Sw} (F : Nat) (v0 : Nat) (v2 : Nat) (v3 : Int32) (v4 : Nat) (v5 : Int32) (μ : Sw) (hf : f_J2_addAll_j56 F v0 v2 v3 v4 v5 μ = some (rv, μF)) : PW g mJ2_addAll 5 μ0 μF (QN g (some (.int rv)) μ0 μF) 56 [(0, .ref v0), (2, .ref v2), (3, .int v3), (4, .ref v4), (5, .int v5)] [] μ := by
  unfold f_J2_addAll_j56 at hf
  refine P.aload_n 1 (pc' := 57) dJ2_addAll_56 rfl rfl rfl ?_
  refine P.iconst (v := 0) (pc' := 58) dJ2_addAll_57 rfl (by decide) ?_
  refine P.aload 3 (pc' := 60) dJ2_addAll_58 rfl rfl ?_
  refine P.iload 4 (pc' := 62) dJ2_addAll_60 rfl rfl ?_
  refine P.iload_n 2 (pc' := 63) dJ2_addAll_62 rfl rfl rfl ?_
  obtain ⟨μ1, h2, hf⟩ := ob hf
  refine P.cpQ (pc' := 66) h2 q1524 q861 q860 q185 (Nat.le_of_ble_eq_true rfl) (by decide) dJ2_addAll_63 rfl ?_
  refine P.aload_n 0 (pc' := 67) dJ2_addAll_66 rfl rfl rfl ?_
  refine P.iload 4 (pc' := 69) dJ2_addAll_67 rfl rfl ?_
  refine P.iload_n 2 (pc' := 70) dJ2_addAll_69 rfl rfl rfl ?_
  refine P.iadd (pc' := 71) dJ2_addAll_70 rfl ?_
  obtain ⟨μ3, h4, hf⟩ := ob hf
  refine P.put (v := .int (v5 + v3)) (pc' := 74) ci20 2 (by decide) h4 q292 (Or.inl rfl) rfl rfl rfl dJ2_addAll_71 rfl ?_
  refine P.iconst (v := 1) (pc' := 75) dJ2_addAll_74 rfl (by decide) ?_
  cases hf; exact P.zret rfl (Or.inr rfl) dJ2_addAll_75
noncomputable def f_J2_addAll (F : Nat) (this : Nat) (p1 : Nat) (μ : Sw) : Option (Int32 × Sw) :=
  Option.bind (oc μ p1 20) fun u3 =>
  Option.bind (f_J2_toArray F p1 μ) fun q1 =>
  Option.bind (gfI q1.2 this 20 0) fun x5 =>
  Option.bind (pf q1.2 this 20 0 (.int (x5 + 1))) fun μ7 =>
  Option.bind (aN μ7 q1.1) fun x9 =>
  if x9 = 0 then
    some (0, μ7)
  else
    Option.bind (gfR μ7 this 20 1) fun x12 =>
    Option.bind (aN μ7 x12) fun x14 =>
    Option.bind (gfI μ7 this 20 2) fun x16 =>
    if x9 ≤ (x14 - x16) then
      f_J2_addAll_j56 F this q1.1 x9 x12 x16 μ7
    else
      Option.bind (oc μ7 this 20) fun u21 =>
      Option.bind (f_J2_grow_2 F this (x16 + x9) μ7) fun q19 =>
      f_J2_addAll_j56 F this q1.1 x9 q19.1 x16 q19.2
set_option maxHeartbeats 4000000 in
theorem ok_J2_addAll {g : Gx} (F : Nat) (this : Nat) (p1 : Nat) (μ : Sw) {rv : Int32} {μF : Sw} (hf : f_J2_addAll F this p1 μ = some (rv, μF)) : Cl g 5 yJ2_addAll cJ2_addAll 6 (some Jvm.ClassFile.FieldType.boolean) [.ref this, .ref p1] μ (some (.int rv)) μF := by
  unfold f_J2_addAll at hf
  refine Cl.of (own := RJ2) (ini := false) (by decide +kernel) rfl (by decide) (Nat.le_of_ble_eq_true rfl) ?_
  show PW g mJ2_addAll 5 μ μF (QN g (some (.int rv)) μ μF) 0 [(0, .ref this), (1, .ref p1)] [] μ
  refine P.aload_n 1 (pc' := 1) dJ2_addAll_0 rfl rfl rfl ?_
  obtain ⟨u3, h4, hf⟩ := ob hf
  obtain ⟨q1, h2, hf⟩ := ob hf
  refine P.callF (As := []) (x := yColl) (pc' := 6) 0 (ok_J2_toArray F p1 μ h2) (Nat.le_of_ble_eq_true rfl) (lw_F q1515 q1519 q1521 q165 q1523) (by decide) yok_coll rfl (Nat.le_of_ble_eq_true rfl) ci20 h4 (by decide) rfl dJ2_addAll_1 rfl ?_
  refine P.astore_n (pc' := 7) (lv' := [(2, .ref q1.1), (0, .ref this), (1, .ref p1)]) dJ2_addAll_6 rfl rfl (Nat.le_of_ble_eq_true rfl) rfl ?_
  refine P.aload_n 1 (pc' := 8) dJ2_addAll_7 rfl rfl rfl ?_
  refine P.dup (pc' := 9) dJ2_addAll_8 rfl rfl ?_
  obtain ⟨x5, h6, hf⟩ := ob hf
  refine P.get (pc' := 12) ci20 0 (by decide) (gfI_spec h6) q294 (Or.inr q295) dJ2_addAll_9 rfl ?_
  refine P.iconst (v := 1) (pc' := 13) dJ2_addAll_12 rfl (by decide) ?_
  refine P.iadd (pc' := 14) dJ2_addAll_13 rfl ?_
  obtain ⟨μ7, h8, hf⟩ := ob hf
  refine P.put (v := .int (x5 + 1)) (pc' := 17) ci20 0 (by decide) h8 q294 (Or.inr q295) rfl rfl rfl dJ2_addAll_14 rfl ?_
  refine P.aload_n 0 (pc' := 18) dJ2_addAll_17 rfl rfl rfl ?_
  obtain ⟨x9, h10, hf⟩ := ob hf
  refine P.alen (pc' := 19) h10 dJ2_addAll_18 rfl ?_
  refine P.istore_n (pc' := 20) (lv' := [(3, .int x9), (2, .ref q1.1), (0, .ref this), (1, .ref p1)]) dJ2_addAll_19 rfl rfl (Nat.le_of_ble_eq_true rfl) rfl ?_
  refine P.iload_n 0 (pc' := 21) dJ2_addAll_20 rfl rfl rfl ?_
  refine P.if_ne (tgt := 26) (pc' := 24) dJ2_addAll_21 (by decide) rfl (fun y11 => ?_) (fun y11 => ?_)
  · have hf := (if_neg y11).symm.trans hf
    refine P.iload_n 0 (pc' := 27) dJ2_addAll_26 rfl rfl rfl ?_
    refine P.aload_n 2 (pc' := 28) dJ2_addAll_27 rfl rfl rfl ?_
    obtain ⟨x12, h13, hf⟩ := ob hf
    refine P.get (pc' := 31) ci20 1 (by decide) (gfR_spec h13) q291 (Or.inl rfl) dJ2_addAll_28 rfl ?_
    refine P.dup (pc' := 32) dJ2_addAll_31 rfl rfl ?_
    refine P.astore (pc' := 34) (lv' := [(4, .ref x12), (3, .int x9), (2, .ref q1.1), (0, .ref this), (1, .ref p1)]) dJ2_addAll_32 rfl (Nat.le_of_ble_eq_true rfl) rfl ?_
    obtain ⟨x14, h15, hf⟩ := ob hf
    refine P.alen (pc' := 35) h15 dJ2_addAll_34 rfl ?_
    refine P.aload_n 3 (pc' := 36) dJ2_addAll_35 rfl rfl rfl ?_
    obtain ⟨x16, h17, hf⟩ := ob hf
    refine P.get (pc' := 39) ci20 2 (by decide) (gfI_spec h17) q292 (Or.inl rfl) dJ2_addAll_36 rfl ?_
    refine P.dup (pc' := 40) dJ2_addAll_39 rfl rfl ?_
    refine P.istore (pc' := 42) (lv' := [(5, .int x16), (4, .ref x12), (3, .int x9), (2, .ref q1.1), (0, .ref this), (1, .ref p1)]) dJ2_addAll_40 rfl (Nat.le_of_ble_eq_true rfl) rfl ?_
    refine P.isub (pc' := 43) dJ2_addAll_42 rfl ?_
    refine P.icmp_le (tgt := 56) (pc' := 46) dJ2_addAll_43 (by decide) rfl (fun y18 => ?_) (fun y18 => ?_)
    · have hf := (if_pos y18).symm.trans hf
      exact PW.sub [4, 3, 2, 1, 0] rfl (ok_f_J2_addAll_j56 F this q1.1 x9 x12 x16 μ7 hf)
    · have hf := (if_neg y18).symm.trans hf
      refine P.aload_n 4 (pc' := 47) dJ2_addAll_46 rfl rfl rfl ?_
      refine P.iload 0 (pc' := 49) dJ2_addAll_47 rfl rfl ?_
      refine P.iload_n 2 (pc' := 50) dJ2_addAll_49 rfl rfl rfl ?_
      refine P.iadd (pc' := 51) dJ2_addAll_50 rfl ?_
      obtain ⟨u21, h22, hf⟩ := ob hf
      obtain ⟨q19, h20, hf⟩ := ob hf
      refine P.callV (pc' := 54) (As := [.int (x16 + x9)]) 1 (ok_J2_grow_2 F this (x16 + x9) μ7 h20) (Nat.le_of_ble_eq_true rfl) (lw_V q808 q810 qs21 q165 q811) rfl yok_J2_grow_2 rfl (Nat.le_of_ble_eq_true rfl) ci20 h22 (by decide) rfl dJ2_addAll_51 rfl ?_
      refine P.astore (pc' := 56) (lv' := [(4, .ref q19.1), (5, .int x16), (3, .int x9), (2, .ref q1.1), (0, .ref this), (1, .ref p1)]) dJ2_addAll_54 rfl (Nat.le_of_ble_eq_true rfl) rfl ?_
      exact PW.sub [4, 3, 2, 0, 1] rfl (ok_f_J2_addAll_j56 F this q1.1 x9 q19.1 x16 q19.2 hf)
  · have hf := (if_pos y11).symm.trans hf
    refine P.iconst (v := 0) (pc' := 25) dJ2_addAll_24 rfl (by decide) ?_
    cases hf; exact P.zret rfl (Or.inl rfl) dJ2_addAll_25
theorem yok_J2_addAll : yOK yJ2_addAll 1 := ⟨by decide +kernel, by decide +kernel, by decide +kernel⟩
abbrev mX6_twin : Ym := (RX6, cX6_twin, 2, (some (Jvm.ClassFile.FieldType.object "StiltTown$State")), false, [])
noncomputable def f_X6_twin (F : Nat) (this : Nat) (μ : Sw) : Option (Nat × Sw) :=
  nm (nw μ (.inr (6, dfX6)) 6) fun μ1 =>
  Option.bind (f_X6_init F μ.2.1 μ1) fun q3 =>
  Option.bind (gfR q3 this 6 0) fun x5 =>
  Option.bind (gfR q3 μ.2.1 6 0) fun x7 =>
  Option.bind (cpI q3 x5 0 x7 0 16) fun μ9 =>
  Option.bind (gfR μ9 this 6 1) fun x11 =>
  Option.bind (gfR μ9 μ.2.1 6 1) fun x13 =>
  Option.bind (cpI μ9 x11 0 x13 0 16) fun μ15 =>
  Option.bind (gfR μ15 this 6 2) fun x17 =>
  Option.bind (gfR μ15 μ.2.1 6 2) fun x19 =>
  Option.bind (cpI μ15 x17 0 x19 0 8) fun μ21 =>
  Option.bind (gfI μ21 this 6 3) fun x23 =>
  Option.bind (pf μ21 μ.2.1 6 3 (.int x23)) fun μ25 =>
  Option.bind (gfR μ25 μ.2.1 6 4) fun x27 =>
  Option.bind (gfR μ25 this 6 4) fun x29 =>
  Option.bind (oc μ25 x27 20) fun u33 =>
  Option.bind (f_J2_addAll F x27 x29 μ25) fun q31 =>
  Option.bind (gfR q31.2 μ.2.1 6 5) fun x35 =>
  Option.bind (gfR q31.2 this 6 5) fun x37 =>
  Option.bind (oc q31.2 x35 20) fun u41 =>
  Option.bind (f_J2_addAll F x35 x37 q31.2) fun q39 =>
  some (μ.2.1, q39.2)
set_option maxHeartbeats 4000000 in
theorem ok_X6_twin {g : Gx} (F : Nat) (this : Nat) (μ : Sw) {rv : Nat} {μF : Sw} (hf : f_X6_twin F this μ = some (rv, μF)) : Cl g 6 yX6_twin cX6_twin 2 (some (Jvm.ClassFile.FieldType.object "StiltTown$State")) [.ref this] μ (some (.ref rv)) μF := by
  unfold f_X6_twin at hf
  refine Cl.of (own := RX6) (ini := false) (by decide +kernel) rfl (by decide) (Nat.le_of_ble_eq_true rfl) ?_
  show PW g mX6_twin 6 μ μF (QN g (some (.ref rv)) μ μF) 0 [(0, .ref this)] [] μ
  obtain ⟨μ1, e2, hf⟩ := nm_i hf
  refine P.newE (pc' := 3) ci6 q1507 q405 q169 dfX6_ok e2 dX6_twin_0 rfl ?_
  refine P.dup (pc' := 4) dX6_twin_3 rfl rfl ?_
  obtain ⟨q3, h4, hf⟩ := ob hf
  refine P.callI (pc' := 7) (As := []) 0 (ok_X6_init F μ.2.1 μ1 h4) (Nat.le_of_ble_eq_true rfl) q408 q169 q1508 q407 rfl yok_X6_init rfl (Nat.le_of_ble_eq_true rfl) (Nat.le_of_ble_eq_true rfl) rfl dX6_twin_4 rfl ?_
  refine P.astore_n (pc' := 8) (lv' := [(1, .ref μ.2.1), (0, .ref this)]) dX6_twin_7 rfl rfl (Nat.le_of_ble_eq_true rfl) rfl ?_
  refine P.aload_n 1 (pc' := 9) dX6_twin_8 rfl rfl rfl ?_
  obtain ⟨x5, h6, hf⟩ := ob hf
  refine P.get (pc' := 12) ci6 0 (by decide) (gfR_spec h6) q412 (Or.inl rfl) dX6_twin_9 rfl ?_
  refine P.iconst (v := 0) (pc' := 13) dX6_twin_12 rfl (by decide) ?_
  refine P.aload_n 0 (pc' := 14) dX6_twin_13 rfl rfl rfl ?_
  obtain ⟨x7, h8, hf⟩ := ob hf
  refine P.get (pc' := 17) ci6 0 (by decide) (gfR_spec h8) q412 (Or.inl rfl) dX6_twin_14 rfl ?_
  refine P.iconst (v := 0) (pc' := 18) dX6_twin_17 rfl (by decide) ?_
  refine P.bipush (v := 16) (pc' := 20) dX6_twin_18 rfl (by decide) ?_
  obtain ⟨μ9, h10, hf⟩ := ob hf
  refine P.cpI (pc' := 23) h10 q1509 q861 q860 q185 (Nat.le_of_ble_eq_true rfl) (by decide) dX6_twin_20 rfl ?_
  refine P.aload_n 1 (pc' := 24) dX6_twin_23 rfl rfl rfl ?_
  obtain ⟨x11, h12, hf⟩ := ob hf
  refine P.get (pc' := 27) ci6 1 (by decide) (gfR_spec h12) q415 (Or.inl rfl) dX6_twin_24 rfl ?_
  refine P.iconst (v := 0) (pc' := 28) dX6_twin_27 rfl (by decide) ?_
  refine P.aload_n 0 (pc' := 29) dX6_twin_28 rfl rfl rfl ?_
  obtain ⟨x13, h14, hf⟩ := ob hf
  refine P.get (pc' := 32) ci6 1 (by decide) (gfR_spec h14) q415 (Or.inl rfl) dX6_twin_29 rfl ?_
  refine P.iconst (v := 0) (pc' := 33) dX6_twin_32 rfl (by decide) ?_
  refine P.bipush (v := 16) (pc' := 35) dX6_twin_33 rfl (by decide) ?_
  obtain ⟨μ15, h16, hf⟩ := ob hf
  refine P.cpI (pc' := 38) h16 q1509 q861 q860 q185 (Nat.le_of_ble_eq_true rfl) (by decide) dX6_twin_35 rfl ?_
  refine P.aload_n 1 (pc' := 39) dX6_twin_38 rfl rfl rfl ?_
  obtain ⟨x17, h18, hf⟩ := ob hf
  refine P.get (pc' := 42) ci6 2 (by decide) (gfR_spec h18) q417 (Or.inl rfl) dX6_twin_39 rfl ?_
  refine P.iconst (v := 0) (pc' := 43) dX6_twin_42 rfl (by decide) ?_
  refine P.aload_n 0 (pc' := 44) dX6_twin_43 rfl rfl rfl ?_
  obtain ⟨x19, h20, hf⟩ := ob hf
  refine P.get (pc' := 47) ci6 2 (by decide) (gfR_spec h20) q417 (Or.inl rfl) dX6_twin_44 rfl ?_
  refine P.iconst (v := 0) (pc' := 48) dX6_twin_47 rfl (by decide) ?_
  refine P.bipush (v := 8) (pc' := 50) dX6_twin_48 rfl (by decide) ?_
  obtain ⟨μ21, h22, hf⟩ := ob hf
  refine P.cpI (pc' := 53) h22 q1509 q861 q860 q185 (Nat.le_of_ble_eq_true rfl) (by decide) dX6_twin_50 rfl ?_
  refine P.aload_n 0 (pc' := 54) dX6_twin_53 rfl rfl rfl ?_
  refine P.aload_n 1 (pc' := 55) dX6_twin_54 rfl rfl rfl ?_
  obtain ⟨x23, h24, hf⟩ := ob hf
  refine P.get (pc' := 58) ci6 3 (by decide) (gfI_spec h24) q420 (Or.inl rfl) dX6_twin_55 rfl ?_
  obtain ⟨μ25, h26, hf⟩ := ob hf
  refine P.put (v := .int x23) (pc' := 61) ci6 3 (by decide) h26 q420 (Or.inl rfl) rfl rfl rfl dX6_twin_58 rfl ?_
  refine P.aload_n 0 (pc' := 62) dX6_twin_61 rfl rfl rfl ?_
  obtain ⟨x27, h28, hf⟩ := ob hf
  refine P.get (pc' := 65) ci6 4 (by decide) (gfR_spec h28) q422 (Or.inl rfl) dX6_twin_62 rfl ?_
  refine P.aload_n 1 (pc' := 66) dX6_twin_65 rfl rfl rfl ?_
  obtain ⟨x29, h30, hf⟩ := ob hf
  refine P.get (pc' := 69) ci6 4 (by decide) (gfR_spec h30) q422 (Or.inl rfl) dX6_twin_66 rfl ?_
  obtain ⟨u33, h34, hf⟩ := ob hf
  obtain ⟨q31, h32, hf⟩ := ob hf
  refine P.callV (pc' := 72) (As := [.ref x29]) 1 (ok_J2_addAll F x27 x29 μ25 h32) (Nat.le_of_ble_eq_true rfl) (lw_V q1510 q1511 q1512 q165 q1513) rfl yok_J2_addAll rfl (Nat.le_of_ble_eq_true rfl) ci20 h34 (by decide) rfl dX6_twin_69 rfl ?_
  refine P.pop (pc' := 73) dX6_twin_72 rfl rfl ?_
  refine P.aload_n 0 (pc' := 74) dX6_twin_73 rfl rfl rfl ?_
  obtain ⟨x35, h36, hf⟩ := ob hf
  refine P.get (pc' := 77) ci6 5 (by decide) (gfR_spec h36) q424 (Or.inl rfl) dX6_twin_74 rfl ?_
  refine P.aload_n 1 (pc' := 78) dX6_twin_77 rfl rfl rfl ?_
  obtain ⟨x37, h38, hf⟩ := ob hf
  refine P.get (pc' := 81) ci6 5 (by decide) (gfR_spec h38) q424 (Or.inl rfl) dX6_twin_78 rfl ?_
  obtain ⟨u41, h42, hf⟩ := ob hf
  obtain ⟨q39, h40, hf⟩ := ob hf
  refine P.callV (pc' := 84) (As := [.ref x37]) 1 (ok_J2_addAll F x35 x37 q31.2 h40) (Nat.le_of_ble_eq_true rfl) (lw_V q1510 q1511 q1512 q165 q1513) rfl yok_J2_addAll rfl (Nat.le_of_ble_eq_true rfl) ci20 h42 (by decide) rfl dX6_twin_81 rfl ?_
  refine P.pop (pc' := 85) dX6_twin_84 rfl rfl ?_
  refine P.aload_n 0 (pc' := 86) dX6_twin_85 rfl rfl rfl ?_
  cases hf; exact P.aret rfl (Or.inl ⟨_, rfl⟩) dX6_twin_86
theorem yok_X6_twin : yOK yX6_twin 0 := ⟨by decide +kernel, by decide +kernel, by decide +kernel⟩
abbrev mX0_hold : Ym := (RX0, cX0_hold, 2, (some Jvm.ClassFile.FieldType.boolean), false, [])
noncomputable def f_X0_hold (F : Nat) (this : Nat) (p1 : Int32) (μ : Sw) : Option (Int32 × Sw) :=
  Option.bind (p_X0_within F p1 0 1) fun q1 =>
  if q1 = 0 then
    some (0, μ)
  else
    Option.bind (gfR μ this 0 5) fun x4 =>
    Option.bind (gfR μ this 0 4) fun x6 =>
    Option.bind (oc μ x6 6) fun u10 =>
    Option.bind (f_X6_twin F x6 μ) fun q8 =>
    Option.bind (sQ q8.2 7 x4 p1 (some q8.1)) fun μ13 =>
    Option.bind (oc q8.2 q8.1 6) fun u15 =>
    some (1, μ13)
set_option maxHeartbeats 4000000 in
theorem ok_X0_hold {g : Gx} (F : Nat) (this : Nat) (p1 : Int32) (μ : Sw) {rv : Int32} {μF : Sw} (hf : f_X0_hold F this p1 μ = some (rv, μF)) : Cl g 7 yX0_hold cX0_hold 2 (some Jvm.ClassFile.FieldType.boolean) [.ref this, .int p1] μ (some (.int rv)) μF := by
  unfold f_X0_hold at hf
  refine Cl.of (own := RX0) (ini := false) (by decide +kernel) rfl (by decide) (Nat.le_of_ble_eq_true rfl) ?_
  show PW g mX0_hold 7 μ μF (QN g (some (.int rv)) μ μF) 0 [(0, .ref this), (1, .int p1)] [] μ
  refine P.iload_n 1 (pc' := 1) dX0_hold_0 rfl rfl rfl ?_
  refine P.iconst (v := 0) (pc' := 2) dX0_hold_1 rfl (by decide) ?_
  refine P.iconst (v := 1) (pc' := 3) dX0_hold_2 rfl (by decide) ?_
  obtain ⟨q1, h2, hf⟩ := ob hf
  refine P.callS (pc' := 6) (As := [.int p1, .int 0, .int 1]) 3 (ok_X0_within F p1 0 1 μ h2) (Nat.le_of_ble_eq_true rfl) (lw_S q1038 q557 q159 q558) yok_X0_within rfl (Nat.le_of_ble_eq_true rfl) (by decide) rfl dX0_hold_3 rfl ?_
  refine P.if_ne (tgt := 11) (pc' := 9) dX0_hold_6 (by decide) rfl (fun y3 => ?_) (fun y3 => ?_)
  · have hf := (if_neg y3).symm.trans hf
    refine P.aload_n 0 (pc' := 12) dX0_hold_11 rfl rfl rfl ?_
    obtain ⟨x4, h5, hf⟩ := ob hf
    refine P.get (pc' := 15) ci0 5 (by decide) (gfR_spec h5) q480 (Or.inl rfl) dX0_hold_12 rfl ?_
    refine P.iload_n 1 (pc' := 16) dX0_hold_15 rfl rfl rfl ?_
    refine P.aload_n 0 (pc' := 17) dX0_hold_16 rfl rfl rfl ?_
    obtain ⟨x6, h7, hf⟩ := ob hf
    refine P.get (pc' := 20) ci0 4 (by decide) (gfR_spec h7) q479 (Or.inl rfl) dX0_hold_17 rfl ?_
    obtain ⟨u10, h11, hf⟩ := ob hf
    obtain ⟨q8, h9, hf⟩ := ob hf
    refine P.callV (pc' := 23) (As := []) 0 (ok_X6_twin F x6 μ h9) (Nat.le_of_ble_eq_true rfl) (lw_V q1503 q1504 q1505 q169 q1506) rfl yok_X6_twin rfl (Nat.le_of_ble_eq_true rfl) ci6 h11 (Nat.le_of_ble_eq_true rfl) rfl dX0_hold_20 rfl ?_
    obtain ⟨μ13, h12, hf⟩ := ob hf
    obtain ⟨u15, h14, hf⟩ := ob hf
    refine P.aast (t := 7) (pc' := 24) ci6 rfl (by decide) (oc_spec h14).choose_spec h12 dX0_hold_23 rfl ?_
    refine P.iconst (v := 1) (pc' := 25) dX0_hold_24 rfl (by decide) ?_
    cases hf; exact P.zret rfl (Or.inr rfl) dX0_hold_25
  · have hf := (if_pos y3).symm.trans hf
    refine P.iconst (v := 0) (pc' := 10) dX0_hold_9 rfl (by decide) ?_
    cases hf; exact P.zret rfl (Or.inl rfl) dX0_hold_10
abbrev mX0_restore : Ym := (RX0, cX0_restore, 2, (some Jvm.ClassFile.FieldType.boolean), false, [])
noncomputable def f_X0_restore (F : Nat) (this : Nat) (p1 : Int32) (μ : Sw) : Option (Int32 × Sw) :=
  Option.bind (p_X0_within F p1 0 1) fun q1 =>
  if q1 = 0 then
    some (0, μ)
  else
    Option.bind (gfR μ this 0 5) fun x4 =>
    nif (aQ μ 7 x4 p1) (some (0, μ)) fun x6 =>
    Option.bind (gfR μ this 0 5) fun x8 =>
    Option.bind (aR μ 7 x8 p1) fun x10 =>
    Option.bind (oc μ x10 6) fun u14 =>
    Option.bind (f_X6_twin F x10 μ) fun q12 =>
    Option.bind (pf q12.2 this 0 4 (.ref q12.1)) fun μ16 =>
    Option.bind (pf μ16 this 0 9 (.int 0)) fun μ18 =>
    some (1, μ18)
set_option maxHeartbeats 4000000 in
theorem ok_X0_restore {g : Gx} (F : Nat) (this : Nat) (p1 : Int32) (μ : Sw) {rv : Int32} {μF : Sw} (hf : f_X0_restore F this p1 μ = some (rv, μF)) : Cl g 7 yX0_restore cX0_restore 2 (some Jvm.ClassFile.FieldType.boolean) [.ref this, .int p1] μ (some (.int rv)) μF := by
  unfold f_X0_restore at hf
  refine Cl.of (own := RX0) (ini := false) (by decide +kernel) rfl (by decide) (Nat.le_of_ble_eq_true rfl) ?_
  show PW g mX0_restore 7 μ μF (QN g (some (.int rv)) μ μF) 0 [(0, .ref this), (1, .int p1)] [] μ
  refine P.iload_n 1 (pc' := 1) dX0_restore_0 rfl rfl rfl ?_
  refine P.iconst (v := 0) (pc' := 2) dX0_restore_1 rfl (by decide) ?_
  refine P.iconst (v := 1) (pc' := 3) dX0_restore_2 rfl (by decide) ?_
  obtain ⟨q1, h2, hf⟩ := ob hf
  refine P.callS (pc' := 6) (As := [.int p1, .int 0, .int 1]) 3 (ok_X0_within F p1 0 1 μ h2) (Nat.le_of_ble_eq_true rfl) (lw_S q1038 q557 q159 q558) yok_X0_within rfl (Nat.le_of_ble_eq_true rfl) (by decide) rfl dX0_restore_3 rfl ?_
  refine P.if_eq (tgt := 18) (pc' := 9) dX0_restore_6 (by decide) rfl (fun y3 => ?_) (fun y3 => ?_)
  · have hf := (if_pos y3).symm.trans hf
    refine P.iconst (v := 0) (pc' := 19) dX0_restore_18 rfl (by decide) ?_
    cases hf; exact P.zret rfl (Or.inl rfl) dX0_restore_19
  · have hf := (if_neg y3).symm.trans hf
    refine P.aload_n 0 (pc' := 10) dX0_restore_9 rfl rfl rfl ?_
    obtain ⟨x4, h5, hf⟩ := ob hf
    refine P.get (pc' := 13) ci0 5 (by decide) (gfR_spec h5) q480 (Or.inl rfl) dX0_restore_10 rfl ?_
    refine P.iload_n 1 (pc' := 14) dX0_restore_13 rfl rfl rfl ?_
    rcases nif_c hf with ⟨h7, hf⟩ | ⟨x6, h7, hf⟩
    · refine P.aaldN (t := 7) (pc' := 15) rfl h7 dX0_restore_14 rfl ?_
      refine P.ifnonnullN (pc' := 18) dX0_restore_15 rfl ?_
      refine P.iconst (v := 0) (pc' := 19) dX0_restore_18 rfl (by decide) ?_
      cases hf; exact P.zret rfl (Or.inl rfl) dX0_restore_19
    refine P.aald (t := 7) (pc' := 15) rfl (aR_of h7) dX0_restore_14 rfl ?_
    refine P.ifnonnull (tgt := 20) dX0_restore_15 (by decide) ?_
    refine P.aload_n 0 (pc' := 21) dX0_restore_20 rfl rfl rfl ?_
    refine P.aload_n 0 (pc' := 22) dX0_restore_21 rfl rfl rfl ?_
    obtain ⟨x8, h9, hf⟩ := ob hf
    refine P.get (pc' := 25) ci0 5 (by decide) (gfR_spec h9) q480 (Or.inl rfl) dX0_restore_22 rfl ?_
    refine P.iload_n 1 (pc' := 26) dX0_restore_25 rfl rfl rfl ?_
    obtain ⟨x10, h11, hf⟩ := ob hf
    refine P.aald (t := 7) (pc' := 27) rfl h11 dX0_restore_26 rfl ?_
    obtain ⟨u14, h15, hf⟩ := ob hf
    obtain ⟨q12, h13, hf⟩ := ob hf
    refine P.callV (pc' := 30) (As := []) 0 (ok_X6_twin F x10 μ h13) (Nat.le_of_ble_eq_true rfl) (lw_V q1503 q1504 q1505 q169 q1506) rfl yok_X6_twin rfl (Nat.le_of_ble_eq_true rfl) ci6 h15 (Nat.le_of_ble_eq_true rfl) rfl dX0_restore_27 rfl ?_
    obtain ⟨μ16, h17, hf⟩ := ob hf
    refine P.put (v := .ref q12.1) (pc' := 33) ci0 4 (by decide) h17 q479 (Or.inl rfl) rfl rfl rfl dX0_restore_30 rfl ?_
    refine P.aload_n 0 (pc' := 34) dX0_restore_33 rfl rfl rfl ?_
    refine P.iconst (v := 0) (pc' := 35) dX0_restore_34 rfl (by decide) ?_
    obtain ⟨μ18, h19, hf⟩ := ob hf
    refine P.put (v := .int 0) (pc' := 38) ci0 9 (by decide) h19 q484 (Or.inl rfl) rfl rfl rfl dX0_restore_35 rfl ?_
    refine P.iconst (v := 1) (pc' := 39) dX0_restore_38 rfl (by decide) ?_
    cases hf; exact P.zret rfl (Or.inr rfl) dX0_restore_39
abbrev mX0_count : Ym := (RX0, cX0_count, 2, (some Jvm.ClassFile.FieldType.int), false, [])
noncomputable def f_X0_count (F : Nat) (this : Nat) (p1 : Int32) (μ : Sw) : Option Int32 :=
  if p1 = 0 then
    Option.bind (oc μ this 0) fun u4 =>
    Option.bind (f_X0_houses F this μ) fun q2 =>
    some q2
  else
    if p1 = 1 then
      Option.bind (gfR μ this 0 3) fun x7 =>
      Option.bind (gfI μ x7 3 6) fun x9 =>
      some x9
    else
      if p1 = 2 then
        Option.bind (gfR μ this 0 3) fun x12 =>
        Option.bind (gfR μ x12 3 1) fun x14 =>
        Option.bind (oc μ x14 20) fun u18 =>
        Option.bind (f_J2_size F x14 μ) fun q16 =>
        some q16
      else
        if p1 = 3 then
          Option.bind (gfR μ this 0 3) fun x21 =>
          Option.bind (gfI μ x21 3 10) fun x23 =>
          some x23
        else
          if p1 = 4 then
            Option.bind (gfR μ this 0 3) fun x26 =>
            Option.bind (gfR μ x26 3 2) fun x28 =>
            Option.bind (oc μ x28 20) fun u32 =>
            Option.bind (f_J2_size F x28 μ) fun q30 =>
            some q30
          else
            if p1 = 5 then
              Option.bind (gfR μ this 0 3) fun x35 =>
              Option.bind (gfI μ x35 3 11) fun x37 =>
              some x37
            else
              if p1 = 6 then
                Option.bind (gfR μ this 0 3) fun x40 =>
                Option.bind (gfI μ x40 3 12) fun x42 =>
                some x42
              else
                if p1 = 7 then
                  Option.bind (gfR μ this 0 4) fun x45 =>
                  Option.bind (gfR μ x45 6 4) fun x47 =>
                  Option.bind (oc μ x47 20) fun u51 =>
                  Option.bind (f_J2_size F x47 μ) fun q49 =>
                  some q49
                else
                  if p1 = 8 then
                    Option.bind (gfR μ this 0 4) fun x54 =>
                    Option.bind (gfR μ x54 6 5) fun x56 =>
                    Option.bind (oc μ x56 20) fun u60 =>
                    Option.bind (f_J2_size F x56 μ) fun q58 =>
                    some q58
                  else
                    if p1 = 9 then
                      Option.bind (gfR μ this 0 4) fun x63 =>
                      Option.bind (gfI μ x63 6 3) fun x65 =>
                      some x65
                    else
                      if p1 = 10 then
                        Option.bind (gfI μ this 0 9) fun x68 =>
                        some x68
                      else
                        if p1 = 11 then
                          Option.bind (gfR μ this 0 0) fun x71 =>
                          Option.bind (gfI μ x71 1 1) fun x73 =>
                          some x73
                        else
                          if p1 = 12 then
                            Option.bind (gfR μ this 0 5) fun x76 =>
                            nif (aQ μ 7 x76 0)
                              (Option.bind (gfR μ this 0 5) fun x80 =>
                               nif (aQ μ 7 x80 1) (some (0 + 0)) fun x82 =>
                               some (0 + 1))
                              fun x78 =>
                            Option.bind (gfR μ this 0 5) fun x80 =>
                            nif (aQ μ 7 x80 1) (some (1 + 0)) fun x82 =>
                            some (1 + 1)
                          else
                            if p1 = 13 then
                              Option.bind (gfI μ this 0 11) fun x85 =>
                              some x85
                            else
                              if p1 = 14 then
                                Option.bind (gfR μ this 0 3) fun x88 =>
                                Option.bind (gfR μ x88 3 3) fun x90 =>
                                Option.bind (oc μ x90 20) fun u94 =>
                                Option.bind (f_J2_size F x90 μ) fun q92 =>
                                some q92
                              else
                                if p1 = 15 then
                                  Option.bind (gfR μ this 0 3) fun x97 =>
                                  Option.bind (gfR μ x97 3 4) fun x99 =>
                                  Option.bind (oc μ x99 20) fun u103 =>
                                  Option.bind (f_J2_size F x99 μ) fun q101 =>
                                  some q101
                                else
                                  some (-1)
set_option maxHeartbeats 4000000 in
theorem ok_X0_count {g : Gx} (F : Nat) (this : Nat) (p1 : Int32) (μ : Sw) {rv : Int32} (hf : f_X0_count F this p1 μ = some rv) : Cl g 3 yX0_count cX0_count 2 (some Jvm.ClassFile.FieldType.int) [.ref this, .int p1] μ (some (.int rv)) μ := by
  unfold f_X0_count at hf
  refine Cl.of (own := RX0) (ini := false) (by decide +kernel) rfl (by decide) (Nat.le_of_ble_eq_true rfl) ?_
  show PW g mX0_count 3 μ μ (QN g (some (.int rv)) μ μ) 0 [(0, .ref this), (1, .int p1)] [] μ
  refine P.iload_n 1 (pc' := 1) dX0_count_0 rfl rfl rfl ?_
  by_cases y1 : p1 = 0
  · have hf := (if_pos y1).symm.trans hf
    refine P.tsIn (tgt := 80) dX0_count_1 (by rw [y1]; decide) (by rw [y1]; decide) (by rw [y1]; rfl) (by decide) ?_
    refine P.aload_n 0 (pc' := 81) dX0_count_80 rfl rfl rfl ?_
    obtain ⟨u4, h5, hf⟩ := ob hf
    obtain ⟨q2, h3, hf⟩ := ob hf
    refine P.callV (pc' := 84) (As := []) 0 (ok_X0_houses F this μ h3) (Nat.le_of_ble_eq_true rfl) (lw_V q1034 q1036 qs34 q159 q1037) rfl yok_X0_houses rfl (Nat.le_of_ble_eq_true rfl) ci0 h5 (by decide) rfl dX0_count_81 rfl ?_
    cases hf; exact P.iret rfl dX0_count_84
  · have hf := (if_neg y1).symm.trans hf
    by_cases y6 : p1 = 1
    · have hf := (if_pos y6).symm.trans hf
      refine P.tsIn (tgt := 85) dX0_count_1 (by rw [y6]; decide) (by rw [y6]; decide) (by rw [y6]; rfl) (by decide) ?_
      refine P.aload_n 0 (pc' := 86) dX0_count_85 rfl rfl rfl ?_
      obtain ⟨x7, h8, hf⟩ := ob hf
      refine P.get (pc' := 89) ci0 3 (by decide) (gfR_spec h8) q478 (Or.inl rfl) dX0_count_86 rfl ?_
      obtain ⟨x9, h10, hf⟩ := ob hf
      refine P.getN (pc' := 92) ci3 6 (by decide) (gfI_spec h10) q345 (Or.inl rfl) dX0_count_89 rfl ?_
      cases hf; exact P.iret rfl dX0_count_92
    · have hf := (if_neg y6).symm.trans hf
      by_cases y11 : p1 = 2
      · have hf := (if_pos y11).symm.trans hf
        refine P.tsIn (tgt := 93) dX0_count_1 (by rw [y11]; decide) (by rw [y11]; decide) (by rw [y11]; rfl) (by decide) ?_
        refine P.aload_n 0 (pc' := 94) dX0_count_93 rfl rfl rfl ?_
        obtain ⟨x12, h13, hf⟩ := ob hf
        refine P.get (pc' := 97) ci0 3 (by decide) (gfR_spec h13) q478 (Or.inl rfl) dX0_count_94 rfl ?_
        obtain ⟨x14, h15, hf⟩ := ob hf
        refine P.getN (pc' := 100) ci3 1 (by decide) (gfR_spec h15) q332 (Or.inl rfl) dX0_count_97 rfl ?_
        obtain ⟨u18, h19, hf⟩ := ob hf
        obtain ⟨q16, h17, hf⟩ := ob hf
        refine P.callV (pc' := 103) (As := []) 0 (ok_J2_size F x14 μ h17) (Nat.le_of_ble_eq_true rfl) (lw_V q1006 q669 q670 q165 q671) rfl yok_J2_size rfl (Nat.le_of_ble_eq_true rfl) ci20 h19 (by decide) rfl dX0_count_100 rfl ?_
        cases hf; exact P.iret rfl dX0_count_103
      · have hf := (if_neg y11).symm.trans hf
        by_cases y20 : p1 = 3
        · have hf := (if_pos y20).symm.trans hf
          refine P.tsIn (tgt := 104) dX0_count_1 (by rw [y20]; decide) (by rw [y20]; decide) (by rw [y20]; rfl) (by decide) ?_
          refine P.aload_n 0 (pc' := 105) dX0_count_104 rfl rfl rfl ?_
          obtain ⟨x21, h22, hf⟩ := ob hf
          refine P.get (pc' := 108) ci0 3 (by decide) (gfR_spec h22) q478 (Or.inl rfl) dX0_count_105 rfl ?_
          obtain ⟨x23, h24, hf⟩ := ob hf
          refine P.getN (pc' := 111) ci3 10 (by decide) (gfI_spec h24) q355 (Or.inl rfl) dX0_count_108 rfl ?_
          cases hf; exact P.iret rfl dX0_count_111
        · have hf := (if_neg y20).symm.trans hf
          by_cases y25 : p1 = 4
          · have hf := (if_pos y25).symm.trans hf
            refine P.tsIn (tgt := 112) dX0_count_1 (by rw [y25]; decide) (by rw [y25]; decide) (by rw [y25]; rfl) (by decide) ?_
            refine P.aload_n 0 (pc' := 113) dX0_count_112 rfl rfl rfl ?_
            obtain ⟨x26, h27, hf⟩ := ob hf
            refine P.get (pc' := 116) ci0 3 (by decide) (gfR_spec h27) q478 (Or.inl rfl) dX0_count_113 rfl ?_
            obtain ⟨x28, h29, hf⟩ := ob hf
            refine P.getN (pc' := 119) ci3 2 (by decide) (gfR_spec h29) q334 (Or.inl rfl) dX0_count_116 rfl ?_
            obtain ⟨u32, h33, hf⟩ := ob hf
            obtain ⟨q30, h31, hf⟩ := ob hf
            refine P.callV (pc' := 122) (As := []) 0 (ok_J2_size F x28 μ h31) (Nat.le_of_ble_eq_true rfl) (lw_V q1006 q669 q670 q165 q671) rfl yok_J2_size rfl (Nat.le_of_ble_eq_true rfl) ci20 h33 (by decide) rfl dX0_count_119 rfl ?_
            cases hf; exact P.iret rfl dX0_count_122
          · have hf := (if_neg y25).symm.trans hf
            by_cases y34 : p1 = 5
            · have hf := (if_pos y34).symm.trans hf
              refine P.tsIn (tgt := 123) dX0_count_1 (by rw [y34]; decide) (by rw [y34]; decide) (by rw [y34]; rfl) (by decide) ?_
              refine P.aload_n 0 (pc' := 124) dX0_count_123 rfl rfl rfl ?_
              obtain ⟨x35, h36, hf⟩ := ob hf
              refine P.get (pc' := 127) ci0 3 (by decide) (gfR_spec h36) q478 (Or.inl rfl) dX0_count_124 rfl ?_
              obtain ⟨x37, h38, hf⟩ := ob hf
              refine P.getN (pc' := 130) ci3 11 (by decide) (gfI_spec h38) q358 (Or.inl rfl) dX0_count_127 rfl ?_
              cases hf; exact P.iret rfl dX0_count_130
            · have hf := (if_neg y34).symm.trans hf
              by_cases y39 : p1 = 6
              · have hf := (if_pos y39).symm.trans hf
                refine P.tsIn (tgt := 131) dX0_count_1 (by rw [y39]; decide) (by rw [y39]; decide) (by rw [y39]; rfl) (by decide) ?_
                refine P.aload_n 0 (pc' := 132) dX0_count_131 rfl rfl rfl ?_
                obtain ⟨x40, h41, hf⟩ := ob hf
                refine P.get (pc' := 135) ci0 3 (by decide) (gfR_spec h41) q478 (Or.inl rfl) dX0_count_132 rfl ?_
                obtain ⟨x42, h43, hf⟩ := ob hf
                refine P.getN (pc' := 138) ci3 12 (by decide) (gfI_spec h43) q361 (Or.inl rfl) dX0_count_135 rfl ?_
                cases hf; exact P.iret rfl dX0_count_138
              · have hf := (if_neg y39).symm.trans hf
                by_cases y44 : p1 = 7
                · have hf := (if_pos y44).symm.trans hf
                  refine P.tsIn (tgt := 139) dX0_count_1 (by rw [y44]; decide) (by rw [y44]; decide) (by rw [y44]; rfl) (by decide) ?_
                  refine P.aload_n 0 (pc' := 140) dX0_count_139 rfl rfl rfl ?_
                  obtain ⟨x45, h46, hf⟩ := ob hf
                  refine P.get (pc' := 143) ci0 4 (by decide) (gfR_spec h46) q479 (Or.inl rfl) dX0_count_140 rfl ?_
                  obtain ⟨x47, h48, hf⟩ := ob hf
                  refine P.getN (pc' := 146) ci6 4 (by decide) (gfR_spec h48) q423 (Or.inl rfl) dX0_count_143 rfl ?_
                  obtain ⟨u51, h52, hf⟩ := ob hf
                  obtain ⟨q49, h50, hf⟩ := ob hf
                  refine P.callV (pc' := 149) (As := []) 0 (ok_J2_size F x47 μ h50) (Nat.le_of_ble_eq_true rfl) (lw_V q1006 q669 q670 q165 q671) rfl yok_J2_size rfl (Nat.le_of_ble_eq_true rfl) ci20 h52 (by decide) rfl dX0_count_146 rfl ?_
                  cases hf; exact P.iret rfl dX0_count_149
                · have hf := (if_neg y44).symm.trans hf
                  by_cases y53 : p1 = 8
                  · have hf := (if_pos y53).symm.trans hf
                    refine P.tsIn (tgt := 150) dX0_count_1 (by rw [y53]; decide) (by rw [y53]; decide) (by rw [y53]; rfl) (by decide) ?_
                    refine P.aload_n 0 (pc' := 151) dX0_count_150 rfl rfl rfl ?_
                    obtain ⟨x54, h55, hf⟩ := ob hf
                    refine P.get (pc' := 154) ci0 4 (by decide) (gfR_spec h55) q479 (Or.inl rfl) dX0_count_151 rfl ?_
                    obtain ⟨x56, h57, hf⟩ := ob hf
                    refine P.getN (pc' := 157) ci6 5 (by decide) (gfR_spec h57) q425 (Or.inl rfl) dX0_count_154 rfl ?_
                    obtain ⟨u60, h61, hf⟩ := ob hf
                    obtain ⟨q58, h59, hf⟩ := ob hf
                    refine P.callV (pc' := 160) (As := []) 0 (ok_J2_size F x56 μ h59) (Nat.le_of_ble_eq_true rfl) (lw_V q1006 q669 q670 q165 q671) rfl yok_J2_size rfl (Nat.le_of_ble_eq_true rfl) ci20 h61 (by decide) rfl dX0_count_157 rfl ?_
                    cases hf; exact P.iret rfl dX0_count_160
                  · have hf := (if_neg y53).symm.trans hf
                    by_cases y62 : p1 = 9
                    · have hf := (if_pos y62).symm.trans hf
                      refine P.tsIn (tgt := 161) dX0_count_1 (by rw [y62]; decide) (by rw [y62]; decide) (by rw [y62]; rfl) (by decide) ?_
                      refine P.aload_n 0 (pc' := 162) dX0_count_161 rfl rfl rfl ?_
                      obtain ⟨x63, h64, hf⟩ := ob hf
                      refine P.get (pc' := 165) ci0 4 (by decide) (gfR_spec h64) q479 (Or.inl rfl) dX0_count_162 rfl ?_
                      obtain ⟨x65, h66, hf⟩ := ob hf
                      refine P.getN (pc' := 168) ci6 3 (by decide) (gfI_spec h66) q421 (Or.inl rfl) dX0_count_165 rfl ?_
                      cases hf; exact P.iret rfl dX0_count_168
                    · have hf := (if_neg y62).symm.trans hf
                      by_cases y67 : p1 = 10
                      · have hf := (if_pos y67).symm.trans hf
                        refine P.tsIn (tgt := 169) dX0_count_1 (by rw [y67]; decide) (by rw [y67]; decide) (by rw [y67]; rfl) (by decide) ?_
                        refine P.aload_n 0 (pc' := 170) dX0_count_169 rfl rfl rfl ?_
                        obtain ⟨x68, h69, hf⟩ := ob hf
                        refine P.get (pc' := 173) ci0 9 (by decide) (gfI_spec h69) q484 (Or.inl rfl) dX0_count_170 rfl ?_
                        cases hf; exact P.iret rfl dX0_count_173
                      · have hf := (if_neg y67).symm.trans hf
                        by_cases y70 : p1 = 11
                        · have hf := (if_pos y70).symm.trans hf
                          refine P.tsIn (tgt := 174) dX0_count_1 (by rw [y70]; decide) (by rw [y70]; decide) (by rw [y70]; rfl) (by decide) ?_
                          refine P.aload_n 0 (pc' := 175) dX0_count_174 rfl rfl rfl ?_
                          obtain ⟨x71, h72, hf⟩ := ob hf
                          refine P.get (pc' := 178) ci0 0 (by decide) (gfR_spec h72) q475 (Or.inl rfl) dX0_count_175 rfl ?_
                          obtain ⟨x73, h74, hf⟩ := ob hf
                          refine P.getN (pc' := 181) ci1 1 (by decide) (gfI_spec h74) q212 (Or.inl rfl) dX0_count_178 rfl ?_
                          cases hf; exact P.iret rfl dX0_count_181
                        · have hf := (if_neg y70).symm.trans hf
                          by_cases y75 : p1 = 12
                          · have hf := (if_pos y75).symm.trans hf
                            refine P.tsIn (tgt := 182) dX0_count_1 (by rw [y75]; decide) (by rw [y75]; decide) (by rw [y75]; rfl) (by decide) ?_
                            refine P.aload_n 0 (pc' := 183) dX0_count_182 rfl rfl rfl ?_
                            obtain ⟨x76, h77, hf⟩ := ob hf
                            refine P.get (pc' := 186) ci0 5 (by decide) (gfR_spec h77) q480 (Or.inl rfl) dX0_count_183 rfl ?_
                            refine P.iconst (v := 0) (pc' := 187) dX0_count_186 rfl (by decide) ?_
                            rcases nif_c hf with ⟨h79, hf⟩ | ⟨x78, h79, hf⟩
                            · refine P.aaldN (t := 7) (pc' := 188) rfl h79 dX0_count_187 rfl ?_
                              refine P.ifnonnullN (pc' := 191) dX0_count_188 rfl ?_
                              refine P.iconst (v := 0) (pc' := 192) dX0_count_191 rfl (by decide) ?_
                              refine P.goto (tgt := 196) dX0_count_192 (by decide) ?_
                              refine P.aload_n 0 (pc' := 197) dX0_count_196 rfl rfl rfl ?_
                              obtain ⟨x80, h81, hf⟩ := ob hf
                              refine P.get (pc' := 200) ci0 5 (by decide) (gfR_spec h81) q480 (Or.inl rfl) dX0_count_197 rfl ?_
                              refine P.iconst (v := 1) (pc' := 201) dX0_count_200 rfl (by decide) ?_
                              rcases nif_c hf with ⟨h83, hf⟩ | ⟨x82, h83, hf⟩
                              · refine P.aaldN (t := 7) (pc' := 202) rfl h83 dX0_count_201 rfl ?_
                                refine P.ifnonnullN (pc' := 205) dX0_count_202 rfl ?_
                                refine P.iconst (v := 0) (pc' := 206) dX0_count_205 rfl (by decide) ?_
                                refine P.goto (tgt := 210) dX0_count_206 (by decide) ?_
                                refine P.iadd (pc' := 211) dX0_count_210 rfl ?_
                                cases hf; exact P.iret rfl dX0_count_211
                              refine P.aald (t := 7) (pc' := 202) rfl (aR_of h83) dX0_count_201 rfl ?_
                              refine P.ifnonnull (tgt := 209) dX0_count_202 (by decide) ?_
                              refine P.iconst (v := 1) (pc' := 210) dX0_count_209 rfl (by decide) ?_
                              refine P.iadd (pc' := 211) dX0_count_210 rfl ?_
                              cases hf; exact P.iret rfl dX0_count_211
                            refine P.aald (t := 7) (pc' := 188) rfl (aR_of h79) dX0_count_187 rfl ?_
                            refine P.ifnonnull (tgt := 195) dX0_count_188 (by decide) ?_
                            refine P.iconst (v := 1) (pc' := 196) dX0_count_195 rfl (by decide) ?_
                            refine P.aload_n 0 (pc' := 197) dX0_count_196 rfl rfl rfl ?_
                            obtain ⟨x80, h81, hf⟩ := ob hf
                            refine P.get (pc' := 200) ci0 5 (by decide) (gfR_spec h81) q480 (Or.inl rfl) dX0_count_197 rfl ?_
                            refine P.iconst (v := 1) (pc' := 201) dX0_count_200 rfl (by decide) ?_
                            rcases nif_c hf with ⟨h83, hf⟩ | ⟨x82, h83, hf⟩
                            · refine P.aaldN (t := 7) (pc' := 202) rfl h83 dX0_count_201 rfl ?_
                              refine P.ifnonnullN (pc' := 205) dX0_count_202 rfl ?_
                              refine P.iconst (v := 0) (pc' := 206) dX0_count_205 rfl (by decide) ?_
                              refine P.goto (tgt := 210) dX0_count_206 (by decide) ?_
                              refine P.iadd (pc' := 211) dX0_count_210 rfl ?_
                              cases hf; exact P.iret rfl dX0_count_211
                            refine P.aald (t := 7) (pc' := 202) rfl (aR_of h83) dX0_count_201 rfl ?_
                            refine P.ifnonnull (tgt := 209) dX0_count_202 (by decide) ?_
                            refine P.iconst (v := 1) (pc' := 210) dX0_count_209 rfl (by decide) ?_
                            refine P.iadd (pc' := 211) dX0_count_210 rfl ?_
                            cases hf; exact P.iret rfl dX0_count_211
                          · have hf := (if_neg y75).symm.trans hf
                            by_cases y84 : p1 = 13
                            · have hf := (if_pos y84).symm.trans hf
                              refine P.tsIn (tgt := 212) dX0_count_1 (by rw [y84]; decide) (by rw [y84]; decide) (by rw [y84]; rfl) (by decide) ?_
                              refine P.aload_n 0 (pc' := 213) dX0_count_212 rfl rfl rfl ?_
                              obtain ⟨x85, h86, hf⟩ := ob hf
                              refine P.get (pc' := 216) ci0 11 (by decide) (gfI_spec h86) q486 (Or.inl rfl) dX0_count_213 rfl ?_
                              cases hf; exact P.iret rfl dX0_count_216
                            · have hf := (if_neg y84).symm.trans hf
                              by_cases y87 : p1 = 14
                              · have hf := (if_pos y87).symm.trans hf
                                refine P.tsIn (tgt := 217) dX0_count_1 (by rw [y87]; decide) (by rw [y87]; decide) (by rw [y87]; rfl) (by decide) ?_
                                refine P.aload_n 0 (pc' := 218) dX0_count_217 rfl rfl rfl ?_
                                obtain ⟨x88, h89, hf⟩ := ob hf
                                refine P.get (pc' := 221) ci0 3 (by decide) (gfR_spec h89) q478 (Or.inl rfl) dX0_count_218 rfl ?_
                                obtain ⟨x90, h91, hf⟩ := ob hf
                                refine P.getN (pc' := 224) ci3 3 (by decide) (gfR_spec h91) q338 (Or.inl rfl) dX0_count_221 rfl ?_
                                obtain ⟨u94, h95, hf⟩ := ob hf
                                obtain ⟨q92, h93, hf⟩ := ob hf
                                refine P.callV (pc' := 227) (As := []) 0 (ok_J2_size F x90 μ h93) (Nat.le_of_ble_eq_true rfl) (lw_V q1006 q669 q670 q165 q671) rfl yok_J2_size rfl (Nat.le_of_ble_eq_true rfl) ci20 h95 (by decide) rfl dX0_count_224 rfl ?_
                                cases hf; exact P.iret rfl dX0_count_227
                              · have hf := (if_neg y87).symm.trans hf
                                by_cases y96 : p1 = 15
                                · have hf := (if_pos y96).symm.trans hf
                                  refine P.tsIn (tgt := 228) dX0_count_1 (by rw [y96]; decide) (by rw [y96]; decide) (by rw [y96]; rfl) (by decide) ?_
                                  refine P.aload_n 0 (pc' := 229) dX0_count_228 rfl rfl rfl ?_
                                  obtain ⟨x97, h98, hf⟩ := ob hf
                                  refine P.get (pc' := 232) ci0 3 (by decide) (gfR_spec h98) q478 (Or.inl rfl) dX0_count_229 rfl ?_
                                  obtain ⟨x99, h100, hf⟩ := ob hf
                                  refine P.getN (pc' := 235) ci3 4 (by decide) (gfR_spec h100) q341 (Or.inl rfl) dX0_count_232 rfl ?_
                                  obtain ⟨u103, h104, hf⟩ := ob hf
                                  obtain ⟨q101, h102, hf⟩ := ob hf
                                  refine P.callV (pc' := 238) (As := []) 0 (ok_J2_size F x99 μ h102) (Nat.le_of_ble_eq_true rfl) (lw_V q1006 q669 q670 q165 q671) rfl yok_J2_size rfl (Nat.le_of_ble_eq_true rfl) ci20 h104 (by decide) rfl dX0_count_235 rfl ?_
                                  cases hf; exact P.iret rfl dX0_count_238
                                · have hf := (if_neg y96).symm.trans hf
                                  refine P.tsOut (tgt := 239) dX0_count_1 (by have z0 := lv_neT y1 (a := 0) (by decide); have z1 := lv_neT y6 (a := 1) (by decide); have z2 := lv_neT y11 (a := 2) (by decide); have z3 := lv_neT y20 (a := 3) (by decide); have z4 := lv_neT y25 (a := 4) (by decide); have z5 := lv_neT y34 (a := 5) (by decide); have z6 := lv_neT y39 (a := 6) (by decide); have z7 := lv_neT y44 (a := 7) (by decide); have z8 := lv_neT y53 (a := 8) (by decide); have z9 := lv_neT y62 (a := 9) (by decide); have z10 := lv_neT y67 (a := 10) (by decide); have z11 := lv_neT y70 (a := 11) (by decide); have z12 := lv_neT y75 (a := 12) (by decide); have z13 := lv_neT y84 (a := 13) (by decide); have z14 := lv_neT y87 (a := 14) (by decide); have z15 := lv_neT y96 (a := 15) (by decide); omega) (by decide) ?_
                                  refine P.iconst (v := (-1)) (pc' := 240) dX0_count_239 rfl (by decide) ?_
                                  cases hf; exact P.iret rfl dX0_count_240
