set_option maxRecDepth 100000
abbrev mX9_begin : Ym := (RX9, cX9_begin, 3, none, false, [])
noncomputable def t_X9_begin_L2_b (F : Nat) (k28 : Tw → Option Tw) (c1 : Int32) (self : Int32 → Tw → Option Tw) (v2 : Int32) (τ : Tw) : Option Tw :=
  if 210 ≤ v2 then
    k28 τ
  else
    Option.bind (tsA τ 6 0 420 ((210 * c1) + v2) 0) fun τ3 =>
    nm (v2 + 1) fun x4 =>
    self x4 τ3
noncomputable def t_X9_begin_L2 (F : Nat) (k28 : Tw → Option Tw) (c1 : Int32) (n : Nat) : Int32 → Tw → Option Tw := Nat.rec (motive := fun _ => Int32 → Tw → Option Tw) (fun _ _ => none) (fun _ self => t_X9_begin_L2_b F k28 c1 self) n
set_option maxHeartbeats 4000000 in
theorem ok_t_X9_begin_L2 {g : Gx} {μ0 : Sw} {τF : Tw} (F : Nat) (tw : Nat) (μ : Sw) (c1 : Int32) (k28 : Tw → Option Tw) (hk28 : ∀ (τ : Tw), k28 τ = some τF → PW g mX9_begin 1 μ0 (mT tw τF μ) (QN g none μ0 (mT tw τF μ)) 28 [(0, .ref tw), (1, .int c1)] [] (mT tw τ μ)) : ∀ (n : Nat) (v2 : Int32) (τ : Tw), t_X9_begin_L2 F k28 c1 n v2 τ = some τF → PW g mX9_begin 1 μ0 (mT tw τF μ) (QN g none μ0 (mT tw τF μ)) 2 [(0, .ref tw), (1, .int c1), (2, .int v2)] [] (mT tw τ μ) := by
  intro n
  induction n with
  | zero =>
    intro v2 τ hf
    have hf : (none : Option Tw) = some _ := hf
    cases hf
  | succ n ih =>
    intro v2 τ hf
    have hf : t_X9_begin_L2_b F k28 c1 (t_X9_begin_L2 F k28 c1 n) v2 τ = some τF := hf
    unfold t_X9_begin_L2_b at hf
    refine P.iload_n 2 (pc' := 3) dX9_begin_2 rfl rfl rfl ?_
    refine P.sipush (v := 210) (pc' := 6) dX9_begin_3 rfl (by decide) ?_
    refine P.icmp_ge (tgt := 28) (pc' := 9) dX9_begin_6 (by decide) rfl (fun y1 => ?_) (fun y1 => ?_)
    · have hf := (if_pos y1).symm.trans hf
      exact PW.sub [0, 1] rfl (hk28 _ hf)
    · have hf := (if_neg y1).symm.trans hf
      refine P.aload_n 0 (pc' := 10) dX9_begin_9 rfl rfl rfl ?_
      refine P.get (v := .ref (tw + 6)) (pc' := 13) ci9 12 (by decide) (T_gf rfl) q1567 (Or.inl rfl) dX9_begin_10 rfl ?_
      refine P.sipush (v := 210) (pc' := 16) dX9_begin_13 rfl (by decide) ?_
      refine P.iload_n 1 (pc' := 17) dX9_begin_16 rfl rfl rfl ?_
      refine P.imul (pc' := 18) dX9_begin_17 rfl ?_
      refine P.iload_n 2 (pc' := 19) dX9_begin_18 rfl rfl rfl ?_
      refine P.iadd (pc' := 20) dX9_begin_19 rfl ?_
      refine P.iconst (v := 0) (pc' := 21) dX9_begin_20 rfl (by decide) ?_
      obtain ⟨τ3, h2, hf⟩ := ob hf
      refine P.iast (pc' := 22) (T_sA rfl (by decide) h2) dX9_begin_21 rfl ?_
      obtain ⟨x4, e5, hf⟩ := nm_i hf
      refine P.iinc 2 (pc' := 25) (lv' := [(2, .int x4), (0, .ref tw), (1, .int c1)]) dX9_begin_22 rfl rfl (by decide) e5 (Nat.le_of_ble_eq_true rfl) rfl ?_
      refine P.goto (tgt := 2) dX9_begin_25 (by decide) ?_
      exact PW.sub [1, 2, 0] rfl (ih _ _ hf)
noncomputable def t_X9_begin_L59_b (F : Nat) (c1 : Int32) (self : Int32 → Tw → Option Tw) (v2 : Int32) (τ : Tw) : Option Tw :=
  if 6 ≤ v2 then
    Option.bind (tsA τ 8 0 2 c1 0) fun τ3 =>
    Option.bind (tsA τ3 11 0 2 c1 0) fun τ5 =>
    some τ5
  else
    Option.bind (tsA τ 6 0 420 (((210 * c1) + 10) + v2) (-1)) fun τ7 =>
    nm (v2 + 1) fun x8 =>
    self x8 τ7
noncomputable def t_X9_begin_L59 (F : Nat) (c1 : Int32) (n : Nat) : Int32 → Tw → Option Tw := Nat.rec (motive := fun _ => Int32 → Tw → Option Tw) (fun _ _ => none) (fun _ self => t_X9_begin_L59_b F c1 self) n
set_option maxHeartbeats 4000000 in
theorem ok_t_X9_begin_L59 {g : Gx} {μ0 : Sw} {τF : Tw} (F : Nat) (tw : Nat) (μ : Sw) (c1 : Int32) : ∀ (n : Nat) (v2 : Int32) (τ : Tw), t_X9_begin_L59 F c1 n v2 τ = some τF → PW g mX9_begin 1 μ0 (mT tw τF μ) (QN g none μ0 (mT tw τF μ)) 59 [(0, .ref tw), (1, .int c1), (2, .int v2)] [] (mT tw τ μ) := by
  intro n
  induction n with
  | zero =>
    intro v2 τ hf
    have hf : (none : Option Tw) = some _ := hf
    cases hf
  | succ n ih =>
    intro v2 τ hf
    have hf : t_X9_begin_L59_b F c1 (t_X9_begin_L59 F c1 n) v2 τ = some τF := hf
    unfold t_X9_begin_L59_b at hf
    refine P.iload_n 2 (pc' := 60) dX9_begin_59 rfl rfl rfl ?_
    refine P.bipush (v := 6) (pc' := 62) dX9_begin_60 rfl (by decide) ?_
    refine P.icmp_ge (tgt := 87) (pc' := 65) dX9_begin_62 (by decide) rfl (fun y1 => ?_) (fun y1 => ?_)
    · have hf := (if_pos y1).symm.trans hf
      refine P.aload_n 0 (pc' := 88) dX9_begin_87 rfl rfl rfl ?_
      refine P.get (v := .ref (tw + 8)) (pc' := 91) ci9 14 (by decide) (T_gf rfl) q1569 (Or.inl rfl) dX9_begin_88 rfl ?_
      refine P.iload_n 1 (pc' := 92) dX9_begin_91 rfl rfl rfl ?_
      refine P.iconst (v := 0) (pc' := 93) dX9_begin_92 rfl (by decide) ?_
      obtain ⟨τ3, h2, hf⟩ := ob hf
      refine P.iast (pc' := 94) (T_sA rfl (by decide) h2) dX9_begin_93 rfl ?_
      refine P.aload_n 0 (pc' := 95) dX9_begin_94 rfl rfl rfl ?_
      refine P.get (v := .ref (tw + 11)) (pc' := 98) ci9 17 (by decide) (T_gf rfl) q1572 (Or.inl rfl) dX9_begin_95 rfl ?_
      refine P.iload_n 1 (pc' := 99) dX9_begin_98 rfl rfl rfl ?_
      refine P.iconst (v := 0) (pc' := 100) dX9_begin_99 rfl (by decide) ?_
      obtain ⟨τ5, h4, hf⟩ := ob hf
      refine P.iast (pc' := 101) (T_sA rfl (by decide) h4) dX9_begin_100 rfl ?_
      cases hf; exact P.vret rfl dX9_begin_101
    · have hf := (if_neg y1).symm.trans hf
      refine P.aload_n 0 (pc' := 66) dX9_begin_65 rfl rfl rfl ?_
      refine P.get (v := .ref (tw + 6)) (pc' := 69) ci9 12 (by decide) (T_gf rfl) q1567 (Or.inl rfl) dX9_begin_66 rfl ?_
      refine P.sipush (v := 210) (pc' := 72) dX9_begin_69 rfl (by decide) ?_
      refine P.iload_n 1 (pc' := 73) dX9_begin_72 rfl rfl rfl ?_
      refine P.imul (pc' := 74) dX9_begin_73 rfl ?_
      refine P.bipush (v := 10) (pc' := 76) dX9_begin_74 rfl (by decide) ?_
      refine P.iadd (pc' := 77) dX9_begin_76 rfl ?_
      refine P.iload_n 2 (pc' := 78) dX9_begin_77 rfl rfl rfl ?_
      refine P.iadd (pc' := 79) dX9_begin_78 rfl ?_
      refine P.iconst (v := (-1)) (pc' := 80) dX9_begin_79 rfl (by decide) ?_
      obtain ⟨τ7, h6, hf⟩ := ob hf
      refine P.iast (pc' := 81) (T_sA rfl (by decide) h6) dX9_begin_80 rfl ?_
      obtain ⟨x8, e9, hf⟩ := nm_i hf
      refine P.iinc 2 (pc' := 84) (lv' := [(2, .int x8), (0, .ref tw), (1, .int c1)]) dX9_begin_81 rfl rfl (by decide) e9 (Nat.le_of_ble_eq_true rfl) rfl ?_
      refine P.goto (tgt := 59) dX9_begin_84 (by decide) ?_
      exact PW.sub [1, 2, 0] rfl (ih _ _ hf)
noncomputable def t_X9_begin (F : Nat) (p1 : Int32) (τ : Tw) : Option Tw :=
  t_X9_begin_L2 F
    (fun τ1 =>
      Option.bind (tsA τ1 6 0 420 ((210 * p1) + 6) 2) fun τ3 =>
      Option.bind (tsA τ3 6 0 420 ((210 * p1) + 7) 10) fun τ5 =>
      t_X9_begin_L59 F p1 F 0 τ5)
    p1 F 0 τ
set_option maxHeartbeats 4000000 in
theorem ok_X9_begin {g : Gx} (F : Nat) (p1 : Int32) (tw : Nat) (μ : Sw) (τ : Tw) {τF : Tw} (hf : t_X9_begin F p1 τ = some τF) : Cl g 1 yX9_begin cX9_begin 3 none [.ref tw, .int p1] (mT tw τ μ) none (mT tw τF μ) := by
  unfold t_X9_begin at hf
  refine Cl.of (own := RX9) (ini := false) (by decide +kernel) rfl (by decide) (Nat.le_of_ble_eq_true rfl) ?_
  show PW g mX9_begin 1 (mT tw τ μ) (mT tw τF μ) (QN g none (mT tw τ μ) (mT tw τF μ)) 0 [(0, .ref tw), (1, .int p1)] [] (mT tw τ μ)
  refine P.iconst (v := 0) (pc' := 1) dX9_begin_0 rfl (by decide) ?_
  refine P.istore_n (pc' := 2) (lv' := [(2, .int 0), (0, .ref tw), (1, .int p1)]) dX9_begin_1 rfl rfl (Nat.le_of_ble_eq_true rfl) rfl ?_
  refine PW.sub [1, 2, 0] rfl (ok_t_X9_begin_L2 F tw μ p1 _ ?_ F _ _ hf)
  · intro τ1 hf
    refine P.aload_n 0 (pc' := 29) dX9_begin_28 rfl rfl rfl ?_
    refine P.get (v := .ref (tw + 6)) (pc' := 32) ci9 12 (by decide) (T_gf rfl) q1567 (Or.inl rfl) dX9_begin_29 rfl ?_
    refine P.sipush (v := 210) (pc' := 35) dX9_begin_32 rfl (by decide) ?_
    refine P.iload_n 1 (pc' := 36) dX9_begin_35 rfl rfl rfl ?_
    refine P.imul (pc' := 37) dX9_begin_36 rfl ?_
    refine P.bipush (v := 6) (pc' := 39) dX9_begin_37 rfl (by decide) ?_
    refine P.iadd (pc' := 40) dX9_begin_39 rfl ?_
    refine P.iconst (v := 2) (pc' := 41) dX9_begin_40 rfl (by decide) ?_
    obtain ⟨τ3, h2, hf⟩ := ob hf
    refine P.iast (pc' := 42) (T_sA rfl (by decide) h2) dX9_begin_41 rfl ?_
    refine P.aload_n 0 (pc' := 43) dX9_begin_42 rfl rfl rfl ?_
    refine P.get (v := .ref (tw + 6)) (pc' := 46) ci9 12 (by decide) (T_gf rfl) q1567 (Or.inl rfl) dX9_begin_43 rfl ?_
    refine P.sipush (v := 210) (pc' := 49) dX9_begin_46 rfl (by decide) ?_
    refine P.iload_n 1 (pc' := 50) dX9_begin_49 rfl rfl rfl ?_
    refine P.imul (pc' := 51) dX9_begin_50 rfl ?_
    refine P.bipush (v := 7) (pc' := 53) dX9_begin_51 rfl (by decide) ?_
    refine P.iadd (pc' := 54) dX9_begin_53 rfl ?_
    refine P.bipush (v := 10) (pc' := 56) dX9_begin_54 rfl (by decide) ?_
    obtain ⟨τ5, h4, hf⟩ := ob hf
    refine P.iast (pc' := 57) (T_sA rfl (by decide) h4) dX9_begin_56 rfl ?_
    refine P.iconst (v := 0) (pc' := 58) dX9_begin_57 rfl (by decide) ?_
    refine P.istore_n (pc' := 59) (lv' := [(2, .int 0), (0, .ref tw), (1, .int p1)]) dX9_begin_58 rfl rfl (Nat.le_of_ble_eq_true rfl) rfl ?_
    exact PW.sub [1, 2, 0] rfl (ok_t_X9_begin_L59 F tw μ p1 F _ _ hf)
abbrev mX9_holderOf : Ym := (RX9, cX9_holderOf, 3, (some Jvm.ClassFile.FieldType.int), false, [])
noncomputable def t_X9_holderOf_L2_b (F : Nat) (c1 : Int32) (τ : Tw) (self : Int32 → Option Int32) (v2 : Int32) : Option Int32 :=
  Option.bind (taI τ 6 420 0) fun x1 =>
  if x1 ≤ v2 then
    some (-2)
  else
    Option.bind (taI τ 7 1260 (30 + v2)) fun x4 =>
    if x4 = c1 then
      some v2
    else
      nm (v2 + 1) fun x7 =>
      self x7
noncomputable def t_X9_holderOf_L2 (F : Nat) (c1 : Int32) (τ : Tw) (n : Nat) : Int32 → Option Int32 := Nat.rec (motive := fun _ => Int32 → Option Int32) (fun _ => none) (fun _ self => t_X9_holderOf_L2_b F c1 τ self) n
set_option maxHeartbeats 4000000 in
theorem ok_t_X9_holderOf_L2 {g : Gx} {μ0 : Sw} {rv : Int32} (F : Nat) (tw : Nat) (μ : Sw) (c1 : Int32) (τ : Tw) : ∀ (n : Nat) (v2 : Int32), t_X9_holderOf_L2 F c1 τ n v2 = some rv → PW g mX9_holderOf 1 μ0 (mT tw τ μ) (QN g (some (.int rv)) μ0 (mT tw τ μ)) 2 [(0, .ref tw), (1, .int c1), (2, .int v2)] [] (mT tw τ μ) := by
  intro n
  induction n with
  | zero =>
    intro v2 hf
    have hf : (none : Option Int32) = some _ := hf
    cases hf
  | succ n ih =>
    intro v2 hf
    have hf : t_X9_holderOf_L2_b F c1 τ (t_X9_holderOf_L2 F c1 τ n) v2 = some rv := hf
    unfold t_X9_holderOf_L2_b at hf
    refine P.iload_n 2 (pc' := 3) dX9_holderOf_2 rfl rfl rfl ?_
    refine P.aload_n 0 (pc' := 4) dX9_holderOf_3 rfl rfl rfl ?_
    refine P.get (v := .ref (tw + 6)) (pc' := 7) ci9 12 (by decide) (T_gf rfl) q1567 (Or.inl rfl) dX9_holderOf_4 rfl ?_
    refine P.iconst (v := 0) (pc' := 8) dX9_holderOf_7 rfl (by decide) ?_
    obtain ⟨x1, h2, hf⟩ := ob hf
    refine P.iald (t := 0) (pc' := 9) rfl (T_aI rfl h2) dX9_holderOf_8 rfl ?_
    refine P.icmp_ge (tgt := 33) (pc' := 12) dX9_holderOf_9 (by decide) rfl (fun y3 => ?_) (fun y3 => ?_)
    · have hf := (if_pos y3).symm.trans hf
      refine P.bipush (v := (-2)) (pc' := 35) dX9_holderOf_33 rfl (by decide) ?_
      cases hf; exact P.iret rfl dX9_holderOf_35
    · have hf := (if_neg y3).symm.trans hf
      refine P.aload_n 0 (pc' := 13) dX9_holderOf_12 rfl rfl rfl ?_
      refine P.get (v := .ref (tw + 7)) (pc' := 16) ci9 13 (by decide) (T_gf rfl) q1568 (Or.inl rfl) dX9_holderOf_13 rfl ?_
      refine P.bipush (v := 30) (pc' := 18) dX9_holderOf_16 rfl (by decide) ?_
      refine P.iload_n 2 (pc' := 19) dX9_holderOf_18 rfl rfl rfl ?_
      refine P.iadd (pc' := 20) dX9_holderOf_19 rfl ?_
      obtain ⟨x4, h5, hf⟩ := ob hf
      refine P.iald (t := 0) (pc' := 21) rfl (T_aI rfl h5) dX9_holderOf_20 rfl ?_
      refine P.iload_n 1 (pc' := 22) dX9_holderOf_21 rfl rfl rfl ?_
      refine P.icmp_ne (tgt := 27) (pc' := 25) dX9_holderOf_22 (by decide) rfl (fun y6 => ?_) (fun y6 => ?_)
      · have hf := (if_neg y6).symm.trans hf
        obtain ⟨x7, e8, hf⟩ := nm_i hf
        refine P.iinc 2 (pc' := 30) (lv' := [(2, .int x7), (0, .ref tw), (1, .int c1)]) dX9_holderOf_27 rfl rfl (by decide) e8 (Nat.le_of_ble_eq_true rfl) rfl ?_
        refine P.goto (tgt := 2) dX9_holderOf_30 (by decide) ?_
        exact PW.sub [1, 2, 0] rfl (ih _ hf)
      · have hf := (if_pos y6).symm.trans hf
        refine P.iload_n 2 (pc' := 26) dX9_holderOf_25 rfl rfl rfl ?_
        cases hf; exact P.iret rfl dX9_holderOf_26
noncomputable def t_X9_holderOf (F : Nat) (p1 : Int32) (τ : Tw) : Option Int32 :=
  t_X9_holderOf_L2 F p1 τ F 0
set_option maxHeartbeats 4000000 in
theorem ok_X9_holderOf {g : Gx} (F : Nat) (p1 : Int32) (tw : Nat) (μ : Sw) (τ : Tw) {rv : Int32} (hf : t_X9_holderOf F p1 τ = some rv) : Cl g 1 yX9_holderOf cX9_holderOf 3 (some Jvm.ClassFile.FieldType.int) [.ref tw, .int p1] (mT tw τ μ) (some (.int rv)) (mT tw τ μ) := by
  unfold t_X9_holderOf at hf
  refine Cl.of (own := RX9) (ini := false) (by decide +kernel) rfl (by decide) (Nat.le_of_ble_eq_true rfl) ?_
  show PW g mX9_holderOf 1 (mT tw τ μ) (mT tw τ μ) (QN g (some (.int rv)) (mT tw τ μ) (mT tw τ μ)) 0 [(0, .ref tw), (1, .int p1)] [] (mT tw τ μ)
  refine P.iconst (v := 0) (pc' := 1) dX9_holderOf_0 rfl (by decide) ?_
  refine P.istore_n (pc' := 2) (lv' := [(2, .int 0), (0, .ref tw), (1, .int p1)]) dX9_holderOf_1 rfl rfl (Nat.le_of_ble_eq_true rfl) rfl ?_
  exact PW.sub [1, 2, 0] rfl (ok_t_X9_holderOf_L2 F tw μ p1 τ F _ hf)
theorem yok_X9_holderOf : yOK yX9_holderOf 1 := ⟨by decide +kernel, by decide +kernel, by decide +kernel⟩
abbrev mX9_gives : Ym := (RX9, cX9_gives, 4, none, false, [])
noncomputable def t_X9_gives (F : Nat) (p1 : Int32) (p2 : Int32) (τ : Tw) : Option Tw :=
  Option.bind (t_X9_holderOf F p2 τ) fun q1 =>
  if q1 < 0 then
    Option.bind (tsA τ 7 0 1260 (30 + p1) p2) fun τ5 =>
    some τ5
  else
    Option.bind (tsA τ 7 0 1260 (30 + q1) (-2)) fun τ7 =>
    Option.bind (tsA τ7 7 0 1260 (30 + p1) p2) fun τ9 =>
    some τ9
set_option maxHeartbeats 4000000 in
theorem ok_X9_gives {g : Gx} (F : Nat) (p1 : Int32) (p2 : Int32) (tw : Nat) (μ : Sw) (τ : Tw) {τF : Tw} (hf : t_X9_gives F p1 p2 τ = some τF) : Cl g 2 yX9_gives cX9_gives 4 none [.ref tw, .int p1, .int p2] (mT tw τ μ) none (mT tw τF μ) := by
  unfold t_X9_gives at hf
  refine Cl.of (own := RX9) (ini := false) (by decide +kernel) rfl (by decide) (Nat.le_of_ble_eq_true rfl) ?_
  show PW g mX9_gives 2 (mT tw τ μ) (mT tw τF μ) (QN g none (mT tw τ μ) (mT tw τF μ)) 0 [(0, .ref tw), (1, .int p1), (2, .int p2)] [] (mT tw τ μ)
  refine P.aload_n 0 (pc' := 1) dX9_gives_0 rfl rfl rfl ?_
  refine P.iload_n 2 (pc' := 2) dX9_gives_1 rfl rfl rfl ?_
  obtain ⟨q1, h2, hf⟩ := ob hf
  refine P.callV (pc' := 5) (As := [.int p2]) 1 (ok_X9_holderOf F p2 tw μ τ h2) (Nat.le_of_ble_eq_true rfl) (lw_V q1551 q1553 qs76 q172 q1554) rfl yok_X9_holderOf rfl (Nat.le_of_ble_eq_true rfl) ci9 T_oc (by decide) rfl dX9_gives_2 rfl ?_
  refine P.istore_n (pc' := 6) (lv' := [(3, .int q1), (0, .ref tw), (1, .int p1), (2, .int p2)]) dX9_gives_5 rfl rfl (Nat.le_of_ble_eq_true rfl) rfl ?_
  refine P.iload_n 0 (pc' := 7) dX9_gives_6 rfl rfl rfl ?_
  refine P.if_lt (tgt := 21) (pc' := 10) dX9_gives_7 (by decide) rfl (fun y3 => ?_) (fun y3 => ?_)
  · have hf := (if_pos y3).symm.trans hf
    refine P.aload_n 1 (pc' := 22) dX9_gives_21 rfl rfl rfl ?_
    refine P.get (v := .ref (tw + 7)) (pc' := 25) ci9 13 (by decide) (T_gf rfl) q1568 (Or.inl rfl) dX9_gives_22 rfl ?_
    refine P.bipush (v := 30) (pc' := 27) dX9_gives_25 rfl (by decide) ?_
    refine P.iload_n 2 (pc' := 28) dX9_gives_27 rfl rfl rfl ?_
    refine P.iadd (pc' := 29) dX9_gives_28 rfl ?_
    refine P.iload_n 3 (pc' := 30) dX9_gives_29 rfl rfl rfl ?_
    obtain ⟨τ5, h4, hf⟩ := ob hf
    refine P.iast (pc' := 31) (T_sA rfl (by decide) h4) dX9_gives_30 rfl ?_
    cases hf; exact P.vret rfl dX9_gives_31
  · have hf := (if_neg y3).symm.trans hf
    refine P.aload_n 1 (pc' := 11) dX9_gives_10 rfl rfl rfl ?_
    refine P.get (v := .ref (tw + 7)) (pc' := 14) ci9 13 (by decide) (T_gf rfl) q1568 (Or.inl rfl) dX9_gives_11 rfl ?_
    refine P.bipush (v := 30) (pc' := 16) dX9_gives_14 rfl (by decide) ?_
    refine P.iload_n 0 (pc' := 17) dX9_gives_16 rfl rfl rfl ?_
    refine P.iadd (pc' := 18) dX9_gives_17 rfl ?_
    refine P.bipush (v := (-2)) (pc' := 20) dX9_gives_18 rfl (by decide) ?_
    obtain ⟨τ7, h6, hf⟩ := ob hf
    refine P.iast (pc' := 21) (T_sA rfl (by decide) h6) dX9_gives_20 rfl ?_
    refine P.aload_n 1 (pc' := 22) dX9_gives_21 rfl rfl rfl ?_
    refine P.get (v := .ref (tw + 7)) (pc' := 25) ci9 13 (by decide) (T_gf rfl) q1568 (Or.inl rfl) dX9_gives_22 rfl ?_
    refine P.bipush (v := 30) (pc' := 27) dX9_gives_25 rfl (by decide) ?_
    refine P.iload_n 2 (pc' := 28) dX9_gives_27 rfl rfl rfl ?_
    refine P.iadd (pc' := 29) dX9_gives_28 rfl ?_
    refine P.iload_n 3 (pc' := 30) dX9_gives_29 rfl rfl rfl ?_
    obtain ⟨τ9, h8, hf⟩ := ob hf
    refine P.iast (pc' := 31) (T_sA rfl (by decide) h8) dX9_gives_30 rfl ?_
    cases hf; exact P.vret rfl dX9_gives_31
theorem yok_X9_gives : yOK yX9_gives 2 := ⟨by decide +kernel, by decide +kernel, by decide +kernel⟩
abbrev mX9_settle : Ym := (RX9, cX9_settle, 2, none, false, [])
noncomputable def t_X9_settle_L2_b (F : Nat) (k22 : Tw → Option Tw) (self : Int32 → Tw → Option Tw) (v1 : Int32) (τ : Tw) : Option Tw :=
  if 420 ≤ v1 then
    k22 τ
  else
    Option.bind (tsA τ 7 0 1260 v1 0) fun τ3 =>
    nm (v1 + 1) fun x4 =>
    self x4 τ3
noncomputable def t_X9_settle_L2 (F : Nat) (k22 : Tw → Option Tw) (n : Nat) : Int32 → Tw → Option Tw := Nat.rec (motive := fun _ => Int32 → Tw → Option Tw) (fun _ _ => none) (fun _ self => t_X9_settle_L2_b F k22 self) n
set_option maxHeartbeats 4000000 in
theorem ok_t_X9_settle_L2 {g : Gx} {μ0 : Sw} {τF : Tw} (F : Nat) (tw : Nat) (μ : Sw) (k22 : Tw → Option Tw) (hk22 : ∀ (τ : Tw), k22 τ = some τF → PW g mX9_settle 3 μ0 (mT tw τF μ) (QN g none μ0 (mT tw τF μ)) 22 [(0, .ref tw)] [] (mT tw τ μ)) : ∀ (n : Nat) (v1 : Int32) (τ : Tw), t_X9_settle_L2 F k22 n v1 τ = some τF → PW g mX9_settle 3 μ0 (mT tw τF μ) (QN g none μ0 (mT tw τF μ)) 2 [(0, .ref tw), (1, .int v1)] [] (mT tw τ μ) := by
  intro n
  induction n with
  | zero =>
    intro v1 τ hf
    have hf : (none : Option Tw) = some _ := hf
    cases hf
  | succ n ih =>
    intro v1 τ hf
    have hf : t_X9_settle_L2_b F k22 (t_X9_settle_L2 F k22 n) v1 τ = some τF := hf
    unfold t_X9_settle_L2_b at hf
    refine P.iload_n 1 (pc' := 3) dX9_settle_2 rfl rfl rfl ?_
    refine P.sipush (v := 420) (pc' := 6) dX9_settle_3 rfl (by decide) ?_
    refine P.icmp_ge (tgt := 22) (pc' := 9) dX9_settle_6 (by decide) rfl (fun y1 => ?_) (fun y1 => ?_)
    · have hf := (if_pos y1).symm.trans hf
      exact PW.sub [0] rfl (hk22 _ hf)
    · have hf := (if_neg y1).symm.trans hf
      refine P.aload_n 0 (pc' := 10) dX9_settle_9 rfl rfl rfl ?_
      refine P.get (v := .ref (tw + 7)) (pc' := 13) ci9 13 (by decide) (T_gf rfl) q1568 (Or.inl rfl) dX9_settle_10 rfl ?_
      refine P.iload_n 1 (pc' := 14) dX9_settle_13 rfl rfl rfl ?_
      refine P.iconst (v := 0) (pc' := 15) dX9_settle_14 rfl (by decide) ?_
      obtain ⟨τ3, h2, hf⟩ := ob hf
      refine P.iast (pc' := 16) (T_sA rfl (by decide) h2) dX9_settle_15 rfl ?_
      obtain ⟨x4, e5, hf⟩ := nm_i hf
      refine P.iinc 1 (pc' := 19) (lv' := [(1, .int x4), (0, .ref tw)]) dX9_settle_16 rfl rfl (by decide) e5 (Nat.le_of_ble_eq_true rfl) rfl ?_
      refine P.goto (tgt := 2) dX9_settle_19 (by decide) ?_
      exact PW.sub [1, 0] rfl (ih _ _ hf)
noncomputable def t_X9_settle_L24_b (F : Nat) (k69 : Tw → Option Tw) (self : Int32 → Tw → Option Tw) (v1 : Int32) (τ : Tw) : Option Tw :=
  if 16 ≤ v1 then
    k69 τ
  else
    Option.bind (taI τ 6 420 ((20 + (3 * v1)) + 1)) fun x2 =>
    Option.bind (tsA τ 7 0 1260 (10 + v1) x2) fun τ5 =>
    Option.bind (tsA τ5 7 0 1260 (30 + v1) (-2)) fun τ7 =>
    nm (v1 + 1) fun x8 =>
    self x8 τ7
noncomputable def t_X9_settle_L24 (F : Nat) (k69 : Tw → Option Tw) (n : Nat) : Int32 → Tw → Option Tw := Nat.rec (motive := fun _ => Int32 → Tw → Option Tw) (fun _ _ => none) (fun _ self => t_X9_settle_L24_b F k69 self) n
set_option maxHeartbeats 4000000 in
theorem ok_t_X9_settle_L24 {g : Gx} {μ0 : Sw} {τF : Tw} (F : Nat) (tw : Nat) (μ : Sw) (k69 : Tw → Option Tw) (hk69 : ∀ (τ : Tw), k69 τ = some τF → PW g mX9_settle 3 μ0 (mT tw τF μ) (QN g none μ0 (mT tw τF μ)) 69 [(0, .ref tw)] [] (mT tw τ μ)) : ∀ (n : Nat) (v1 : Int32) (τ : Tw), t_X9_settle_L24 F k69 n v1 τ = some τF → PW g mX9_settle 3 μ0 (mT tw τF μ) (QN g none μ0 (mT tw τF μ)) 24 [(0, .ref tw), (1, .int v1)] [] (mT tw τ μ) := by
  intro n
  induction n with
  | zero =>
    intro v1 τ hf
    have hf : (none : Option Tw) = some _ := hf
    cases hf
  | succ n ih =>
    intro v1 τ hf
    have hf : t_X9_settle_L24_b F k69 (t_X9_settle_L24 F k69 n) v1 τ = some τF := hf
    unfold t_X9_settle_L24_b at hf
    refine P.iload_n 1 (pc' := 25) dX9_settle_24 rfl rfl rfl ?_
    refine P.bipush (v := 16) (pc' := 27) dX9_settle_25 rfl (by decide) ?_
    refine P.icmp_ge (tgt := 69) (pc' := 30) dX9_settle_27 (by decide) rfl (fun y1 => ?_) (fun y1 => ?_)
    · have hf := (if_pos y1).symm.trans hf
      exact PW.sub [0] rfl (hk69 _ hf)
    · have hf := (if_neg y1).symm.trans hf
      refine P.aload_n 0 (pc' := 31) dX9_settle_30 rfl rfl rfl ?_
      refine P.get (v := .ref (tw + 7)) (pc' := 34) ci9 13 (by decide) (T_gf rfl) q1568 (Or.inl rfl) dX9_settle_31 rfl ?_
      refine P.bipush (v := 10) (pc' := 36) dX9_settle_34 rfl (by decide) ?_
      refine P.iload_n 1 (pc' := 37) dX9_settle_36 rfl rfl rfl ?_
      refine P.iadd (pc' := 38) dX9_settle_37 rfl ?_
      refine P.aload_n 0 (pc' := 39) dX9_settle_38 rfl rfl rfl ?_
      refine P.get (v := .ref (tw + 6)) (pc' := 42) ci9 12 (by decide) (T_gf rfl) q1567 (Or.inl rfl) dX9_settle_39 rfl ?_
      refine P.bipush (v := 20) (pc' := 44) dX9_settle_42 rfl (by decide) ?_
      refine P.iconst (v := 3) (pc' := 45) dX9_settle_44 rfl (by decide) ?_
      refine P.iload_n 1 (pc' := 46) dX9_settle_45 rfl rfl rfl ?_
      refine P.imul (pc' := 47) dX9_settle_46 rfl ?_
      refine P.iadd (pc' := 48) dX9_settle_47 rfl ?_
      refine P.iconst (v := 1) (pc' := 49) dX9_settle_48 rfl (by decide) ?_
      refine P.iadd (pc' := 50) dX9_settle_49 rfl ?_
      obtain ⟨x2, h3, hf⟩ := ob hf
      refine P.iald (t := 0) (pc' := 51) rfl (T_aI rfl h3) dX9_settle_50 rfl ?_
      obtain ⟨τ5, h4, hf⟩ := ob hf
      refine P.iast (pc' := 52) (T_sA rfl (by decide) h4) dX9_settle_51 rfl ?_
      refine P.aload_n 0 (pc' := 53) dX9_settle_52 rfl rfl rfl ?_
      refine P.get (v := .ref (tw + 7)) (pc' := 56) ci9 13 (by decide) (T_gf rfl) q1568 (Or.inl rfl) dX9_settle_53 rfl ?_
      refine P.bipush (v := 30) (pc' := 58) dX9_settle_56 rfl (by decide) ?_
      refine P.iload_n 1 (pc' := 59) dX9_settle_58 rfl rfl rfl ?_
      refine P.iadd (pc' := 60) dX9_settle_59 rfl ?_
      refine P.bipush (v := (-2)) (pc' := 62) dX9_settle_60 rfl (by decide) ?_
      obtain ⟨τ7, h6, hf⟩ := ob hf
      refine P.iast (pc' := 63) (T_sA rfl (by decide) h6) dX9_settle_62 rfl ?_
      obtain ⟨x8, e9, hf⟩ := nm_i hf
      refine P.iinc 1 (pc' := 66) (lv' := [(1, .int x8), (0, .ref tw)]) dX9_settle_63 rfl rfl (by decide) e9 (Nat.le_of_ble_eq_true rfl) rfl ?_
      refine P.goto (tgt := 24) dX9_settle_66 (by decide) ?_
      exact PW.sub [1, 0] rfl (ih _ _ hf)
noncomputable def t_X9_settle_L71_b (F : Nat) (k115 : Tw → Option Tw) (self : Int32 → Tw → Option Tw) (v1 : Int32) (τ : Tw) : Option Tw :=
  Option.bind (taI τ 6 420 2) fun x1 =>
  if x1 ≤ v1 then
    k115 τ
  else
    Option.bind (taI τ 6 420 (90 + (2 * v1))) fun x4 =>
    Option.bind (taI τ 6 420 ((90 + (2 * v1)) + 1)) fun x6 =>
    Option.bind (t_X9_gives F x4 x6 τ) fun q8 =>
    nm (v1 + 1) fun x10 =>
    self x10 q8
noncomputable def t_X9_settle_L71 (F : Nat) (k115 : Tw → Option Tw) (n : Nat) : Int32 → Tw → Option Tw := Nat.rec (motive := fun _ => Int32 → Tw → Option Tw) (fun _ _ => none) (fun _ self => t_X9_settle_L71_b F k115 self) n
set_option maxHeartbeats 4000000 in
theorem ok_t_X9_settle_L71 {g : Gx} {μ0 : Sw} {τF : Tw} (F : Nat) (tw : Nat) (μ : Sw) (k115 : Tw → Option Tw) (hk115 : ∀ (τ : Tw), k115 τ = some τF → PW g mX9_settle 3 μ0 (mT tw τF μ) (QN g none μ0 (mT tw τF μ)) 115 [(0, .ref tw)] [] (mT tw τ μ)) : ∀ (n : Nat) (v1 : Int32) (τ : Tw), t_X9_settle_L71 F k115 n v1 τ = some τF → PW g mX9_settle 3 μ0 (mT tw τF μ) (QN g none μ0 (mT tw τF μ)) 71 [(0, .ref tw), (1, .int v1)] [] (mT tw τ μ) := by
  intro n
  induction n with
  | zero =>
    intro v1 τ hf
    have hf : (none : Option Tw) = some _ := hf
    cases hf
  | succ n ih =>
    intro v1 τ hf
    have hf : t_X9_settle_L71_b F k115 (t_X9_settle_L71 F k115 n) v1 τ = some τF := hf
    unfold t_X9_settle_L71_b at hf
    refine P.iload_n 1 (pc' := 72) dX9_settle_71 rfl rfl rfl ?_
    refine P.aload_n 0 (pc' := 73) dX9_settle_72 rfl rfl rfl ?_
    refine P.get (v := .ref (tw + 6)) (pc' := 76) ci9 12 (by decide) (T_gf rfl) q1567 (Or.inl rfl) dX9_settle_73 rfl ?_
    refine P.iconst (v := 2) (pc' := 77) dX9_settle_76 rfl (by decide) ?_
    obtain ⟨x1, h2, hf⟩ := ob hf
    refine P.iald (t := 0) (pc' := 78) rfl (T_aI rfl h2) dX9_settle_77 rfl ?_
    refine P.icmp_ge (tgt := 115) (pc' := 81) dX9_settle_78 (by decide) rfl (fun y3 => ?_) (fun y3 => ?_)
    · have hf := (if_pos y3).symm.trans hf
      exact PW.sub [0] rfl (hk115 _ hf)
    · have hf := (if_neg y3).symm.trans hf
      refine P.aload_n 0 (pc' := 82) dX9_settle_81 rfl rfl rfl ?_
      refine P.aload_n 0 (pc' := 83) dX9_settle_82 rfl rfl rfl ?_
      refine P.get (v := .ref (tw + 6)) (pc' := 86) ci9 12 (by decide) (T_gf rfl) q1567 (Or.inl rfl) dX9_settle_83 rfl ?_
      refine P.bipush (v := 90) (pc' := 88) dX9_settle_86 rfl (by decide) ?_
      refine P.iconst (v := 2) (pc' := 89) dX9_settle_88 rfl (by decide) ?_
      refine P.iload_n 1 (pc' := 90) dX9_settle_89 rfl rfl rfl ?_
      refine P.imul (pc' := 91) dX9_settle_90 rfl ?_
      refine P.iadd (pc' := 92) dX9_settle_91 rfl ?_
      obtain ⟨x4, h5, hf⟩ := ob hf
      refine P.iald (t := 0) (pc' := 93) rfl (T_aI rfl h5) dX9_settle_92 rfl ?_
      refine P.aload_n 0 (pc' := 94) dX9_settle_93 rfl rfl rfl ?_
      refine P.get (v := .ref (tw + 6)) (pc' := 97) ci9 12 (by decide) (T_gf rfl) q1567 (Or.inl rfl) dX9_settle_94 rfl ?_
      refine P.bipush (v := 90) (pc' := 99) dX9_settle_97 rfl (by decide) ?_
      refine P.iconst (v := 2) (pc' := 100) dX9_settle_99 rfl (by decide) ?_
      refine P.iload_n 1 (pc' := 101) dX9_settle_100 rfl rfl rfl ?_
      refine P.imul (pc' := 102) dX9_settle_101 rfl ?_
      refine P.iadd (pc' := 103) dX9_settle_102 rfl ?_
      refine P.iconst (v := 1) (pc' := 104) dX9_settle_103 rfl (by decide) ?_
      refine P.iadd (pc' := 105) dX9_settle_104 rfl ?_
      obtain ⟨x6, h7, hf⟩ := ob hf
      refine P.iald (t := 0) (pc' := 106) rfl (T_aI rfl h7) dX9_settle_105 rfl ?_
      obtain ⟨q8, h9, hf⟩ := ob hf
      refine P.callV (pc' := 109) (As := [.int x4, .int x6]) 2 (ok_X9_gives F x4 x6 tw μ τ h9) (Nat.le_of_ble_eq_true rfl) (lw_V q1547 q1549 qs75 q172 q1550) rfl yok_X9_gives rfl (Nat.le_of_ble_eq_true rfl) ci9 T_oc (by decide) rfl dX9_settle_106 rfl ?_
      obtain ⟨x10, e11, hf⟩ := nm_i hf
      refine P.iinc 1 (pc' := 112) (lv' := [(1, .int x10), (0, .ref tw)]) dX9_settle_109 rfl rfl (by decide) e11 (Nat.le_of_ble_eq_true rfl) rfl ?_
      refine P.goto (tgt := 71) dX9_settle_112 (by decide) ?_
      exact PW.sub [1, 0] rfl (ih _ _ hf)
noncomputable def t_X9_settle_L117_b (F : Nat) (k152 : Tw → Option Tw) (self : Int32 → Tw → Option Tw) (v1 : Int32) (τ : Tw) : Option Tw :=
  if 8 ≤ v1 then
    k152 τ
  else
    Option.bind (taI τ 6 420 ((170 + (2 * v1)) + 1)) fun x2 =>
    Option.bind (tsA τ 7 0 1260 (50 + v1) x2) fun τ5 =>
    nm (v1 + 1) fun x6 =>
    self x6 τ5
noncomputable def t_X9_settle_L117 (F : Nat) (k152 : Tw → Option Tw) (n : Nat) : Int32 → Tw → Option Tw := Nat.rec (motive := fun _ => Int32 → Tw → Option Tw) (fun _ _ => none) (fun _ self => t_X9_settle_L117_b F k152 self) n
set_option maxHeartbeats 4000000 in
theorem ok_t_X9_settle_L117 {g : Gx} {μ0 : Sw} {τF : Tw} (F : Nat) (tw : Nat) (μ : Sw) (k152 : Tw → Option Tw) (hk152 : ∀ (τ : Tw), k152 τ = some τF → PW g mX9_settle 3 μ0 (mT tw τF μ) (QN g none μ0 (mT tw τF μ)) 152 [(0, .ref tw)] [] (mT tw τ μ)) : ∀ (n : Nat) (v1 : Int32) (τ : Tw), t_X9_settle_L117 F k152 n v1 τ = some τF → PW g mX9_settle 3 μ0 (mT tw τF μ) (QN g none μ0 (mT tw τF μ)) 117 [(0, .ref tw), (1, .int v1)] [] (mT tw τ μ) := by
  intro n
  induction n with
  | zero =>
    intro v1 τ hf
    have hf : (none : Option Tw) = some _ := hf
    cases hf
  | succ n ih =>
    intro v1 τ hf
    have hf : t_X9_settle_L117_b F k152 (t_X9_settle_L117 F k152 n) v1 τ = some τF := hf
    unfold t_X9_settle_L117_b at hf
    refine P.iload_n 1 (pc' := 118) dX9_settle_117 rfl rfl rfl ?_
    refine P.bipush (v := 8) (pc' := 120) dX9_settle_118 rfl (by decide) ?_
    refine P.icmp_ge (tgt := 152) (pc' := 123) dX9_settle_120 (by decide) rfl (fun y1 => ?_) (fun y1 => ?_)
    · have hf := (if_pos y1).symm.trans hf
      exact PW.sub [0] rfl (hk152 _ hf)
    · have hf := (if_neg y1).symm.trans hf
      refine P.aload_n 0 (pc' := 124) dX9_settle_123 rfl rfl rfl ?_
      refine P.get (v := .ref (tw + 7)) (pc' := 127) ci9 13 (by decide) (T_gf rfl) q1568 (Or.inl rfl) dX9_settle_124 rfl ?_
      refine P.bipush (v := 50) (pc' := 129) dX9_settle_127 rfl (by decide) ?_
      refine P.iload_n 1 (pc' := 130) dX9_settle_129 rfl rfl rfl ?_
      refine P.iadd (pc' := 131) dX9_settle_130 rfl ?_
      refine P.aload_n 0 (pc' := 132) dX9_settle_131 rfl rfl rfl ?_
      refine P.get (v := .ref (tw + 6)) (pc' := 135) ci9 12 (by decide) (T_gf rfl) q1567 (Or.inl rfl) dX9_settle_132 rfl ?_
      refine P.sipush (v := 170) (pc' := 138) dX9_settle_135 rfl (by decide) ?_
      refine P.iconst (v := 2) (pc' := 139) dX9_settle_138 rfl (by decide) ?_
      refine P.iload_n 1 (pc' := 140) dX9_settle_139 rfl rfl rfl ?_
      refine P.imul (pc' := 141) dX9_settle_140 rfl ?_
      refine P.iadd (pc' := 142) dX9_settle_141 rfl ?_
      refine P.iconst (v := 1) (pc' := 143) dX9_settle_142 rfl (by decide) ?_
      refine P.iadd (pc' := 144) dX9_settle_143 rfl ?_
      obtain ⟨x2, h3, hf⟩ := ob hf
      refine P.iald (t := 0) (pc' := 145) rfl (T_aI rfl h3) dX9_settle_144 rfl ?_
      obtain ⟨τ5, h4, hf⟩ := ob hf
      refine P.iast (pc' := 146) (T_sA rfl (by decide) h4) dX9_settle_145 rfl ?_
      obtain ⟨x6, e7, hf⟩ := nm_i hf
      refine P.iinc 1 (pc' := 149) (lv' := [(1, .int x6), (0, .ref tw)]) dX9_settle_146 rfl rfl (by decide) e7 (Nat.le_of_ble_eq_true rfl) rfl ?_
      refine P.goto (tgt := 117) dX9_settle_149 (by decide) ?_
      exact PW.sub [1, 0] rfl (ih _ _ hf)
noncomputable def t_X9_settle (F : Nat) (τ : Tw) : Option Tw :=
  t_X9_settle_L2 F
    (fun τ1 =>
      t_X9_settle_L24 F
        (fun τ2 =>
          t_X9_settle_L71 F
            (fun τ3 =>
              t_X9_settle_L117 F
                (fun τ4 =>
                  nm (tsI τ4 50 0) fun τ5 =>
                  nm (tsI τ5 40 0) fun τ7 =>
                  Option.bind (tsA τ7 18 4 3 1 0) fun τ10 =>
                  Option.bind (tsA τ10 18 4 3 2 0) fun τ12 =>
                  some τ12)
                 F 0 τ3)
             F 0 τ2)
         F 0 τ1)
     F 0 τ
set_option maxHeartbeats 4000000 in
theorem ok_X9_settle {g : Gx} (F : Nat) (tw : Nat) (μ : Sw) (τ : Tw) {τF : Tw} (hf : t_X9_settle F τ = some τF) : Cl g 3 yX9_settle cX9_settle 2 none [.ref tw] (mT tw τ μ) none (mT tw τF μ) := by
  unfold t_X9_settle at hf
  refine Cl.of (own := RX9) (ini := false) (by decide +kernel) rfl (by decide) (Nat.le_of_ble_eq_true rfl) ?_
  show PW g mX9_settle 3 (mT tw τ μ) (mT tw τF μ) (QN g none (mT tw τ μ) (mT tw τF μ)) 0 [(0, .ref tw)] [] (mT tw τ μ)
  refine P.iconst (v := 0) (pc' := 1) dX9_settle_0 rfl (by decide) ?_
  refine P.istore_n (pc' := 2) (lv' := [(1, .int 0), (0, .ref tw)]) dX9_settle_1 rfl rfl (Nat.le_of_ble_eq_true rfl) rfl ?_
  refine PW.sub [1, 0] rfl (ok_t_X9_settle_L2 F tw μ _ ?_ F _ _ hf)
  · intro τ1 hf
    refine P.iconst (v := 0) (pc' := 23) dX9_settle_22 rfl (by decide) ?_
    refine P.istore_n (pc' := 24) (lv' := [(1, .int 0), (0, .ref tw)]) dX9_settle_23 rfl rfl (Nat.le_of_ble_eq_true rfl) rfl ?_
    refine PW.sub [1, 0] rfl (ok_t_X9_settle_L24 F tw μ _ ?_ F _ _ hf)
    · intro τ2 hf
      refine P.iconst (v := 0) (pc' := 70) dX9_settle_69 rfl (by decide) ?_
      refine P.istore_n (pc' := 71) (lv' := [(1, .int 0), (0, .ref tw)]) dX9_settle_70 rfl rfl (Nat.le_of_ble_eq_true rfl) rfl ?_
      refine PW.sub [1, 0] rfl (ok_t_X9_settle_L71 F tw μ _ ?_ F _ _ hf)
      · intro τ3 hf
        refine P.iconst (v := 0) (pc' := 116) dX9_settle_115 rfl (by decide) ?_
        refine P.istore_n (pc' := 117) (lv' := [(1, .int 0), (0, .ref tw)]) dX9_settle_116 rfl rfl (Nat.le_of_ble_eq_true rfl) rfl ?_
        refine PW.sub [1, 0] rfl (ok_t_X9_settle_L117 F tw μ _ ?_ F _ _ hf)
        · intro τ4 hf
          refine P.aload_n 0 (pc' := 153) dX9_settle_152 rfl rfl rfl ?_
          refine P.iconst (v := 0) (pc' := 154) dX9_settle_153 rfl (by decide) ?_
          obtain ⟨τ5, e6, hf⟩ := nm_i hf
          refine P.put (v := .int 0) (pc' := 157) ci9 50 (by decide) (T_put rfl (by decide) e6) q1605 (Or.inl rfl) rfl rfl rfl dX9_settle_154 rfl ?_
          refine P.aload_n 0 (pc' := 158) dX9_settle_157 rfl rfl rfl ?_
          refine P.iconst (v := 0) (pc' := 159) dX9_settle_158 rfl (by decide) ?_
          obtain ⟨τ7, e8, hf⟩ := nm_i hf
          refine P.put (v := .int 0) (pc' := 162) ci9 40 (by decide) (T_put rfl (by decide) e8) q1595 (Or.inl rfl) rfl rfl rfl dX9_settle_159 rfl ?_
          refine P.aload_n 0 (pc' := 163) dX9_settle_162 rfl rfl rfl ?_
          refine P.get (v := .ref (tw + 18)) (pc' := 166) ci9 24 (by decide) (T_gf rfl) q1579 (Or.inl rfl) dX9_settle_163 rfl ?_
          refine P.iconst (v := 1) (pc' := 167) dX9_settle_166 rfl (by decide) ?_
          refine P.iconst (v := 0) (pc' := 168) dX9_settle_167 rfl (by decide) ?_
          obtain ⟨τ10, h9, hf⟩ := ob hf
          refine P.zast (pc' := 169) (T_sA rfl (by decide) h9) dX9_settle_168 rfl ?_
          refine P.aload_n 0 (pc' := 170) dX9_settle_169 rfl rfl rfl ?_
          refine P.get (v := .ref (tw + 18)) (pc' := 173) ci9 24 (by decide) (T_gf rfl) q1579 (Or.inl rfl) dX9_settle_170 rfl ?_
          refine P.iconst (v := 2) (pc' := 174) dX9_settle_173 rfl (by decide) ?_
          refine P.iconst (v := 0) (pc' := 175) dX9_settle_174 rfl (by decide) ?_
          obtain ⟨τ12, h11, hf⟩ := ob hf
          refine P.zast (pc' := 176) (T_sA rfl (by decide) h11) dX9_settle_175 rfl ?_
          cases hf; exact P.vret rfl dX9_settle_176
abbrev mX9_typed : Ym := (RX9, cX9_typed, 3, none, false, [])
noncomputable def t_X9_typed_L2_b (F : Nat) (c1 : Int32) (self : Int32 → Tw → Option Tw) (v2 : Int32) (τ : Tw) : Option Tw :=
  if 4 ≤ v2 then
    some τ
  else
    Option.bind (tsA τ 1 0 2000 (τ.1 0) ((c1 >>> ((24 - (8 * v2)) &&& 31)) &&& 255)) fun τ3 =>
    nm (tsI τ3 0 ((τ3.1 0) + 1)) fun τ4 =>
    nm (v2 + 1) fun x6 =>
    self x6 τ4
noncomputable def t_X9_typed_L2 (F : Nat) (c1 : Int32) (n : Nat) : Int32 → Tw → Option Tw := Nat.rec (motive := fun _ => Int32 → Tw → Option Tw) (fun _ _ => none) (fun _ self => t_X9_typed_L2_b F c1 self) n
set_option maxHeartbeats 4000000 in
theorem ok_t_X9_typed_L2 {g : Gx} {μ0 : Sw} {τF : Tw} (F : Nat) (tw : Nat) (μ : Sw) (c1 : Int32) : ∀ (n : Nat) (v2 : Int32) (τ : Tw), t_X9_typed_L2 F c1 n v2 τ = some τF → PW g mX9_typed 1 μ0 (mT tw τF μ) (QN g none μ0 (mT tw τF μ)) 2 [(0, .ref tw), (1, .int c1), (2, .int v2)] [] (mT tw τ μ) := by
  intro n
  induction n with
  | zero =>
    intro v2 τ hf
    have hf : (none : Option Tw) = some _ := hf
    cases hf
  | succ n ih =>
    intro v2 τ hf
    have hf : t_X9_typed_L2_b F c1 (t_X9_typed_L2 F c1 n) v2 τ = some τF := hf
    unfold t_X9_typed_L2_b at hf
    refine P.iload_n 2 (pc' := 3) dX9_typed_2 rfl rfl rfl ?_
    refine P.iconst (v := 4) (pc' := 4) dX9_typed_3 rfl (by decide) ?_
    refine P.icmp_ge (tgt := 45) (pc' := 7) dX9_typed_4 (by decide) rfl (fun y1 => ?_) (fun y1 => ?_)
    · have hf := (if_pos y1).symm.trans hf
      cases hf; exact P.vret rfl dX9_typed_45
    · have hf := (if_neg y1).symm.trans hf
      refine P.aload_n 0 (pc' := 8) dX9_typed_7 rfl rfl rfl ?_
      refine P.get (v := .ref (tw + 1)) (pc' := 11) ci9 1 (by decide) (T_gf rfl) q1556 (Or.inl rfl) dX9_typed_8 rfl ?_
      refine P.aload_n 0 (pc' := 12) dX9_typed_11 rfl rfl rfl ?_
      refine P.get (v := .int (τ.1 0)) (pc' := 15) ci9 0 (by decide) (T_gf rfl) q1555 (Or.inl rfl) dX9_typed_12 rfl ?_
      refine P.iload_n 1 (pc' := 16) dX9_typed_15 rfl rfl rfl ?_
      refine P.bipush (v := 24) (pc' := 18) dX9_typed_16 rfl (by decide) ?_
      refine P.bipush (v := 8) (pc' := 20) dX9_typed_18 rfl (by decide) ?_
      refine P.iload_n 2 (pc' := 21) dX9_typed_20 rfl rfl rfl ?_
      refine P.imul (pc' := 22) dX9_typed_21 rfl ?_
      refine P.isub (pc' := 23) dX9_typed_22 rfl ?_
      refine P.ishr (pc' := 24) dX9_typed_23 rfl ?_
      refine P.sipush (v := 255) (pc' := 27) dX9_typed_24 rfl (by decide) ?_
      refine P.iand (pc' := 28) dX9_typed_27 rfl ?_
      obtain ⟨τ3, h2, hf⟩ := ob hf
      refine P.iast (pc' := 29) (T_sA rfl (by decide) h2) dX9_typed_28 rfl ?_
      refine P.aload_n 0 (pc' := 30) dX9_typed_29 rfl rfl rfl ?_
      refine P.dup (pc' := 31) dX9_typed_30 rfl rfl ?_
      refine P.get (v := .int (τ3.1 0)) (pc' := 34) ci9 0 (by decide) (T_gf rfl) q1555 (Or.inl rfl) dX9_typed_31 rfl ?_
      refine P.iconst (v := 1) (pc' := 35) dX9_typed_34 rfl (by decide) ?_
      refine P.iadd (pc' := 36) dX9_typed_35 rfl ?_
      obtain ⟨τ4, e5, hf⟩ := nm_i hf
      refine P.put (v := .int ((τ3.1 0) + 1)) (pc' := 39) ci9 0 (by decide) (T_put rfl (by decide) e5) q1555 (Or.inl rfl) rfl rfl rfl dX9_typed_36 rfl ?_
      obtain ⟨x6, e7, hf⟩ := nm_i hf
      refine P.iinc 2 (pc' := 42) (lv' := [(2, .int x6), (0, .ref tw), (1, .int c1)]) dX9_typed_39 rfl rfl (by decide) e7 (Nat.le_of_ble_eq_true rfl) rfl ?_
      refine P.goto (tgt := 2) dX9_typed_42 (by decide) ?_
      exact PW.sub [1, 2, 0] rfl (ih _ _ hf)
noncomputable def t_X9_typed (F : Nat) (p1 : Int32) (τ : Tw) : Option Tw :=
  t_X9_typed_L2 F p1 F 0 τ
set_option maxHeartbeats 4000000 in
theorem ok_X9_typed {g : Gx} (F : Nat) (p1 : Int32) (tw : Nat) (μ : Sw) (τ : Tw) {τF : Tw} (hf : t_X9_typed F p1 τ = some τF) : Cl g 1 yX9_typed cX9_typed 3 none [.ref tw, .int p1] (mT tw τ μ) none (mT tw τF μ) := by
  unfold t_X9_typed at hf
  refine Cl.of (own := RX9) (ini := false) (by decide +kernel) rfl (by decide) (Nat.le_of_ble_eq_true rfl) ?_
  show PW g mX9_typed 1 (mT tw τ μ) (mT tw τF μ) (QN g none (mT tw τ μ) (mT tw τF μ)) 0 [(0, .ref tw), (1, .int p1)] [] (mT tw τ μ)
  refine P.iconst (v := 0) (pc' := 1) dX9_typed_0 rfl (by decide) ?_
  refine P.istore_n (pc' := 2) (lv' := [(2, .int 0), (0, .ref tw), (1, .int p1)]) dX9_typed_1 rfl rfl (Nat.le_of_ble_eq_true rfl) rfl ?_
  exact PW.sub [1, 2, 0] rfl (ok_t_X9_typed_L2 F tw μ p1 F _ _ hf)
theorem yok_X9_typed : yOK yX9_typed 1 := ⟨by decide +kernel, by decide +kernel, by decide +kernel⟩
abbrev mX9_feed : Ym := (RX9, cX9_feed, 6, (some Jvm.ClassFile.FieldType.int), false, [])
noncomputable def t_X9_feed (F : Nat) (p1 : Int32) (p2 : Int32) (p3 : Int32) (p4 : Int32) (p5 : Int32) (τ : Tw) : Option (Int32 × Tw) :=
  if ((τ.1 0) + 20) ≤ 2000 then
    Option.bind (t_X9_typed F p1 τ) fun q2 =>
    Option.bind (t_X9_typed F p2 q2) fun q4 =>
    Option.bind (t_X9_typed F p3 q4) fun q6 =>
    Option.bind (t_X9_typed F p4 q6) fun q8 =>
    Option.bind (t_X9_typed F p5 q8) fun q10 =>
    some (q10.1 0, q10)
  else
    some ((-1), τ)
set_option maxHeartbeats 4000000 in
theorem ok_X9_feed {g : Gx} (F : Nat) (p1 : Int32) (p2 : Int32) (p3 : Int32) (p4 : Int32) (p5 : Int32) (tw : Nat) (μ : Sw) (τ : Tw) {rv : Int32} {τF : Tw} (hf : t_X9_feed F p1 p2 p3 p4 p5 τ = some (rv, τF)) : Cl g 2 yX9_feed cX9_feed 6 (some Jvm.ClassFile.FieldType.int) [.ref tw, .int p1, .int p2, .int p3, .int p4, .int p5] (mT tw τ μ) (some (.int rv)) (mT tw τF μ) := by
  unfold t_X9_feed at hf
  refine Cl.of (own := RX9) (ini := false) (by decide +kernel) rfl (by decide) (Nat.le_of_ble_eq_true rfl) ?_
  show PW g mX9_feed 2 (mT tw τ μ) (mT tw τF μ) (QN g (some (.int rv)) (mT tw τ μ) (mT tw τF μ)) 0 [(0, .ref tw), (1, .int p1), (2, .int p2), (3, .int p3), (4, .int p4), (5, .int p5)] [] (mT tw τ μ)
  refine P.aload_n 0 (pc' := 1) dX9_feed_0 rfl rfl rfl ?_
  refine P.get (v := .int (τ.1 0)) (pc' := 4) ci9 0 (by decide) (T_gf rfl) q1555 (Or.inl rfl) dX9_feed_1 rfl ?_
  refine P.bipush (v := 20) (pc' := 6) dX9_feed_4 rfl (by decide) ?_
  refine P.iadd (pc' := 7) dX9_feed_6 rfl ?_
  refine P.sipush (v := 2000) (pc' := 10) dX9_feed_7 rfl (by decide) ?_
  refine P.icmp_le (tgt := 15) (pc' := 13) dX9_feed_10 (by decide) rfl (fun y1 => ?_) (fun y1 => ?_)
  · have hf := (if_pos y1).symm.trans hf
    refine P.aload_n 0 (pc' := 16) dX9_feed_15 rfl rfl rfl ?_
    refine P.iload_n 1 (pc' := 17) dX9_feed_16 rfl rfl rfl ?_
    obtain ⟨q2, h3, hf⟩ := ob hf
    refine P.callV (pc' := 20) (As := [.int p1]) 1 (ok_X9_typed F p1 tw μ τ h3) (Nat.le_of_ble_eq_true rfl) (lw_V q1719 q1721 qs77 q172 q1722) rfl yok_X9_typed rfl (Nat.le_of_ble_eq_true rfl) ci9 T_oc (by decide) rfl dX9_feed_17 rfl ?_
    refine P.aload_n 0 (pc' := 21) dX9_feed_20 rfl rfl rfl ?_
    refine P.iload_n 2 (pc' := 22) dX9_feed_21 rfl rfl rfl ?_
    obtain ⟨q4, h5, hf⟩ := ob hf
    refine P.callV (pc' := 25) (As := [.int p2]) 1 (ok_X9_typed F p2 tw μ q2 h5) (Nat.le_of_ble_eq_true rfl) (lw_V q1719 q1721 qs77 q172 q1722) rfl yok_X9_typed rfl (Nat.le_of_ble_eq_true rfl) ci9 T_oc (by decide) rfl dX9_feed_22 rfl ?_
    refine P.aload_n 0 (pc' := 26) dX9_feed_25 rfl rfl rfl ?_
    refine P.iload_n 3 (pc' := 27) dX9_feed_26 rfl rfl rfl ?_
    obtain ⟨q6, h7, hf⟩ := ob hf
    refine P.callV (pc' := 30) (As := [.int p3]) 1 (ok_X9_typed F p3 tw μ q4 h7) (Nat.le_of_ble_eq_true rfl) (lw_V q1719 q1721 qs77 q172 q1722) rfl yok_X9_typed rfl (Nat.le_of_ble_eq_true rfl) ci9 T_oc (by decide) rfl dX9_feed_27 rfl ?_
    refine P.aload_n 0 (pc' := 31) dX9_feed_30 rfl rfl rfl ?_
    refine P.iload 4 (pc' := 33) dX9_feed_31 rfl rfl ?_
    obtain ⟨q8, h9, hf⟩ := ob hf
    refine P.callV (pc' := 36) (As := [.int p4]) 1 (ok_X9_typed F p4 tw μ q6 h9) (Nat.le_of_ble_eq_true rfl) (lw_V q1719 q1721 qs77 q172 q1722) rfl yok_X9_typed rfl (Nat.le_of_ble_eq_true rfl) ci9 T_oc (by decide) rfl dX9_feed_33 rfl ?_
    refine P.aload_n 0 (pc' := 37) dX9_feed_36 rfl rfl rfl ?_
    refine P.iload 5 (pc' := 39) dX9_feed_37 rfl rfl ?_
    obtain ⟨q10, h11, hf⟩ := ob hf
    refine P.callV (pc' := 42) (As := [.int p5]) 1 (ok_X9_typed F p5 tw μ q8 h11) (Nat.le_of_ble_eq_true rfl) (lw_V q1719 q1721 qs77 q172 q1722) rfl yok_X9_typed rfl (Nat.le_of_ble_eq_true rfl) ci9 T_oc (by decide) rfl dX9_feed_39 rfl ?_
    refine P.aload_n 0 (pc' := 43) dX9_feed_42 rfl rfl rfl ?_
    refine P.get (v := .int (q10.1 0)) (pc' := 46) ci9 0 (by decide) (T_gf rfl) q1555 (Or.inl rfl) dX9_feed_43 rfl ?_
    cases hf; exact P.iret rfl dX9_feed_46
  · have hf := (if_neg y1).symm.trans hf
    refine P.iconst (v := (-1)) (pc' := 14) dX9_feed_13 rfl (by decide) ?_
    cases hf; exact P.iret rfl dX9_feed_14
abbrev mX9_back : Ym := (RX9, cX9_back, 2, (some Jvm.ClassFile.FieldType.int), false, [])
noncomputable def t_X9_back (F : Nat) (p1 : Int32) (τ : Tw) : Option (Int32 × Tw) :=
  if p1 < 0 then
    some ((-1), τ)
  else
    if p1 ≤ (τ.1 0) then
      nm (tsI τ 0 ((τ.1 0) - p1)) fun τ3 =>
      some (τ3.1 0, τ3)
    else
      some ((-1), τ)
set_option maxHeartbeats 4000000 in
theorem ok_X9_back {g : Gx} (F : Nat) (p1 : Int32) (tw : Nat) (μ : Sw) (τ : Tw) {rv : Int32} {τF : Tw} (hf : t_X9_back F p1 τ = some (rv, τF)) : Cl g 1 yX9_back cX9_back 2 (some Jvm.ClassFile.FieldType.int) [.ref tw, .int p1] (mT tw τ μ) (some (.int rv)) (mT tw τF μ) := by
  unfold t_X9_back at hf
  refine Cl.of (own := RX9) (ini := false) (by decide +kernel) rfl (by decide) (Nat.le_of_ble_eq_true rfl) ?_
  show PW g mX9_back 1 (mT tw τ μ) (mT tw τF μ) (QN g (some (.int rv)) (mT tw τ μ) (mT tw τF μ)) 0 [(0, .ref tw), (1, .int p1)] [] (mT tw τ μ)
  refine P.iload_n 1 (pc' := 1) dX9_back_0 rfl rfl rfl ?_
  refine P.if_lt (tgt := 12) (pc' := 4) dX9_back_1 (by decide) rfl (fun y1 => ?_) (fun y1 => ?_)
  · have hf := (if_pos y1).symm.trans hf
    refine P.iconst (v := (-1)) (pc' := 13) dX9_back_12 rfl (by decide) ?_
    cases hf; exact P.iret rfl dX9_back_13
  · have hf := (if_neg y1).symm.trans hf
    refine P.iload_n 1 (pc' := 5) dX9_back_4 rfl rfl rfl ?_
    refine P.aload_n 0 (pc' := 6) dX9_back_5 rfl rfl rfl ?_
    refine P.get (v := .int (τ.1 0)) (pc' := 9) ci9 0 (by decide) (T_gf rfl) q1555 (Or.inl rfl) dX9_back_6 rfl ?_
    refine P.icmp_le (tgt := 14) (pc' := 12) dX9_back_9 (by decide) rfl (fun y2 => ?_) (fun y2 => ?_)
    · have hf := (if_pos y2).symm.trans hf
      refine P.aload_n 0 (pc' := 15) dX9_back_14 rfl rfl rfl ?_
      refine P.aload_n 0 (pc' := 16) dX9_back_15 rfl rfl rfl ?_
      refine P.get (v := .int (τ.1 0)) (pc' := 19) ci9 0 (by decide) (T_gf rfl) q1555 (Or.inl rfl) dX9_back_16 rfl ?_
      refine P.iload_n 1 (pc' := 20) dX9_back_19 rfl rfl rfl ?_
      refine P.isub (pc' := 21) dX9_back_20 rfl ?_
      obtain ⟨τ3, e4, hf⟩ := nm_i hf
      refine P.put (v := .int ((τ.1 0) - p1)) (pc' := 24) ci9 0 (by decide) (T_put rfl (by decide) e4) q1555 (Or.inl rfl) rfl rfl rfl dX9_back_21 rfl ?_
      refine P.aload_n 0 (pc' := 25) dX9_back_24 rfl rfl rfl ?_
      refine P.get (v := .int (τ3.1 0)) (pc' := 28) ci9 0 (by decide) (T_gf rfl) q1555 (Or.inl rfl) dX9_back_25 rfl ?_
      cases hf; exact P.iret rfl dX9_back_28
    · have hf := (if_neg y2).symm.trans hf
      refine P.iconst (v := (-1)) (pc' := 13) dX9_back_12 rfl (by decide) ?_
      cases hf; exact P.iret rfl dX9_back_13
abbrev mX9_token : Ym := (RX9, cX9_token, 4, none, false, [])
noncomputable def t_X9_token (F : Nat) (p1 : Int32) (p2 : Int32) (p3 : Int32) (τ : Tw) : Option Tw :=
  Option.bind (tsA τ 2 0 2001 (τ.1 2) p1) fun τ2 =>
  Option.bind (tsA τ2 3 0 2001 (τ2.1 2) p2) fun τ4 =>
  Option.bind (tsA τ4 4 0 2001 (τ4.1 2) p3) fun τ6 =>
  nm (tsI τ6 2 ((τ6.1 2) + 1)) fun τ7 =>
  some τ7
set_option maxHeartbeats 4000000 in
theorem ok_X9_token {g : Gx} (F : Nat) (p1 : Int32) (p2 : Int32) (p3 : Int32) (tw : Nat) (μ : Sw) (τ : Tw) {τF : Tw} (hf : t_X9_token F p1 p2 p3 τ = some τF) : Cl g 1 yX9_token cX9_token 4 none [.ref tw, .int p1, .int p2, .int p3] (mT tw τ μ) none (mT tw τF μ) := by
  unfold t_X9_token at hf
  refine Cl.of (own := RX9) (ini := false) (by decide +kernel) rfl (by decide) (Nat.le_of_ble_eq_true rfl) ?_
  show PW g mX9_token 1 (mT tw τ μ) (mT tw τF μ) (QN g none (mT tw τ μ) (mT tw τF μ)) 0 [(0, .ref tw), (1, .int p1), (2, .int p2), (3, .int p3)] [] (mT tw τ μ)
  refine P.aload_n 0 (pc' := 1) dX9_token_0 rfl rfl rfl ?_
  refine P.get (v := .ref (tw + 2)) (pc' := 4) ci9 3 (by decide) (T_gf rfl) q1558 (Or.inl rfl) dX9_token_1 rfl ?_
  refine P.aload_n 0 (pc' := 5) dX9_token_4 rfl rfl rfl ?_
  refine P.get (v := .int (τ.1 2)) (pc' := 8) ci9 2 (by decide) (T_gf rfl) q1557 (Or.inl rfl) dX9_token_5 rfl ?_
  refine P.iload_n 1 (pc' := 9) dX9_token_8 rfl rfl rfl ?_
  obtain ⟨τ2, h1, hf⟩ := ob hf
  refine P.iast (pc' := 10) (T_sA rfl (by decide) h1) dX9_token_9 rfl ?_
  refine P.aload_n 0 (pc' := 11) dX9_token_10 rfl rfl rfl ?_
  refine P.get (v := .ref (tw + 3)) (pc' := 14) ci9 4 (by decide) (T_gf rfl) q1559 (Or.inl rfl) dX9_token_11 rfl ?_
  refine P.aload_n 0 (pc' := 15) dX9_token_14 rfl rfl rfl ?_
  refine P.get (v := .int (τ2.1 2)) (pc' := 18) ci9 2 (by decide) (T_gf rfl) q1557 (Or.inl rfl) dX9_token_15 rfl ?_
  refine P.iload_n 2 (pc' := 19) dX9_token_18 rfl rfl rfl ?_
  obtain ⟨τ4, h3, hf⟩ := ob hf
  refine P.iast (pc' := 20) (T_sA rfl (by decide) h3) dX9_token_19 rfl ?_
  refine P.aload_n 0 (pc' := 21) dX9_token_20 rfl rfl rfl ?_
  refine P.get (v := .ref (tw + 4)) (pc' := 24) ci9 5 (by decide) (T_gf rfl) q1560 (Or.inl rfl) dX9_token_21 rfl ?_
  refine P.aload_n 0 (pc' := 25) dX9_token_24 rfl rfl rfl ?_
  refine P.get (v := .int (τ4.1 2)) (pc' := 28) ci9 2 (by decide) (T_gf rfl) q1557 (Or.inl rfl) dX9_token_25 rfl ?_
  refine P.iload_n 3 (pc' := 29) dX9_token_28 rfl rfl rfl ?_
  obtain ⟨τ6, h5, hf⟩ := ob hf
  refine P.iast (pc' := 30) (T_sA rfl (by decide) h5) dX9_token_29 rfl ?_
  refine P.aload_n 0 (pc' := 31) dX9_token_30 rfl rfl rfl ?_
  refine P.dup (pc' := 32) dX9_token_31 rfl rfl ?_
  refine P.get (v := .int (τ6.1 2)) (pc' := 35) ci9 2 (by decide) (T_gf rfl) q1557 (Or.inl rfl) dX9_token_32 rfl ?_
  refine P.iconst (v := 1) (pc' := 36) dX9_token_35 rfl (by decide) ?_
  refine P.iadd (pc' := 37) dX9_token_36 rfl ?_
  obtain ⟨τ7, e8, hf⟩ := nm_i hf
  refine P.put (v := .int ((τ6.1 2) + 1)) (pc' := 40) ci9 2 (by decide) (T_put rfl (by decide) e8) q1557 (Or.inl rfl) rfl rfl rfl dX9_token_37 rfl ?_
  cases hf; exact P.vret rfl dX9_token_40
abbrev mX9_byteAt : Ym := (RX9, cX9_byteAt, 2, (some Jvm.ClassFile.FieldType.int), false, [])
noncomputable def t_X9_byteAt (F : Nat) (p1 : Int32) (τ : Tw) : Option Int32 :=
  if (τ.1 0) ≤ p1 then
    some 0
  else
    Option.bind (taI τ 1 2000 p1) fun x2 =>
    some x2
set_option maxHeartbeats 4000000 in
theorem ok_X9_byteAt {g : Gx} (F : Nat) (p1 : Int32) (tw : Nat) (μ : Sw) (τ : Tw) {rv : Int32} (hf : t_X9_byteAt F p1 τ = some rv) : Cl g 1 yX9_byteAt cX9_byteAt 2 (some Jvm.ClassFile.FieldType.int) [.ref tw, .int p1] (mT tw τ μ) (some (.int rv)) (mT tw τ μ) := by
  unfold t_X9_byteAt at hf
  refine Cl.of (own := RX9) (ini := false) (by decide +kernel) rfl (by decide) (Nat.le_of_ble_eq_true rfl) ?_
  show PW g mX9_byteAt 1 (mT tw τ μ) (mT tw τ μ) (QN g (some (.int rv)) (mT tw τ μ) (mT tw τ μ)) 0 [(0, .ref tw), (1, .int p1)] [] (mT tw τ μ)
  refine P.iload_n 1 (pc' := 1) dX9_byteAt_0 rfl rfl rfl ?_
  refine P.aload_n 0 (pc' := 2) dX9_byteAt_1 rfl rfl rfl ?_
  refine P.get (v := .int (τ.1 0)) (pc' := 5) ci9 0 (by decide) (T_gf rfl) q1555 (Or.inl rfl) dX9_byteAt_2 rfl ?_
  refine P.icmp_ge (tgt := 17) (pc' := 8) dX9_byteAt_5 (by decide) rfl (fun y1 => ?_) (fun y1 => ?_)
  · have hf := (if_pos y1).symm.trans hf
    refine P.iconst (v := 0) (pc' := 18) dX9_byteAt_17 rfl (by decide) ?_
    cases hf; exact P.iret rfl dX9_byteAt_18
  · have hf := (if_neg y1).symm.trans hf
    refine P.aload_n 0 (pc' := 9) dX9_byteAt_8 rfl rfl rfl ?_
    refine P.get (v := .ref (tw + 1)) (pc' := 12) ci9 1 (by decide) (T_gf rfl) q1556 (Or.inl rfl) dX9_byteAt_9 rfl ?_
    refine P.iload_n 1 (pc' := 13) dX9_byteAt_12 rfl rfl rfl ?_
    obtain ⟨x2, h3, hf⟩ := ob hf
    refine P.iald (t := 0) (pc' := 14) rfl (T_aI rfl h3) dX9_byteAt_13 rfl ?_
    refine P.goto (tgt := 18) dX9_byteAt_14 (by decide) ?_
    cases hf; exact P.iret rfl dX9_byteAt_18
theorem yok_X9_byteAt : yOK yX9_byteAt 1 := ⟨by decide +kernel, by decide +kernel, by decide +kernel⟩
abbrev mX9_isLetter : Ym := (RX9, cX9_isLetter, 2, (some Jvm.ClassFile.FieldType.boolean), false, [])
noncomputable def t_X9_isLetter (F : Nat) (p1 : Int32) (τ : Tw) : Option Int32 :=
  Option.bind (t_X9_byteAt F p1 τ) fun q1 =>
  if q1 < 97 then
    some 0
  else
    Option.bind (t_X9_byteAt F p1 τ) fun q4 =>
    if 122 < q4 then
      some 0
    else
      some 1
set_option maxHeartbeats 4000000 in
theorem ok_X9_isLetter {g : Gx} (F : Nat) (p1 : Int32) (tw : Nat) (μ : Sw) (τ : Tw) {rv : Int32} (hf : t_X9_isLetter F p1 τ = some rv) : Cl g 2 yX9_isLetter cX9_isLetter 2 (some Jvm.ClassFile.FieldType.boolean) [.ref tw, .int p1] (mT tw τ μ) (some (.int rv)) (mT tw τ μ) := by
  unfold t_X9_isLetter at hf
  refine Cl.of (own := RX9) (ini := false) (by decide +kernel) rfl (by decide) (Nat.le_of_ble_eq_true rfl) ?_
  show PW g mX9_isLetter 2 (mT tw τ μ) (mT tw τ μ) (QN g (some (.int rv)) (mT tw τ μ) (mT tw τ μ)) 0 [(0, .ref tw), (1, .int p1)] [] (mT tw τ μ)
  refine P.aload_n 0 (pc' := 1) dX9_isLetter_0 rfl rfl rfl ?_
  refine P.iload_n 1 (pc' := 2) dX9_isLetter_1 rfl rfl rfl ?_
  obtain ⟨q1, h2, hf⟩ := ob hf
  refine P.callV (pc' := 5) (As := [.int p1]) 1 (ok_X9_byteAt F p1 tw μ τ h2) (Nat.le_of_ble_eq_true rfl) (lw_V q1735 q1737 qs79 q172 q1738) rfl yok_X9_byteAt rfl (Nat.le_of_ble_eq_true rfl) ci9 T_oc (by decide) rfl dX9_isLetter_2 rfl ?_
  refine P.bipush (v := 97) (pc' := 7) dX9_isLetter_5 rfl (by decide) ?_
  refine P.icmp_lt (tgt := 24) (pc' := 10) dX9_isLetter_7 (by decide) rfl (fun y3 => ?_) (fun y3 => ?_)
  · have hf := (if_pos y3).symm.trans hf
    refine P.iconst (v := 0) (pc' := 25) dX9_isLetter_24 rfl (by decide) ?_
    cases hf; exact P.zret rfl (Or.inl rfl) dX9_isLetter_25
  · have hf := (if_neg y3).symm.trans hf
    refine P.aload_n 0 (pc' := 11) dX9_isLetter_10 rfl rfl rfl ?_
    refine P.iload_n 1 (pc' := 12) dX9_isLetter_11 rfl rfl rfl ?_
    obtain ⟨q4, h5, hf⟩ := ob hf
    refine P.callV (pc' := 15) (As := [.int p1]) 1 (ok_X9_byteAt F p1 tw μ τ h5) (Nat.le_of_ble_eq_true rfl) (lw_V q1735 q1737 qs79 q172 q1738) rfl yok_X9_byteAt rfl (Nat.le_of_ble_eq_true rfl) ci9 T_oc (by decide) rfl dX9_isLetter_12 rfl ?_
    refine P.bipush (v := 122) (pc' := 17) dX9_isLetter_15 rfl (by decide) ?_
    refine P.icmp_gt (tgt := 24) (pc' := 20) dX9_isLetter_17 (by decide) rfl (fun y6 => ?_) (fun y6 => ?_)
    · have hf := (if_pos y6).symm.trans hf
      refine P.iconst (v := 0) (pc' := 25) dX9_isLetter_24 rfl (by decide) ?_
      cases hf; exact P.zret rfl (Or.inl rfl) dX9_isLetter_25
    · have hf := (if_neg y6).symm.trans hf
      refine P.iconst (v := 1) (pc' := 21) dX9_isLetter_20 rfl (by decide) ?_
      refine P.goto (tgt := 25) dX9_isLetter_21 (by decide) ?_
      cases hf; exact P.zret rfl (Or.inr rfl) dX9_isLetter_25
abbrev mX9_isDigit : Ym := (RX9, cX9_isDigit, 2, (some Jvm.ClassFile.FieldType.boolean), false, [])
noncomputable def t_X9_isDigit (F : Nat) (p1 : Int32) (τ : Tw) : Option Int32 :=
  Option.bind (t_X9_byteAt F p1 τ) fun q1 =>
  if q1 < 48 then
    some 0
  else
    Option.bind (t_X9_byteAt F p1 τ) fun q4 =>
    if 57 < q4 then
      some 0
    else
      some 1
set_option maxHeartbeats 4000000 in
theorem ok_X9_isDigit {g : Gx} (F : Nat) (p1 : Int32) (tw : Nat) (μ : Sw) (τ : Tw) {rv : Int32} (hf : t_X9_isDigit F p1 τ = some rv) : Cl g 2 yX9_isDigit cX9_isDigit 2 (some Jvm.ClassFile.FieldType.boolean) [.ref tw, .int p1] (mT tw τ μ) (some (.int rv)) (mT tw τ μ) := by
  unfold t_X9_isDigit at hf
  refine Cl.of (own := RX9) (ini := false) (by decide +kernel) rfl (by decide) (Nat.le_of_ble_eq_true rfl) ?_
  show PW g mX9_isDigit 2 (mT tw τ μ) (mT tw τ μ) (QN g (some (.int rv)) (mT tw τ μ) (mT tw τ μ)) 0 [(0, .ref tw), (1, .int p1)] [] (mT tw τ μ)
  refine P.aload_n 0 (pc' := 1) dX9_isDigit_0 rfl rfl rfl ?_
  refine P.iload_n 1 (pc' := 2) dX9_isDigit_1 rfl rfl rfl ?_
  obtain ⟨q1, h2, hf⟩ := ob hf
  refine P.callV (pc' := 5) (As := [.int p1]) 1 (ok_X9_byteAt F p1 tw μ τ h2) (Nat.le_of_ble_eq_true rfl) (lw_V q1735 q1737 qs79 q172 q1738) rfl yok_X9_byteAt rfl (Nat.le_of_ble_eq_true rfl) ci9 T_oc (by decide) rfl dX9_isDigit_2 rfl ?_
  refine P.bipush (v := 48) (pc' := 7) dX9_isDigit_5 rfl (by decide) ?_
  refine P.icmp_lt (tgt := 24) (pc' := 10) dX9_isDigit_7 (by decide) rfl (fun y3 => ?_) (fun y3 => ?_)
  · have hf := (if_pos y3).symm.trans hf
    refine P.iconst (v := 0) (pc' := 25) dX9_isDigit_24 rfl (by decide) ?_
    cases hf; exact P.zret rfl (Or.inl rfl) dX9_isDigit_25
  · have hf := (if_neg y3).symm.trans hf
    refine P.aload_n 0 (pc' := 11) dX9_isDigit_10 rfl rfl rfl ?_
    refine P.iload_n 1 (pc' := 12) dX9_isDigit_11 rfl rfl rfl ?_
    obtain ⟨q4, h5, hf⟩ := ob hf
    refine P.callV (pc' := 15) (As := [.int p1]) 1 (ok_X9_byteAt F p1 tw μ τ h5) (Nat.le_of_ble_eq_true rfl) (lw_V q1735 q1737 qs79 q172 q1738) rfl yok_X9_byteAt rfl (Nat.le_of_ble_eq_true rfl) ci9 T_oc (by decide) rfl dX9_isDigit_12 rfl ?_
    refine P.bipush (v := 57) (pc' := 17) dX9_isDigit_15 rfl (by decide) ?_
    refine P.icmp_gt (tgt := 24) (pc' := 20) dX9_isDigit_17 (by decide) rfl (fun y6 => ?_) (fun y6 => ?_)
    · have hf := (if_pos y6).symm.trans hf
      refine P.iconst (v := 0) (pc' := 25) dX9_isDigit_24 rfl (by decide) ?_
      cases hf; exact P.zret rfl (Or.inl rfl) dX9_isDigit_25
    · have hf := (if_neg y6).symm.trans hf
      refine P.iconst (v := 1) (pc' := 21) dX9_isDigit_20 rfl (by decide) ?_
      refine P.goto (tgt := 25) dX9_isDigit_21 (by decide) ?_
      cases hf; exact P.zret rfl (Or.inr rfl) dX9_isDigit_25
abbrev mX9_signAt : Ym := (RX9, cX9_signAt, 4, (some Jvm.ClassFile.FieldType.int), false, [])
noncomputable def t_X9_signAt_j23 (F : Nat) (v2 : Int32) (s0 : Int32) (τ : Tw) : Option Int32 :=
  if v2 = 61 then
    if s0 = 0 then
      some v2
    else
      some 300
  else
    if v2 = 33 then
      if s0 = 0 then
        some 0
      else
        some 301
    else
      if v2 = 60 then
        if s0 = 0 then
          some v2
        else
          some 302
      else
        if v2 = 59 then
          some v2
        else
          if v2 = 43 then
            some v2
          else
            if v2 = 45 then
              some v2
            else
              if v2 = 42 then
                some v2
              else
                if v2 = 47 then
                  some v2
                else
                  if v2 = 40 then
                    some v2
                  else
                    if v2 = 41 then
                      some v2
                    else
                      some 0
set_option maxHeartbeats 4000000 in
theorem ok_t_X9_signAt_j23 {g : Gx} {μ0 : Sw} {rv : Int32} (F : Nat) (tw : Nat) (μ : Sw) (v2 : Int32) (s0 : Int32) (τ : Tw) (hf : t_X9_signAt_j23 F v2 s0 τ = some rv) : PW g mX9_signAt 2 μ0 (mT tw τ μ) (QN g (some (.int rv)) μ0 (mT tw τ μ)) 23 [(2, .int v2)] [.int s0] (mT tw τ μ) := by
  unfold t_X9_signAt_j23 at hf
  refine P.istore_n (pc' := 24) (lv' := [(3, .int s0), (2, .int v2)]) dX9_signAt_23 rfl rfl (Nat.le_of_ble_eq_true rfl) rfl ?_
  refine P.iload_n 1 (pc' := 25) dX9_signAt_24 rfl rfl rfl ?_
  refine P.bipush (v := 61) (pc' := 27) dX9_signAt_25 rfl (by decide) ?_
  refine P.icmp_ne (tgt := 42) (pc' := 30) dX9_signAt_27 (by decide) rfl (fun y1 => ?_) (fun y1 => ?_)
  · have hf := (if_neg y1).symm.trans hf
    refine P.iload_n 1 (pc' := 43) dX9_signAt_42 rfl rfl rfl ?_
    refine P.bipush (v := 33) (pc' := 45) dX9_signAt_43 rfl (by decide) ?_
    refine P.icmp_ne (tgt := 60) (pc' := 48) dX9_signAt_45 (by decide) rfl (fun y2 => ?_) (fun y2 => ?_)
    · have hf := (if_neg y2).symm.trans hf
      refine P.iload_n 1 (pc' := 61) dX9_signAt_60 rfl rfl rfl ?_
      refine P.bipush (v := 60) (pc' := 63) dX9_signAt_61 rfl (by decide) ?_
      refine P.icmp_ne (tgt := 78) (pc' := 66) dX9_signAt_63 (by decide) rfl (fun y3 => ?_) (fun y3 => ?_)
      · have hf := (if_neg y3).symm.trans hf
        refine P.iload_n 1 (pc' := 79) dX9_signAt_78 rfl rfl rfl ?_
        refine P.bipush (v := 59) (pc' := 81) dX9_signAt_79 rfl (by decide) ?_
        refine P.icmp_eq (tgt := 120) (pc' := 84) dX9_signAt_81 (by decide) rfl (fun y4 => ?_) (fun y4 => ?_)
        · have hf := (if_pos y4).symm.trans hf
          refine P.iload_n 1 (pc' := 121) dX9_signAt_120 rfl rfl rfl ?_
          refine P.goto (tgt := 125) dX9_signAt_121 (by decide) ?_
          cases hf; exact P.iret rfl dX9_signAt_125
        · have hf := (if_neg y4).symm.trans hf
          refine P.iload_n 1 (pc' := 85) dX9_signAt_84 rfl rfl rfl ?_
          refine P.bipush (v := 43) (pc' := 87) dX9_signAt_85 rfl (by decide) ?_
          refine P.icmp_eq (tgt := 120) (pc' := 90) dX9_signAt_87 (by decide) rfl (fun y5 => ?_) (fun y5 => ?_)
          · have hf := (if_pos y5).symm.trans hf
            refine P.iload_n 1 (pc' := 121) dX9_signAt_120 rfl rfl rfl ?_
            refine P.goto (tgt := 125) dX9_signAt_121 (by decide) ?_
            cases hf; exact P.iret rfl dX9_signAt_125
          · have hf := (if_neg y5).symm.trans hf
            refine P.iload_n 1 (pc' := 91) dX9_signAt_90 rfl rfl rfl ?_
            refine P.bipush (v := 45) (pc' := 93) dX9_signAt_91 rfl (by decide) ?_
            refine P.icmp_eq (tgt := 120) (pc' := 96) dX9_signAt_93 (by decide) rfl (fun y6 => ?_) (fun y6 => ?_)
            · have hf := (if_pos y6).symm.trans hf
              refine P.iload_n 1 (pc' := 121) dX9_signAt_120 rfl rfl rfl ?_
              refine P.goto (tgt := 125) dX9_signAt_121 (by decide) ?_
              cases hf; exact P.iret rfl dX9_signAt_125
            · have hf := (if_neg y6).symm.trans hf
              refine P.iload_n 1 (pc' := 97) dX9_signAt_96 rfl rfl rfl ?_
              refine P.bipush (v := 42) (pc' := 99) dX9_signAt_97 rfl (by decide) ?_
              refine P.icmp_eq (tgt := 120) (pc' := 102) dX9_signAt_99 (by decide) rfl (fun y7 => ?_) (fun y7 => ?_)
              · have hf := (if_pos y7).symm.trans hf
                refine P.iload_n 1 (pc' := 121) dX9_signAt_120 rfl rfl rfl ?_
                refine P.goto (tgt := 125) dX9_signAt_121 (by decide) ?_
                cases hf; exact P.iret rfl dX9_signAt_125
              · have hf := (if_neg y7).symm.trans hf
                refine P.iload_n 1 (pc' := 103) dX9_signAt_102 rfl rfl rfl ?_
                refine P.bipush (v := 47) (pc' := 105) dX9_signAt_103 rfl (by decide) ?_
                refine P.icmp_eq (tgt := 120) (pc' := 108) dX9_signAt_105 (by decide) rfl (fun y8 => ?_) (fun y8 => ?_)
                · have hf := (if_pos y8).symm.trans hf
                  refine P.iload_n 1 (pc' := 121) dX9_signAt_120 rfl rfl rfl ?_
                  refine P.goto (tgt := 125) dX9_signAt_121 (by decide) ?_
                  cases hf; exact P.iret rfl dX9_signAt_125
                · have hf := (if_neg y8).symm.trans hf
                  refine P.iload_n 1 (pc' := 109) dX9_signAt_108 rfl rfl rfl ?_
                  refine P.bipush (v := 40) (pc' := 111) dX9_signAt_109 rfl (by decide) ?_
                  refine P.icmp_eq (tgt := 120) (pc' := 114) dX9_signAt_111 (by decide) rfl (fun y9 => ?_) (fun y9 => ?_)
                  · have hf := (if_pos y9).symm.trans hf
                    refine P.iload_n 1 (pc' := 121) dX9_signAt_120 rfl rfl rfl ?_
                    refine P.goto (tgt := 125) dX9_signAt_121 (by decide) ?_
                    cases hf; exact P.iret rfl dX9_signAt_125
                  · have hf := (if_neg y9).symm.trans hf
                    refine P.iload_n 1 (pc' := 115) dX9_signAt_114 rfl rfl rfl ?_
                    refine P.bipush (v := 41) (pc' := 117) dX9_signAt_115 rfl (by decide) ?_
                    refine P.icmp_ne (tgt := 124) (pc' := 120) dX9_signAt_117 (by decide) rfl (fun y10 => ?_) (fun y10 => ?_)
                    · have hf := (if_neg y10).symm.trans hf
                      refine P.iconst (v := 0) (pc' := 125) dX9_signAt_124 rfl (by decide) ?_
                      cases hf; exact P.iret rfl dX9_signAt_125
                    · have hf := (if_pos y10).symm.trans hf
                      refine P.iload_n 1 (pc' := 121) dX9_signAt_120 rfl rfl rfl ?_
                      refine P.goto (tgt := 125) dX9_signAt_121 (by decide) ?_
                      cases hf; exact P.iret rfl dX9_signAt_125
      · have hf := (if_pos y3).symm.trans hf
        refine P.iload_n 0 (pc' := 67) dX9_signAt_66 rfl rfl rfl ?_
        refine P.if_eq (tgt := 76) (pc' := 70) dX9_signAt_67 (by decide) rfl (fun y11 => ?_) (fun y11 => ?_)
        · have hf := (if_pos y11).symm.trans hf
          refine P.iload_n 1 (pc' := 77) dX9_signAt_76 rfl rfl rfl ?_
          cases hf; exact P.iret rfl dX9_signAt_77
        · have hf := (if_neg y11).symm.trans hf
          refine P.sipush (v := 302) (pc' := 73) dX9_signAt_70 rfl (by decide) ?_
          refine P.goto (tgt := 77) dX9_signAt_73 (by decide) ?_
          cases hf; exact P.iret rfl dX9_signAt_77
    · have hf := (if_pos y2).symm.trans hf
      refine P.iload_n 0 (pc' := 49) dX9_signAt_48 rfl rfl rfl ?_
      refine P.if_eq (tgt := 58) (pc' := 52) dX9_signAt_49 (by decide) rfl (fun y12 => ?_) (fun y12 => ?_)
      · have hf := (if_pos y12).symm.trans hf
        refine P.iconst (v := 0) (pc' := 59) dX9_signAt_58 rfl (by decide) ?_
        cases hf; exact P.iret rfl dX9_signAt_59
      · have hf := (if_neg y12).symm.trans hf
        refine P.sipush (v := 301) (pc' := 55) dX9_signAt_52 rfl (by decide) ?_
        refine P.goto (tgt := 59) dX9_signAt_55 (by decide) ?_
        cases hf; exact P.iret rfl dX9_signAt_59
  · have hf := (if_pos y1).symm.trans hf
    refine P.iload_n 0 (pc' := 31) dX9_signAt_30 rfl rfl rfl ?_
    refine P.if_eq (tgt := 40) (pc' := 34) dX9_signAt_31 (by decide) rfl (fun y13 => ?_) (fun y13 => ?_)
    · have hf := (if_pos y13).symm.trans hf
      refine P.iload_n 1 (pc' := 41) dX9_signAt_40 rfl rfl rfl ?_
      cases hf; exact P.iret rfl dX9_signAt_41
    · have hf := (if_neg y13).symm.trans hf
      refine P.sipush (v := 300) (pc' := 37) dX9_signAt_34 rfl (by decide) ?_
      refine P.goto (tgt := 41) dX9_signAt_37 (by decide) ?_
      cases hf; exact P.iret rfl dX9_signAt_41
noncomputable def t_X9_signAt (F : Nat) (p1 : Int32) (τ : Tw) : Option Int32 :=
  Option.bind (t_X9_byteAt F p1 τ) fun q1 =>
  Option.bind (t_X9_byteAt F (p1 + 1) τ) fun q3 =>
  if q3 = 61 then
    t_X9_signAt_j23 F q1 1 τ
  else
    t_X9_signAt_j23 F q1 0 τ
set_option maxHeartbeats 4000000 in
theorem ok_X9_signAt {g : Gx} (F : Nat) (p1 : Int32) (tw : Nat) (μ : Sw) (τ : Tw) {rv : Int32} (hf : t_X9_signAt F p1 τ = some rv) : Cl g 2 yX9_signAt cX9_signAt 4 (some Jvm.ClassFile.FieldType.int) [.ref tw, .int p1] (mT tw τ μ) (some (.int rv)) (mT tw τ μ) := by
  unfold t_X9_signAt at hf
  refine Cl.of (own := RX9) (ini := false) (by decide +kernel) rfl (by decide) (Nat.le_of_ble_eq_true rfl) ?_
  show PW g mX9_signAt 2 (mT tw τ μ) (mT tw τ μ) (QN g (some (.int rv)) (mT tw τ μ) (mT tw τ μ)) 0 [(0, .ref tw), (1, .int p1)] [] (mT tw τ μ)
  refine P.aload_n 0 (pc' := 1) dX9_signAt_0 rfl rfl rfl ?_
  refine P.iload_n 1 (pc' := 2) dX9_signAt_1 rfl rfl rfl ?_
  obtain ⟨q1, h2, hf⟩ := ob hf
  refine P.callV (pc' := 5) (As := [.int p1]) 1 (ok_X9_byteAt F p1 tw μ τ h2) (Nat.le_of_ble_eq_true rfl) (lw_V q1735 q1737 qs79 q172 q1738) rfl yok_X9_byteAt rfl (Nat.le_of_ble_eq_true rfl) ci9 T_oc (by decide) rfl dX9_signAt_2 rfl ?_
  refine P.istore_n (pc' := 6) (lv' := [(2, .int q1), (0, .ref tw), (1, .int p1)]) dX9_signAt_5 rfl rfl (Nat.le_of_ble_eq_true rfl) rfl ?_
  refine P.aload_n 1 (pc' := 7) dX9_signAt_6 rfl rfl rfl ?_
  refine P.iload_n 2 (pc' := 8) dX9_signAt_7 rfl rfl rfl ?_
  refine P.iconst (v := 1) (pc' := 9) dX9_signAt_8 rfl (by decide) ?_
  refine P.iadd (pc' := 10) dX9_signAt_9 rfl ?_
  obtain ⟨q3, h4, hf⟩ := ob hf
  refine P.callV (pc' := 13) (As := [.int (p1 + 1)]) 1 (ok_X9_byteAt F (p1 + 1) tw μ τ h4) (Nat.le_of_ble_eq_true rfl) (lw_V q1735 q1737 qs79 q172 q1738) rfl yok_X9_byteAt rfl (Nat.le_of_ble_eq_true rfl) ci9 T_oc (by decide) rfl dX9_signAt_10 rfl ?_
  refine P.bipush (v := 61) (pc' := 15) dX9_signAt_13 rfl (by decide) ?_
  refine P.icmp_ne (tgt := 22) (pc' := 18) dX9_signAt_15 (by decide) rfl (fun y5 => ?_) (fun y5 => ?_)
  · have hf := (if_neg y5).symm.trans hf
    refine P.iconst (v := 0) (pc' := 23) dX9_signAt_22 rfl (by decide) ?_
    exact PW.sub [0] rfl (ok_t_X9_signAt_j23 F tw μ q1 0 τ hf)
  · have hf := (if_pos y5).symm.trans hf
    refine P.iconst (v := 1) (pc' := 19) dX9_signAt_18 rfl (by decide) ?_
    refine P.goto (tgt := 23) dX9_signAt_19 (by decide) ?_
    exact PW.sub [0] rfl (ok_t_X9_signAt_j23 F tw μ q1 1 τ hf)
theorem yok_X9_isDigit : yOK yX9_isDigit 1 := ⟨by decide +kernel, by decide +kernel, by decide +kernel⟩
theorem yok_X9_isLetter : yOK yX9_isLetter 1 := ⟨by decide +kernel, by decide +kernel, by decide +kernel⟩
theorem yok_X9_signAt : yOK yX9_signAt 1 := ⟨by decide +kernel, by decide +kernel, by decide +kernel⟩
theorem yok_X9_token : yOK yX9_token 3 := ⟨by decide +kernel, by decide +kernel, by decide +kernel⟩
theorem yok_X9_wordOf : yOK yX9_wordOf 1 := ⟨by decide +kernel, by decide +kernel, by decide +kernel⟩
abbrev mX9_scan : Ym := (RX9, cX9_scan, 6, (some Jvm.ClassFile.FieldType.int), false, [])
noncomputable def t_X9_scan_j191 (F : Nat) (v1 : Int32) (v3 : Int32) (s1 : Int32) (τ : Tw) : Option (Int32 × Tw) :=
  Option.bind (t_X9_token F s1 v1 v3 τ) fun q1 =>
  if v3 < 300 then
    some (v1 + 1, q1)
  else
    some (v1 + 2, q1)
set_option maxHeartbeats 4000000 in
theorem ok_t_X9_scan_j191 {g : Gx} {μ0 : Sw} {rv : Int32} {τF : Tw} (F : Nat) (tw : Nat) (μ : Sw) (v1 : Int32) (v3 : Int32) (s1 : Int32) (τ : Tw) (hf : t_X9_scan_j191 F v1 v3 s1 τ = some (rv, τF)) : PW g mX9_scan 3 μ0 (mT tw τF μ) (QN g (some (.int rv)) μ0 (mT tw τF μ)) 191 [(1, .int v1), (3, .int v3)] [.int s1, .ref tw] (mT tw τ μ) := by
  unfold t_X9_scan_j191 at hf
  refine P.iload_n 0 (pc' := 192) dX9_scan_191 rfl rfl rfl ?_
  refine P.iload_n 1 (pc' := 193) dX9_scan_192 rfl rfl rfl ?_
  obtain ⟨q1, h2, hf⟩ := ob hf
  refine P.callV (pc' := 196) (As := [.int s1, .int v1, .int v3]) 3 (ok_X9_token F s1 v1 v3 tw μ τ h2) (Nat.le_of_ble_eq_true rfl) (lw_V q1778 q1780 qs82 q172 q1781) rfl yok_X9_token rfl (Nat.le_of_ble_eq_true rfl) ci9 T_oc (by decide) rfl dX9_scan_193 rfl ?_
  refine P.iload_n 0 (pc' := 197) dX9_scan_196 rfl rfl rfl ?_
  refine P.iload_n 1 (pc' := 198) dX9_scan_197 rfl rfl rfl ?_
  refine P.sipush (v := 300) (pc' := 201) dX9_scan_198 rfl (by decide) ?_
  refine P.icmp_lt (tgt := 208) (pc' := 204) dX9_scan_201 (by decide) rfl (fun y3 => ?_) (fun y3 => ?_)
  · have hf := (if_pos y3).symm.trans hf
    refine P.iconst (v := 1) (pc' := 209) dX9_scan_208 rfl (by decide) ?_
    refine P.iadd (pc' := 210) dX9_scan_209 rfl ?_
    cases hf; exact P.iret rfl dX9_scan_210
  · have hf := (if_neg y3).symm.trans hf
    refine P.iconst (v := 2) (pc' := 205) dX9_scan_204 rfl (by decide) ?_
    refine P.goto (tgt := 209) dX9_scan_205 (by decide) ?_
    refine P.iadd (pc' := 210) dX9_scan_209 rfl ?_
    cases hf; exact P.iret rfl dX9_scan_210
noncomputable def t_X9_scan_L120_b (F : Nat) (c1 : Int32) (τ : Tw) (self : Int32 → Int32 → Option (Int32 × Tw)) (v2 : Int32) (v3 : Int32) : Option (Int32 × Tw) :=
  Option.bind (t_X9_isDigit F v2 τ) fun q1 =>
  if q1 = 0 then
    if (v2 - c1) ≤ 4 then
      Option.bind (t_X9_token F 1 c1 v3 τ) fun q5 =>
      some (v2, q5)
    else
      Option.bind (t_X9_token F 5 c1 v3 τ) fun q7 =>
      some (v2, q7)
  else
    if 4 ≤ (v2 - c1) then
      nm (v2 + 1) fun x10 =>
      self x10 v3
    else
      Option.bind (t_X9_byteAt F v2 τ) fun q12 =>
      nm (((10 * v3) + q12) - 48) fun x14 =>
      nm (v2 + 1) fun x16 =>
      self x16 x14
noncomputable def t_X9_scan_L120 (F : Nat) (c1 : Int32) (τ : Tw) (n : Nat) : Int32 → Int32 → Option (Int32 × Tw) := Nat.rec (motive := fun _ => Int32 → Int32 → Option (Int32 × Tw)) (fun _ _ => none) (fun _ self => t_X9_scan_L120_b F c1 τ self) n
set_option maxHeartbeats 4000000 in
theorem ok_t_X9_scan_L120 {g : Gx} {μ0 : Sw} {rv : Int32} {τF : Tw} (F : Nat) (tw : Nat) (μ : Sw) (c1 : Int32) (τ : Tw) : ∀ (n : Nat) (v2 : Int32) (v3 : Int32), t_X9_scan_L120 F c1 τ n v2 v3 = some (rv, τF) → PW g mX9_scan 3 μ0 (mT tw τF μ) (QN g (some (.int rv)) μ0 (mT tw τF μ)) 120 [(0, .ref tw), (1, .int c1), (2, .int v2), (3, .int v3)] [] (mT tw τ μ) := by
  intro n
  induction n with
  | zero =>
    intro v2 v3 hf
    have hf : (none : Option (Int32 × Tw)) = some _ := hf
    cases hf
  | succ n ih =>
    intro v2 v3 hf
    have hf : t_X9_scan_L120_b F c1 τ (t_X9_scan_L120 F c1 τ n) v2 v3 = some (rv, τF) := hf
    unfold t_X9_scan_L120_b at hf
    refine P.aload_n 0 (pc' := 121) dX9_scan_120 rfl rfl rfl ?_
    refine P.iload_n 2 (pc' := 122) dX9_scan_121 rfl rfl rfl ?_
    obtain ⟨q1, h2, hf⟩ := ob hf
    refine P.callV (pc' := 125) (As := [.int v2]) 1 (ok_X9_isDigit F v2 tw μ τ h2) (Nat.le_of_ble_eq_true rfl) (lw_V q1782 q1784 qs83 q172 q1785) rfl yok_X9_isDigit rfl (Nat.le_of_ble_eq_true rfl) ci9 T_oc (by decide) rfl dX9_scan_122 rfl ?_
    refine P.if_eq (tgt := 155) (pc' := 128) dX9_scan_125 (by decide) rfl (fun y3 => ?_) (fun y3 => ?_)
    · have hf := (if_pos y3).symm.trans hf
      refine P.aload_n 0 (pc' := 156) dX9_scan_155 rfl rfl rfl ?_
      refine P.iload_n 2 (pc' := 157) dX9_scan_156 rfl rfl rfl ?_
      refine P.iload_n 1 (pc' := 158) dX9_scan_157 rfl rfl rfl ?_
      refine P.isub (pc' := 159) dX9_scan_158 rfl ?_
      refine P.iconst (v := 4) (pc' := 160) dX9_scan_159 rfl (by decide) ?_
      refine P.icmp_le (tgt := 167) (pc' := 163) dX9_scan_160 (by decide) rfl (fun y4 => ?_) (fun y4 => ?_)
      · have hf := (if_pos y4).symm.trans hf
        refine P.iconst (v := 1) (pc' := 168) dX9_scan_167 rfl (by decide) ?_
        refine P.iload_n 1 (pc' := 169) dX9_scan_168 rfl rfl rfl ?_
        refine P.iload_n 3 (pc' := 170) dX9_scan_169 rfl rfl rfl ?_
        obtain ⟨q5, h6, hf⟩ := ob hf
        refine P.callV (pc' := 173) (As := [.int 1, .int c1, .int v3]) 3 (ok_X9_token F 1 c1 v3 tw μ τ h6) (Nat.le_of_ble_eq_true rfl) (lw_V q1778 q1780 qs82 q172 q1781) rfl yok_X9_token rfl (Nat.le_of_ble_eq_true rfl) ci9 T_oc (by decide) rfl dX9_scan_170 rfl ?_
        refine P.iload_n 2 (pc' := 174) dX9_scan_173 rfl rfl rfl ?_
        cases hf; exact P.iret rfl dX9_scan_174
      · have hf := (if_neg y4).symm.trans hf
        refine P.iconst (v := 5) (pc' := 164) dX9_scan_163 rfl (by decide) ?_
        refine P.goto (tgt := 168) dX9_scan_164 (by decide) ?_
        refine P.iload_n 1 (pc' := 169) dX9_scan_168 rfl rfl rfl ?_
        refine P.iload_n 3 (pc' := 170) dX9_scan_169 rfl rfl rfl ?_
        obtain ⟨q7, h8, hf⟩ := ob hf
        refine P.callV (pc' := 173) (As := [.int 5, .int c1, .int v3]) 3 (ok_X9_token F 5 c1 v3 tw μ τ h8) (Nat.le_of_ble_eq_true rfl) (lw_V q1778 q1780 qs82 q172 q1781) rfl yok_X9_token rfl (Nat.le_of_ble_eq_true rfl) ci9 T_oc (by decide) rfl dX9_scan_170 rfl ?_
        refine P.iload_n 2 (pc' := 174) dX9_scan_173 rfl rfl rfl ?_
        cases hf; exact P.iret rfl dX9_scan_174
    · have hf := (if_neg y3).symm.trans hf
      refine P.iload_n 2 (pc' := 129) dX9_scan_128 rfl rfl rfl ?_
      refine P.iload_n 1 (pc' := 130) dX9_scan_129 rfl rfl rfl ?_
      refine P.isub (pc' := 131) dX9_scan_130 rfl ?_
      refine P.iconst (v := 4) (pc' := 132) dX9_scan_131 rfl (by decide) ?_
      refine P.icmp_ge (tgt := 149) (pc' := 135) dX9_scan_132 (by decide) rfl (fun y9 => ?_) (fun y9 => ?_)
      · have hf := (if_pos y9).symm.trans hf
        obtain ⟨x10, e11, hf⟩ := nm_i hf
        refine P.iinc 2 (pc' := 152) (lv' := [(2, .int x10), (0, .ref tw), (1, .int c1), (3, .int v3)]) dX9_scan_149 rfl rfl (by decide) e11 (Nat.le_of_ble_eq_true rfl) rfl ?_
        refine P.goto (tgt := 120) dX9_scan_152 (by decide) ?_
        exact PW.sub [1, 2, 0, 3] rfl (ih _ _ hf)
      · have hf := (if_neg y9).symm.trans hf
        refine P.bipush (v := 10) (pc' := 137) dX9_scan_135 rfl (by decide) ?_
        refine P.iload_n 3 (pc' := 138) dX9_scan_137 rfl rfl rfl ?_
        refine P.imul (pc' := 139) dX9_scan_138 rfl ?_
        refine P.aload_n 0 (pc' := 140) dX9_scan_139 rfl rfl rfl ?_
        refine P.iload_n 2 (pc' := 141) dX9_scan_140 rfl rfl rfl ?_
        obtain ⟨q12, h13, hf⟩ := ob hf
        refine P.callV (pc' := 144) (As := [.int v2]) 1 (ok_X9_byteAt F v2 tw μ τ h13) (Nat.le_of_ble_eq_true rfl) (lw_V q1735 q1737 qs79 q172 q1738) rfl yok_X9_byteAt rfl (Nat.le_of_ble_eq_true rfl) ci9 T_oc (Nat.le_of_ble_eq_true rfl) rfl dX9_scan_141 rfl ?_
        refine P.iadd (pc' := 145) dX9_scan_144 rfl ?_
        refine P.bipush (v := 48) (pc' := 147) dX9_scan_145 rfl (by decide) ?_
        refine P.isub (pc' := 148) dX9_scan_147 rfl ?_
        obtain ⟨x14, e15, hf⟩ := nm_i hf
        refine P.nmi e15 ?_
        refine P.istore_n (pc' := 149) (lv' := [(3, .int x14), (0, .ref tw), (1, .int c1), (2, .int v2)]) dX9_scan_148 rfl rfl (Nat.le_of_ble_eq_true rfl) rfl ?_
        obtain ⟨x16, e17, hf⟩ := nm_i hf
        refine P.iinc 3 (pc' := 152) (lv' := [(2, .int x16), (3, .int x14), (0, .ref tw), (1, .int c1)]) dX9_scan_149 rfl rfl (by decide) e17 (Nat.le_of_ble_eq_true rfl) rfl ?_
        refine P.goto (tgt := 120) dX9_scan_152 (by decide) ?_
        exact PW.sub [2, 3, 0, 1] rfl (ih _ _ hf)
noncomputable def t_X9_scan_L12_b (F : Nat) (k51 : Int32 → Int64 → Option (Int32 × Tw)) (c1 : Int32) (τ : Tw) (self : Int32 → Int64 → Option (Int32 × Tw)) (v2 : Int32) (v3 : Int64) : Option (Int32 × Tw) :=
  Option.bind (t_X9_isLetter F v2 τ) fun q1 =>
  if q1 = 0 then
    k51 v2 v3
  else
    if 8 ≤ (v2 - c1) then
      nm (v2 + 1) fun x5 =>
      self x5 v3
    else
      Option.bind (t_X9_byteAt F v2 τ) fun q7 =>
      nm (((v3 * 27) + q7.toInt64) - 96) fun x9 =>
      nm (v2 + 1) fun x11 =>
      self x11 x9
noncomputable def t_X9_scan_L12 (F : Nat) (k51 : Int32 → Int64 → Option (Int32 × Tw)) (c1 : Int32) (τ : Tw) (n : Nat) : Int32 → Int64 → Option (Int32 × Tw) := Nat.rec (motive := fun _ => Int32 → Int64 → Option (Int32 × Tw)) (fun _ _ => none) (fun _ self => t_X9_scan_L12_b F k51 c1 τ self) n
set_option maxHeartbeats 4000000 in
theorem ok_t_X9_scan_L12 {g : Gx} {μ0 : Sw} {rv : Int32} {τF : Tw} (F : Nat) (tw : Nat) (μ : Sw) (c1 : Int32) (τ : Tw) (k51 : Int32 → Int64 → Option (Int32 × Tw)) (hk51 : ∀ (w2 : Int32) (w3 : Int64), k51 w2 w3 = some (rv, τF) → PW g mX9_scan 3 μ0 (mT tw τF μ) (QN g (some (.int rv)) μ0 (mT tw τF μ)) 51 [(0, .ref tw), (1, .int c1), (2, .int w2), (3, .long w3)] [] (mT tw τ μ)) : ∀ (n : Nat) (v2 : Int32) (v3 : Int64), t_X9_scan_L12 F k51 c1 τ n v2 v3 = some (rv, τF) → PW g mX9_scan 3 μ0 (mT tw τF μ) (QN g (some (.int rv)) μ0 (mT tw τF μ)) 12 [(0, .ref tw), (1, .int c1), (2, .int v2), (3, .long v3)] [] (mT tw τ μ) := by
  intro n
  induction n with
  | zero =>
    intro v2 v3 hf
    have hf : (none : Option (Int32 × Tw)) = some _ := hf
    cases hf
  | succ n ih =>
    intro v2 v3 hf
    have hf : t_X9_scan_L12_b F k51 c1 τ (t_X9_scan_L12 F k51 c1 τ n) v2 v3 = some (rv, τF) := hf
    unfold t_X9_scan_L12_b at hf
    refine P.aload_n 0 (pc' := 13) dX9_scan_12 rfl rfl rfl ?_
    refine P.iload_n 2 (pc' := 14) dX9_scan_13 rfl rfl rfl ?_
    obtain ⟨q1, h2, hf⟩ := ob hf
    refine P.callV (pc' := 17) (As := [.int v2]) 1 (ok_X9_isLetter F v2 tw μ τ h2) (Nat.le_of_ble_eq_true rfl) (lw_V q1743 q1745 qs81 q172 q1746) rfl yok_X9_isLetter rfl (Nat.le_of_ble_eq_true rfl) ci9 T_oc (by decide) rfl dX9_scan_14 rfl ?_
    refine P.if_eq (tgt := 51) (pc' := 20) dX9_scan_17 (by decide) rfl (fun y3 => ?_) (fun y3 => ?_)
    · have hf := (if_pos y3).symm.trans hf
      exact PW.sub [0, 1, 2, 3] rfl (hk51 _ _ hf)
    · have hf := (if_neg y3).symm.trans hf
      refine P.iload_n 2 (pc' := 21) dX9_scan_20 rfl rfl rfl ?_
      refine P.iload_n 1 (pc' := 22) dX9_scan_21 rfl rfl rfl ?_
      refine P.isub (pc' := 23) dX9_scan_22 rfl ?_
      refine P.bipush (v := 8) (pc' := 25) dX9_scan_23 rfl (by decide) ?_
      refine P.icmp_ge (tgt := 45) (pc' := 28) dX9_scan_25 (by decide) rfl (fun y4 => ?_) (fun y4 => ?_)
      · have hf := (if_pos y4).symm.trans hf
        obtain ⟨x5, e6, hf⟩ := nm_i hf
        refine P.iinc 2 (pc' := 48) (lv' := [(2, .int x5), (0, .ref tw), (1, .int c1), (3, .long v3)]) dX9_scan_45 rfl rfl (by decide) e6 (Nat.le_of_ble_eq_true rfl) rfl ?_
        refine P.goto (tgt := 12) dX9_scan_48 (by decide) ?_
        exact PW.sub [1, 2, 0, 3] rfl (ih _ _ hf)
      · have hf := (if_neg y4).symm.trans hf
        refine P.lload_n 3 (pc' := 29) dX9_scan_28 rfl rfl rfl ?_
        refine P.ldc2_w (v := 27) (pc' := 32) dX9_scan_29 rfl q1747 ?_
        refine P.lmul (pc' := 33) dX9_scan_32 rfl ?_
        refine P.aload_n 0 (pc' := 34) dX9_scan_33 rfl rfl rfl ?_
        refine P.iload_n 2 (pc' := 35) dX9_scan_34 rfl rfl rfl ?_
        obtain ⟨q7, h8, hf⟩ := ob hf
        refine P.callV (pc' := 38) (As := [.int v2]) 1 (ok_X9_byteAt F v2 tw μ τ h8) (Nat.le_of_ble_eq_true rfl) (lw_V q1735 q1737 qs79 q172 q1738) rfl yok_X9_byteAt rfl (Nat.le_of_ble_eq_true rfl) ci9 T_oc (Nat.le_of_ble_eq_true rfl) rfl dX9_scan_35 rfl ?_
        refine P.i2l (pc' := 39) dX9_scan_38 rfl ?_
        refine P.ladd (pc' := 40) dX9_scan_39 rfl ?_
        refine P.ldc2_w (v := 96) (pc' := 43) dX9_scan_40 rfl q1748 ?_
        refine P.lsub (pc' := 44) dX9_scan_43 rfl ?_
        obtain ⟨x9, e10, hf⟩ := nm_i hf
        refine P.nml e10 ?_
        refine P.lstore_n (pc' := 45) (lv' := [(3, .long x9), (0, .ref tw), (1, .int c1), (2, .int v2)]) dX9_scan_44 rfl rfl (Nat.le_of_ble_eq_true rfl) rfl ?_
        obtain ⟨x11, e12, hf⟩ := nm_i hf
        refine P.iinc 3 (pc' := 48) (lv' := [(2, .int x11), (3, .long x9), (0, .ref tw), (1, .int c1)]) dX9_scan_45 rfl rfl (by decide) e12 (Nat.le_of_ble_eq_true rfl) rfl ?_
        refine P.goto (tgt := 12) dX9_scan_48 (by decide) ?_
        exact PW.sub [2, 3, 0, 1] rfl (ih _ _ hf)
noncomputable def t_X9_scan_j67 (F : Nat) (v1 : Int32) (v2 : Int32) (v3 : Int64) (s0 : Int32) (τ : Tw) : Option (Int32 × Tw) :=
  Option.bind (tsL τ 5 1 2001 (τ.1 2) v3) fun τ2 =>
  if (v2 - v1) ≤ 8 then
    if s0 < 0 then
      Option.bind (t_X9_token F 0 v1 s0 τ2) fun q5 =>
      some (v2, q5)
    else
      Option.bind (t_X9_token F 3 v1 s0 τ2) fun q7 =>
      some (v2, q7)
  else
    Option.bind (t_X9_token F 5 v1 s0 τ2) fun q9 =>
    some (v2, q9)
set_option maxHeartbeats 4000000 in
theorem ok_t_X9_scan_j67 {g : Gx} {μ0 : Sw} {rv : Int32} {τF : Tw} (F : Nat) (tw : Nat) (μ : Sw) (v1 : Int32) (v2 : Int32) (v3 : Int64) (s0 : Int32) (τ : Tw) (hf : t_X9_scan_j67 F v1 v2 v3 s0 τ = some (rv, τF)) : PW g mX9_scan 3 μ0 (mT tw τF μ) (QN g (some (.int rv)) μ0 (mT tw τF μ)) 67 [(0, .ref tw), (1, .int v1), (2, .int v2), (3, .long v3)] [.int s0] (mT tw τ μ) := by
  unfold t_X9_scan_j67 at hf
  refine P.istore (pc' := 69) (lv' := [(5, .int s0), (0, .ref tw), (1, .int v1), (2, .int v2), (3, .long v3)]) dX9_scan_67 rfl (Nat.le_of_ble_eq_true rfl) rfl ?_
  refine P.aload_n 1 (pc' := 70) dX9_scan_69 rfl rfl rfl ?_
  refine P.get (v := .ref (tw + 5)) (pc' := 73) ci9 6 (by decide) (T_gf rfl) q1561 (Or.inl rfl) dX9_scan_70 rfl ?_
  refine P.aload_n 1 (pc' := 74) dX9_scan_73 rfl rfl rfl ?_
  refine P.get (v := .int (τ.1 2)) (pc' := 77) ci9 2 (by decide) (T_gf rfl) q1557 (Or.inl rfl) dX9_scan_74 rfl ?_
  refine P.lload_n 4 (pc' := 78) dX9_scan_77 rfl rfl rfl ?_
  obtain ⟨τ2, h1, hf⟩ := ob hf
  refine P.last (pc' := 79) (T_sL rfl (by decide) h1) dX9_scan_78 rfl ?_
  refine P.aload_n 1 (pc' := 80) dX9_scan_79 rfl rfl rfl ?_
  refine P.iload_n 3 (pc' := 81) dX9_scan_80 rfl rfl rfl ?_
  refine P.iload_n 2 (pc' := 82) dX9_scan_81 rfl rfl rfl ?_
  refine P.isub (pc' := 83) dX9_scan_82 rfl ?_
  refine P.bipush (v := 8) (pc' := 85) dX9_scan_83 rfl (by decide) ?_
  refine P.icmp_le (tgt := 92) (pc' := 88) dX9_scan_85 (by decide) rfl (fun y3 => ?_) (fun y3 => ?_)
  · have hf := (if_pos y3).symm.trans hf
    refine P.iload 0 (pc' := 94) dX9_scan_92 rfl rfl ?_
    refine P.if_lt (tgt := 101) (pc' := 97) dX9_scan_94 (by decide) rfl (fun y4 => ?_) (fun y4 => ?_)
    · have hf := (if_pos y4).symm.trans hf
      refine P.iconst (v := 0) (pc' := 102) dX9_scan_101 rfl (by decide) ?_
      refine P.iload_n 2 (pc' := 103) dX9_scan_102 rfl rfl rfl ?_
      refine P.iload 0 (pc' := 105) dX9_scan_103 rfl rfl ?_
      obtain ⟨q5, h6, hf⟩ := ob hf
      refine P.callV (pc' := 108) (As := [.int 0, .int v1, .int s0]) 3 (ok_X9_token F 0 v1 s0 tw μ τ2 h6) (Nat.le_of_ble_eq_true rfl) (lw_V q1778 q1780 qs82 q172 q1781) rfl yok_X9_token rfl (Nat.le_of_ble_eq_true rfl) ci9 T_oc (by decide) rfl dX9_scan_105 rfl ?_
      refine P.iload_n 3 (pc' := 109) dX9_scan_108 rfl rfl rfl ?_
      cases hf; exact P.iret rfl dX9_scan_109
    · have hf := (if_neg y4).symm.trans hf
      refine P.iconst (v := 3) (pc' := 98) dX9_scan_97 rfl (by decide) ?_
      refine P.goto (tgt := 102) dX9_scan_98 (by decide) ?_
      refine P.iload_n 2 (pc' := 103) dX9_scan_102 rfl rfl rfl ?_
      refine P.iload 0 (pc' := 105) dX9_scan_103 rfl rfl ?_
      obtain ⟨q7, h8, hf⟩ := ob hf
      refine P.callV (pc' := 108) (As := [.int 3, .int v1, .int s0]) 3 (ok_X9_token F 3 v1 s0 tw μ τ2 h8) (Nat.le_of_ble_eq_true rfl) (lw_V q1778 q1780 qs82 q172 q1781) rfl yok_X9_token rfl (Nat.le_of_ble_eq_true rfl) ci9 T_oc (by decide) rfl dX9_scan_105 rfl ?_
      refine P.iload_n 3 (pc' := 109) dX9_scan_108 rfl rfl rfl ?_
      cases hf; exact P.iret rfl dX9_scan_109
  · have hf := (if_neg y3).symm.trans hf
    refine P.iconst (v := 5) (pc' := 89) dX9_scan_88 rfl (by decide) ?_
    refine P.goto (tgt := 102) dX9_scan_89 (by decide) ?_
    refine P.iload_n 2 (pc' := 103) dX9_scan_102 rfl rfl rfl ?_
    refine P.iload 0 (pc' := 105) dX9_scan_103 rfl rfl ?_
    obtain ⟨q9, h10, hf⟩ := ob hf
    refine P.callV (pc' := 108) (As := [.int 5, .int v1, .int s0]) 3 (ok_X9_token F 5 v1 s0 tw μ τ2 h10) (Nat.le_of_ble_eq_true rfl) (lw_V q1778 q1780 qs82 q172 q1781) rfl yok_X9_token rfl (Nat.le_of_ble_eq_true rfl) ci9 T_oc (by decide) rfl dX9_scan_105 rfl ?_
    refine P.iload_n 3 (pc' := 109) dX9_scan_108 rfl rfl rfl ?_
    cases hf; exact P.iret rfl dX9_scan_109
noncomputable def t_X9_scan (F : Nat) (p1 : Int32) (τ : Tw) : Option (Int32 × Tw) :=
  Option.bind (t_X9_isLetter F p1 τ) fun q1 =>
  if q1 = 0 then
    Option.bind (t_X9_isDigit F p1 τ) fun q4 =>
    if q4 = 0 then
      Option.bind (t_X9_signAt F p1 τ) fun q7 =>
      if q7 = 0 then
        t_X9_scan_j191 F p1 q7 5 τ
      else
        t_X9_scan_j191 F p1 q7 2 τ
    else
      t_X9_scan_L120 F p1 τ F p1 0
  else
    t_X9_scan_L12 F
      (fun w10 w11 =>
        if (w10 - p1) ≤ 8 then
          Option.bind (p_X9_wordOf F w11) fun q13 =>
          t_X9_scan_j67 F p1 w10 w11 q13 τ
        else
          t_X9_scan_j67 F p1 w10 w11 (-1) τ)
      p1 τ F p1 0
set_option maxHeartbeats 4000000 in
theorem ok_X9_scan {g : Gx} (F : Nat) (p1 : Int32) (tw : Nat) (μ : Sw) (τ : Tw) {rv : Int32} {τF : Tw} (hf : t_X9_scan F p1 τ = some (rv, τF)) : Cl g 3 yX9_scan cX9_scan 6 (some Jvm.ClassFile.FieldType.int) [.ref tw, .int p1] (mT tw τ μ) (some (.int rv)) (mT tw τF μ) := by
  unfold t_X9_scan at hf
  refine Cl.of (own := RX9) (ini := false) (by decide +kernel) rfl (by decide) (Nat.le_of_ble_eq_true rfl) ?_
  show PW g mX9_scan 3 (mT tw τ μ) (mT tw τF μ) (QN g (some (.int rv)) (mT tw τ μ) (mT tw τF μ)) 0 [(0, .ref tw), (1, .int p1)] [] (mT tw τ μ)
  refine P.iload_n 1 (pc' := 1) dX9_scan_0 rfl rfl rfl ?_
  refine P.istore_n (pc' := 2) (lv' := [(2, .int p1), (0, .ref tw), (1, .int p1)]) dX9_scan_1 rfl rfl (Nat.le_of_ble_eq_true rfl) rfl ?_
  refine P.aload_n 1 (pc' := 3) dX9_scan_2 rfl rfl rfl ?_
  refine P.iload_n 2 (pc' := 4) dX9_scan_3 rfl rfl rfl ?_
  obtain ⟨q1, h2, hf⟩ := ob hf
  refine P.callV (pc' := 7) (As := [.int p1]) 1 (ok_X9_isLetter F p1 tw μ τ h2) (Nat.le_of_ble_eq_true rfl) (lw_V q1743 q1745 qs81 q172 q1746) rfl yok_X9_isLetter rfl (Nat.le_of_ble_eq_true rfl) ci9 T_oc (by decide) rfl dX9_scan_4 rfl ?_
  refine P.if_eq (tgt := 110) (pc' := 10) dX9_scan_7 (by decide) rfl (fun y3 => ?_) (fun y3 => ?_)
  · have hf := (if_pos y3).symm.trans hf
    refine P.aload_n 1 (pc' := 111) dX9_scan_110 rfl rfl rfl ?_
    refine P.iload_n 2 (pc' := 112) dX9_scan_111 rfl rfl rfl ?_
    obtain ⟨q4, h5, hf⟩ := ob hf
    refine P.callV (pc' := 115) (As := [.int p1]) 1 (ok_X9_isDigit F p1 tw μ τ h5) (Nat.le_of_ble_eq_true rfl) (lw_V q1782 q1784 qs83 q172 q1785) rfl yok_X9_isDigit rfl (Nat.le_of_ble_eq_true rfl) ci9 T_oc (by decide) rfl dX9_scan_112 rfl ?_
    refine P.if_eq (tgt := 175) (pc' := 118) dX9_scan_115 (by decide) rfl (fun y6 => ?_) (fun y6 => ?_)
    · have hf := (if_pos y6).symm.trans hf
      refine P.aload_n 1 (pc' := 176) dX9_scan_175 rfl rfl rfl ?_
      refine P.iload_n 2 (pc' := 177) dX9_scan_176 rfl rfl rfl ?_
      obtain ⟨q7, h8, hf⟩ := ob hf
      refine P.callV (pc' := 180) (As := [.int p1]) 1 (ok_X9_signAt F p1 tw μ τ h8) (Nat.le_of_ble_eq_true rfl) (lw_V q1786 q1788 qs84 q172 q1789) rfl yok_X9_signAt rfl (Nat.le_of_ble_eq_true rfl) ci9 T_oc (by decide) rfl dX9_scan_177 rfl ?_
      refine P.istore_n (pc' := 181) (lv' := [(3, .int q7), (2, .int p1), (0, .ref tw), (1, .int p1)]) dX9_scan_180 rfl rfl (Nat.le_of_ble_eq_true rfl) rfl ?_
      refine P.aload_n 2 (pc' := 182) dX9_scan_181 rfl rfl rfl ?_
      refine P.iload_n 0 (pc' := 183) dX9_scan_182 rfl rfl rfl ?_
      refine P.if_ne (tgt := 190) (pc' := 186) dX9_scan_183 (by decide) rfl (fun y9 => ?_) (fun y9 => ?_)
      · have hf := (if_neg y9).symm.trans hf
        refine P.iconst (v := 2) (pc' := 191) dX9_scan_190 rfl (by decide) ?_
        exact PW.sub [3, 0] rfl (ok_t_X9_scan_j191 F tw μ p1 q7 2 τ hf)
      · have hf := (if_pos y9).symm.trans hf
        refine P.iconst (v := 5) (pc' := 187) dX9_scan_186 rfl (by decide) ?_
        refine P.goto (tgt := 191) dX9_scan_187 (by decide) ?_
        exact PW.sub [3, 0] rfl (ok_t_X9_scan_j191 F tw μ p1 q7 5 τ hf)
    · have hf := (if_neg y6).symm.trans hf
      refine P.iconst (v := 0) (pc' := 119) dX9_scan_118 rfl (by decide) ?_
      refine P.istore_n (pc' := 120) (lv' := [(3, .int 0), (2, .int p1), (0, .ref tw), (1, .int p1)]) dX9_scan_119 rfl rfl (Nat.le_of_ble_eq_true rfl) rfl ?_
      exact PW.sub [2, 3, 1, 0] rfl (ok_t_X9_scan_L120 F tw μ p1 τ F _ _ hf)
  · have hf := (if_neg y3).symm.trans hf
    refine P.lconst (v := 0) (pc' := 11) dX9_scan_10 rfl (by decide) ?_
    refine P.lstore_n (pc' := 12) (lv' := [(3, .long 0), (2, .int p1), (0, .ref tw), (1, .int p1)]) dX9_scan_11 rfl rfl (Nat.le_of_ble_eq_true rfl) rfl ?_
    refine PW.sub [2, 3, 1, 0] rfl (ok_t_X9_scan_L12 F tw μ p1 τ _ ?_ F _ _ hf)
    · intro w10 w11 hf
      refine P.iload_n 2 (pc' := 52) dX9_scan_51 rfl rfl rfl ?_
      refine P.iload_n 1 (pc' := 53) dX9_scan_52 rfl rfl rfl ?_
      refine P.isub (pc' := 54) dX9_scan_53 rfl ?_
      refine P.bipush (v := 8) (pc' := 56) dX9_scan_54 rfl (by decide) ?_
      refine P.icmp_le (tgt := 63) (pc' := 59) dX9_scan_56 (by decide) rfl (fun y12 => ?_) (fun y12 => ?_)
      · have hf := (if_pos y12).symm.trans hf
        refine P.lload_n 3 (pc' := 64) dX9_scan_63 rfl rfl rfl ?_
        obtain ⟨q13, h14, hf⟩ := ob hf
        refine P.callS (pc' := 67) (As := [.long w11]) 1 (ok_X9_wordOf F w11 (mT tw τ μ) h14) (Nat.le_of_ble_eq_true rfl) (lw_S q1749 q1750 q172 q1751) yok_X9_wordOf rfl (Nat.le_of_ble_eq_true rfl) (by decide) rfl dX9_scan_64 rfl ?_
        exact PW.sub [0, 1, 2, 3] rfl (ok_t_X9_scan_j67 F tw μ p1 w10 w11 q13 τ hf)
      · have hf := (if_neg y12).symm.trans hf
        refine P.iconst (v := (-1)) (pc' := 60) dX9_scan_59 rfl (by decide) ?_
        refine P.goto (tgt := 67) dX9_scan_60 (by decide) ?_
        exact PW.sub [0, 1, 2, 3] rfl (ok_t_X9_scan_j67 F tw μ p1 w10 w11 (-1) τ hf)
theorem yok_X9_scan : yOK yX9_scan 1 := ⟨by decide +kernel, by decide +kernel, by decide +kernel⟩
abbrev mX9_scanAll : Ym := (RX9, cX9_scanAll, 4, none, false, [])
noncomputable def t_X9_scanAll_L9_b (F : Nat) (self : Int32 → Int32 → Tw → Option Tw) (v1 : Int32) (v2 : Int32) (τ : Tw) : Option Tw :=
  if (τ.1 0) ≤ v1 then
    if v2 = 0 then
      some τ
    else
      Option.bind (t_X9_token F 4 (τ.1 0) 0 τ) fun q3 =>
      some q3
  else
    if v2 = 0 then
      if v2 = 0 then
        some τ
      else
        Option.bind (t_X9_token F 4 (τ.1 0) 0 τ) fun q7 =>
        some q7
    else
      Option.bind (t_X9_byteAt F v1 τ) fun q9 =>
      if q9 = 32 then
        nm (v1 + 1) fun x12 =>
        self x12 v2 τ
      else
        if q9 = 9 then
          nm (v1 + 1) fun x15 =>
          self x15 v2 τ
        else
          if q9 = 10 then
            nm (v1 + 1) fun x18 =>
            self x18 v2 τ
          else
            if q9 = 13 then
              nm (v1 + 1) fun x26 =>
              self x26 v2 τ
            else
              Option.bind (t_X9_scan F v1 τ) fun q21 =>
              Option.bind (taI q21.2 2 2001 ((q21.2.1 2) - 1)) fun x23 =>
              if x23 = 5 then
                self q21.1 0 q21.2
              else
                self q21.1 1 q21.2
noncomputable def t_X9_scanAll_L9 (F : Nat) (n : Nat) : Int32 → Int32 → Tw → Option Tw := Nat.rec (motive := fun _ => Int32 → Int32 → Tw → Option Tw) (fun _ _ _ => none) (fun _ self => t_X9_scanAll_L9_b F self) n
set_option maxHeartbeats 4000000 in
theorem ok_t_X9_scanAll_L9 {g : Gx} {μ0 : Sw} {τF : Tw} (F : Nat) (tw : Nat) (μ : Sw) : ∀ (n : Nat) (v1 : Int32) (v2 : Int32) (τ : Tw), t_X9_scanAll_L9 F n v1 v2 τ = some τF → PW g mX9_scanAll 4 μ0 (mT tw τF μ) (QN g none μ0 (mT tw τF μ)) 9 [(0, .ref tw), (1, .int v1), (2, .int v2)] [] (mT tw τ μ) := by
  intro n
  induction n with
  | zero =>
    intro v1 v2 τ hf
    have hf : (none : Option Tw) = some _ := hf
    cases hf
  | succ n ih =>
    intro v1 v2 τ hf
    have hf : t_X9_scanAll_L9_b F (t_X9_scanAll_L9 F n) v1 v2 τ = some τF := hf
    unfold t_X9_scanAll_L9_b at hf
    refine P.iload_n 1 (pc' := 10) dX9_scanAll_9 rfl rfl rfl ?_
    refine P.aload_n 0 (pc' := 11) dX9_scanAll_10 rfl rfl rfl ?_
    refine P.get (v := .int (τ.1 0)) (pc' := 14) ci9 0 (by decide) (T_gf rfl) q1555 (Or.inl rfl) dX9_scanAll_11 rfl ?_
    refine P.icmp_ge (tgt := 87) (pc' := 17) dX9_scanAll_14 (by decide) rfl (fun y1 => ?_) (fun y1 => ?_)
    · have hf := (if_pos y1).symm.trans hf
      refine P.iload_n 2 (pc' := 88) dX9_scanAll_87 rfl rfl rfl ?_
      refine P.if_eq (tgt := 101) (pc' := 91) dX9_scanAll_88 (by decide) rfl (fun y2 => ?_) (fun y2 => ?_)
      · have hf := (if_pos y2).symm.trans hf
        cases hf; exact P.vret rfl dX9_scanAll_101
      · have hf := (if_neg y2).symm.trans hf
        refine P.aload_n 0 (pc' := 92) dX9_scanAll_91 rfl rfl rfl ?_
        refine P.iconst (v := 4) (pc' := 93) dX9_scanAll_92 rfl (by decide) ?_
        refine P.aload_n 0 (pc' := 94) dX9_scanAll_93 rfl rfl rfl ?_
        refine P.get (v := .int (τ.1 0)) (pc' := 97) ci9 0 (by decide) (T_gf rfl) q1555 (Or.inl rfl) dX9_scanAll_94 rfl ?_
        refine P.iconst (v := 0) (pc' := 98) dX9_scanAll_97 rfl (by decide) ?_
        obtain ⟨q3, h4, hf⟩ := ob hf
        refine P.callV (pc' := 101) (As := [.int 4, .int (τ.1 0), .int 0]) 3 (ok_X9_token F 4 (τ.1 0) 0 tw μ τ h4) (Nat.le_of_ble_eq_true rfl) (lw_V q1778 q1780 qs82 q172 q1781) rfl yok_X9_token rfl (Nat.le_of_ble_eq_true rfl) ci9 T_oc (by decide) rfl dX9_scanAll_98 rfl ?_
        cases hf; exact P.vret rfl dX9_scanAll_101
    · have hf := (if_neg y1).symm.trans hf
      refine P.iload_n 2 (pc' := 18) dX9_scanAll_17 rfl rfl rfl ?_
      refine P.if_eq (tgt := 87) (pc' := 21) dX9_scanAll_18 (by decide) rfl (fun y5 => ?_) (fun y5 => ?_)
      · have hf := (if_pos y5).symm.trans hf
        refine P.iload_n 2 (pc' := 88) dX9_scanAll_87 rfl rfl rfl ?_
        refine P.if_eq (tgt := 101) (pc' := 91) dX9_scanAll_88 (by decide) rfl (fun y6 => ?_) (fun y6 => ?_)
        · have hf := (if_pos y6).symm.trans hf
          cases hf; exact P.vret rfl dX9_scanAll_101
        · have hf := (if_neg y6).symm.trans hf
          refine P.aload_n 0 (pc' := 92) dX9_scanAll_91 rfl rfl rfl ?_
          refine P.iconst (v := 4) (pc' := 93) dX9_scanAll_92 rfl (by decide) ?_
          refine P.aload_n 0 (pc' := 94) dX9_scanAll_93 rfl rfl rfl ?_
          refine P.get (v := .int (τ.1 0)) (pc' := 97) ci9 0 (by decide) (T_gf rfl) q1555 (Or.inl rfl) dX9_scanAll_94 rfl ?_
          refine P.iconst (v := 0) (pc' := 98) dX9_scanAll_97 rfl (by decide) ?_
          obtain ⟨q7, h8, hf⟩ := ob hf
          refine P.callV (pc' := 101) (As := [.int 4, .int (τ.1 0), .int 0]) 3 (ok_X9_token F 4 (τ.1 0) 0 tw μ τ h8) (Nat.le_of_ble_eq_true rfl) (lw_V q1778 q1780 qs82 q172 q1781) rfl yok_X9_token rfl (Nat.le_of_ble_eq_true rfl) ci9 T_oc (by decide) rfl dX9_scanAll_98 rfl ?_
          cases hf; exact P.vret rfl dX9_scanAll_101
      · have hf := (if_neg y5).symm.trans hf
        refine P.aload_n 0 (pc' := 22) dX9_scanAll_21 rfl rfl rfl ?_
        refine P.iload_n 1 (pc' := 23) dX9_scanAll_22 rfl rfl rfl ?_
        obtain ⟨q9, h10, hf⟩ := ob hf
        refine P.callV (pc' := 26) (As := [.int v1]) 1 (ok_X9_byteAt F v1 tw μ τ h10) (Nat.le_of_ble_eq_true rfl) (lw_V q1735 q1737 qs79 q172 q1738) rfl yok_X9_byteAt rfl (Nat.le_of_ble_eq_true rfl) ci9 T_oc (by decide) rfl dX9_scanAll_23 rfl ?_
        refine P.istore_n (pc' := 27) (lv' := [(3, .int q9), (0, .ref tw), (1, .int v1), (2, .int v2)]) dX9_scanAll_26 rfl rfl (Nat.le_of_ble_eq_true rfl) rfl ?_
        refine P.iload_n 0 (pc' := 28) dX9_scanAll_27 rfl rfl rfl ?_
        refine P.bipush (v := 32) (pc' := 30) dX9_scanAll_28 rfl (by decide) ?_
        refine P.icmp_eq (tgt := 51) (pc' := 33) dX9_scanAll_30 (by decide) rfl (fun y11 => ?_) (fun y11 => ?_)
        · have hf := (if_pos y11).symm.trans hf
          obtain ⟨x12, e13, hf⟩ := nm_i hf
          refine P.iinc 2 (pc' := 54) (lv' := [(1, .int x12), (3, .int q9), (0, .ref tw), (2, .int v2)]) dX9_scanAll_51 rfl rfl (by decide) e13 (Nat.le_of_ble_eq_true rfl) rfl ?_
          refine P.goto (tgt := 9) dX9_scanAll_54 (by decide) ?_
          exact PW.sub [2, 0, 3] rfl (ih _ _ _ hf)
        · have hf := (if_neg y11).symm.trans hf
          refine P.iload_n 0 (pc' := 34) dX9_scanAll_33 rfl rfl rfl ?_
          refine P.bipush (v := 9) (pc' := 36) dX9_scanAll_34 rfl (by decide) ?_
          refine P.icmp_eq (tgt := 51) (pc' := 39) dX9_scanAll_36 (by decide) rfl (fun y14 => ?_) (fun y14 => ?_)
          · have hf := (if_pos y14).symm.trans hf
            obtain ⟨x15, e16, hf⟩ := nm_i hf
            refine P.iinc 2 (pc' := 54) (lv' := [(1, .int x15), (3, .int q9), (0, .ref tw), (2, .int v2)]) dX9_scanAll_51 rfl rfl (by decide) e16 (Nat.le_of_ble_eq_true rfl) rfl ?_
            refine P.goto (tgt := 9) dX9_scanAll_54 (by decide) ?_
            exact PW.sub [2, 0, 3] rfl (ih _ _ _ hf)
          · have hf := (if_neg y14).symm.trans hf
            refine P.iload_n 0 (pc' := 40) dX9_scanAll_39 rfl rfl rfl ?_
            refine P.bipush (v := 10) (pc' := 42) dX9_scanAll_40 rfl (by decide) ?_
            refine P.icmp_eq (tgt := 51) (pc' := 45) dX9_scanAll_42 (by decide) rfl (fun y17 => ?_) (fun y17 => ?_)
            · have hf := (if_pos y17).symm.trans hf
              obtain ⟨x18, e19, hf⟩ := nm_i hf
              refine P.iinc 2 (pc' := 54) (lv' := [(1, .int x18), (3, .int q9), (0, .ref tw), (2, .int v2)]) dX9_scanAll_51 rfl rfl (by decide) e19 (Nat.le_of_ble_eq_true rfl) rfl ?_
              refine P.goto (tgt := 9) dX9_scanAll_54 (by decide) ?_
              exact PW.sub [2, 0, 3] rfl (ih _ _ _ hf)
            · have hf := (if_neg y17).symm.trans hf
              refine P.iload_n 0 (pc' := 46) dX9_scanAll_45 rfl rfl rfl ?_
              refine P.bipush (v := 13) (pc' := 48) dX9_scanAll_46 rfl (by decide) ?_
              refine P.icmp_ne (tgt := 57) (pc' := 51) dX9_scanAll_48 (by decide) rfl (fun y20 => ?_) (fun y20 => ?_)
              · have hf := (if_neg y20).symm.trans hf
                refine P.aload_n 1 (pc' := 58) dX9_scanAll_57 rfl rfl rfl ?_
                refine P.iload_n 2 (pc' := 59) dX9_scanAll_58 rfl rfl rfl ?_
                obtain ⟨q21, h22, hf⟩ := ob hf
                refine P.callV (pc' := 62) (As := [.int v1]) 1 (ok_X9_scan F v1 tw μ τ h22) (Nat.le_of_ble_eq_true rfl) (lw_V q1739 q1741 qs80 q172 q1742) rfl yok_X9_scan rfl (Nat.le_of_ble_eq_true rfl) ci9 T_oc (by decide) rfl dX9_scanAll_59 rfl ?_
                refine P.istore_n (pc' := 63) (lv' := [(1, .int q21.1), (3, .int q9), (0, .ref tw), (2, .int v2)]) dX9_scanAll_62 rfl rfl (Nat.le_of_ble_eq_true rfl) rfl ?_
                refine P.aload_n 2 (pc' := 64) dX9_scanAll_63 rfl rfl rfl ?_
                refine P.get (v := .ref (tw + 2)) (pc' := 67) ci9 3 (by decide) (T_gf rfl) q1558 (Or.inl rfl) dX9_scanAll_64 rfl ?_
                refine P.aload_n 2 (pc' := 68) dX9_scanAll_67 rfl rfl rfl ?_
                refine P.get (v := .int (q21.2.1 2)) (pc' := 71) ci9 2 (by decide) (T_gf rfl) q1557 (Or.inl rfl) dX9_scanAll_68 rfl ?_
                refine P.iconst (v := 1) (pc' := 72) dX9_scanAll_71 rfl (by decide) ?_
                refine P.isub (pc' := 73) dX9_scanAll_72 rfl ?_
                obtain ⟨x23, h24, hf⟩ := ob hf
                refine P.iald (t := 0) (pc' := 74) rfl (T_aI rfl h24) dX9_scanAll_73 rfl ?_
                refine P.iconst (v := 5) (pc' := 75) dX9_scanAll_74 rfl (by decide) ?_
                refine P.icmp_eq (tgt := 82) (pc' := 78) dX9_scanAll_75 (by decide) rfl (fun y25 => ?_) (fun y25 => ?_)
                · have hf := (if_pos y25).symm.trans hf
                  refine P.iconst (v := 0) (pc' := 83) dX9_scanAll_82 rfl (by decide) ?_
                  refine P.istore_n (pc' := 84) (lv' := [(2, .int 0), (1, .int q21.1), (3, .int q9), (0, .ref tw)]) dX9_scanAll_83 rfl rfl (Nat.le_of_ble_eq_true rfl) rfl ?_
                  refine P.goto (tgt := 9) dX9_scanAll_84 (by decide) ?_
                  exact PW.sub [3, 1, 0] rfl (ih _ _ _ hf)
                · have hf := (if_neg y25).symm.trans hf
                  refine P.iconst (v := 1) (pc' := 79) dX9_scanAll_78 rfl (by decide) ?_
                  refine P.goto (tgt := 83) dX9_scanAll_79 (by decide) ?_
                  refine P.istore_n (pc' := 84) (lv' := [(2, .int 1), (1, .int q21.1), (3, .int q9), (0, .ref tw)]) dX9_scanAll_83 rfl rfl (Nat.le_of_ble_eq_true rfl) rfl ?_
                  refine P.goto (tgt := 9) dX9_scanAll_84 (by decide) ?_
                  exact PW.sub [3, 1, 0] rfl (ih _ _ _ hf)
              · have hf := (if_pos y20).symm.trans hf
                obtain ⟨x26, e27, hf⟩ := nm_i hf
                refine P.iinc 2 (pc' := 54) (lv' := [(1, .int x26), (3, .int q9), (0, .ref tw), (2, .int v2)]) dX9_scanAll_51 rfl rfl (by decide) e27 (Nat.le_of_ble_eq_true rfl) rfl ?_
                refine P.goto (tgt := 9) dX9_scanAll_54 (by decide) ?_
                exact PW.sub [2, 0, 3] rfl (ih _ _ _ hf)
noncomputable def t_X9_scanAll (F : Nat) (τ : Tw) : Option Tw :=
  nm (tsI τ 2 0) fun τ1 =>
  t_X9_scanAll_L9 F F 0 1 τ1
set_option maxHeartbeats 4000000 in
theorem ok_X9_scanAll {g : Gx} (F : Nat) (tw : Nat) (μ : Sw) (τ : Tw) {τF : Tw} (hf : t_X9_scanAll F τ = some τF) : Cl g 4 yX9_scanAll cX9_scanAll 4 none [.ref tw] (mT tw τ μ) none (mT tw τF μ) := by
  unfold t_X9_scanAll at hf
  refine Cl.of (own := RX9) (ini := false) (by decide +kernel) rfl (by decide) (Nat.le_of_ble_eq_true rfl) ?_
  show PW g mX9_scanAll 4 (mT tw τ μ) (mT tw τF μ) (QN g none (mT tw τ μ) (mT tw τF μ)) 0 [(0, .ref tw)] [] (mT tw τ μ)
  refine P.aload_n 0 (pc' := 1) dX9_scanAll_0 rfl rfl rfl ?_
  refine P.iconst (v := 0) (pc' := 2) dX9_scanAll_1 rfl (by decide) ?_
  obtain ⟨τ1, e2, hf⟩ := nm_i hf
  refine P.put (v := .int 0) (pc' := 5) ci9 2 (by decide) (T_put rfl (by decide) e2) q1557 (Or.inl rfl) rfl rfl rfl dX9_scanAll_2 rfl ?_
  refine P.iconst (v := 0) (pc' := 6) dX9_scanAll_5 rfl (by decide) ?_
  refine P.istore_n (pc' := 7) (lv' := [(1, .int 0), (0, .ref tw)]) dX9_scanAll_6 rfl rfl (Nat.le_of_ble_eq_true rfl) rfl ?_
  refine P.iconst (v := 1) (pc' := 8) dX9_scanAll_7 rfl (by decide) ?_
  refine P.istore_n (pc' := 9) (lv' := [(2, .int 1), (1, .int 0), (0, .ref tw)]) dX9_scanAll_8 rfl rfl (Nat.le_of_ble_eq_true rfl) rfl ?_
  exact PW.sub [2, 1, 0] rfl (ok_t_X9_scanAll_L9 F tw μ F _ _ _ hf)
abbrev mX9_wrong : Ym := (RX9, cX9_wrong, 2, (some Jvm.ClassFile.FieldType.boolean), false, [])
noncomputable def t_X9_wrong (F : Nat) (p1 : Int32) (τ : Tw) : Option (Int32 × Tw) :=
  nm (tsI τ 8 p1) fun τ1 =>
  Option.bind (taI τ1 3 2001 (τ1.1 7)) fun x3 =>
  nm (tsI τ1 9 x3) fun τ5 =>
  some (0, τ5)
set_option maxHeartbeats 4000000 in
theorem ok_X9_wrong {g : Gx} (F : Nat) (p1 : Int32) (tw : Nat) (μ : Sw) (τ : Tw) {rv : Int32} {τF : Tw} (hf : t_X9_wrong F p1 τ = some (rv, τF)) : Cl g 1 yX9_wrong cX9_wrong 2 (some Jvm.ClassFile.FieldType.boolean) [.ref tw, .int p1] (mT tw τ μ) (some (.int rv)) (mT tw τF μ) := by
  unfold t_X9_wrong at hf
  refine Cl.of (own := RX9) (ini := false) (by decide +kernel) rfl (by decide) (Nat.le_of_ble_eq_true rfl) ?_
  show PW g mX9_wrong 1 (mT tw τ μ) (mT tw τF μ) (QN g (some (.int rv)) (mT tw τ μ) (mT tw τF μ)) 0 [(0, .ref tw), (1, .int p1)] [] (mT tw τ μ)
  refine P.aload_n 0 (pc' := 1) dX9_wrong_0 rfl rfl rfl ?_
  refine P.iload_n 1 (pc' := 2) dX9_wrong_1 rfl rfl rfl ?_
  obtain ⟨τ1, e2, hf⟩ := nm_i hf
  refine P.put (v := .int p1) (pc' := 5) ci9 8 (by decide) (T_put rfl (by decide) e2) q1563 (Or.inl rfl) rfl rfl rfl dX9_wrong_2 rfl ?_
  refine P.aload_n 0 (pc' := 6) dX9_wrong_5 rfl rfl rfl ?_
  refine P.aload_n 0 (pc' := 7) dX9_wrong_6 rfl rfl rfl ?_
  refine P.get (v := .ref (tw + 3)) (pc' := 10) ci9 4 (by decide) (T_gf rfl) q1559 (Or.inl rfl) dX9_wrong_7 rfl ?_
  refine P.aload_n 0 (pc' := 11) dX9_wrong_10 rfl rfl rfl ?_
  refine P.get (v := .int (τ1.1 7)) (pc' := 14) ci9 7 (by decide) (T_gf rfl) q1562 (Or.inl rfl) dX9_wrong_11 rfl ?_
  obtain ⟨x3, h4, hf⟩ := ob hf
  refine P.iald (t := 0) (pc' := 15) rfl (T_aI rfl h4) dX9_wrong_14 rfl ?_
  obtain ⟨τ5, e6, hf⟩ := nm_i hf
  refine P.put (v := .int x3) (pc' := 18) ci9 9 (by decide) (T_put rfl (by decide) e6) q1564 (Or.inl rfl) rfl rfl rfl dX9_wrong_15 rfl ?_
  refine P.iconst (v := 0) (pc' := 19) dX9_wrong_18 rfl (by decide) ?_
  cases hf; exact P.zret rfl (Or.inl rfl) dX9_wrong_19
abbrev mX9_told : Ym := (RX9, cX9_told, 2, (some Jvm.ClassFile.FieldType.int), false, [])
noncomputable def t_X9_told (F : Nat) (p1 : Int32) (τ : Tw) : Option Int32 :=
  Option.bind (taI τ 6 420 (210 + p1)) fun x1 =>
  some x1
set_option maxHeartbeats 4000000 in
theorem ok_X9_told {g : Gx} (F : Nat) (p1 : Int32) (tw : Nat) (μ : Sw) (τ : Tw) {rv : Int32} (hf : t_X9_told F p1 τ = some rv) : Cl g 1 yX9_told cX9_told 2 (some Jvm.ClassFile.FieldType.int) [.ref tw, .int p1] (mT tw τ μ) (some (.int rv)) (mT tw τ μ) := by
  unfold t_X9_told at hf
  refine Cl.of (own := RX9) (ini := false) (by decide +kernel) rfl (by decide) (Nat.le_of_ble_eq_true rfl) ?_
  show PW g mX9_told 1 (mT tw τ μ) (mT tw τ μ) (QN g (some (.int rv)) (mT tw τ μ) (mT tw τ μ)) 0 [(0, .ref tw), (1, .int p1)] [] (mT tw τ μ)
  refine P.aload_n 0 (pc' := 1) dX9_told_0 rfl rfl rfl ?_
  refine P.get (v := .ref (tw + 6)) (pc' := 4) ci9 12 (by decide) (T_gf rfl) q1567 (Or.inl rfl) dX9_told_1 rfl ?_
  refine P.sipush (v := 210) (pc' := 7) dX9_told_4 rfl (by decide) ?_
  refine P.iload_n 1 (pc' := 8) dX9_told_7 rfl rfl rfl ?_
  refine P.iadd (pc' := 9) dX9_told_8 rfl ?_
  obtain ⟨x1, h2, hf⟩ := ob hf
  refine P.iald (t := 0) (pc' := 10) rfl (T_aI rfl h2) dX9_told_9 rfl ?_
  cases hf; exact P.iret rfl dX9_told_10
abbrev mX9_tell : Ym := (RX9, cX9_tell, 3, none, false, [])
noncomputable def t_X9_tell (F : Nat) (p1 : Int32) (p2 : Int32) (τ : Tw) : Option Tw :=
  Option.bind (tsA τ 6 0 420 (210 + p1) p2) fun τ2 =>
  some τ2
set_option maxHeartbeats 4000000 in
theorem ok_X9_tell {g : Gx} (F : Nat) (p1 : Int32) (p2 : Int32) (tw : Nat) (μ : Sw) (τ : Tw) {τF : Tw} (hf : t_X9_tell F p1 p2 τ = some τF) : Cl g 1 yX9_tell cX9_tell 3 none [.ref tw, .int p1, .int p2] (mT tw τ μ) none (mT tw τF μ) := by
  unfold t_X9_tell at hf
  refine Cl.of (own := RX9) (ini := false) (by decide +kernel) rfl (by decide) (Nat.le_of_ble_eq_true rfl) ?_
  show PW g mX9_tell 1 (mT tw τ μ) (mT tw τF μ) (QN g none (mT tw τ μ) (mT tw τF μ)) 0 [(0, .ref tw), (1, .int p1), (2, .int p2)] [] (mT tw τ μ)
  refine P.aload_n 0 (pc' := 1) dX9_tell_0 rfl rfl rfl ?_
  refine P.get (v := .ref (tw + 6)) (pc' := 4) ci9 12 (by decide) (T_gf rfl) q1567 (Or.inl rfl) dX9_tell_1 rfl ?_
  refine P.sipush (v := 210) (pc' := 7) dX9_tell_4 rfl (by decide) ?_
  refine P.iload_n 1 (pc' := 8) dX9_tell_7 rfl rfl rfl ?_
  refine P.iadd (pc' := 9) dX9_tell_8 rfl ?_
  refine P.iload_n 2 (pc' := 10) dX9_tell_9 rfl rfl rfl ?_
  obtain ⟨τ2, h1, hf⟩ := ob hf
  refine P.iast (pc' := 11) (T_sA rfl (by decide) h1) dX9_tell_10 rfl ?_
  cases hf; exact P.vret rfl dX9_tell_11
theorem yok_X9_tell : yOK yX9_tell 2 := ⟨by decide +kernel, by decide +kernel, by decide +kernel⟩
theorem yok_X9_told : yOK yX9_told 1 := ⟨by decide +kernel, by decide +kernel, by decide +kernel⟩
abbrev mX9_next : Ym := (RX9, cX9_next, 6, (some Jvm.ClassFile.FieldType.int), false, [])
noncomputable def t_X9_next (F : Nat) (p1 : Int32) (p2 : Int32) (p3 : Int32) (p4 : Int32) (τ : Tw) : Option (Int32 × Tw) :=
  Option.bind (t_X9_told F p1 τ) fun q1 =>
  if q1 = p2 then
    some ((-1), τ)
  else
    Option.bind (t_X9_told F p1 τ) fun q4 =>
    nm (p3 + (p4 * q4)) fun x6 =>
    Option.bind (t_X9_told F p1 τ) fun q8 =>
    Option.bind (t_X9_tell F p1 (q8 + 1) τ) fun q10 =>
    some (x6, q10)
set_option maxHeartbeats 4000000 in
theorem ok_X9_next {g : Gx} (F : Nat) (p1 : Int32) (p2 : Int32) (p3 : Int32) (p4 : Int32) (tw : Nat) (μ : Sw) (τ : Tw) {rv : Int32} {τF : Tw} (hf : t_X9_next F p1 p2 p3 p4 τ = some (rv, τF)) : Cl g 2 yX9_next cX9_next 6 (some Jvm.ClassFile.FieldType.int) [.ref tw, .int p1, .int p2, .int p3, .int p4] (mT tw τ μ) (some (.int rv)) (mT tw τF μ) := by
  unfold t_X9_next at hf
  refine Cl.of (own := RX9) (ini := false) (by decide +kernel) rfl (by decide) (Nat.le_of_ble_eq_true rfl) ?_
  show PW g mX9_next 2 (mT tw τ μ) (mT tw τF μ) (QN g (some (.int rv)) (mT tw τ μ) (mT tw τF μ)) 0 [(0, .ref tw), (1, .int p1), (2, .int p2), (3, .int p3), (4, .int p4)] [] (mT tw τ μ)
  refine P.aload_n 0 (pc' := 1) dX9_next_0 rfl rfl rfl ?_
  refine P.iload_n 1 (pc' := 2) dX9_next_1 rfl rfl rfl ?_
  obtain ⟨q1, h2, hf⟩ := ob hf
  refine P.callV (pc' := 5) (As := [.int p1]) 1 (ok_X9_told F p1 tw μ τ h2) (Nat.le_of_ble_eq_true rfl) (lw_V q1802 q1804 qs88 q172 q1805) rfl yok_X9_told rfl (Nat.le_of_ble_eq_true rfl) ci9 T_oc (by decide) rfl dX9_next_2 rfl ?_
  refine P.iload_n 2 (pc' := 6) dX9_next_5 rfl rfl rfl ?_
  refine P.icmp_ne (tgt := 11) (pc' := 9) dX9_next_6 (by decide) rfl (fun y3 => ?_) (fun y3 => ?_)
  · have hf := (if_neg y3).symm.trans hf
    refine P.iload_n 3 (pc' := 12) dX9_next_11 rfl rfl rfl ?_
    refine P.iload 4 (pc' := 14) dX9_next_12 rfl rfl ?_
    refine P.aload_n 0 (pc' := 15) dX9_next_14 rfl rfl rfl ?_
    refine P.iload_n 1 (pc' := 16) dX9_next_15 rfl rfl rfl ?_
    obtain ⟨q4, h5, hf⟩ := ob hf
    refine P.callV (pc' := 19) (As := [.int p1]) 1 (ok_X9_told F p1 tw μ τ h5) (Nat.le_of_ble_eq_true rfl) (lw_V q1802 q1804 qs88 q172 q1805) rfl yok_X9_told rfl (Nat.le_of_ble_eq_true rfl) ci9 T_oc (Nat.le_of_ble_eq_true rfl) rfl dX9_next_16 rfl ?_
    refine P.imul (pc' := 20) dX9_next_19 rfl ?_
    refine P.iadd (pc' := 21) dX9_next_20 rfl ?_
    obtain ⟨x6, e7, hf⟩ := nm_i hf
    refine P.nmi e7 ?_
    refine P.istore (pc' := 23) (lv' := [(5, .int x6), (0, .ref tw), (1, .int p1), (2, .int p2), (3, .int p3), (4, .int p4)]) dX9_next_21 rfl (Nat.le_of_ble_eq_true rfl) rfl ?_
    refine P.aload_n 1 (pc' := 24) dX9_next_23 rfl rfl rfl ?_
    refine P.iload_n 2 (pc' := 25) dX9_next_24 rfl rfl rfl ?_
    refine P.aload_n 1 (pc' := 26) dX9_next_25 rfl rfl rfl ?_
    refine P.iload_n 2 (pc' := 27) dX9_next_26 rfl rfl rfl ?_
    obtain ⟨q8, h9, hf⟩ := ob hf
    refine P.callV (pc' := 30) (As := [.int p1]) 1 (ok_X9_told F p1 tw μ τ h9) (Nat.le_of_ble_eq_true rfl) (lw_V q1802 q1804 qs88 q172 q1805) rfl yok_X9_told rfl (Nat.le_of_ble_eq_true rfl) ci9 T_oc (Nat.le_of_ble_eq_true rfl) rfl dX9_next_27 rfl ?_
    refine P.iconst (v := 1) (pc' := 31) dX9_next_30 rfl (by decide) ?_
    refine P.iadd (pc' := 32) dX9_next_31 rfl ?_
    obtain ⟨q10, h11, hf⟩ := ob hf
    refine P.callV (pc' := 35) (As := [.int p1, .int (q8 + 1)]) 2 (ok_X9_tell F p1 (q8 + 1) tw μ τ h11) (Nat.le_of_ble_eq_true rfl) (lw_V q1810 q1812 qs90 q172 q1813) rfl yok_X9_tell rfl (Nat.le_of_ble_eq_true rfl) ci9 T_oc (by decide) rfl dX9_next_32 rfl ?_
    refine P.iload 0 (pc' := 37) dX9_next_35 rfl rfl ?_
    cases hf; exact P.iret rfl dX9_next_37
  · have hf := (if_pos y3).symm.trans hf
    refine P.iconst (v := (-1)) (pc' := 10) dX9_next_9 rfl (by decide) ?_
    cases hf; exact P.iret rfl dX9_next_10
theorem yok_X9_wrong : yOK yX9_wrong 1 := ⟨by decide +kernel, by decide +kernel, by decide +kernel⟩
abbrev mX9_pass : Ym := (RX9, cX9_pass, 1, (some Jvm.ClassFile.FieldType.boolean), false, [])
noncomputable def t_X9_pass (F : Nat) (τ : Tw) : Option (Int32 × Tw) :=
  if (τ.1 7) < 400 then
    nm (tsI τ 7 ((τ.1 7) + 1)) fun τ2 =>
    some (1, τ2)
  else
    Option.bind (t_X9_wrong F 2 τ) fun q4 =>
    if q4.1 = 0 ∨ q4.1 = 1 then
      some (q4.1, q4.2)
    else
      none
set_option maxHeartbeats 4000000 in
theorem ok_X9_pass {g : Gx} (F : Nat) (tw : Nat) (μ : Sw) (τ : Tw) {rv : Int32} {τF : Tw} (hf : t_X9_pass F τ = some (rv, τF)) : Cl g 2 yX9_pass cX9_pass 1 (some Jvm.ClassFile.FieldType.boolean) [.ref tw] (mT tw τ μ) (some (.int rv)) (mT tw τF μ) := by
  unfold t_X9_pass at hf
  refine Cl.of (own := RX9) (ini := false) (by decide +kernel) rfl (by decide) (Nat.le_of_ble_eq_true rfl) ?_
  show PW g mX9_pass 2 (mT tw τ μ) (mT tw τF μ) (QN g (some (.int rv)) (mT tw τ μ) (mT tw τF μ)) 0 [(0, .ref tw)] [] (mT tw τ μ)
  refine P.aload_n 0 (pc' := 1) dX9_pass_0 rfl rfl rfl ?_
  refine P.get (v := .int (τ.1 7)) (pc' := 4) ci9 7 (by decide) (T_gf rfl) q1562 (Or.inl rfl) dX9_pass_1 rfl ?_
  refine P.sipush (v := 400) (pc' := 7) dX9_pass_4 rfl (by decide) ?_
  refine P.icmp_lt (tgt := 16) (pc' := 10) dX9_pass_7 (by decide) rfl (fun y1 => ?_) (fun y1 => ?_)
  · have hf := (if_pos y1).symm.trans hf
    refine P.aload_n 0 (pc' := 17) dX9_pass_16 rfl rfl rfl ?_
    refine P.dup (pc' := 18) dX9_pass_17 rfl rfl ?_
    refine P.get (v := .int (τ.1 7)) (pc' := 21) ci9 7 (by decide) (T_gf rfl) q1562 (Or.inl rfl) dX9_pass_18 rfl ?_
    refine P.iconst (v := 1) (pc' := 22) dX9_pass_21 rfl (by decide) ?_
    refine P.iadd (pc' := 23) dX9_pass_22 rfl ?_
    obtain ⟨τ2, e3, hf⟩ := nm_i hf
    refine P.put (v := .int ((τ.1 7) + 1)) (pc' := 26) ci9 7 (by decide) (T_put rfl (by decide) e3) q1562 (Or.inl rfl) rfl rfl rfl dX9_pass_23 rfl ?_
    refine P.iconst (v := 1) (pc' := 27) dX9_pass_26 rfl (by decide) ?_
    cases hf; exact P.zret rfl (Or.inr rfl) dX9_pass_27
  · have hf := (if_neg y1).symm.trans hf
    refine P.aload_n 0 (pc' := 11) dX9_pass_10 rfl rfl rfl ?_
    refine P.iconst (v := 2) (pc' := 12) dX9_pass_11 rfl (by decide) ?_
    obtain ⟨q4, h5, hf⟩ := ob hf
    refine P.callV (pc' := 15) (As := [.int 2]) 1 (ok_X9_wrong F 2 tw μ τ h5) (Nat.le_of_ble_eq_true rfl) (lw_V q1814 q1816 qs91 q172 q1817) rfl yok_X9_wrong rfl (Nat.le_of_ble_eq_true rfl) ci9 T_oc (by decide) rfl dX9_pass_12 rfl ?_
    by_cases y6 : q4.1 = 0 ∨ q4.1 = 1
    · have hf := (if_pos y6).symm.trans hf
      cases hf; exact P.zret rfl y6 dX9_pass_15
    · have hf := (if_neg y6).symm.trans hf
      cases hf
abbrev mX9_isWord : Ym := (RX9, cX9_isWord, 2, (some Jvm.ClassFile.FieldType.boolean), false, [])
noncomputable def t_X9_isWord (F : Nat) (p1 : Int32) (τ : Tw) : Option Int32 :=
  Option.bind (taI τ 2 2001 (τ.1 7)) fun x1 =>
  if x1 = 3 then
    Option.bind (taI τ 4 2001 (τ.1 7)) fun x4 =>
    if x4 = p1 then
      some 1
    else
      some 0
  else
    some 0
set_option maxHeartbeats 4000000 in
theorem ok_X9_isWord {g : Gx} (F : Nat) (p1 : Int32) (tw : Nat) (μ : Sw) (τ : Tw) {rv : Int32} (hf : t_X9_isWord F p1 τ = some rv) : Cl g 1 yX9_isWord cX9_isWord 2 (some Jvm.ClassFile.FieldType.boolean) [.ref tw, .int p1] (mT tw τ μ) (some (.int rv)) (mT tw τ μ) := by
  unfold t_X9_isWord at hf
  refine Cl.of (own := RX9) (ini := false) (by decide +kernel) rfl (by decide) (Nat.le_of_ble_eq_true rfl) ?_
  show PW g mX9_isWord 1 (mT tw τ μ) (mT tw τ μ) (QN g (some (.int rv)) (mT tw τ μ) (mT tw τ μ)) 0 [(0, .ref tw), (1, .int p1)] [] (mT tw τ μ)
  refine P.aload_n 0 (pc' := 1) dX9_isWord_0 rfl rfl rfl ?_
  refine P.get (v := .ref (tw + 2)) (pc' := 4) ci9 3 (by decide) (T_gf rfl) q1558 (Or.inl rfl) dX9_isWord_1 rfl ?_
  refine P.aload_n 0 (pc' := 5) dX9_isWord_4 rfl rfl rfl ?_
  refine P.get (v := .int (τ.1 7)) (pc' := 8) ci9 7 (by decide) (T_gf rfl) q1562 (Or.inl rfl) dX9_isWord_5 rfl ?_
  obtain ⟨x1, h2, hf⟩ := ob hf
  refine P.iald (t := 0) (pc' := 9) rfl (T_aI rfl h2) dX9_isWord_8 rfl ?_
  refine P.iconst (v := 3) (pc' := 10) dX9_isWord_9 rfl (by decide) ?_
  refine P.icmp_ne (tgt := 30) (pc' := 13) dX9_isWord_10 (by decide) rfl (fun y3 => ?_) (fun y3 => ?_)
  · have hf := (if_neg y3).symm.trans hf
    refine P.iconst (v := 0) (pc' := 31) dX9_isWord_30 rfl (by decide) ?_
    cases hf; exact P.zret rfl (Or.inl rfl) dX9_isWord_31
  · have hf := (if_pos y3).symm.trans hf
    refine P.aload_n 0 (pc' := 14) dX9_isWord_13 rfl rfl rfl ?_
    refine P.get (v := .ref (tw + 4)) (pc' := 17) ci9 5 (by decide) (T_gf rfl) q1560 (Or.inl rfl) dX9_isWord_14 rfl ?_
    refine P.aload_n 0 (pc' := 18) dX9_isWord_17 rfl rfl rfl ?_
    refine P.get (v := .int (τ.1 7)) (pc' := 21) ci9 7 (by decide) (T_gf rfl) q1562 (Or.inl rfl) dX9_isWord_18 rfl ?_
    obtain ⟨x4, h5, hf⟩ := ob hf
    refine P.iald (t := 0) (pc' := 22) rfl (T_aI rfl h5) dX9_isWord_21 rfl ?_
    refine P.iload_n 1 (pc' := 23) dX9_isWord_22 rfl rfl rfl ?_
    refine P.icmp_ne (tgt := 30) (pc' := 26) dX9_isWord_23 (by decide) rfl (fun y6 => ?_) (fun y6 => ?_)
    · have hf := (if_neg y6).symm.trans hf
      refine P.iconst (v := 0) (pc' := 31) dX9_isWord_30 rfl (by decide) ?_
      cases hf; exact P.zret rfl (Or.inl rfl) dX9_isWord_31
    · have hf := (if_pos y6).symm.trans hf
      refine P.iconst (v := 1) (pc' := 27) dX9_isWord_26 rfl (by decide) ?_
      refine P.goto (tgt := 31) dX9_isWord_27 (by decide) ?_
      cases hf; exact P.zret rfl (Or.inr rfl) dX9_isWord_31
abbrev mX9_emit : Ym := (RX9, cX9_emit, 3, none, false, [])
noncomputable def t_X9_emit (F : Nat) (p1 : Int32) (p2 : Int32) (τ : Tw) : Option Tw :=
  Option.bind (taI τ 8 2 1) fun x1 =>
  Option.bind (tsA τ 9 0 1000 (500 + x1) p1) fun τ4 =>
  Option.bind (taI τ4 8 2 1) fun x5 =>
  Option.bind (tsA τ4 10 0 1000 (500 + x5) p2) fun τ8 =>
  Option.bind (taI τ8 8 2 1) fun x9 =>
  Option.bind (tsA τ8 8 0 2 1 (x9 + 1)) fun τ12 =>
  some τ12
set_option maxHeartbeats 4000000 in
theorem ok_X9_emit {g : Gx} (F : Nat) (p1 : Int32) (p2 : Int32) (tw : Nat) (μ : Sw) (τ : Tw) {τF : Tw} (hf : t_X9_emit F p1 p2 τ = some τF) : Cl g 1 yX9_emit cX9_emit 3 none [.ref tw, .int p1, .int p2] (mT tw τ μ) none (mT tw τF μ) := by
  unfold t_X9_emit at hf
  refine Cl.of (own := RX9) (ini := false) (by decide +kernel) rfl (by decide) (Nat.le_of_ble_eq_true rfl) ?_
  show PW g mX9_emit 1 (mT tw τ μ) (mT tw τF μ) (QN g none (mT tw τ μ) (mT tw τF μ)) 0 [(0, .ref tw), (1, .int p1), (2, .int p2)] [] (mT tw τ μ)
  refine P.aload_n 0 (pc' := 1) dX9_emit_0 rfl rfl rfl ?_
  refine P.get (v := .ref (tw + 9)) (pc' := 4) ci9 15 (by decide) (T_gf rfl) q1570 (Or.inl rfl) dX9_emit_1 rfl ?_
  refine P.sipush (v := 500) (pc' := 7) dX9_emit_4 rfl (by decide) ?_
  refine P.aload_n 0 (pc' := 8) dX9_emit_7 rfl rfl rfl ?_
  refine P.get (v := .ref (tw + 8)) (pc' := 11) ci9 14 (by decide) (T_gf rfl) q1569 (Or.inl rfl) dX9_emit_8 rfl ?_
  refine P.iconst (v := 1) (pc' := 12) dX9_emit_11 rfl (by decide) ?_
  obtain ⟨x1, h2, hf⟩ := ob hf
  refine P.iald (t := 0) (pc' := 13) rfl (T_aI rfl h2) dX9_emit_12 rfl ?_
  refine P.iadd (pc' := 14) dX9_emit_13 rfl ?_
  refine P.iload_n 1 (pc' := 15) dX9_emit_14 rfl rfl rfl ?_
  obtain ⟨τ4, h3, hf⟩ := ob hf
  refine P.iast (pc' := 16) (T_sA rfl (by decide) h3) dX9_emit_15 rfl ?_
  refine P.aload_n 0 (pc' := 17) dX9_emit_16 rfl rfl rfl ?_
  refine P.get (v := .ref (tw + 10)) (pc' := 20) ci9 16 (by decide) (T_gf rfl) q1571 (Or.inl rfl) dX9_emit_17 rfl ?_
  refine P.sipush (v := 500) (pc' := 23) dX9_emit_20 rfl (by decide) ?_
  refine P.aload_n 0 (pc' := 24) dX9_emit_23 rfl rfl rfl ?_
  refine P.get (v := .ref (tw + 8)) (pc' := 27) ci9 14 (by decide) (T_gf rfl) q1569 (Or.inl rfl) dX9_emit_24 rfl ?_
  refine P.iconst (v := 1) (pc' := 28) dX9_emit_27 rfl (by decide) ?_
  obtain ⟨x5, h6, hf⟩ := ob hf
  refine P.iald (t := 0) (pc' := 29) rfl (T_aI rfl h6) dX9_emit_28 rfl ?_
  refine P.iadd (pc' := 30) dX9_emit_29 rfl ?_
  refine P.iload_n 2 (pc' := 31) dX9_emit_30 rfl rfl rfl ?_
  obtain ⟨τ8, h7, hf⟩ := ob hf
  refine P.iast (pc' := 32) (T_sA rfl (by decide) h7) dX9_emit_31 rfl ?_
  refine P.aload_n 0 (pc' := 33) dX9_emit_32 rfl rfl rfl ?_
  refine P.get (v := .ref (tw + 8)) (pc' := 36) ci9 14 (by decide) (T_gf rfl) q1569 (Or.inl rfl) dX9_emit_33 rfl ?_
  refine P.iconst (v := 1) (pc' := 37) dX9_emit_36 rfl (by decide) ?_
  refine P.dup2 (pc' := 38) dX9_emit_37 rfl rfl rfl ?_
  obtain ⟨x9, h10, hf⟩ := ob hf
  refine P.iald (t := 0) (pc' := 39) rfl (T_aI rfl h10) dX9_emit_38 rfl ?_
  refine P.iconst (v := 1) (pc' := 40) dX9_emit_39 rfl (by decide) ?_
  refine P.iadd (pc' := 41) dX9_emit_40 rfl ?_
  obtain ⟨τ12, h11, hf⟩ := ob hf
  refine P.iast (pc' := 42) (T_sA rfl (by decide) h11) dX9_emit_41 rfl ?_
  cases hf; exact P.vret rfl dX9_emit_42
theorem yok_X9_emit : yOK yX9_emit 2 := ⟨by decide +kernel, by decide +kernel, by decide +kernel⟩
theorem yok_X9_rank : yOK yX9_rank 1 := ⟨by decide +kernel, by decide +kernel, by decide +kernel⟩
abbrev mX9_reduce : Ym := (RX9, cX9_reduce, 3, none, false, [])
noncomputable def t_X9_reduce_L0_b (F : Nat) (c1 : Int32) (c2 : Int32) (self : Tw → Option Tw) (τ : Tw) : Option Tw :=
  if (τ.1 30) ≤ c2 then
    some τ
  else
    Option.bind (taI τ 22 500 ((τ.1 30) - 1)) fun x2 =>
    Option.bind (p_X9_rank F x2) fun q4 =>
    if q4 < c1 then
      some τ
    else
      nm (tsI τ 30 ((τ.1 30) - 1)) fun τ7 =>
      Option.bind (taI τ7 22 500 (τ7.1 30)) fun x9 =>
      Option.bind (t_X9_emit F x9 0 τ7) fun q11 =>
      self q11
noncomputable def t_X9_reduce_L0 (F : Nat) (c1 : Int32) (c2 : Int32) (n : Nat) : Tw → Option Tw := Nat.rec (motive := fun _ => Tw → Option Tw) (fun _ => none) (fun _ self => t_X9_reduce_L0_b F c1 c2 self) n
set_option maxHeartbeats 4000000 in
theorem ok_t_X9_reduce_L0 {g : Gx} {μ0 : Sw} {τF : Tw} (F : Nat) (tw : Nat) (μ : Sw) (c1 : Int32) (c2 : Int32) : ∀ (n : Nat) (τ : Tw), t_X9_reduce_L0 F c1 c2 n τ = some τF → PW g mX9_reduce 2 μ0 (mT tw τF μ) (QN g none μ0 (mT tw τF μ)) 0 [(0, .ref tw), (1, .int c1), (2, .int c2)] [] (mT tw τ μ) := by
  intro n
  induction n with
  | zero =>
    intro τ hf
    have hf : (none : Option Tw) = some _ := hf
    cases hf
  | succ n ih =>
    intro τ hf
    have hf : t_X9_reduce_L0_b F c1 c2 (t_X9_reduce_L0 F c1 c2 n) τ = some τF := hf
    unfold t_X9_reduce_L0_b at hf
    refine P.aload_n 0 (pc' := 1) dX9_reduce_0 rfl rfl rfl ?_
    refine P.get (v := .int (τ.1 30)) (pc' := 4) ci9 30 (by decide) (T_gf rfl) q1585 (Or.inl rfl) dX9_reduce_1 rfl ?_
    refine P.iload_n 2 (pc' := 5) dX9_reduce_4 rfl rfl rfl ?_
    refine P.icmp_le (tgt := 53) (pc' := 8) dX9_reduce_5 (by decide) rfl (fun y1 => ?_) (fun y1 => ?_)
    · have hf := (if_pos y1).symm.trans hf
      cases hf; exact P.vret rfl dX9_reduce_53
    · have hf := (if_neg y1).symm.trans hf
      refine P.aload_n 0 (pc' := 9) dX9_reduce_8 rfl rfl rfl ?_
      refine P.get (v := .ref (tw + 22)) (pc' := 12) ci9 31 (by decide) (T_gf rfl) q1586 (Or.inl rfl) dX9_reduce_9 rfl ?_
      refine P.aload_n 0 (pc' := 13) dX9_reduce_12 rfl rfl rfl ?_
      refine P.get (v := .int (τ.1 30)) (pc' := 16) ci9 30 (by decide) (T_gf rfl) q1585 (Or.inl rfl) dX9_reduce_13 rfl ?_
      refine P.iconst (v := 1) (pc' := 17) dX9_reduce_16 rfl (by decide) ?_
      refine P.isub (pc' := 18) dX9_reduce_17 rfl ?_
      obtain ⟨x2, h3, hf⟩ := ob hf
      refine P.iald (t := 0) (pc' := 19) rfl (T_aI rfl h3) dX9_reduce_18 rfl ?_
      obtain ⟨q4, h5, hf⟩ := ob hf
      refine P.callS (pc' := 22) (As := [.int x2]) 1 (ok_X9_rank F x2 (mT tw τ μ) h5) (Nat.le_of_ble_eq_true rfl) (lw_S q1897 q1898 q172 q1899) yok_X9_rank rfl (Nat.le_of_ble_eq_true rfl) (by decide) rfl dX9_reduce_19 rfl ?_
      refine P.iload_n 1 (pc' := 23) dX9_reduce_22 rfl rfl rfl ?_
      refine P.icmp_lt (tgt := 53) (pc' := 26) dX9_reduce_23 (by decide) rfl (fun y6 => ?_) (fun y6 => ?_)
      · have hf := (if_pos y6).symm.trans hf
        cases hf; exact P.vret rfl dX9_reduce_53
      · have hf := (if_neg y6).symm.trans hf
        refine P.aload_n 0 (pc' := 27) dX9_reduce_26 rfl rfl rfl ?_
        refine P.dup (pc' := 28) dX9_reduce_27 rfl rfl ?_
        refine P.get (v := .int (τ.1 30)) (pc' := 31) ci9 30 (by decide) (T_gf rfl) q1585 (Or.inl rfl) dX9_reduce_28 rfl ?_
        refine P.iconst (v := 1) (pc' := 32) dX9_reduce_31 rfl (by decide) ?_
        refine P.isub (pc' := 33) dX9_reduce_32 rfl ?_
        obtain ⟨τ7, e8, hf⟩ := nm_i hf
        refine P.put (v := .int ((τ.1 30) - 1)) (pc' := 36) ci9 30 (by decide) (T_put rfl (by decide) e8) q1585 (Or.inl rfl) rfl rfl rfl dX9_reduce_33 rfl ?_
        refine P.aload_n 0 (pc' := 37) dX9_reduce_36 rfl rfl rfl ?_
        refine P.aload_n 0 (pc' := 38) dX9_reduce_37 rfl rfl rfl ?_
        refine P.get (v := .ref (tw + 22)) (pc' := 41) ci9 31 (by decide) (T_gf rfl) q1586 (Or.inl rfl) dX9_reduce_38 rfl ?_
        refine P.aload_n 0 (pc' := 42) dX9_reduce_41 rfl rfl rfl ?_
        refine P.get (v := .int (τ7.1 30)) (pc' := 45) ci9 30 (by decide) (T_gf rfl) q1585 (Or.inl rfl) dX9_reduce_42 rfl ?_
        obtain ⟨x9, h10, hf⟩ := ob hf
        refine P.iald (t := 0) (pc' := 46) rfl (T_aI rfl h10) dX9_reduce_45 rfl ?_
        refine P.iconst (v := 0) (pc' := 47) dX9_reduce_46 rfl (by decide) ?_
        obtain ⟨q11, h12, hf⟩ := ob hf
        refine P.callV (pc' := 50) (As := [.int x9, .int 0]) 2 (ok_X9_emit F x9 0 tw μ τ7 h12) (Nat.le_of_ble_eq_true rfl) (lw_V q1889 q1891 qs109 q172 q1892) rfl yok_X9_emit rfl (Nat.le_of_ble_eq_true rfl) ci9 T_oc (by decide) rfl dX9_reduce_47 rfl ?_
        refine P.goto (tgt := 0) dX9_reduce_50 (by decide) ?_
        exact PW.sub [0, 1, 2] rfl (ih _ hf)
noncomputable def t_X9_reduce (F : Nat) (p1 : Int32) (p2 : Int32) (τ : Tw) : Option Tw :=
  t_X9_reduce_L0 F p1 p2 F τ
set_option maxHeartbeats 4000000 in
theorem ok_X9_reduce {g : Gx} (F : Nat) (p1 : Int32) (p2 : Int32) (tw : Nat) (μ : Sw) (τ : Tw) {τF : Tw} (hf : t_X9_reduce F p1 p2 τ = some τF) : Cl g 2 yX9_reduce cX9_reduce 3 none [.ref tw, .int p1, .int p2] (mT tw τ μ) none (mT tw τF μ) := by
  unfold t_X9_reduce at hf
  refine Cl.of (own := RX9) (ini := false) (by decide +kernel) rfl (by decide) (Nat.le_of_ble_eq_true rfl) ?_
  show PW g mX9_reduce 2 (mT tw τ μ) (mT tw τF μ) (QN g none (mT tw τ μ) (mT tw τF μ)) 0 [(0, .ref tw), (1, .int p1), (2, .int p2)] [] (mT tw τ μ)
  exact PW.sub [0, 1, 2] rfl (ok_t_X9_reduce_L0 F tw μ p1 p2 F _ hf)
abbrev mX9_isSign : Ym := (RX9, cX9_isSign, 2, (some Jvm.ClassFile.FieldType.boolean), false, [])
noncomputable def t_X9_isSign (F : Nat) (p1 : Int32) (τ : Tw) : Option Int32 :=
  Option.bind (taI τ 2 2001 (τ.1 7)) fun x1 =>
  if x1 = 2 then
    Option.bind (taI τ 4 2001 (τ.1 7)) fun x4 =>
    if x4 = p1 then
      some 1
    else
      some 0
  else
    some 0
set_option maxHeartbeats 4000000 in
theorem ok_X9_isSign {g : Gx} (F : Nat) (p1 : Int32) (tw : Nat) (μ : Sw) (τ : Tw) {rv : Int32} (hf : t_X9_isSign F p1 τ = some rv) : Cl g 1 yX9_isSign cX9_isSign 2 (some Jvm.ClassFile.FieldType.boolean) [.ref tw, .int p1] (mT tw τ μ) (some (.int rv)) (mT tw τ μ) := by
  unfold t_X9_isSign at hf
  refine Cl.of (own := RX9) (ini := false) (by decide +kernel) rfl (by decide) (Nat.le_of_ble_eq_true rfl) ?_
  show PW g mX9_isSign 1 (mT tw τ μ) (mT tw τ μ) (QN g (some (.int rv)) (mT tw τ μ) (mT tw τ μ)) 0 [(0, .ref tw), (1, .int p1)] [] (mT tw τ μ)
  refine P.aload_n 0 (pc' := 1) dX9_isSign_0 rfl rfl rfl ?_
  refine P.get (v := .ref (tw + 2)) (pc' := 4) ci9 3 (by decide) (T_gf rfl) q1558 (Or.inl rfl) dX9_isSign_1 rfl ?_
  refine P.aload_n 0 (pc' := 5) dX9_isSign_4 rfl rfl rfl ?_
  refine P.get (v := .int (τ.1 7)) (pc' := 8) ci9 7 (by decide) (T_gf rfl) q1562 (Or.inl rfl) dX9_isSign_5 rfl ?_
  obtain ⟨x1, h2, hf⟩ := ob hf
  refine P.iald (t := 0) (pc' := 9) rfl (T_aI rfl h2) dX9_isSign_8 rfl ?_
  refine P.iconst (v := 2) (pc' := 10) dX9_isSign_9 rfl (by decide) ?_
  refine P.icmp_ne (tgt := 30) (pc' := 13) dX9_isSign_10 (by decide) rfl (fun y3 => ?_) (fun y3 => ?_)
  · have hf := (if_neg y3).symm.trans hf
    refine P.iconst (v := 0) (pc' := 31) dX9_isSign_30 rfl (by decide) ?_
    cases hf; exact P.zret rfl (Or.inl rfl) dX9_isSign_31
  · have hf := (if_pos y3).symm.trans hf
    refine P.aload_n 0 (pc' := 14) dX9_isSign_13 rfl rfl rfl ?_
    refine P.get (v := .ref (tw + 4)) (pc' := 17) ci9 5 (by decide) (T_gf rfl) q1560 (Or.inl rfl) dX9_isSign_14 rfl ?_
    refine P.aload_n 0 (pc' := 18) dX9_isSign_17 rfl rfl rfl ?_
    refine P.get (v := .int (τ.1 7)) (pc' := 21) ci9 7 (by decide) (T_gf rfl) q1562 (Or.inl rfl) dX9_isSign_18 rfl ?_
    obtain ⟨x4, h5, hf⟩ := ob hf
    refine P.iald (t := 0) (pc' := 22) rfl (T_aI rfl h5) dX9_isSign_21 rfl ?_
    refine P.iload_n 1 (pc' := 23) dX9_isSign_22 rfl rfl rfl ?_
    refine P.icmp_ne (tgt := 30) (pc' := 26) dX9_isSign_23 (by decide) rfl (fun y6 => ?_) (fun y6 => ?_)
    · have hf := (if_neg y6).symm.trans hf
      refine P.iconst (v := 0) (pc' := 31) dX9_isSign_30 rfl (by decide) ?_
      cases hf; exact P.zret rfl (Or.inl rfl) dX9_isSign_31
    · have hf := (if_pos y6).symm.trans hf
      refine P.iconst (v := 1) (pc' := 27) dX9_isSign_26 rfl (by decide) ?_
      refine P.goto (tgt := 31) dX9_isSign_27 (by decide) ?_
      cases hf; exact P.zret rfl (Or.inr rfl) dX9_isSign_31
abbrev mX9_await : Ym := (RX9, cX9_await, 2, none, false, [])
noncomputable def t_X9_await (F : Nat) (p1 : Int32) (τ : Tw) : Option Tw :=
  Option.bind (tsA τ 22 0 500 (τ.1 30) p1) fun τ2 =>
  nm (tsI τ2 30 ((τ2.1 30) + 1)) fun τ3 =>
  some τ3
set_option maxHeartbeats 4000000 in
theorem ok_X9_await {g : Gx} (F : Nat) (p1 : Int32) (tw : Nat) (μ : Sw) (τ : Tw) {τF : Tw} (hf : t_X9_await F p1 τ = some τF) : Cl g 1 yX9_await cX9_await 2 none [.ref tw, .int p1] (mT tw τ μ) none (mT tw τF μ) := by
  unfold t_X9_await at hf
  refine Cl.of (own := RX9) (ini := false) (by decide +kernel) rfl (by decide) (Nat.le_of_ble_eq_true rfl) ?_
  show PW g mX9_await 1 (mT tw τ μ) (mT tw τF μ) (QN g none (mT tw τ μ) (mT tw τF μ)) 0 [(0, .ref tw), (1, .int p1)] [] (mT tw τ μ)
  refine P.aload_n 0 (pc' := 1) dX9_await_0 rfl rfl rfl ?_
  refine P.get (v := .ref (tw + 22)) (pc' := 4) ci9 31 (by decide) (T_gf rfl) q1586 (Or.inl rfl) dX9_await_1 rfl ?_
  refine P.aload_n 0 (pc' := 5) dX9_await_4 rfl rfl rfl ?_
  refine P.get (v := .int (τ.1 30)) (pc' := 8) ci9 30 (by decide) (T_gf rfl) q1585 (Or.inl rfl) dX9_await_5 rfl ?_
  refine P.iload_n 1 (pc' := 9) dX9_await_8 rfl rfl rfl ?_
  obtain ⟨τ2, h1, hf⟩ := ob hf
  refine P.iast (pc' := 10) (T_sA rfl (by decide) h1) dX9_await_9 rfl ?_
  refine P.aload_n 0 (pc' := 11) dX9_await_10 rfl rfl rfl ?_
  refine P.dup (pc' := 12) dX9_await_11 rfl rfl ?_
  refine P.get (v := .int (τ2.1 30)) (pc' := 15) ci9 30 (by decide) (T_gf rfl) q1585 (Or.inl rfl) dX9_await_12 rfl ?_
  refine P.iconst (v := 1) (pc' := 16) dX9_await_15 rfl (by decide) ?_
  refine P.iadd (pc' := 17) dX9_await_16 rfl ?_
  obtain ⟨τ3, e4, hf⟩ := nm_i hf
  refine P.put (v := .int ((τ2.1 30) + 1)) (pc' := 20) ci9 30 (by decide) (T_put rfl (by decide) e4) q1585 (Or.inl rfl) rfl rfl rfl dX9_await_17 rfl ?_
  cases hf; exact P.vret rfl dX9_await_20
