set_option maxRecDepth 100000
section PWC
variable {g : Gx} {Y : Ym} {d : Nat} {μ0 μF : Sw} {Qk : List Frame → Array Value → State → State → Prop} {pc pc' tgt : Nat} {lv lv' : List (Nat × Value)} {st st' : List Value} {μ μ' μ1 : Sw}
/-! the ends -/
theorem P.iret {v : Int32} (hr : Y.2.2.2.1 = some .int) (hd : decode Y.2.1 pc = .ok (.ireturn, 1)) : PW g Y d μ0 μ (QN g (some (.int v)) μ0 μ) pc lv [.int v] μ := by
  refine ⟨⟨Nat.le_refl _, Nat.le_refl _⟩, fun h0 l p e s m args below meth c H locs ls Z hW hS hl => ?_⟩
  obtain ⟨-, hx, hb, hret, hlk, -⟩ := Z
  exact W.iret hx hb (hret.trans hr) (fun t ht hw => ⟨rfl, by rw [ht]; exact hW, hS.F ht⟩) hS.2.2 hd hlk
theorem P.zret {v : Int32} (hr : Y.2.2.2.1 = some .boolean) (hn : v = 0 ∨ v = 1) (hd : decode Y.2.1 pc = .ok (.ireturn, 1)) : PW g Y d μ0 μ (QN g (some (.int v)) μ0 μ) pc lv [.int v] μ := by
  refine ⟨⟨Nat.le_refl _, Nat.le_refl _⟩, fun h0 l p e s m args below meth c H locs ls Z hW hS hl => ?_⟩
  obtain ⟨-, hx, hb, hret, hlk, -⟩ := Z
  exact W.zret hx hb (hret.trans hr) (by rcases hn with rfl | rfl <;> rfl) (fun t ht hw => ⟨rfl, by rw [ht]; exact hW, hS.F ht⟩) hS.2.2 hd hlk
theorem P.cret {v : Int32} (hr : Y.2.2.2.1 = some .char) (hn : narrow .char (.int v) = .int v) (hd : decode Y.2.1 pc = .ok (.ireturn, 1)) : PW g Y d μ0 μ (QN g (some (.int v)) μ0 μ) pc lv [.int v] μ := by
  refine ⟨⟨Nat.le_refl _, Nat.le_refl _⟩, fun h0 l p e s m args below meth c H locs ls Z hW hS hl => ?_⟩
  obtain ⟨-, hx, hb, hret, hlk, -⟩ := Z
  exact W.zret hx hb (hret.trans hr) hn (fun t ht hw => ⟨rfl, by rw [ht]; exact hW, hS.F ht⟩) hS.2.2 hd hlk
theorem P.vret (hr : Y.2.2.2.1 = none) (hd : decode Y.2.1 pc = .ok (.return_, 1)) : PW g Y d μ0 μ (QN g none μ0 μ) pc lv [] μ := by
  refine ⟨⟨Nat.le_refl _, Nat.le_refl _⟩, fun h0 l p e s m args below meth c H locs ls Z hW hS hl => ?_⟩
  obtain ⟨-, hx, hb, hret, hlk, -⟩ := Z
  exact W.vret hx hb (hret.trans hr) (fun t ht hw => ⟨rfl, by rw [ht]; exact hW, hS.F ht⟩) hS.2.2 hd hlk
theorem P.aret {a : Nat} {rt : FieldType} (hr : Y.2.2.2.1 = some rt) (hrt : (∃ n, rt = .object n) ∨ ∃ t, rt = .array t) (hd : decode Y.2.1 pc = .ok (.areturn, 1)) : PW g Y d μ0 μ (QN g (some (.ref a)) μ0 μ) pc lv [.ref a] μ := by
  refine ⟨⟨Nat.le_refl _, Nat.le_refl _⟩, fun h0 l p e s m args below meth c H locs ls Z hW hS hl => ?_⟩
  obtain ⟨-, hx, hb, hret, hlk, -⟩ := Z
  exact W.aret hx hb (hret.trans hr) hrt (Or.inr ⟨a, rfl⟩) (fun t ht hw => ⟨rfl, by rw [ht]; exact hW, hS.F ht⟩) hS.2.2 hd hlk
/-! calls: the callee's contract, any memory -/
theorem P.run {rv : Option Value} {rest st0 : List Value} {a : Array Value} (hm : μ.2.1 ≤ μ1.2.1 ∧ μ.2.2.1 ≤ μ1.2.2.1)
    (hr : ∀ {l : Launch} {p : Program} {e : Env} {s : State} {m : MethodId} {args : Array Value} {below : List Frame} {meth : Method} {c : Code} {H : Heap} {locs : List Loc} {ls : Array Slot}, Cx g Y l p s m args meth c → Wd g μ H → va_S (gA g) s.heap H locs → lv_has ls Y.2.2.1 lv → (μ.2.1 - μ0.2.1) + (μ1.2.1 - μ.2.1) ≤ (rmD d μ0 μF).cells ∧ (μ.2.2.1 - μ0.2.2.1) + (μ1.2.2.1 - μ.2.2.1) ≤ (rmD d μ0 μF).slots → va_Run p l e (rmD d μ0 μF) s m args below meth c H locs (μ.2.1 - μ0.2.1) (μ.2.2.1 - μ0.2.2.1) (μ1.2.1 - μ.2.1) (μ1.2.2.1 - μ.2.2.1) (F0 m pc ls st0) rest (cQ g rv μ1 a) (gA g))
    (k : PW g Y d μ0 μF Qk (pc + 3) lv (rv.toList ++ rest) μ1) : PW g Y d μ0 μF Qk pc lv st0 μ := by
  obtain ⟨k1, k2⟩ := k
  refine ⟨⟨Nat.le_trans hm.1 k1.1, Nat.le_trans hm.2 k1.2⟩, fun h0 l p e s m args below meth c H locs ls Z hW hS hl => ?_⟩
  have Hr := hr (e := e) (below := below) Z hW hS hl ⟨show _ ≤ μF.2.1 - μ0.2.1 by omega, show _ ≤ μF.2.2.1 - μ0.2.2.1 by omega⟩
  intro T hT X
  obtain ⟨v, st₀, t, T', L, e0, X', hL, e1, e2, ⟨hv, hW1, hF⟩, stp⟩ := Hr T hT X
  have hv : v = rv := by injection hv
  subst hv
  have hS1 : va_S (gA g) s.heap T'.heap (locs ++ L) := by
    refine ⟨Nat.le_trans hS.1 (by rw [e1, ← e0]; exact hF.1), fun q h1 h2 => ?_, fun q hq => ?_⟩
    · rw [e1, hF.2 q (by rw [e0]; exact Nat.lt_of_lt_of_le h1 hS.1) h2, e0]
      exact hS.2.1 q h1 h2
    · rcases List.mem_append.mp hq with h | h
      · exact hS.2.2 q h
      · exact hL q h
  have k9 := k2 ⟨Nat.le_trans h0.1 hm.1, Nat.le_trans h0.2 hm.2⟩ l p e s m args below meth c T'.heap (locs ++ L) ls Z (by rw [e1]; exact hW1) hS1 hl
  have X2 : Stand p l e (rmD d μ0 μF) s m args below meth c T' (locs ++ L) (μ1.2.1 - μ0.2.1) (μ1.2.2.1 - μ0.2.2.1) := by
    rw [show μ1.2.1 - μ0.2.1 = (μ.2.1 - μ0.2.1) + (μ1.2.1 - μ.2.1) by omega, show μ1.2.2.1 - μ0.2.2.1 = (μ.2.2.1 - μ0.2.2.1) + (μ1.2.2.1 - μ.2.2.1) by omega]
    exact X'
  obtain ⟨t2, a1, b1⟩ := k9 T' rfl X2
  exact ⟨t2, stp t2 a1, b1⟩
theorem P.run5 {rv : Option Value} {rest st0 : List Value} {a : Array Value} (hm : μ.2.1 ≤ μ1.2.1 ∧ μ.2.2.1 ≤ μ1.2.2.1)
    (hr : ∀ {l : Launch} {p : Program} {e : Env} {s : State} {m : MethodId} {args : Array Value} {below : List Frame} {meth : Method} {c : Code} {H : Heap} {locs : List Loc} {ls : Array Slot}, Cx g Y l p s m args meth c → Wd g μ H → va_S (gA g) s.heap H locs → lv_has ls Y.2.2.1 lv → (μ.2.1 - μ0.2.1) + (μ1.2.1 - μ.2.1) ≤ (rmD d μ0 μF).cells ∧ (μ.2.2.1 - μ0.2.2.1) + (μ1.2.2.1 - μ.2.2.1) ≤ (rmD d μ0 μF).slots → va_Run5 p l e (rmD d μ0 μF) s m args below meth c H locs (μ.2.1 - μ0.2.1) (μ.2.2.1 - μ0.2.2.1) (μ1.2.1 - μ.2.1) (μ1.2.2.1 - μ.2.2.1) (F0 m pc ls st0) rest (cQ g rv μ1 a) (gA g))
    (k : PW g Y d μ0 μF Qk (pc + 5) lv (rv.toList ++ rest) μ1) : PW g Y d μ0 μF Qk pc lv st0 μ := by
  obtain ⟨k1, k2⟩ := k
  refine ⟨⟨Nat.le_trans hm.1 k1.1, Nat.le_trans hm.2 k1.2⟩, fun h0 l p e s m args below meth c H locs ls Z hW hS hl => ?_⟩
  have Hr := hr (e := e) (below := below) Z hW hS hl ⟨show _ ≤ μF.2.1 - μ0.2.1 by omega, show _ ≤ μF.2.2.1 - μ0.2.2.1 by omega⟩
  intro T hT X
  obtain ⟨v, st₀, t, T', L, e0, X', hL, e1, e2, ⟨hv, hW1, hF⟩, stp⟩ := Hr T hT X
  have hv : v = rv := by injection hv
  subst hv
  have hS1 : va_S (gA g) s.heap T'.heap (locs ++ L) := by
    refine ⟨Nat.le_trans hS.1 (by rw [e1, ← e0]; exact hF.1), fun q h1 h2 => ?_, fun q hq => ?_⟩
    · rw [e1, hF.2 q (by rw [e0]; exact Nat.lt_of_lt_of_le h1 hS.1) h2, e0]
      exact hS.2.1 q h1 h2
    · rcases List.mem_append.mp hq with h | h
      · exact hS.2.2 q h
      · exact hL q h
  have k9 := k2 ⟨Nat.le_trans h0.1 hm.1, Nat.le_trans h0.2 hm.2⟩ l p e s m args below meth c T'.heap (locs ++ L) ls Z (by rw [e1]; exact hW1) hS1 hl
  have X2 : Stand p l e (rmD d μ0 μF) s m args below meth c T' (locs ++ L) (μ1.2.1 - μ0.2.1) (μ1.2.2.1 - μ0.2.2.1) := by
    rw [show μ1.2.1 - μ0.2.1 = (μ.2.1 - μ0.2.1) + (μ1.2.1 - μ.2.1) by omega, show μ1.2.2.1 - μ0.2.2.1 = (μ.2.2.1 - μ0.2.2.1) + (μ1.2.2.1 - μ.2.2.1) by omega]
    exact X'
  obtain ⟨t2, a1, b1⟩ := k9 T' rfl X2
  exact ⟨t2, stp t2 a1, b1⟩
/-- what a receiver is -/
theorem Wd.recv {H : Heap} {s : State} {a ci N : Nat} {C : String} {T : u_T} {ty : Nat → FieldType} {u : Unit} (hW : Wd g μ H) (hK : gK g s) (hci : CI ci C T N ty) (hv : oc μ a ci = some u) : ∃ cellB : Cell, H[a]? = some cellB ∧ cellB.vm.isStatics = false ∧ s.vm.findClass C = some cellB.cls := by
  obtain ⟨fs, hM⟩ := oc_spec hv
  obtain ⟨⟨r, r1, cellV, g1, g2, g3, -⟩, -⟩ := hW.2.1 a _ hM
  exact ⟨cellV, g1, by rw [g3]; rfl, by rw [g2]; exact (hK.1 ci _ hci.1).2.1⟩
abbrev yOK (y : MethodName) (n : Nat) : Prop := y.cls ≠ "java/lang/invoke/MethodHandle" ∧ y.cls ≠ "java/lang/invoke/VarHandle" ∧ (parseMethodDescriptor y.desc).map (fun d => d.parameters.length) = some n
theorem P.callV {d2 ci N index nL2 : Nat} {y : MethodName} {cc2 : ByteArray} {ret2 : Option FieldType} {C : String} {T : u_T} {ty : Nat → FieldType} {a : Nat} {As rest st0 : List Value} {rv : Option Value} {u : Unit} (n : Nat) (hcl : Cl g d2 y cc2 nL2 ret2 (.ref a :: As) μ rv μ1) (hd2 : d2 + 1 ≤ d) (hw : GoodIn lw_all (wsV Y.1 index C y (ws_ y cc2 nL2 ret2))) (hC : y.cls = C) (hy : yOK y n) (hn : As.length = n) (hnl : nL2 ≤ 45) (hci : CI ci C T N ty) (hv : oc μ a ci = some u) (hst : (rest.map fun v => v.category).sum ≤ 8) (hs : st0 = As.reverse ++ .ref a :: rest) (hd : decode Y.2.1 pc = .ok (.invokevirtual index, 3)) (hp : pc + 3 = pc') (kk : PW g Y d μ0 μF Qk pc' lv (rv.toList ++ rest) μ1) : PW g Y d μ0 μF Qk pc lv st0 μ := by
  subst hp
  refine P.run (a := (Value.ref a :: As).toArray) hcl.1 (fun {l p e s m args below meth c H locs ls} Z hW hS hl hf => ?_) kk
  have Z0 := Z
  obtain ⟨hfl, hx, hb, -, -, hml, hown, hts, hK, -⟩ := Z0
  exact va_runV ⟨hx, hb, hml, hown, hts⟩ (hcl.2 l hfl) (cwV n hts hw rfl rfl rfl ⟨hC, hy⟩ ⟨show d2 + 1 ≤ d from hd2, show 8 + (nL2 + 11) + 64 * d2 ≤ 64 * d by omega⟩) ⟨cP_blind, hW.recv hK hci hv, fun U hU hw => Z.pre hW hS U hU hw⟩ rfl hn hl.1 hs (lv_room hst) hd hf
theorem P.callS {d2 index nL2 : Nat} {y : MethodName} {cc2 : ByteArray} {ret2 : Option FieldType} {As rest st0 : List Value} {rv : Option Value} (n : Nat) (hcl : Cl g d2 y cc2 nL2 ret2 As μ rv μ1) (hd2 : d2 + 1 ≤ d) (hw : GoodIn lw_all (va_wsS Y.1 index y (ws_ y cc2 nL2 ret2))) (hy : yOK y n) (hn : As.length = n) (hnl : nL2 ≤ 45) (hst : (rest.map fun v => v.category).sum ≤ 8) (hs : st0 = As.reverse ++ rest) (hd : decode Y.2.1 pc = .ok (.invokestatic index, 3)) (hp : pc + 3 = pc') (kk : PW g Y d μ0 μF Qk pc' lv (rv.toList ++ rest) μ1) : PW g Y d μ0 μF Qk pc lv st0 μ := by
  subst hp
  refine P.run (a := As.toArray) hcl.1 (fun {l p e s m args below meth c H locs ls} Z hW hS hl hf => ?_) kk
  have Z0 := Z
  obtain ⟨hfl, hx, hb, -, -, hml, hown, hts, hK, -⟩ := Z0
  exact va_runS ⟨hx, hb, hml, hown, hts⟩ (hcl.2 l hfl) (va_cwS n hts hw rfl rfl rfl hy ⟨show d2 + 1 ≤ d from hd2, show 8 + (nL2 + 11) + 64 * d2 ≤ 64 * d by omega⟩) ⟨cP_blind, fun U hU hw => Z.pre hW hS U hU hw⟩ rfl hn hl.1 hs (lv_room hst) hd hf
/-- a constructor -/
theorem P.callI {d2 index nL2 : Nat} {y : MethodName} {cc2 : ByteArray} {a : Nat} {As rest st0 : List Value} (n : Nat) (hcl : Cl g d2 y cc2 nL2 none (.ref a :: As) μ none μ1) (hd2 : d2 + 1 ≤ d) (hw : Cond.code y cc2 nL2 none ∈ lw_all) (hini : Cond.initialized y.cls ∈ lw_all) (hlk : Cond.methodLink Y.1 index y ∈ lw_all) (hin : Cond.instanceMethod y ∈ lw_all) (hy1 : y.name = "<init>") (hy : yOK y n) (hn : As.length = n) (hnl : nL2 ≤ 45) (hst : (rest.map fun v => v.category).sum ≤ 8) (hs : st0 = As.reverse ++ .ref a :: rest) (hd : decode Y.2.1 pc = .ok (.invokespecial index, 3)) (hp : pc + 3 = pc') (kk : PW g Y d μ0 μF Qk pc' lv rest μ1) : PW g Y d μ0 μF Qk pc lv st0 μ := by
  subst hp
  refine P.run (rv := none) (rest := rest) (a := (Value.ref a :: As).toArray) hcl.1 (fun {l p e s m args below meth c H locs ls} Z hW hS hl hf => ?_) kk
  have Z0 := Z
  obtain ⟨hfl, hx, hb, -, -, hml, hown, hts, hK, -⟩ := Z0
  exact va_runI ⟨hx, hb, hml, hown, hts⟩ (hcl.2 l hfl) (cwI n hts (lw_meth hw) rfl rfl rfl (hts _ hini) (hts _ hlk) (hts _ hin) hy1 hy ⟨show d2 + 1 ≤ d from hd2, show 8 + (nL2 + 11) + 64 * d2 ≤ 64 * d by omega⟩) ⟨cP_blind, fun U hU hw => Z.pre hW hS U hU hw⟩ rfl hn hl.1 hs (lv_room hst) hd hf
/-- the same for a nest mate's own members -/
theorem P.callVN {d2 ci N index nL2 : Nat} {y : MethodName} {cc2 : ByteArray} {ret2 : Option FieldType} {C host : String} {T : u_T} {ty : Nat → FieldType} {a : Nat} {As rest st0 : List Value} {rv : Option Value} {u : Unit} (n : Nat) (hcl : Cl g d2 y cc2 nL2 ret2 (.ref a :: As) μ rv μ1) (hd2 : d2 + 1 ≤ d) (hw : Cond.code y cc2 nL2 ret2 ∈ lw_all) (hini : Cond.initialized y.cls ∈ lw_all) (hlk : Cond.methodLinkNest Y.1 index y host ∈ lw_tbl) (hin : Cond.instanceMethod y ∈ lw_all) (hsel : Cond.selects C y y ∈ lw_all) (hy : yOK y n) (hn : As.length = n) (hnl : nL2 ≤ 45) (hci : CI ci C T N ty) (hv : oc μ a ci = some u) (hst : (rest.map fun v => v.category).sum ≤ 8) (hs : st0 = As.reverse ++ .ref a :: rest) (hd : decode Y.2.1 pc = .ok (.invokevirtual index, 3)) (hp : pc + 3 = pc') (kk : PW g Y d μ0 μF Qk pc' lv (rv.toList ++ rest) μ1) : PW g Y d μ0 μF Qk pc lv st0 μ := by
  subst hp
  refine P.run (a := (Value.ref a :: As).toArray) hcl.1 (fun {l p e s m args below meth c H locs ls} Z hW hS hl hf => ?_) kk
  have Z0 := Z
  obtain ⟨hfl, hx, hb, -, -, hml, hown, hts, hK, -, hN, -⟩ := Z0
  exact va_runVN ⟨hx, hb, hml, hown, hts⟩ (hcl.2 l hfl) ⟨va_cnB n hts (lw_meth hw) rfl rfl rfl (hN.1 _ hlk rfl) (hts _ hini) hy ⟨show d2 + 1 ≤ d from hd2, show 8 + (nL2 + 11) + 64 * d2 ≤ 64 * d by omega⟩, hts _ hin, hts _ hsel⟩ ⟨cP_blind, hW.recv hK hci hv, fun U hU hw => Z.pre hW hS U hU hw⟩ rfl hn hl.1 hs (lv_room hst) hd hf
theorem P.callSN {d2 index nL2 : Nat} {y : MethodName} {cc2 : ByteArray} {ret2 : Option FieldType} {host : String} {As rest st0 : List Value} {rv : Option Value} (n : Nat) (hcl : Cl g d2 y cc2 nL2 ret2 As μ rv μ1) (hd2 : d2 + 1 ≤ d) (hw : Cond.code y cc2 nL2 ret2 ∈ lw_all) (hini : Cond.initialized y.cls ∈ lw_all) (hlk : Cond.methodLinkNest Y.1 index y host ∈ lw_tbl) (hstt : Cond.static y ∈ lw_all) (hy : yOK y n) (hn : As.length = n) (hnl : nL2 ≤ 45) (hst : (rest.map fun v => v.category).sum ≤ 8) (hs : st0 = As.reverse ++ rest) (hd : decode Y.2.1 pc = .ok (.invokestatic index, 3)) (hp : pc + 3 = pc') (kk : PW g Y d μ0 μF Qk pc' lv (rv.toList ++ rest) μ1) : PW g Y d μ0 μF Qk pc lv st0 μ := by
  subst hp
  refine P.run (a := As.toArray) hcl.1 (fun {l p e s m args below meth c H locs ls} Z hW hS hl hf => ?_) kk
  have Z0 := Z
  obtain ⟨hfl, hx, hb, -, -, hml, hown, hts, hK, -, hN, -⟩ := Z0
  exact va_runSN ⟨hx, hb, hml, hown, hts⟩ (hcl.2 l hfl) ⟨va_cnB n hts (lw_meth hw) rfl rfl rfl (hN.1 _ hlk rfl) (hts _ hini) hy ⟨show d2 + 1 ≤ d from hd2, show 8 + (nL2 + 11) + 64 * d2 ≤ 64 * d by omega⟩, hts _ hstt, trivial⟩ ⟨cP_blind, fun U hU hw => Z.pre hW hS U hU hw⟩ rfl hn hl.1 hs (lv_room hst) hd hf
theorem P.callIN {d2 index nL2 : Nat} {y : MethodName} {cc2 : ByteArray} {host : String} {a : Nat} {As rest st0 : List Value} (n : Nat) (hcl : Cl g d2 y cc2 nL2 none (.ref a :: As) μ none μ1) (hd2 : d2 + 1 ≤ d) (hw : Cond.code y cc2 nL2 none ∈ lw_all) (hini : Cond.initialized y.cls ∈ lw_all) (hlk : Cond.methodLinkNest Y.1 index y host ∈ lw_tbl) (hin : Cond.instanceMethod y ∈ lw_all) (hy1 : y.name = "<init>") (hy : yOK y n) (hn : As.length = n) (hnl : nL2 ≤ 45) (hst : (rest.map fun v => v.category).sum ≤ 8) (hs : st0 = As.reverse ++ .ref a :: rest) (hd : decode Y.2.1 pc = .ok (.invokespecial index, 3)) (hp : pc + 3 = pc') (kk : PW g Y d μ0 μF Qk pc' lv rest μ1) : PW g Y d μ0 μF Qk pc lv st0 μ := by
  subst hp
  refine P.run (rv := none) (rest := rest) (a := (Value.ref a :: As).toArray) hcl.1 (fun {l p e s m args below meth c H locs ls} Z hW hS hl hf => ?_) kk
  have Z0 := Z
  obtain ⟨hfl, hx, hb, -, -, hml, hown, hts, hK, -, hN, -⟩ := Z0
  exact va_runIN ⟨hx, hb, hml, hown, hts⟩ (hcl.2 l hfl) ⟨va_cnB n hts (lw_meth hw) rfl rfl rfl (hN.1 _ hlk rfl) (hts _ hini) hy ⟨show d2 + 1 ≤ d from hd2, show 8 + (nL2 + 11) + 64 * d2 ≤ 64 * d by omega⟩, hy1, hts _ hin⟩ ⟨cP_blind, fun U hU hw => Z.pre hW hS U hU hw⟩ rfl hn hl.1 hs (lv_room hst) hd hf
/-- through an interface, the receiver's own kind known -/
theorem P.callF {d2 ci N index count nL2 : Nat} {x y : MethodName} {cc2 : ByteArray} {ret2 : Option FieldType} {C : String} {T : u_T} {ty : Nat → FieldType} {a : Nat} {As rest st0 : List Value} {rv : Option Value} {u : Unit} (n : Nat) (hcl : Cl g d2 y cc2 nL2 ret2 (.ref a :: As) μ rv μ1) (hd2 : d2 + 1 ≤ d) (hw : GoodIn lw_all (va_wsF Y.1 index C x y (ws_ y cc2 nL2 ret2))) (hfw : (C, x, y) ∈ fwL) (hy : yOK x n) (hn : As.length = n) (hnl : nL2 ≤ 45) (hci : CI ci C T N ty) (hv : oc μ a ci = some u) (hst : (rest.map fun v => v.category).sum ≤ 8) (hs : st0 = As.reverse ++ .ref a :: rest) (hd : decode Y.2.1 pc = .ok (.invokeinterface index count, 5)) (hp : pc + 5 = pc') (kk : PW g Y d μ0 μF Qk pc' lv (rv.toList ++ rest) μ1) : PW g Y d μ0 μF Qk pc lv st0 μ := by
  subst hp
  refine P.run5 (a := (Value.ref a :: As).toArray) hcl.1 (fun {l p e s m args below meth c H locs ls} Z hW hS hl hf => ?_) kk
  have Z0 := Z
  obtain ⟨hfl, hx, hb, -, -, hml, hown, hts, hK, -, hN, -⟩ := Z0
  exact va_runF (hK.1 ci _ hci.1).2 ⟨hx, hb, hml, hown, hts⟩ (hcl.2 l hfl) (va_cwF n hts hw rfl rfl rfl (hN.2.1 _ hfw) hy ⟨show d2 + 1 ≤ d from hd2, show 8 + (nL2 + 11) + 64 * d2 ≤ 64 * d by omega⟩) ⟨cP_blind, hW.recv hK hci hv, fun U hU hw => Z.pre hW hS U hU hw⟩ rfl hn hl.1 hs (lv_room hst) hd hf
end PWC
