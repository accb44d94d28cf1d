set_option maxRecDepth 100000
/-! contracts of what may throw a Fault: it answers, or throws the Fault at q -/
def cQx (g : Gx) (res : Option Value ⊕ Nat) (μ : Sw) : Array Value → State → Outcome → State → Prop := fun _ st oc t => ∃ rv, res = .inl rv ∧ oc = .returned rv ∧ Wd g μ t.heap ∧ va_F (gA g) st t
def cXx (g : Gx) (res : Option Value ⊕ Nat) (μ : Sw) : String → Addr → State → State → Prop := fun E q st t => res = .inr q ∧ E = RX10 ∧ Wd g μ t.heap ∧ va_F (gA g) st t
def ClX (g : Gx) (d : Nat) (y : MethodName) (cc : ByteArray) (nL : Nat) (ret : Option FieldType) (As : List Value) (μ : Sw) (res : Option Value ⊕ Nat) (μ' : Sw) : Prop :=
  (μ.2.1 ≤ μ'.2.1 ∧ μ.2.2.1 ≤ μ'.2.2.1) ∧ ∀ l : Launch, l.flags = flags0 → wx_Met l y (ws_ y cc nL ret) (rmD d μ μ') (cP g As μ) (cQx g res μ') (cXx g res μ') (μ'.2.1 - μ.2.1) (μ'.2.2.1 - μ.2.2.1) (gA g)
def QX (g : Gx) (res : Option Value ⊕ Nat) (μ0 μF : Sw) : List Frame → Array Value → State → State → Prop := fun below args s => wx_MQ below (cQx g res μF) (cXx g res μF) args s (μF.2.1 - μ0.2.1) (μF.2.2.1 - μ0.2.2.1) (gA g)
theorem ClX.of {g : Gx} {d : Nat} {y : MethodName} {cc : ByteArray} {nL : Nat} {ret : Option FieldType} {As : List Value} {μ μF : Sw} {res : Option Value ⊕ Nat} {own : String} {ini : Bool} (hp : plainName y.cls = true) (hy : y.cls = own) (hi : ini = true → y.name = "<init>") (hl : (lg_sl As).length ≤ nL)
    (h : PW g (own, cc, nL, ret, ini, []) d μ μF (QX g res μ μF) 0 (lv_args 0 As) [] μ) : ClX g d y cc nL ret As μ res μF := by
  refine ⟨h.1, fun l hfl => ?_⟩
  refine wx_ofW (cc := cc) (maxL := nL) (ret := ret) hp rfl ?_
  intro p e s m args below meth c s₁ B hml htb hv
  obtain ⟨rfl, hW, hK, hZ, hN, hb⟩ := hv
  have hts := atoms_spec (ws := ws_ y cc nL ret) B.pre
  have hts : ∀ w ∈ lw_all, w.before _ s = true := fun w h => hts w (List.mem_cons_of_mem _ h)
  have hown : s.vm.findClass own = some m.cls := by rw [← hy]; exact findClass_of_methodNamed B.named
  have hin : ini = true → meth.name = "<init>" := fun h => by rw [(name_of_methodNamed B.named B.method).1]; exact hi h
  have ht : c.exceptionTable.toList = tableOf [] := by
    cases h : c.exceptionTable.toList with
    | nil => rfl
    | cons x r => exact (htb x (by rw [h]; exact List.mem_cons_self)).elim
  have k := h.2 ⟨Nat.le_refl _, Nat.le_refl _⟩ l p e s m As.toArray below meth c s.heap [] _ ⟨hfl, B.exec, B.bytes, B.returns, B.notSynchronized, hml, hown, hts, hK, hZ, hN, hb, hin, fun _ => ht⟩ hW va_S.rf (lv_entry As (n := nL) hl)
  rw [lg_entry_eq]
  refine W.cs (cells' := μ.2.1 - μ.2.1) (slots' := μ.2.2.1 - μ.2.2.1) (Nat.sub_self _).symm (Nat.sub_self _).symm k
section PWX
variable {g : Gx} {Y : Ym} {d : Nat} {μ0 μF : Sw} {Qk : List Frame → Array Value → State → State → Prop} {pc pc' tgt : Nat} {lv lv' : List (Nat × Value)} {st st' : List Value} {μ μ' μ1 : Sw}
theorem P.iretX {v : Int32} (hr : Y.2.2.2.1 = some .int) (hd : decode Y.2.1 pc = .ok (.ireturn, 1)) : PW g Y d μ0 μ (QX g (.inl (some (.int v))) μ0 μ) pc lv [.int v] μ := by
  refine ⟨⟨Nat.le_refl _, Nat.le_refl _⟩, fun h0 l p e s m args below meth c H locs ls Z hW hS hl => ?_⟩
  obtain ⟨-, hx, hb, hret, hlk, -⟩ := Z
  exact wx_ret (W.iret hx hb (hret.trans hr) (fun t ht hw => ⟨_, rfl, rfl, by rw [ht]; exact hW, hS.F ht⟩) hS.2.2 hd hlk)
theorem P.vretX (hr : Y.2.2.2.1 = none) (hd : decode Y.2.1 pc = .ok (.return_, 1)) : PW g Y d μ0 μ (QX g (.inl none) μ0 μ) pc lv [] μ := by
  refine ⟨⟨Nat.le_refl _, Nat.le_refl _⟩, fun h0 l p e s m args below meth c H locs ls Z hW hS hl => ?_⟩
  obtain ⟨-, hx, hb, hret, hlk, -⟩ := Z
  exact wx_ret (W.vret hx hb (hret.trans hr) (fun t ht hw => ⟨_, rfl, rfl, by rw [ht]; exact hW, hS.F ht⟩) hS.2.2 hd hlk)
theorem P.aretX {a : Nat} {rt : FieldType} (hr : Y.2.2.2.1 = some rt) (hrt : (∃ n, rt = .object n) ∨ ∃ t, rt = .array t) (hd : decode Y.2.1 pc = .ok (.areturn, 1)) : PW g Y d μ0 μ (QX g (.inl (some (.ref a))) μ0 μ) pc lv [.ref a] μ := by
  refine ⟨⟨Nat.le_refl _, Nat.le_refl _⟩, fun h0 l p e s m args below meth c H locs ls Z hW hS hl => ?_⟩
  obtain ⟨-, hx, hb, hret, hlk, -⟩ := Z
  exact wx_ret (W.aret hx hb (hret.trans hr) hrt (Or.inr ⟨a, rfl⟩) (fun t ht hw => ⟨_, rfl, rfl, by rw [ht]; exact hW, hS.F ht⟩) hS.2.2 hd hlk)
/-- a Fault that nobody here catches: out of the method -/
theorem wx_out9 {l : Launch} {p : Program} {e : Env} {s : State} {m : MethodId} {args : Array Value} {below : List Frame} {meth : Method} {c : Code} {H : Heap} {locs : List Loc} {ls : Array Slot} {q : Nat} {u : Unit} (Z : Cx g Y l p s m args meth c) (hh : Y.2.2.2.2.2 = []) (hW : Wd g μ H) (hS : va_S (gA g) s.heap H locs) (hq : oc μ q 10 = some u) :
    wx_W p l e (rmD d μ0 μ) s m args below meth c H locs (μ.2.1 - μ0.2.1) (μ.2.2.1 - μ0.2.2.1) (QX g (.inr q) μ0 μ below args s) (F0 m pc ls st) q := by
  obtain ⟨-, hx, hb, hret, hlk, -, -, -, hK, -, -, -, -, htb⟩ := Z
  obtain ⟨fs, hM⟩ := oc_spec hq
  obtain ⟨⟨r, r1, cellV, g1, g2, g3, -⟩, -⟩ := hW.2.1 q _ hM
  have hat := (hK.1 10 _ ci10.1).2
  refine wx_out (E := RX10) (ce := cellV) (fun x hx => ?_) hlk g1 g3 (by rw [g2]; exact hat.1) (fun t ht hv => ⟨rfl, rfl, by rw [ht]; exact hW, hS.F ht⟩) hS.2.2 (Nat.le_refl _) (Nat.le_refl _)
  rw [htb (by rw [hh]; decide), hh] at hx
  cases hx
theorem P.athrow {q : Nat} {u : Unit} (hh : Y.2.2.2.2.2 = []) (hq : oc μ q 10 = some u) (hd : decode Y.2.1 pc = .ok (.athrow, 1)) : PW g Y d μ0 μ (QX g (.inr q) μ0 μ) pc lv (.ref q :: st) μ := by
  refine ⟨⟨Nat.le_refl _, Nat.le_refl _⟩, fun h0 l p e s m args below meth c H locs ls Z hW hS hl => ?_⟩
  exact wx_athrow Z.2.1 Z.2.2.1 hd (wx_out9 Z hh hW hS hq)
/-- a call that may throw: where it answers, and where it throws -/
theorem P.runX {rest st0 : List Value} {a : Array Value} {res : Option Value ⊕ Nat} (hm : μ.2.1 ≤ μ1.2.1 ∧ μ.2.2.1 ≤ μ1.2.2.1) (hmF : μ1.2.1 ≤ μF.2.1 ∧ μ1.2.2.1 ≤ μF.2.2.1)
    (hr : ∀ {l : Launch} {p : Program} {e : Env} {s : State} {m : MethodId} {args : Array Value} {below : List Frame} {meth : Method} {c : Code} {H : Heap} {locs : List Loc} {ls : Array Slot}, Cx g Y l p s m args meth c → Wd g μ H → va_S (gA g) s.heap H locs → lv_has ls Y.2.2.1 lv → (μ.2.1 - μ0.2.1) + (μ1.2.1 - μ.2.1) ≤ (rmD d μ0 μF).cells ∧ (μ.2.2.1 - μ0.2.2.1) + (μ1.2.2.1 - μ.2.2.1) ≤ (rmD d μ0 μF).slots → wx_Run p l e (rmD d μ0 μF) s m args below meth c H locs (μ.2.1 - μ0.2.1) (μ.2.2.1 - μ0.2.2.1) (μ1.2.1 - μ.2.1) (μ1.2.2.1 - μ.2.2.1) (F0 m pc ls st0) rest (cQx g res μ1 a) (cXx g res μ1) (gA g))
    (k : ∀ rv, res = .inl rv → PW g Y d μ0 μF Qk (pc + 3) lv (rv.toList ++ rest) μ1)
    (kx : ∀ q, res = .inr q → (μ0.2.1 ≤ μ1.2.1 ∧ μ0.2.2.1 ≤ μ1.2.2.1) → ∀ (l : Launch) (p : Program) (e : Env) (s : State) (m : MethodId) (args : Array Value) (below : List Frame) (meth : Method) (c : Code) (H : Heap) (locs : List Loc) (ls : Array Slot) (ce : Cell), Cx g Y l p s m args meth c → Wd g μ1 H → va_S (gA g) s.heap H locs → lv_has ls Y.2.2.1 lv → H[q]? = some ce → ce.vm = .none → s.vm.findClass RX10 = some ce.cls → wx_W p l e (rmD d μ0 μF) s m args below meth c H locs (μ1.2.1 - μ0.2.1) (μ1.2.2.1 - μ0.2.2.1) (Qk below args s) (F0 m pc ls rest) q) : PW g Y d μ0 μF Qk pc lv st0 μ := by
  refine ⟨⟨Nat.le_trans hm.1 hmF.1, Nat.le_trans hm.2 hmF.2⟩, fun h0 l p e s m args below meth c H locs ls Z hW hS hl => ?_⟩
  have Hr := hr (e := e) (below := below) Z hW hS hl ⟨show _ ≤ μF.2.1 - μ0.2.1 by omega, show _ ≤ μF.2.2.1 - μ0.2.2.1 by omega⟩
  have h01 : μ0.2.1 ≤ μ1.2.1 ∧ μ0.2.2.1 ≤ μ1.2.2.1 := ⟨Nat.le_trans h0.1 hm.1, Nat.le_trans h0.2 hm.2⟩
  intro T hT X
  have HS : ∀ (st₀ t T' : State) (L : List Loc), st₀.heap = H → T'.heap = t.heap → (∀ q ∈ L, gA g q.base) → va_F (gA g) st₀ t → va_S (gA g) s.heap T'.heap (locs ++ L) := fun st₀ t T' L e0 e1 hL hF => by
    refine ⟨Nat.le_trans hS.1 (by rw [e1, ← e0]; exact hF.1), fun q h1 h2 => ?_, fun q hq => ?_⟩
    · rw [e1, hF.2 q (by rw [e0]; exact Nat.lt_of_lt_of_le h1 hS.1) h2, e0]
      exact hS.2.1 q h1 h2
    · rcases List.mem_append.mp hq with h | h
      · exact hS.2.2 q h
      · exact hL q h
  have hc1 : μ1.2.1 - μ0.2.1 = (μ.2.1 - μ0.2.1) + (μ1.2.1 - μ.2.1) := by omega
  have hc2 : μ1.2.2.1 - μ0.2.2.1 = (μ.2.2.1 - μ0.2.2.1) + (μ1.2.2.1 - μ.2.2.1) := by omega
  rcases Hr T hT X with ⟨v, st₀, t, T', L, e0, X', hL, e1, e2, ⟨rv, hres, hv, hW1, hF⟩, stp⟩ | ⟨q, st₀, t, T', L, E, ce, e0, X', hL, e1, e2, ⟨hres, hE, hW1, hF⟩, hce, hcv, hcl, stp⟩
  · have hv : v = rv := by injection hv
    subst hv
    have k9 := (k v hres).2 h01 l p e s m args below meth c T'.heap (locs ++ L) ls Z (by rw [e1]; exact hW1) (HS st₀ t T' L e0 e1 hL hF) hl
    rw [hc1, hc2] at k9
    obtain ⟨t2, a1, b1⟩ := k9 T' rfl X'
    exact ⟨t2, stp t2 a1, b1⟩
  · subst hE
    have k9 := kx q hres h01 l p e s m args below meth c T'.heap (locs ++ L) ls ce Z (by rw [e1]; exact hW1) (HS st₀ t T' L e0 e1 hL hF) hl (by rw [e1]; exact hce) hcv hcl
    rw [hc1, hc2] at k9
    obtain ⟨t2, a1, b1⟩ := k9 T' rfl X'
    exact ⟨t2, stp.trans a1, b1⟩
theorem P.callVX {d2 ci N index nL2 : Nat} {y : MethodName} {cc2 : ByteArray} {ret2 : Option FieldType} {C : String} {T : u_T} {ty : Nat → FieldType} {a : Nat} {As rest st0 : List Value} {rv : Option Value} {u : Unit} (n : Nat) (hcl : ClX g d2 y cc2 nL2 ret2 (.ref a :: As) μ (.inl rv) μ1) (hd2 : d2 + 1 ≤ d) (hw : GoodIn lw_all (wsV Y.1 index C y (ws_ y cc2 nL2 ret2))) (hC : y.cls = C) (hy : yOK y n) (hn : As.length = n) (hnl : nL2 ≤ 45) (hci : CI ci C T N ty) (hv : oc μ a ci = some u) (hst : (rest.map fun v => v.category).sum ≤ 8) (hs : st0 = As.reverse ++ .ref a :: rest) (hd : decode Y.2.1 pc = .ok (.invokevirtual index, 3)) (hp : pc + 3 = pc') (kk : PW g Y d μ0 μF Qk pc' lv (rv.toList ++ rest) μ1) : PW g Y d μ0 μF Qk pc lv st0 μ := by
  subst hp
  refine P.runX (res := .inl rv) (rest := rest) (μ1 := μ1) (a := (Value.ref a :: As).toArray) hcl.1 kk.1 (fun {l p e s m args below meth c H locs ls} Z hW hS hl hf => ?_) (fun rv' h => by injection h with h; subst h; exact kk) (fun q h => by cases h)
  have Z0 := Z
  obtain ⟨hfl, hx, hb, -, -, hml, hown, hts, hK, -⟩ := Z0
  exact wx_runV ⟨hx, hb, hml, hown, hts⟩ (hcl.2 l hfl) (cwV n hts hw rfl rfl rfl ⟨hC, hy⟩ ⟨show d2 + 1 ≤ d from hd2, show 8 + (nL2 + 11) + 64 * d2 ≤ 64 * d by omega⟩) ⟨cP_blind, hW.recv hK hci hv, fun U hU hw => Z.pre hW hS U hU hw⟩ rfl hn hl.1 hs (lv_room hst) hd hf
/-- it throws, and so do we -/
theorem P.callVXt {d2 ci N index nL2 : Nat} {y : MethodName} {cc2 : ByteArray} {ret2 : Option FieldType} {C : String} {T : u_T} {ty : Nat → FieldType} {a q : Nat} {As rest st0 : List Value} {u : Unit} (n : Nat) (hcl : ClX g d2 y cc2 nL2 ret2 (.ref a :: As) μ (.inr q) μ1) (hh : Y.2.2.2.2.2 = []) (hd2 : d2 + 1 ≤ d) (hw : GoodIn lw_all (wsV Y.1 index C y (ws_ y cc2 nL2 ret2))) (hC : y.cls = C) (hy : yOK y n) (hn : As.length = n) (hnl : nL2 ≤ 45) (hci : CI ci C T N ty) (hv : oc μ a ci = some u) (hst : (rest.map fun v => v.category).sum ≤ 8) (hs : st0 = As.reverse ++ .ref a :: rest) (hd : decode Y.2.1 pc = .ok (.invokevirtual index, 3)) : PW g Y d μ0 μ1 (QX g (.inr q) μ0 μ1) pc lv st0 μ := by
  refine P.runX (res := .inr q) (rest := rest) (μ1 := μ1) (a := (Value.ref a :: As).toArray) hcl.1 ⟨Nat.le_refl _, Nat.le_refl _⟩ (fun {l p e s m args below meth c H locs ls} Z hW hS hl hf => ?_) (fun rv' h => by cases h) (fun q' h h01 l p e s m args below meth c H locs ls ce Z hW hS hl hce hcv hcl9 => ?_)
  · have Z0 := Z
    obtain ⟨hfl, hx, hb, -, -, hml, hown, hts, hK, -⟩ := Z0
    exact wx_runV ⟨hx, hb, hml, hown, hts⟩ (hcl.2 l hfl) (cwV n hts hw rfl rfl rfl ⟨hC, hy⟩ ⟨show d2 + 1 ≤ d from hd2, show 8 + (nL2 + 11) + 64 * d2 ≤ 64 * d by omega⟩) ⟨cP_blind, hW.recv hK hci hv, fun U hU hw => Z.pre hW hS U hU hw⟩ rfl hn hl.1 hs (lv_room hst) hd hf
  · cases h
    have Z0 := Z
    obtain ⟨-, hx, hb, hret, hlk, -, -, -, hK, -, -, -, -, htb⟩ := Z0
    refine wx_out (E := RX10) (ce := ce) (fun x hx => ?_) hlk hce hcv hcl9 (fun t ht hv => ⟨rfl, rfl, by rw [ht]; exact hW, hS.F ht⟩) hS.2.2 (Nat.le_refl _) (Nat.le_refl _)
    rw [htb (by rw [hh]; decide), hh] at hx
    cases hx
/-- it throws, and it's caught here: the only handler, over this place -/
theorem P.callVXc {d2 ci N index nL2 s9 e9 h9 t9 : Nat} {y : MethodName} {cc2 : ByteArray} {ret2 : Option FieldType} {C : String} {T : u_T} {ty : Nat → FieldType} {a q : Nat} {As rest st0 : List Value} {u : Unit} (n : Nat) (hcl : ClX g d2 y cc2 nL2 ret2 (.ref a :: As) μ (.inr q) μ1) (hh : Y.2.2.2.2.2 = [(s9, e9, h9, t9)]) (hcov : covers ⟨s9, e9, h9, t9⟩ pc = true) (ht9 : t9 ≠ 0) (hlk : Cond.classLink Y.1 t9 RX10 ∈ lw_all) (hd2 : d2 + 1 ≤ d) (hw : GoodIn lw_all (wsV Y.1 index C y (ws_ y cc2 nL2 ret2))) (hC : y.cls = C) (hy : yOK y n) (hn : As.length = n) (hnl : nL2 ≤ 45) (hci : CI ci C T N ty) (hv : oc μ a ci = some u) (hst : (rest.map fun v => v.category).sum ≤ 8) (hs : st0 = As.reverse ++ .ref a :: rest) (hd : decode Y.2.1 pc = .ok (.invokevirtual index, 3)) (kk : PW g Y d μ0 μF Qk h9 lv [.ref q] μ1) : PW g Y d μ0 μF Qk pc lv st0 μ := by
  refine P.runX (res := .inr q) (rest := rest) (μ1 := μ1) (a := (Value.ref a :: As).toArray) hcl.1 kk.1 (fun {l p e s m args below meth c H locs ls} Z hW hS hl hf => ?_) (fun rv' h => by cases h) (fun q' h h01 l p e s m args below meth c H locs ls ce Z hW hS hl hce hcv hcl9 => ?_)
  · have Z0 := Z
    obtain ⟨hfl, hx, hb, -, -, hml, hown, hts, hK, -⟩ := Z0
    exact wx_runV ⟨hx, hb, hml, hown, hts⟩ (hcl.2 l hfl) (cwV n hts hw rfl rfl rfl ⟨hC, hy⟩ ⟨show d2 + 1 ≤ d from hd2, show 8 + (nL2 + 11) + 64 * d2 ≤ 64 * d by omega⟩) ⟨cP_blind, hW.recv hK hci hv, fun U hU hw => Z.pre hW hS U hU hw⟩ rfl hn hl.1 hs (lv_room hst) hd hf
  · cases h
    have k9 := kk.2 h01 l p e s m args below meth c H locs ls Z hW hS hl
    obtain ⟨-, hx, hb, hret, hlk9, -, hown, hts, hK, -, hN, -, -, htb⟩ := Z
    exact wx_catch (E := RX10) (name := RX10) hown [] ⟨s9, e9, h9, t9⟩ [] (by rw [htb (by rw [hh]; intro z; simp only [List.cons.injEq, Prod.mk.injEq] at z; exact ht9 z.1.2.2.2), hh]; rfl) (fun z hz => by cases hz) hcov ht9 (hts _ hlk) (va_Nw.use rfl (hN.1 _ q682 rfl)) hce hcv hcl9 k9
/-- the two ways of an answer -/
def thr {R R2 : Type} (r : R ⊕ Nat) (μ : Sw) (f : R → Option ((R2 ⊕ Nat) × Sw)) : Option ((R2 ⊕ Nat) × Sw) := match r with
  | .inl v => f v
  | .inr e => some (.inr e, μ)
theorem thr_l {R R2 : Type} {v : R} {μ : Sw} {f : R → Option ((R2 ⊕ Nat) × Sw)} {z : (R2 ⊕ Nat) × Sw} (h : thr (.inl v) μ f = some z) : f v = some z := h
theorem thr_r {R R2 : Type} {e : Nat} {μ : Sw} {f : R → Option ((R2 ⊕ Nat) × Sw)} {z : (R2 ⊕ Nat) × Sw} (h : thr (.inr e) μ f = some z) : (some (.inr e, μ) : Option ((R2 ⊕ Nat) × Sw)) = some z := h
def slt {R α : Type} (r : R ⊕ Nat) (f : R → α) (h : Nat → α) : α := match r with
  | .inl v => f v
  | .inr e => h e
theorem slt_l {R α : Type} {v : R} {f : R → α} {h : Nat → α} {z : α} (e : slt (.inl v) f h = z) : f v = z := e
theorem slt_r {R α : Type} {v : Nat} {f : R → α} {h : Nat → α} {z : α} (e : slt (.inr v) f h = z) : h v = z := e
def rvI (r : Int32 ⊕ Nat) : Option Value ⊕ Nat := match r with
  | .inl v => .inl (some (.int v))
  | .inr q => .inr q
def rvA (r : Nat ⊕ Nat) : Option Value ⊕ Nat := match r with
  | .inl v => .inl (some (.ref v))
  | .inr q => .inr q
def rvU (r : Unit ⊕ Nat) : Option Value ⊕ Nat := match r with
  | .inl _ => .inl none
  | .inr q => .inr q
end PWX
