set_option maxRecDepth 100000
/-! calls through the two interfaces, by the receiver's own kind; copies; casts -/
theorem lw_F {own : String} {idx : Nat} {C : String} {x y : MethodName} {b : ByteArray} {L : Nat} {r : Option FieldType} (h1 : Cond.methodLink own idx x ∈ lw_all) (h2 : Cond.selects C x y ∈ lw_all) (h3 : Cond.instanceMethod y ∈ lw_all) (h4 : Cond.initialized y.cls ∈ lw_all) (h5 : Cond.code y b L r ∈ lw_all) : GoodIn lw_all (va_wsF own idx C x y (ws_ y b L r)) := by
  refine lw_app ?_ (lw_meth h5)
  intro w hw
  simp only [List.mem_cons, List.not_mem_nil, or_false] at hw
  rcases hw with e | e | e | e
  · rw [e]; exact h1
  · rw [e]; exact h2
  · rw [e]; exact h3
  · rw [e]; exact h4
theorem zs0 (g : Gx) : ("java/util/ArrayList", "DEFAULTCAPACITY_EMPTY_ELEMENTDATA", "[Ljava/lang/Object;", Value.ref (g.2.2.2.2 0)) ∈ zsL g := List.mem_cons_self
theorem zs1 (g : Gx) : ("StiltTown$Scanner", "WORDS", "[Ljava/lang/String;", Value.ref (g.2.2.2.2 1)) ∈ zsL g := List.mem_cons_of_mem _ List.mem_cons_self
abbrev yTerm : MethodName := ⟨"StiltTown$Term", "value", "(LStiltTown$View;)I"⟩
abbrev yTest : MethodName := ⟨"StiltTown$Test", "holds", "(LStiltTown$View;)Z"⟩
abbrev yColl : MethodName := ⟨"java/util/Collection", "toArray", "()[Ljava/lang/Object;"⟩
theorem yok_term : yOK yTerm 1 := ⟨by decide +kernel, by decide +kernel, by decide +kernel⟩
theorem yok_test : yOK yTest 1 := ⟨by decide +kernel, by decide +kernel, by decide +kernel⟩
theorem yok_coll : yOK yColl 0 := ⟨by decide +kernel, by decide +kernel, by decide +kernel⟩
/-- the contract of what answers at t -/
def TmOK (g : Gx) (D t v : Nat) (μ : Sw) (r : Int32) (μ1 : Sw) : Prop := (oc μ t 4 = some () ∧ Cl g D yX4_value cX4_value 2 (some Jvm.ClassFile.FieldType.int) [.ref t, .ref v] μ (some (.int r)) μ1) ∨ (oc μ t 5 = some () ∧ Cl g D yX5_value cX5_value 2 (some Jvm.ClassFile.FieldType.int) [.ref t, .ref v] μ (some (.int r)) μ1) ∨ (oc μ t 14 = some () ∧ Cl g D yX14_value cX14_value 4 (some Jvm.ClassFile.FieldType.int) [.ref t, .ref v] μ (some (.int r)) μ1)
/-- the contract of what answers at t -/
def TsOK (g : Gx) (D t v : Nat) (μ : Sw) (r : Int32) (μ1 : Sw) : Prop := (oc μ t 15 = some () ∧ Cl g D yX15_holds cX15_holds 4 (some Jvm.ClassFile.FieldType.boolean) [.ref t, .ref v] μ (some (.int r)) μ1) ∨ (oc μ t 16 = some () ∧ Cl g D yX16_holds cX16_holds 2 (some Jvm.ClassFile.FieldType.boolean) [.ref t, .ref v] μ (some (.int r)) μ1) ∨ (oc μ t 17 = some () ∧ Cl g D yX17_holds cX17_holds 4 (some Jvm.ClassFile.FieldType.boolean) [.ref t, .ref v] μ (some (.int r)) μ1)
section PWF
variable {g : Gx} {Y : Ym} {d : Nat} {μ0 μF : Sw} {Qk : List Frame → Array Value → State → State → Prop} {pc pc' tgt : Nat} {lv lv' : List (Nat × Value)} {st st' : List Value} {μ μ' μ1 : Sw}
theorem P.callTerm {D t v index count : Nat} {r : Int32} (h : TmOK g D t v μ r μ1) (hd2 : D + 1 ≤ d) (hlk : Cond.methodLink Y.1 index yTerm ∈ lw_all) (hst : (st.map fun v => v.category).sum ≤ 8) (hd : decode Y.2.1 pc = .ok (.invokeinterface index count, 5)) (hp : pc + 5 = pc') (kk : PW g Y d μ0 μF Qk pc' lv (.int r :: st) μ1) : PW g Y d μ0 μF Qk pc lv (.ref v :: .ref t :: st) μ := by
  rcases h with ⟨h1, h2⟩ | ⟨h1, h2⟩ | ⟨h1, h2⟩
  · exact P.callF (As := [.ref v]) (x := yTerm) 1 h2 hd2 (lw_F hlk q1078 q1080 q167 q1082) (by decide) yok_term rfl (Nat.le_of_ble_eq_true rfl) ci4 h1 hst rfl hd hp kk
  · exact P.callF (As := [.ref v]) (x := yTerm) 1 h2 hd2 (lw_F hlk q1072 q1074 q168 q1076) (by decide) yok_term rfl (Nat.le_of_ble_eq_true rfl) ci5 h1 hst rfl hd hp kk
  · exact P.callF (As := [.ref v]) (x := yTerm) 1 h2 hd2 (lw_F hlk q1064 q1066 q188 q1068) (by decide) yok_term rfl (Nat.le_of_ble_eq_true rfl) ci14 h1 hst rfl hd hp kk
theorem P.callTest {D t v index count : Nat} {r : Int32} (h : TsOK g D t v μ r μ1) (hd2 : D + 1 ≤ d) (hlk : Cond.methodLink Y.1 index yTest ∈ lw_all) (hst : (st.map fun v => v.category).sum ≤ 8) (hd : decode Y.2.1 pc = .ok (.invokeinterface index count, 5)) (hp : pc + 5 = pc') (kk : PW g Y d μ0 μF Qk pc' lv (.int r :: st) μ1) : PW g Y d μ0 μF Qk pc lv (.ref v :: .ref t :: st) μ := by
  rcases h with ⟨h1, h2⟩ | ⟨h1, h2⟩ | ⟨h1, h2⟩
  · exact P.callF (As := [.ref v]) (x := yTest) 1 h2 hd2 (lw_F hlk q1208 q1210 q189 q1212) (by decide) yok_test rfl (Nat.le_of_ble_eq_true rfl) ci15 h1 hst rfl hd hp kk
  · exact P.callF (As := [.ref v]) (x := yTest) 1 h2 hd2 (lw_F hlk q1227 q1229 q190 q1231) (by decide) yok_test rfl (Nat.le_of_ble_eq_true rfl) ci16 h1 hst rfl hd hp kk
  · exact P.callF (As := [.ref v]) (x := yTest) 1 h2 hd2 (lw_F hlk q1216 q1218 q191 q1220) (by decide) yok_test rfl (Nat.le_of_ble_eq_true rfl) ci17 h1 hst rfl hd hp kk
def oTest (μ : Sw) (a : Nat) : Option Unit := if oc μ a 15 = some () ∨ oc μ a 16 = some () ∨ oc μ a 17 = some () then some () else none
theorem oTest_spec {μ : Sw} {a : Nat} {u : Unit} (h : oTest μ a = some u) : oc μ a 15 = some () ∨ oc μ a 16 = some () ∨ oc μ a 17 = some () := by
  unfold oTest at h
  split at h
  · next h0 => exact h0
  · cases h
theorem P.castTest {index a : Nat} {u : Unit} (hlink : Cond.classLink Y.1 index "StiltTown$Test" ∈ lw_all) (hv : oTest μ a = some u) (hd : decode Y.2.1 pc = .ok (.checkcast index, 3)) (hp : pc + 3 = pc') (kk : PW g Y d μ0 μF Qk pc' lv (.ref a :: st) μ) : PW g Y d μ0 μF Qk pc lv (.ref a :: st) μ := by
  rcases oTest_spec hv with h | h | h
  · exact P.castY ci15 hlink q1207 h hd hp kk
  · exact P.castY ci16 hlink q1226 h hd hp kk
  · exact P.castY ci17 hlink q1215 h hd hp kk
/-- an object of ours, of any kind -/
def oAny (μ : Sw) (a : Nat) : Option Unit := match μ.1 a with
  | some (.inr _) => some ()
  | _ => none
theorem oAny_spec {μ : Sw} {a : Nat} {u : Unit} (h : oAny μ a = some u) : ∃ ci fs, μ.1 a = some (.inr (ci, fs)) := by
  unfold oAny at h
  split at h
  · next q e => exact ⟨q.1, q.2, e⟩
  · cases h
theorem obj_cast : ∀ (c : Nat) (q : vw_C), kcl[c]? = some q → Cond.castable q.1 "java/lang/Object" ∈ lw_tbl := by
  intro c q h
  match c, h with
  | 0, h => cases h; exact q2288
  | 1, h => cases h; exact q2289
  | 2, h => cases h; exact q2290
  | 3, h => cases h; exact q2291
  | 4, h => cases h; exact q2293
  | 5, h => cases h; exact q2294
  | 6, h => cases h; exact q2285
  | 7, h => cases h; exact q2295
  | 8, h => cases h; exact q2286
  | 9, h => cases h; exact q2296
  | 10, h => cases h; exact q2297
  | 11, h => cases h; exact q2298
  | 12, h => cases h; exact q2299
  | 13, h => cases h; exact q2300
  | 14, h => cases h; exact q2301
  | 15, h => cases h; exact q2302
  | 16, h => cases h; exact q2303
  | 17, h => cases h; exact q2304
  | 18, h => cases h; exact q2305
  | 19, h => cases h; exact q2306
  | 20, h => cases h; exact q2292
  | c + 21, h => simp at h
theorem P.castS {ci N index a : Nat} {C : String} {T : u_T} {ty : Nat → FieldType} {u : Unit} (hci : CI ci C T N ty) (hlink : Cond.classLink Y.1 index C ∈ lw_all) (hv : oc μ a ci = some u) (hd : decode Y.2.1 pc = .ok (.checkcast index, 3)) (hp : pc + 3 = pc') (kk : PW g Y d μ0 μF Qk pc' lv (.ref a :: st) μ) : PW g Y d μ0 μF Qk pc lv (.ref a :: st) μ := by
  subst hp
  obtain ⟨fs, hM⟩ := oc_spec hv
  refine ⟨kk.1, fun h0 l p e s m args below meth c H locs ls Z hW hS hl => ?_⟩
  have k9 := kk.2 h0 l p e s m args below meth c H locs ls Z hW hS hl
  obtain ⟨-, hx, hb, -, -, -, hown, hts, hK, -, hN, -⟩ := Z
  obtain ⟨⟨r, r1, cellV, g1, g2, g3, -⟩, -⟩ := hW.2.1 a _ hM
  have hat := (hK.1 ci _ hci.1).2
  exact va_castS hx hb hown (hts _ hlink) hat ⟨cellV, g1, by rw [g3]; rfl, by rw [g2]; exact hat.1⟩ hd k9
/-- any object of ours comes into an array of objects -/
theorem P.aastO {a x : Nat} {i : Int32} {u : Unit} (hx0 : oAny μ x = some u) (hv : sQ μ 6 a i (some x) = some μ') (hd : decode Y.2.1 pc = .ok (.aastore, 1)) (hp : pc + 1 = pc') (kk : PW g Y d μ0 μF Qk pc' lv st μ') : PW g Y d μ0 μF Qk pc lv (.ref x :: .int i :: .ref a :: st) μ := by
  subst hp
  obtain ⟨n, f, hM, hin, rfl⟩ := sQ_spec hv
  obtain ⟨ci, fs, hMx⟩ := oAny_spec hx0
  refine ⟨kk.1, fun h0 l p e s m args below meth c H locs ls Z hW hS hl => ?_⟩
  have k9 := fun H locs hW hS => kk.2 h0 l p e s m args below meth c H locs ls Z hW hS hl
  obtain ⟨-, hx, hb, -, -, -, hown, hts, hK, -, hN, -⟩ := Z
  obtain ⟨⟨cell, c1, c2, c3, c4, c5, c6⟩, ht13, hga⟩ := hW.2.1 a _ hM
  have hga : gA g a := hga (show (6 : Nat) < 10 by decide)
  obtain ⟨⟨r, r1, cellV, g1, g2, g3, -⟩, -⟩ := hW.2.1 x _ hMx
  have hcls := (hK.1 ci _ r1).2
  obtain ⟨kA, comp, k1, k2, k3, -⟩ := (hK.2.1 6 (by decide)).2 (by decide)
  obtain ⟨kE, hkE, -⟩ := Vm.findClass_spec k3
  obtain ⟨kC, hkC, -⟩ := hcls.2
  have hlt : i.toNatClampNeg < n := Nat.not_le.mp fun q => hin (Or.inr q)
  refine W.aast hx hb c1 c3 c4 (by rw [c2]; exact k1) k2 rfl hkE ⟨fun q => hin (Or.inl q), Nat.lt_of_lt_of_le hlt c5.1⟩ g1 (fun q h => by rw [g3] at h; cases h) (by rw [g2]; exact hkC) (by rw [g2]; exact vb_asgC (hN.1 _ (obj_cast _ _ r1) rfl) _ _ k3 hcls.1) rfl rfl hd fun H' e1 e2 e3 => ?_
  refine k9 H' _ (hW.set e2 e3 ⟨aOK.set (v := _) c2 c3 c4 c5 c6 e1 hlt rfl ?_ ?_, ht13, fun _ => hga⟩) (hS.put e2 e3 hga)
  · simp [aV, va_up, va_rf]
  · intro j hj
    simp [aV, va_up, hj]
/-- the Class object of Object[] -/
def oAo (μ : Sw) (a : Nat) : Option Unit := match μ.1 a with
  | some (.inl q) => if q.1 = 6 ∨ q.1 = 12 then some () else none
  | _ => none
theorem oAo_spec {μ : Sw} {a : Nat} {u : Unit} (h : oAo μ a = some u) : ∃ t x, μ.1 a = some (.inl (t, x)) ∧ (t = 6 ∨ t = 12) := by
  unfold oAo at h
  split at h
  · next q e =>
    split at h
    · next e2 => exact ⟨q.1, q.2, e, e2⟩
    · cases h
  · cases h
theorem P.ldcM {index : Nat} (hlink : Cond.classLink Y.1 index "[Ljava/lang/Object;" ∈ lw_all) (hd : decode Y.2.1 pc = .ok (.ldc index, 2)) (hp : pc + 2 = pc') (kk : PW g Y d μ0 μF Qk pc' lv (.ref (μ.2.2.2 2) :: st) μ) : PW g Y d μ0 μF Qk pc lv st μ := by
  subst hp
  refine ⟨kk.1, fun h0 l p e s m args below meth c H locs ls Z hW hS hl => ?_⟩
  have k9 := kk.2 h0 l p e s m args below meth c H locs ls Z hW hS hl
  rw [hW.2.2] at k9
  obtain ⟨-, hx, hb, -, -, -, hown, hts, hK, -⟩ := Z
  exact va_ldcM hx hb hown (hts _ hlink) hK.2.2 hd k9
abbrev yGetC : MethodName := ⟨"java/lang/Object", "getClass", "()Ljava/lang/Class;"⟩
theorem P.getCls {index a : Nat} {u : Unit} (hv : oAo μ a = some u) (hlink : Cond.methodLink Y.1 index yGetC ∈ lw_all) (hd1 : 1 ≤ d) (hst : (st.map fun v => v.category).sum ≤ 8) (hd : decode Y.2.1 pc = .ok (.invokevirtual index, 3)) (hp : pc + 3 = pc') (kk : PW g Y d μ0 μF Qk pc' lv (.ref (μ.2.2.2 2) :: st) μ) : PW g Y d μ0 μF Qk pc lv (.ref a :: st) μ := by
  subst hp
  obtain ⟨t, x, hM, ht⟩ := oAo_spec hv
  refine ⟨kk.1, fun h0 l p e s m args below meth c H locs ls Z hW hS hl => ?_⟩
  have k9 := kk.2 h0 l p e s m args below meth c H locs ls Z hW hS hl
  rw [hW.2.2] at k9
  obtain ⟨-, hx, hb, -, -, hml, hown, hts, hK, -, hN, -⟩ := Z
  obtain ⟨⟨cell, c1, c2, c3, c4, c5, c6⟩, ht13, hga⟩ := hW.2.1 a _ hM
  have hRA := (hK.2.1 t ht13).2 (by rcases ht with rfl | rfl <;> decide)
  have hf : s.vm.findClass "[Ljava/lang/Object;" = some (g.2.2.1 t) := by
    rcases ht with rfl | rfl
    · exact va_nmO hRA rfl
    · exact va_nmO hRA rfl
  refine va_getC hx hb (by rw [hml]; exact hl.1.symm) hown (hts _ hlink) (va_Nw.use rfl (hN.1 _ q2310 rfl)) (hts _ q2309) (hts _ q826) (hts _ q849) hK.2.2 ⟨cell, c1, ?_, by rw [c2]; exact hf⟩ hd1 (show _ ≤ 64 * d by omega) hd k9
  cases h : cell.vm with
  | statics k => exact absurd h (c3 k)
  | _ => rfl
theorem cV_nar {ty : FieldType} (h : ty.isReference = true) (n : Nat) : narrow ty (cV n) = cV n := by
  cases n <;> cases ty <;> first | rfl | cases h
theorem cV_fit {ty : FieldType} (h : ty.isReference = true) (n : Nat) : fits ty (cV n) = true := by
  cases n <;> cases ty <;> first | rfl | cases h
theorem zs3 (g : Gx) : ("java/lang/Throwable", "UNASSIGNED_STACK", "[Ljava/lang/StackTraceElement;", cV (g.2.2.2.2 3)) ∈ zsL g := List.mem_cons_of_mem _ (List.mem_cons_of_mem _ (List.mem_cons_of_mem _ List.mem_cons_self))
theorem zs4 (g : Gx) : ("java/lang/Throwable", "SUPPRESSED_SENTINEL", "Ljava/util/List;", cV (g.2.2.2.2 4)) ∈ zsL g := List.mem_cons_of_mem _ (List.mem_cons_of_mem _ (List.mem_cons_of_mem _ (List.mem_cons_of_mem _ List.mem_cons_self)))
theorem zs5 (g : Gx) : ("jdk/internal/util/Preconditions", "SIOOBE_FORMATTER", "Ljava/util/function/BiFunction;", cV (g.2.2.2.2 5)) ∈ zsL g := List.mem_cons_of_mem _ (List.mem_cons_of_mem _ (List.mem_cons_of_mem _ (List.mem_cons_of_mem _ (List.mem_cons_of_mem _ List.mem_cons_self))))
theorem P.getsC {C n ds : String} {index : Nat} (k : Nat) (hz : (C, n, ds, cV (g.2.2.2.2 k)) ∈ zsL g) (hlink : Cond.fieldLink Y.1 index C n ds ∈ lw_all) (hd : decode Y.2.1 pc = .ok (.getstatic index, 3)) (hp : pc + 3 = pc') (kk : PW g Y d μ0 μF Qk pc' lv (cV (μ.2.2.2 k) :: st) μ) : PW g Y d μ0 μF Qk pc lv st μ := by
  subst hp
  refine ⟨kk.1, fun h0 l p e s m args below meth c H locs ls Z hW hS hl => ?_⟩
  have k9 := kk.2 h0 l p e s m args below meth c H locs ls Z hW hS hl
  rw [hW.2.2] at k9
  obtain ⟨-, hx, hb, -, -, hml, hown, hts, -, hZ, -⟩ := Z
  exact va_gets hx hb (hZ.1 _ hz) hS hown (hts _ hlink) (fun _ h => h) hd k9
/-- a word of the row of words, by its number -/
def aW (μ : Sw) (a : Nat) (i : Int32) : Option Nat := if aR μ 11 a i = some (μ.2.2.2 (10 + i.toNatClampNeg)) then some i.toNatClampNeg else none
theorem aW_spec {μ : Sw} {a k : Nat} {i : Int32} (h : aW μ a i = some k) : aR μ 11 a i = some (μ.2.2.2 (10 + k)) := by
  unfold aW at h
  split at h
  · next e => cases h; exact e
  · cases h
end PWF
