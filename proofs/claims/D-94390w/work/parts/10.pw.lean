set_option maxRecDepth 100000
/-! PW: the machine over a pure memory. Ob: a cell's contents (an array of a kind, or an object of a class of kcl); Sw: memory, heap's size, slots laid, the constants' addresses -/
abbrev Ar : Type := Nat × ((Nat → Int32) ⊕ (Nat → Int64) ⊕ (Nat → Option Nat))
abbrev Ob : Type := (Nat × Ar) ⊕ (Nat × List Value)
abbrev Sw : Type := (Nat → Option Ob) × Nat × Nat × (Nat → Nat)
/-- class numbers, field slots, array classes by kind, the first address that is ours, addresses of constants -/
abbrev Gx : Type := (Nat → ClassId) × (Nat → Nat → Nat) × (Nat → ClassId) × Nat × (Nat → Nat)
/-- a method: its class, code, locals, answer, whether it is a constructor, its handlers -/
abbrev Ym : Type := String × ByteArray × Nat × Option FieldType × Bool × List (Nat × Nat × Nat × Nat)
abbrev gD (g : Gx) : va_G := (g.1, g.2.1)
def gA (g : Gx) : Nat → Prop := fun q => g.2.2.2.1 ≤ q
/-- kinds of arrays: below 10 ours, from 10 on there before and never written -/
def kty : Nat → FieldType := fun k => match k with
  | 0 => .int
  | 1 => .long
  | 2 => .byte
  | 3 => .short
  | 4 => .boolean
  | 5 => .array .int
  | 6 => .object "java/lang/Object"
  | 7 => .object "StiltTown$State"
  | 8 => .object "StiltTown$Kept"
  | 10 => .int
  | 11 => .object "java/lang/String"
  | 12 => .object "java/lang/Object"
  | _ => .int
abbrev kcl : List vw_C := [(RX0, TX0, 20), (RX1, TX1, 6), (RX2, TX2, 9), (RX3, TX3, 16), (RX4, TX4, 1), (RX5, TX5, 1), (RX6, TX6, 6), (RX7, TX7, 2), (RX8, TX8, 2), (RX9, TX9, 53), (RX10, TX10, 8), (RX11, TX11, 3), (RX12, TX12, 3), (RX13, TX13, 2), (RX14, TX14, 3), (RX15, TX15, 3), (RX16, TX16, 1), (RX17, TX17, 2), (RX18, TX18, 3), (RX19, TX19, 4), (RJ2, TJ2, 3)]
def gK (g : Gx) (U : State) : Prop := (∀ (c : Nat) (q : vw_C), kcl[c]? = some q → u_Kn U q.1 q.2.1 q.2.2 (g.1 c) (g.2.1 c)) ∧ (∀ t : Nat, t < 13 → ArrOfT U (g.2.2.1 t) (kty t) ∧ (t ≠ 10 → va_RA U (g.2.2.1 t) (kty t))) ∧ va_Mi "[Ljava/lang/Object;" (g.2.2.2.2 2) U
theorem gK.moved {g : Gx} {u U : State} (hvm : u.vm.Alike U.vm) (h : gK g u) : gK g U := ⟨fun c q hq => u_Kn_moved hvm (h.1 c q hq), fun t ht => ⟨arrOfT_moved hvm (h.2.1 t ht).1, fun h10 => ((h.2.1 t ht).2 h10).moved hvm⟩, h.2.2.moved hvm⟩
/-- the value that an array holds at a place -/
def aV (x : Ar) (j : Nat) : Value := match x.2 with
  | .inl f => .int (f j)
  | .inr (.inl f) => .long (f j)
  | .inr (.inr f) => va_rf (f j)
/-- a size, as far as the machine's own ints tell it -/
def sz5 (n : Nat) (cell : Cell) : Prop := n ≤ cell.slots.size ∧ cell.slots.size.toInt32 = Int32.ofNat n
theorem sz5.of {n : Nat} {cell : Cell} (h : cell.slots.size = n) : sz5 n cell := ⟨Nat.le_of_eq h.symm, h ▸ rfl⟩
theorem sz5.same {n : Nat} {c c' : Cell} (h : c'.slots.size = c.slots.size) (k : sz5 n c) : sz5 n c' := ⟨by rw [h]; exact k.1, by rw [h]; exact k.2⟩
theorem sz5.inn {n : Nat} {cell : Cell} {i : Int32} (h : sz5 n cell) (hin : ¬ (i < 0 ∨ n ≤ i.toNatClampNeg)) : ¬ (i < 0 ∨ cell.slots.size ≤ i.toNatClampNeg) := fun z => by
  have h1 := h.1
  rcases z with z | z
  · exact hin (Or.inl z)
  · exact hin (Or.inr (by omega))
def aOK (g : Gx) (t : Nat) (x : Ar) (a : Nat) (H : Heap) : Prop := ∃ cell : Cell, H[a]? = some cell ∧ cell.cls = g.2.2.1 t ∧ (∀ k, cell.vm ≠ .statics k) ∧ cell.vm ≠ .unknown ∧ sz5 x.1 cell ∧ ∀ j : Nat, j < x.1 → cell.slots[j]? = some (aV x j)
def oOK (g : Gx) (o : Ob) (a : Nat) (H : Heap) : Prop := match o with
  | .inl q => aOK g q.1 q.2 a H ∧ q.1 < 13 ∧ (q.1 < 10 → gA g a)
  | .inr q => (∃ r : vw_C, kcl[q.1]? = some r ∧ t_OB a (g.1 q.1) r.2.2 (g.2.1 q.1) H (vp_V q.2)) ∧ gA g a
theorem oOK.lt {g : Gx} {o : Ob} {a : Nat} {H : Heap} (h : oOK g o a H) : a < H.size := by
  cases o with
  | inl q => obtain ⟨⟨cell, h1, -⟩, -⟩ := h; exact (Array.getElem?_eq_some_iff.mp h1).1
  | inr q => obtain ⟨⟨r, -, cell, h1, -⟩, -⟩ := h; exact (Array.getElem?_eq_some_iff.mp h1).1
theorem oOK.kept {g : Gx} {o : Ob} {a : Nat} {H H1 : Heap} (h : oOK g o a H) (hq : H1[a]? = H[a]?) : oOK g o a H1 := by
  cases o with
  | inl q => obtain ⟨⟨cell, h1, h2⟩, h3⟩ := h; exact ⟨⟨cell, hq.trans h1, h2⟩, h3⟩
  | inr q => obtain ⟨⟨r, h1, h2⟩, h3⟩ := h; exact ⟨⟨r, h1, h2.kept hq⟩, h3⟩
def Wd (g : Gx) (μ : Sw) (H : Heap) : Prop := H.size = μ.2.1 ∧ (∀ (a : Nat) (o : Ob), μ.1 a = some o → oOK g o a H) ∧ μ.2.2.2 = g.2.2.2.2
def mup (M : Nat → Option Ob) (a : Nat) (o : Ob) : Nat → Option Ob := fun b => if b = a then some o else M b
def nw (μ : Sw) (o : Ob) (n : Nat) : Sw := (mup μ.1 μ.2.1 o, μ.2.1 + 1, μ.2.2.1 + n, μ.2.2.2)
theorem mup_eq {M : Nat → Option Ob} {a : Nat} {o : Ob} : mup M a o a = some o := if_pos rfl
theorem mup_ne {M : Nat → Option Ob} {a b : Nat} {o : Ob} (h : b ≠ a) : mup M a o b = M b := if_neg h
theorem Wd.set {g : Gx} {μ : Sw} {H H1 : Heap} {a : Nat} {o : Ob} (h : Wd g μ H) (z : H1.size = H.size) (oq : ∀ q : Nat, q ≠ a → H1[q]? = H[q]?) (he : oOK g o a H1) : Wd g (mup μ.1 a o, μ.2) H1 := by
  refine ⟨z.trans h.1, fun b o' hb => ?_, h.2.2⟩
  have hb : mup μ.1 a o b = some o' := hb
  by_cases hba : b = a
  · subst hba
    rw [mup_eq] at hb
    cases hb
    exact he
  · rw [mup_ne hba] at hb
    exact (h.2.1 b o' hb).kept (oq b hba)
theorem Wd.push {g : Gx} {μ : Sw} {H H1 : Heap} {o : Ob} {n : Nat} (h : Wd g μ H) (z : H1.size = H.size + 1) (oq : ∀ q : Nat, q < H.size → H1[q]? = H[q]?) (he : oOK g o H.size H1) : Wd g (nw μ o n) H1 := by
  refine ⟨by rw [z, h.1]; rfl, fun b o' hb => ?_, h.2.2⟩
  have hb : mup μ.1 μ.2.1 o b = some o' := hb
  by_cases hba : b = μ.2.1
  · subst hba
    rw [mup_eq] at hb
    cases hb
    rw [← h.1]
    exact he
  · rw [mup_ne hba] at hb
    have h1 := h.2.1 b o' hb
    exact h1.kept (oq b h1.lt)
/-! what stands in the tables but not in the lists: private links between nest mates, casts, interfaces -/
def nsh : Cond → Bool
  | .fieldLinkNest _ _ _ _ _ _ => true
  | .methodLinkNest _ _ _ _ => true
  | .castable _ _ => true
  | .declares _ => true
  | _ => false
theorem nsh_warm {w : Cond} (h : nsh w = true) {s U : State} (hW : s.WarmedH U.vm) (hz : va_Nw w s) : va_Nw w U := by
  cases w with
  | fieldLinkNest a i b n d h => exact va_Nw.warmF hW hz
  | methodLinkNest a i x h => exact va_Nw.warmM hW hz
  | castable a b => exact va_Nw.warmC hW hz
  | declares x => exact va_Nw.warmD hW hz
  | _ => cases h
def fwL : List (String × MethodName × MethodName) := [(RX4, ⟨"StiltTown$Term", "value", "(LStiltTown$View;)I"⟩, yX4_value), (RX5, ⟨"StiltTown$Term", "value", "(LStiltTown$View;)I"⟩, yX5_value), (RX14, ⟨"StiltTown$Term", "value", "(LStiltTown$View;)I"⟩, yX14_value), (RX15, ⟨"StiltTown$Test", "holds", "(LStiltTown$View;)Z"⟩, yX15_holds), (RX16, ⟨"StiltTown$Test", "holds", "(LStiltTown$View;)Z"⟩, yX16_holds), (RX17, ⟨"StiltTown$Test", "holds", "(LStiltTown$View;)Z"⟩, yX17_holds), (RJ2, ⟨"java/util/Collection", "toArray", "()[Ljava/lang/Object;"⟩, yJ2_toArray)]
def aoL : List String := ["java/lang/Object", "StiltTown$State", "StiltTown$Kept"]
/-- a reference that may be null, as a number -/
def cV (n : Nat) : Value := match n with
  | 0 => .null
  | a + 1 => .ref a
/-- the static fields that are read, and what never changes -/
def zsL (g : Gx) : List (String × String × String × Value) := [("java/util/ArrayList", "DEFAULTCAPACITY_EMPTY_ELEMENTDATA", "[Ljava/lang/Object;", .ref (g.2.2.2.2 0)), ("StiltTown$Scanner", "WORDS", "[Ljava/lang/String;", .ref (g.2.2.2.2 1)), ("java/lang/String", "COMPACT_STRINGS", "Z", .int 1), ("java/lang/Throwable", "UNASSIGNED_STACK", "[Ljava/lang/StackTraceElement;", cV (g.2.2.2.2 3)), ("java/lang/Throwable", "SUPPRESSED_SENTINEL", "Ljava/util/List;", cV (g.2.2.2.2 4)), ("jdk/internal/util/Preconditions", "SIOOBE_FORMATTER", "Ljava/util/function/BiFunction;", cV (g.2.2.2.2 5))]
def wl : List Nat := [5, 6, 2, 5, 6, 4, 4, 5, 4, 4, 3, 4, 5, 3, 2, 2, 3, 3, 6, 4, 4, 1, 4, 5, 4, 4]
def wb : List (List Int32) := [[104, 111, 117, 115, 101], [111, 102, 102, 105, 99, 101], [105, 110], [115, 116, 97, 105, 114], [103, 114, 111, 117, 110, 100], [113, 117, 97, 121], [119, 111, 111, 100], [99, 114, 101, 119, 115], [106, 97, 99, 107], [116, 105, 100, 101], [100, 117, 101], [115, 119, 97, 121], [102, 97, 108, 108, 115], [98, 97, 100], [105, 102], [111, 114], [97, 110, 100], [110, 111, 116], [104, 101, 105, 103, 104, 116], [114, 97, 110, 107], [108, 111, 97, 100], [120], [104, 111, 117, 114], [109, 111, 110, 116, 104], [119, 105, 110, 100], [103, 111, 110, 101]]
def vs_S (g : Gx) (U : State) (H : Heap) : Prop := ∀ i : Nat, i < 26 → va_O "java/lang/String" (g.2.2.2.2 (10 + i)) (gA g) U H ∧ va_OF "java/lang/String" "coder" "B" (.int 0) (g.2.2.2.2 (10 + i)) (gA g) U H ∧ va_OF "java/lang/String" "value" "[B" (.ref (g.2.2.2.2 (40 + i))) (g.2.2.2.2 (10 + i)) (gA g) U H ∧ va_T .byte (g.2.2.2.2 (40 + i)) (wl.getD i 0) (fun j => .int ((wb.getD i []).getD j 0)) (gA g) U H
theorem vs_S.moved {g : Gx} {u U : State} {H : Heap} (hvm : u.vm.Alike U.vm) (h : vs_S g u H) : vs_S g U H := fun i hi => ⟨va_O.moved hvm (h i hi).1, va_OF.moved hvm (h i hi).2.1, va_OF.moved hvm (h i hi).2.2.1, va_T.moved hvm (h i hi).2.2.2⟩
theorem vs_S.kept {g : Gx} {U : State} {H H1 : Heap} (h : vs_S g U H) (hq : ∀ a : Nat, a < H.size → ¬ gA g a → H1[a]? = H[a]?) : vs_S g U H1 := fun i hi => ⟨(h i hi).1.kept hq, (h i hi).2.1.kept hq, (h i hi).2.2.1.kept hq, (h i hi).2.2.2.kept hq⟩
def Zs (g : Gx) (U : State) (H : Heap) : Prop := (∀ z ∈ zsL g, va_Z z.1 z.2.1 z.2.2.1 z.2.2.2 (gA g) U H) ∧ vs_S g U H
/-- the array class over int[] -/
def va_AA (U : State) : Prop := (Cond.arrayOver (.array .int)).before #[] U = true
theorem va_AA.moved {u U : State} (hvm : u.vm.Alike U.vm) (h : va_AA u) : va_AA U := by
  unfold va_AA Cond.before at h
  simp only [Cond.holds, Cond.value, beq_iff_eq] at h
  cases hc : u.vm.findClass (FieldType.array .int).toString with
  | none => simp [hc] at h
  | some comp =>
    simp only [hc, Option.bind_some, Option.bind_eq_some_iff, Option.map_eq_some_iff] at h
    obtain ⟨c, h2, k, h3, hb⟩ := h
    obtain ⟨k', hk', he⟩ := hvm.2.2 _ _ h3
    have hb1 := va_idx_bare U.vm comp
    have hb2 := va_idx_bare u.vm comp
    first | rw [hvm.bare_eq] at hb2 | rw [← hvm.bare_eq] at hb2
    have hi := hb1.symm.trans (hb2.trans h2)
    have f1 : U.vm.findClass (FieldType.array .int).toString = some comp := by rw [hvm.findClass]; exact hc
    unfold va_AA Cond.before
    simp only [Cond.holds, Cond.value, beq_iff_eq]
    rw [f1, Option.bind_some]
    refine (congrArg (fun o : Option Nat => o.bind (fun c => (U.vm.classes[c]?).map fun (k : Class) => match k.kind with | .array _ ty => decide (ty = FieldType.array .int) && decide (U.vm.findClass ("[" ++ (FieldType.array .int).toString) = some c) | _ => false)) hi).trans ?_
    cases hkind : k.kind with
    | array component ty =>
      rw [hkind] at hb
      have hkk : k'.kind = .array component ty := by rw [he]; exact hkind
      simp only [Bool.and_eq_true, decide_eq_true_eq] at hb
      have f2 : U.vm.findClass ("[" ++ (FieldType.array .int).toString) = some c := by rw [hvm.findClass]; exact hb.2
      simp [hk', hkk, hb.1, f2]
    | _ => rw [hkind] at hb; cases hb
def Nst (U : State) : Prop := (∀ w ∈ lw_tbl, nsh w = true → va_Nw w U) ∧ (∀ f ∈ fwL, va_Fw f.1 f.2.1 f.2.2 U) ∧ (∀ C ∈ aoL, va_AO C U) ∧ va_AA U
theorem fwL_ok : ∀ f ∈ fwL, f.2.1.cls ≠ "java/lang/invoke/MethodHandle" ∧ f.2.1.cls ≠ "java/lang/invoke/VarHandle" := by decide +kernel
theorem Nst.warm {s U : State} (hW : s.WarmedH U.vm) (h : Nst s) : Nst U := ⟨fun w hw hn => nsh_warm hn hW (h.1 w hw hn), fun f hf => (h.2.1 f hf).moved (fwL_ok f hf) hW.alike, fun C hC => (h.2.2.1 C hC).moved hW.alike, h.2.2.2.moved hW.alike⟩
theorem Nst.same {s U : State} (h : s.vm = U.vm) (hN : Nst s) : Nst U := by
  refine Nst.warm ?_ hN
  rw [← h]
  exact State.WarmedH.refl _
theorem Zs.moved {g : Gx} {u U : State} {H : Heap} (hvm : u.vm.Alike U.vm) (h : Zs g u H) : Zs g U H := ⟨fun z hz => (h.1 z hz).moved hvm, h.2.moved hvm⟩
theorem Zs.kept {g : Gx} {U : State} {H H1 : Heap} (h : Zs g U H) (hq : ∀ a : Nat, a < H.size → ¬ gA g a → H1[a]? = H[a]?) : Zs g U H1 := ⟨fun z hz => (h.1 z hz).kept hq, h.2.kept hq⟩
/-! a method's own context, its end, its contract -/
def Cx (g : Gx) (Y : Ym) (l : Launch) (p : Program) (s : State) (m : MethodId) (args : Array Value) (meth : Method) (c : Code) : Prop :=
  l.flags = flags0 ∧ p.tables.exec = Jvm.exec ∧ c.code = Y.2.1 ∧ meth.sig.returnType = Y.2.2.2.1 ∧ meth.locks = false ∧ c.maxLocals = Y.2.2.1 ∧ s.vm.findClass Y.1 = some m.cls ∧ (∀ w ∈ lw_all, w.before args s = true) ∧ gK g s ∧ Zs g s s.heap ∧ Nst s ∧ g.2.2.2.1 ≤ s.heap.size ∧ (Y.2.2.2.2.1 = true → meth.name = "<init>") ∧ (Y.2.2.2.2.2 ≠ [(0, 0, 0, 0)] → c.exceptionTable.toList = tableOf Y.2.2.2.2.2)
def rmD (d : Nat) (μ μ' : Sw) : Room := { frames := d, cells := μ'.2.1 - μ.2.1, slots := μ'.2.2.1 - μ.2.2.1, locals := 64 * d }
def cP (g : Gx) (As : List Value) (μ : Sw) : Array Value → State → Prop := va_Pc As (fun U => Wd g μ U.heap ∧ gK g U ∧ Zs g U U.heap ∧ Nst U ∧ g.2.2.2.1 ≤ U.heap.size)
def cQ (g : Gx) (rv : Option Value) (μ : Sw) : Array Value → State → Outcome → State → Prop := fun _ st oc t => oc = .returned rv ∧ Wd g μ t.heap ∧ va_F (gA g) st t
def Cl (g : Gx) (d : Nat) (y : MethodName) (cc : ByteArray) (nL : Nat) (ret : Option FieldType) (As : List Value) (μ : Sw) (rv : Option Value) (μ' : Sw) : Prop :=
  (μ.2.1 ≤ μ'.2.1 ∧ μ.2.2.1 ≤ μ'.2.2.1) ∧ ∀ l : Launch, l.flags = flags0 → Met l y (ws_ y cc nL ret) (rmD d μ μ') (cP g As μ) (cQ g rv μ') (μ'.2.1 - μ.2.1) (μ'.2.2.1 - μ.2.2.1) (gA g)
def PW (g : Gx) (Y : Ym) (d : Nat) (μ0 μF : Sw) (Qk : List Frame → Array Value → State → State → Prop) (pc : Nat) (lv : List (Nat × Value)) (st : List Value) (μ : Sw) : Prop :=
  (μ.2.1 ≤ μF.2.1 ∧ μ.2.2.1 ≤ μF.2.2.1) ∧ ((μ0.2.1 ≤ μ.2.1 ∧ μ0.2.2.1 ≤ μ.2.2.1) → ∀ (l : Launch) (p : Program) (e : Env) (s : State) (m : MethodId) (args : Array Value) (below : List Frame) (meth : Method) (c : Code) (H : Heap) (locs : List Loc) (ls : Array Slot), Cx g Y l p s m args meth c → Wd g μ H → va_S (gA g) s.heap H locs → lv_has ls Y.2.2.1 lv →
    W p l e (rmD d μ0 μF) s m args below meth c H locs (μ.2.1 - μ0.2.1) (μ.2.2.1 - μ0.2.2.1) (Qk below args s) (F0 m pc ls st))
def QN (g : Gx) (rv : Option Value) (μ0 μF : Sw) : List Frame → Array Value → State → State → Prop := fun below args s => MQ below (cQ g rv μF) args s (μF.2.1 - μ0.2.1) (μF.2.2.1 - μ0.2.2.1) (gA g)
theorem cP_blind {g : Gx} {As : List Value} {μ : Sw} : FrameBlind (cP g As μ) := fun a U f mk h => by
  obtain ⟨h1, h2, h3, h4, h5, h6⟩ := h
  exact ⟨h1, h2, h3.moved (u := U) (U := U.calling f mk a) (Vm.Alike.refl U.vm), Zs.moved (u := U) (U := U.calling f mk a) (Vm.Alike.refl U.vm) h4, Nst.same (s := U) (U := U.calling f mk a) rfl h5, h6⟩
theorem Cl.of {g : Gx} {d : Nat} {y : MethodName} {cc : ByteArray} {nL : Nat} {ret : Option FieldType} {As : List Value} {μ μF : Sw} {rv : Option Value} {own : String} {ini : Bool} (hp : plainName y.cls = true) (hy : y.cls = own) (hi : ini = true → y.name = "<init>") (hl : (lg_sl As).length ≤ nL)
    (h : PW g (own, cc, nL, ret, ini, []) d μ μF (QN g rv μ μF) 0 (lv_args 0 As) [] μ) : Cl g d y cc nL ret As μ rv μF := by
  refine ⟨h.1, fun l hfl => ?_⟩
  refine Met.ofW (cc := cc) (maxL := nL) (ret := ret) hp rfl ?_
  intro p e s m args below meth c s₁ B hml hv
  obtain ⟨rfl, hW, hK, hZ, hN, hb⟩ := hv
  have hts := atoms_spec (ws := ws_ y cc nL ret) B.pre
  have hts : ∀ w ∈ lw_all, w.before _ s = true := fun w h => hts w (List.mem_cons_of_mem _ h)
  have hown : s.vm.findClass own = some m.cls := by rw [← hy]; exact findClass_of_methodNamed B.named
  have hin : ini = true → meth.name = "<init>" := fun h => by rw [(name_of_methodNamed B.named B.method).1]; exact hi h
  have ht : c.exceptionTable.toList = tableOf [] := by
    obtain ⟨meth9, c9, h1, h2, -, -, -, -, h7, -⟩ := Cond.code_spec B.named (atoms_spec (ws := ws_ y cc nL ret) B.pre _ List.mem_cons_self)
    cases Option.some.inj (h1.symm.trans B.method)
    cases Option.some.inj (h2.symm.trans (Stand.of_body B).code)
    rw [Array.isEmpty_iff.mp h7]
    rfl
  have k := h.2 ⟨Nat.le_refl _, Nat.le_refl _⟩ l p e s m As.toArray below meth c s.heap [] _ ⟨hfl, B.exec, B.bytes, B.returns, B.notSynchronized, hml, hown, hts, hK, hZ, hN, hb, hin, fun _ => ht⟩ hW va_S.rf (lv_entry As (n := nL) hl)
  rw [lg_entry_eq]
  refine W.cs (cells' := μ.2.1 - μ.2.1) (slots' := μ.2.2.1 - μ.2.2.1) (Nat.sub_self _).symm (Nat.sub_self _).symm k
section PWR
variable {g : Gx} {Y : Ym} {d : Nat} {μ0 μF : Sw} {Qk : List Frame → Array Value → State → State → Prop} {pc pc' tgt : Nat} {lv lv' : List (Nat × Value)} {st st' : List Value} {μ μ' : Sw}
/-- a row of the kit that touches no memory -/
theorem PW.pure (k : PW g Y d μ0 μF Qk pc' lv' st' μ)
    (h : ∀ {p : Program} {l : Launch} {e : Env} {R : Room} {s : State} {m : MethodId} {args : Array Value} {below : List Frame} {meth : Method} {c : Code} {H : Heap} {locs : List Loc} {cells slots : Nat} {Q : State → Prop} {ls : Array Slot}, p.tables.exec = Jvm.exec → c.code = Y.2.1 → s.vm.findClass Y.1 = some m.cls → (∀ w ∈ lw_all, w.before args s = true) → lv_has ls Y.2.2.1 lv → (∀ ls', lv_has ls' Y.2.2.1 lv' → W p l e R s m args below meth c H locs cells slots Q (F0 m pc' ls' st')) → W p l e R s m args below meth c H locs cells slots Q (F0 m pc ls st)) : PW g Y d μ0 μF Qk pc lv st μ :=
  ⟨k.1, fun h0 l p e s m args below meth c H locs ls C hW hS hl => h C.2.1 C.2.2.1 C.2.2.2.2.2.2.1 C.2.2.2.2.2.2.2.1 hl (fun ls' hl' => k.2 h0 l p e s m args below meth c H locs ls' C hW hS hl')⟩
theorem PW.br {c : Prop} {pc1 pc2 : Nat} (kt : c → PW g Y d μ0 μF Qk pc1 lv st' μ) (kf : ¬ c → PW g Y d μ0 μF Qk pc2 lv st' μ)
    (h : ∀ {p : Program} {l : Launch} {e : Env} {R : Room} {s : State} {m : MethodId} {args : Array Value} {below : List Frame} {meth : Method} {c2 : Code} {H : Heap} {locs : List Loc} {cells slots : Nat} {Q : State → Prop} {ls : Array Slot}, p.tables.exec = Jvm.exec → c2.code = Y.2.1 → (c → W p l e R s m args below meth c2 H locs cells slots Q (F0 m pc1 ls st')) → (¬ c → W p l e R s m args below meth c2 H locs cells slots Q (F0 m pc2 ls st')) → W p l e R s m args below meth c2 H locs cells slots Q (F0 m pc ls st)) : PW g Y d μ0 μF Qk pc lv st μ := by
  refine ⟨?_, fun h0 l p e s m args below meth c2 H locs ls C hW hS hl => h C.2.1 C.2.2.1 (fun z => (kt z).2 h0 l p e s m args below meth c2 H locs ls C hW hS hl) (fun z => (kf z).2 h0 l p e s m args below meth c2 H locs ls C hW hS hl)⟩
  by_cases z : c
  · exact (kt z).1
  · exact (kf z).1
/-- other locals: fewer, in another order -/
theorem PW.sub (ks : List Nat) (hl : lv_pick lv ks = lv') (k : PW g Y d μ0 μF Qk pc lv' st μ) : PW g Y d μ0 μF Qk pc lv st μ :=
  PW.pure k (fun _ _ _ _ h kk => kk _ (lv_sub h ks hl))
theorem P.iadd {x y : Int32} (hd : decode Y.2.1 pc = .ok (.iadd, 1)) (hp : pc + 1 = pc') (k : PW g Y d μ0 μF Qk pc' lv (.int (x + y) :: st) μ) : PW g Y d μ0 μF Qk pc lv (.int y :: .int x :: st) μ := by subst hp; exact PW.pure k (fun hx hb ho ht hl kk => lv_iadd hx hb hd (kk _ hl))
theorem P.isub {x y : Int32} (hd : decode Y.2.1 pc = .ok (.isub, 1)) (hp : pc + 1 = pc') (k : PW g Y d μ0 μF Qk pc' lv (.int (x - y) :: st) μ) : PW g Y d μ0 μF Qk pc lv (.int y :: .int x :: st) μ := by subst hp; exact PW.pure k (fun hx hb ho ht hl kk => lv_isub hx hb hd (kk _ hl))
theorem P.imul {x y : Int32} (hd : decode Y.2.1 pc = .ok (.imul, 1)) (hp : pc + 1 = pc') (k : PW g Y d μ0 μF Qk pc' lv (.int (x * y) :: st) μ) : PW g Y d μ0 μF Qk pc lv (.int y :: .int x :: st) μ := by subst hp; exact PW.pure k (fun hx hb ho ht hl kk => lv_imul hx hb hd (kk _ hl))
theorem P.iand {x y : Int32} (hd : decode Y.2.1 pc = .ok (.iand, 1)) (hp : pc + 1 = pc') (k : PW g Y d μ0 μF Qk pc' lv (.int (x &&& y) :: st) μ) : PW g Y d μ0 μF Qk pc lv (.int y :: .int x :: st) μ := by subst hp; exact PW.pure k (fun hx hb ho ht hl kk => lv_iand hx hb hd (kk _ hl))
theorem P.ior {x y : Int32} (hd : decode Y.2.1 pc = .ok (.ior, 1)) (hp : pc + 1 = pc') (k : PW g Y d μ0 μF Qk pc' lv (.int (x ||| y) :: st) μ) : PW g Y d μ0 μF Qk pc lv (.int y :: .int x :: st) μ := by subst hp; exact PW.pure k (fun hx hb ho ht hl kk => lv_ior hx hb hd (kk _ hl))
theorem P.ixor {x y : Int32} (hd : decode Y.2.1 pc = .ok (.ixor, 1)) (hp : pc + 1 = pc') (k : PW g Y d μ0 μF Qk pc' lv (.int (x ^^^ y) :: st) μ) : PW g Y d μ0 μF Qk pc lv (.int y :: .int x :: st) μ := by subst hp; exact PW.pure k (fun hx hb ho ht hl kk => lv_ixor hx hb hd (kk _ hl))
theorem P.ishl {x y : Int32} (hd : decode Y.2.1 pc = .ok (.ishl, 1)) (hp : pc + 1 = pc') (k : PW g Y d μ0 μF Qk pc' lv (.int (x <<< (y &&& 31)) :: st) μ) : PW g Y d μ0 μF Qk pc lv (.int y :: .int x :: st) μ := by subst hp; exact PW.pure k (fun hx hb ho ht hl kk => lv_ishl hx hb hd (kk _ hl))
theorem P.ishr {x y : Int32} (hd : decode Y.2.1 pc = .ok (.ishr, 1)) (hp : pc + 1 = pc') (k : PW g Y d μ0 μF Qk pc' lv (.int (x >>> (y &&& 31)) :: st) μ) : PW g Y d μ0 μF Qk pc lv (.int y :: .int x :: st) μ := by subst hp; exact PW.pure k (fun hx hb ho ht hl kk => lv_ishr hx hb hd (kk _ hl))
theorem P.idiv {x y : Int32} (hd : decode Y.2.1 pc = .ok (.idiv, 1)) (hp : pc + 1 = pc') (hne : ¬ y = 0) (k : PW g Y d μ0 μF Qk pc' lv (.int (x / y) :: st) μ) : PW g Y d μ0 μF Qk pc lv (.int y :: .int x :: st) μ := by subst hp; exact PW.pure k (fun hx hb ho ht hl kk => lv_idiv hx hb hd hne (kk _ hl))
theorem P.irem {x y : Int32} (hd : decode Y.2.1 pc = .ok (.irem, 1)) (hp : pc + 1 = pc') (hne : ¬ y = 0) (k : PW g Y d μ0 μF Qk pc' lv (.int (x - x / y * y) :: st) μ) : PW g Y d μ0 μF Qk pc lv (.int y :: .int x :: st) μ := by subst hp; exact PW.pure k (fun hx hb ho ht hl kk => lv_irem hx hb hd hne (kk _ hl))
theorem P.ineg {x : Int32} (hd : decode Y.2.1 pc = .ok (.ineg, 1)) (hp : pc + 1 = pc') (k : PW g Y d μ0 μF Qk pc' lv (.int (-x) :: st) μ) : PW g Y d μ0 μF Qk pc lv (.int x :: st) μ := by subst hp; exact PW.pure k (fun hx hb ho ht hl kk => lv_ineg hx hb hd (kk _ hl))
theorem P.ladd {x y : Int64} (hd : decode Y.2.1 pc = .ok (.ladd, 1)) (hp : pc + 1 = pc') (k : PW g Y d μ0 μF Qk pc' lv (.long (x + y) :: st) μ) : PW g Y d μ0 μF Qk pc lv (.long y :: .long x :: st) μ := by subst hp; exact PW.pure k (fun hx hb ho ht hl kk => lv_ladd hx hb hd (kk _ hl))
theorem P.lsub {x y : Int64} (hd : decode Y.2.1 pc = .ok (.lsub, 1)) (hp : pc + 1 = pc') (k : PW g Y d μ0 μF Qk pc' lv (.long (x - y) :: st) μ) : PW g Y d μ0 μF Qk pc lv (.long y :: .long x :: st) μ := by subst hp; exact PW.pure k (fun hx hb ho ht hl kk => lv_lsub hx hb hd (kk _ hl))
theorem P.lmul {x y : Int64} (hd : decode Y.2.1 pc = .ok (.lmul, 1)) (hp : pc + 1 = pc') (k : PW g Y d μ0 μF Qk pc' lv (.long (x * y) :: st) μ) : PW g Y d μ0 μF Qk pc lv (.long y :: .long x :: st) μ := by subst hp; exact PW.pure k (fun hx hb ho ht hl kk => lv_lmul hx hb hd (kk _ hl))
theorem P.iushr {x y : Int32} (hd : decode Y.2.1 pc = .ok (.iushr, 1)) (hp : pc + 1 = pc') (k : PW g Y d μ0 μF Qk pc' lv (.int ((x.toUInt32 >>> (y.toUInt32 &&& Int32.toUInt32 31)).toInt32) :: st) μ) : PW g Y d μ0 μF Qk pc lv (.int y :: .int x :: st) μ := by subst hp; exact PW.pure k (fun hx hb ho ht hl kk => lv_iushr hx hb hd rfl (kk _ hl))
theorem P.lcmp {x y : Int64} (hd : decode Y.2.1 pc = .ok (.lcmp, 1)) (hp : pc + 1 = pc') (k : PW g Y d μ0 μF Qk pc' lv (.int (lg_cmp x y) :: st) μ) : PW g Y d μ0 μF Qk pc lv (.long y :: .long x :: st) μ := by subst hp; exact PW.pure k (fun hx hb ho ht hl kk => W.lcmp hx hb hd (kk _ hl))
theorem P.i2l {x : Int32} (hd : decode Y.2.1 pc = .ok (.i2l, 1)) (hp : pc + 1 = pc') (k : PW g Y d μ0 μF Qk pc' lv (.long (x.toInt64) :: st) μ) : PW g Y d μ0 μF Qk pc lv (.int x :: st) μ := by subst hp; exact PW.pure k (fun hx hb ho ht hl kk => lv_i2l hx hb hd rfl (kk _ hl))
theorem P.i2b {x : Int32} (hd : decode Y.2.1 pc = .ok (.i2b, 1)) (hp : pc + 1 = pc') (k : PW g Y d μ0 μF Qk pc' lv (.int (x.toInt8.toInt32) :: st) μ) : PW g Y d μ0 μF Qk pc lv (.int x :: st) μ := by subst hp; exact PW.pure k (fun hx hb ho ht hl kk => lv_i2b hx hb hd rfl (kk _ hl))
theorem P.i2s {x : Int32} (hd : decode Y.2.1 pc = .ok (.i2s, 1)) (hp : pc + 1 = pc') (k : PW g Y d μ0 μF Qk pc' lv (.int (x.toInt16.toInt32) :: st) μ) : PW g Y d μ0 μF Qk pc lv (.int x :: st) μ := by subst hp; exact PW.pure k (fun hx hb ho ht hl kk => lv_i2s hx hb hd rfl (kk _ hl))
theorem P.i2c {x : Int32} (hd : decode Y.2.1 pc = .ok (.i2c, 1)) (hp : pc + 1 = pc') (k : PW g Y d μ0 μF Qk pc' lv (.int ((x.toUInt32 % 65536).toInt32) :: st) μ) : PW g Y d μ0 μF Qk pc lv (.int x :: st) μ := by subst hp; exact PW.pure k (fun hx hb ho ht hl kk => lv_i2c hx hb hd rfl (kk _ hl))
theorem P.l2i {x : Int64} (hd : decode Y.2.1 pc = .ok (.l2i, 1)) (hp : pc + 1 = pc') (k : PW g Y d μ0 μF Qk pc' lv (.int (x.toInt32) :: st) μ) : PW g Y d μ0 μF Qk pc lv (.long x :: st) μ := by subst hp; exact PW.pure k (fun hx hb ho ht hl kk => lv_l2i hx hb hd rfl (kk _ hl))
theorem P.iconst {n : Int} {v : Int32} (hd : decode Y.2.1 pc = .ok (.iconst n, 1)) (hp : pc + 1 = pc') (hv : Int32.ofInt n = v) (k : PW g Y d μ0 μF Qk pc' lv (.int v :: st) μ) : PW g Y d μ0 μF Qk pc lv (st) μ := by subst hp; exact PW.pure k (fun hx hb ho ht hl kk => lv_iconst hx hb hd hv (kk _ hl))
theorem P.bipush {n : Int} {v : Int32} (hd : decode Y.2.1 pc = .ok (.bipush n, 2)) (hp : pc + 2 = pc') (hv : (Int8.ofInt n).toInt32 = v) (k : PW g Y d μ0 μF Qk pc' lv (.int v :: st) μ) : PW g Y d μ0 μF Qk pc lv (st) μ := by subst hp; exact PW.pure k (fun hx hb ho ht hl kk => lv_bipush hx hb hd hv (kk _ hl))
theorem P.sipush {n : Int} {v : Int32} (hd : decode Y.2.1 pc = .ok (.sipush n, 3)) (hp : pc + 3 = pc') (hv : (Int16.ofInt n).toInt32 = v) (k : PW g Y d μ0 μF Qk pc' lv (.int v :: st) μ) : PW g Y d μ0 μF Qk pc lv (st) μ := by subst hp; exact PW.pure k (fun hx hb ho ht hl kk => lv_sipush hx hb hd hv (kk _ hl))
theorem P.lconst {n : Fin 2} {v : Int64} (hd : decode Y.2.1 pc = .ok (.lconst n, 1)) (hp : pc + 1 = pc') (hv : Int64.ofNat (n : Nat) = v) (k : PW g Y d μ0 μF Qk pc' lv (.long v :: st) μ) : PW g Y d μ0 μF Qk pc lv (st) μ := by subst hp; exact PW.pure k (fun hx hb ho ht hl kk => lv_lconst hx hb hd hv (kk _ hl))
theorem P.null  (hd : decode Y.2.1 pc = .ok (.aconst_null, 1)) (hp : pc + 1 = pc') (k : PW g Y d μ0 μF Qk pc' lv (.null :: st) μ) : PW g Y d μ0 μF Qk pc lv (st) μ := by subst hp; exact PW.pure k (fun hx hb ho ht hl kk => lv_null hx hb hd (kk _ hl))
theorem P.ldc {i : Nat} {v : Int32} (hd : decode Y.2.1 pc = .ok (.ldc i, 2)) (hp : pc + 2 = pc') (hc : Cond.constant Y.1 i v ∈ lw_all) (k : PW g Y d μ0 μF Qk pc' lv (.int v :: st) μ) : PW g Y d μ0 μF Qk pc lv (st) μ := by subst hp; exact PW.pure k (fun hx hb ho ht hl kk => lv_ldc hx hb ho (ht _ hc) hd (kk _ hl))
theorem P.ldc_w {i : Nat} {v : Int32} (hd : decode Y.2.1 pc = .ok (.ldc_w i, 3)) (hp : pc + 3 = pc') (hc : Cond.constant Y.1 i v ∈ lw_all) (k : PW g Y d μ0 μF Qk pc' lv (.int v :: st) μ) : PW g Y d μ0 μF Qk pc lv (st) μ := by subst hp; exact PW.pure k (fun hx hb ho ht hl kk => lv_ldcw hx hb ho (ht _ hc) hd (kk _ hl))
theorem P.ldc2_w {i : Nat} {v : Int64} (hd : decode Y.2.1 pc = .ok (.ldc2_w i, 3)) (hp : pc + 3 = pc') (hc : Cond.constantLong Y.1 i v ∈ lw_all) (k : PW g Y d μ0 μF Qk pc' lv (.long v :: st) μ) : PW g Y d μ0 μF Qk pc lv (st) μ := by subst hp; exact PW.pure k (fun hx hb ho ht hl kk => lv_ldc2 hx hb ho (ht _ hc) hd (kk _ hl))
theorem P.dup {a : Value} (hd : decode Y.2.1 pc = .ok (.dup, 1)) (hp : pc + 1 = pc') (h1 : a.category = 1) (k : PW g Y d μ0 μF Qk pc' lv (a :: a :: st) μ) : PW g Y d μ0 μF Qk pc lv (a :: st) μ := by subst hp; exact PW.pure k (fun hx hb ho ht hl kk => lv_dup hx hb hd h1 (kk _ hl))
theorem P.pop {a : Value} (hd : decode Y.2.1 pc = .ok (.pop, 1)) (hp : pc + 1 = pc') (h1 : a.category = 1) (k : PW g Y d μ0 μF Qk pc' lv (st) μ) : PW g Y d μ0 μF Qk pc lv (a :: st) μ := by subst hp; exact PW.pure k (fun hx hb ho ht hl kk => lv_pop hx hb hd h1 (kk _ hl))
theorem P.dup_x1 {a b : Value} (hd : decode Y.2.1 pc = .ok (.dup_x1, 1)) (hp : pc + 1 = pc') (h1 : a.category = 1) (h2 : b.category = 1) (k : PW g Y d μ0 μF Qk pc' lv (a :: b :: a :: st) μ) : PW g Y d μ0 μF Qk pc lv (a :: b :: st) μ := by subst hp; exact PW.pure k (fun hx hb ho ht hl kk => lv_dup_x1 hx hb hd h1 h2 (kk _ hl))
theorem P.dup2 {a b : Value} (hd : decode Y.2.1 pc = .ok (.dup2, 1)) (hp : pc + 1 = pc') (h1 : a.category = 1) (h2 : b.category = 1) (k : PW g Y d μ0 μF Qk pc' lv (a :: b :: a :: b :: st) μ) : PW g Y d μ0 μF Qk pc lv (a :: b :: st) μ := by subst hp; exact PW.pure k (fun hx hb ho ht hl kk => lv_dup2_11 hx hb hd h1 h2 (kk _ hl))
theorem P.iload_n {k1 : Fin 4} {i : Nat} {x : Int32} (q : Nat) (hd : decode Y.2.1 pc = .ok (.iload_n k1, 1)) (hp : pc + 1 = pc') (hi : (k1 : Nat) = i) (hq : lv[q]? = some (i, .int x)) (k : PW g Y d μ0 μF Qk pc' lv (.int x :: st) μ) : PW g Y d μ0 μF Qk pc lv (st) μ := by subst hp; exact PW.pure k (fun hx hb ho ht hl kk => lv_iload_n hx hb hd hi (lv_at hl q hq) (kk _ hl))
theorem P.iload {i : Nat} {x : Int32} (q : Nat) (hd : decode Y.2.1 pc = .ok (.iload i, 2)) (hp : pc + 2 = pc') (hq : lv[q]? = some (i, .int x)) (k : PW g Y d μ0 μF Qk pc' lv (.int x :: st) μ) : PW g Y d μ0 μF Qk pc lv (st) μ := by subst hp; exact PW.pure k (fun hx hb ho ht hl kk => lv_iload hx hb hd (lv_at hl q hq) (kk _ hl))
theorem P.lload_n {k1 : Fin 4} {i : Nat} {x : Int64} (q : Nat) (hd : decode Y.2.1 pc = .ok (.lload_n k1, 1)) (hp : pc + 1 = pc') (hi : (k1 : Nat) = i) (hq : lv[q]? = some (i, .long x)) (k : PW g Y d μ0 μF Qk pc' lv (.long x :: st) μ) : PW g Y d μ0 μF Qk pc lv (st) μ := by subst hp; exact PW.pure k (fun hx hb ho ht hl kk => lv_lload_n hx hb hd hi (lv_at hl q hq) (kk _ hl))
theorem P.lload {i : Nat} {x : Int64} (q : Nat) (hd : decode Y.2.1 pc = .ok (.lload i, 2)) (hp : pc + 2 = pc') (hq : lv[q]? = some (i, .long x)) (k : PW g Y d μ0 μF Qk pc' lv (.long x :: st) μ) : PW g Y d μ0 μF Qk pc lv (st) μ := by subst hp; exact PW.pure k (fun hx hb ho ht hl kk => lv_lload hx hb hd (lv_at hl q hq) (kk _ hl))
theorem P.aload_n {k1 : Fin 4} {i : Nat} {x : Nat} (q : Nat) (hd : decode Y.2.1 pc = .ok (.aload_n k1, 1)) (hp : pc + 1 = pc') (hi : (k1 : Nat) = i) (hq : lv[q]? = some (i, .ref x)) (k : PW g Y d μ0 μF Qk pc' lv (.ref x :: st) μ) : PW g Y d μ0 μF Qk pc lv (st) μ := by subst hp; exact PW.pure k (fun hx hb ho ht hl kk => lv_aload_n hx hb hd hi (lv_at hl q hq) (kk _ hl))
theorem P.aload {i : Nat} {x : Nat} (q : Nat) (hd : decode Y.2.1 pc = .ok (.aload i, 2)) (hp : pc + 2 = pc') (hq : lv[q]? = some (i, .ref x)) (k : PW g Y d μ0 μF Qk pc' lv (.ref x :: st) μ) : PW g Y d μ0 μF Qk pc lv (st) μ := by subst hp; exact PW.pure k (fun hx hb ho ht hl kk => lv_aload hx hb hd (lv_at hl q hq) (kk _ hl))
theorem P.istore_n {k1 : Fin 4} {i : Nat} {x : Int32} (hd : decode Y.2.1 pc = .ok (.istore_n k1, 1)) (hp : pc + 1 = pc') (hi : (k1 : Nat) = i) (hn : i < Y.2.2.1) (hf : (i, Value.int x) :: lv.filter (fun q => !(q.1 == i) && !(q.1 + 1 == i && q.2.category == 2)) = lv') (k : PW g Y d μ0 μF Qk pc' lv' st μ) : PW g Y d μ0 μF Qk pc lv (.int x :: st) μ := by subst hp; exact PW.pure k (fun hx hb ho ht hl kk => lv_istore_n hx hb hd hi hl hn hf kk)
theorem P.istore {i : Nat} {x : Int32} (hd : decode Y.2.1 pc = .ok (.istore i, 2)) (hp : pc + 2 = pc') (hn : i < Y.2.2.1) (hf : (i, Value.int x) :: lv.filter (fun q => !(q.1 == i) && !(q.1 + 1 == i && q.2.category == 2)) = lv') (k : PW g Y d μ0 μF Qk pc' lv' st μ) : PW g Y d μ0 μF Qk pc lv (.int x :: st) μ := by subst hp; exact PW.pure k (fun hx hb ho ht hl kk => lv_istore hx hb hd hl hn hf kk)
theorem P.lstore_n {k1 : Fin 4} {i : Nat} {x : Int64} (hd : decode Y.2.1 pc = .ok (.lstore_n k1, 1)) (hp : pc + 1 = pc') (hi : (k1 : Nat) = i) (hn : i + 1 < Y.2.2.1) (hf : (i, Value.long x) :: lv.filter (fun q => !(q.1 == i) && (!(q.1 == i + 1) && !(q.1 + 1 == i && q.2.category == 2))) = lv') (k : PW g Y d μ0 μF Qk pc' lv' st μ) : PW g Y d μ0 μF Qk pc lv (.long x :: st) μ := by subst hp; exact PW.pure k (fun hx hb ho ht hl kk => lv_lstore_n hx hb hd hi hl hn hf kk)
theorem P.lstore {i : Nat} {x : Int64} (hd : decode Y.2.1 pc = .ok (.lstore i, 2)) (hp : pc + 2 = pc') (hn : i + 1 < Y.2.2.1) (hf : (i, Value.long x) :: lv.filter (fun q => !(q.1 == i) && (!(q.1 == i + 1) && !(q.1 + 1 == i && q.2.category == 2))) = lv') (k : PW g Y d μ0 μF Qk pc' lv' st μ) : PW g Y d μ0 μF Qk pc lv (.long x :: st) μ := by subst hp; exact PW.pure k (fun hx hb ho ht hl kk => lv_lstore hx hb hd hl hn hf kk)
theorem P.astore_n {k1 : Fin 4} {i : Nat} {x : Nat} (hd : decode Y.2.1 pc = .ok (.astore_n k1, 1)) (hp : pc + 1 = pc') (hi : (k1 : Nat) = i) (hn : i < Y.2.2.1) (hf : (i, Value.ref x) :: lv.filter (fun q => !(q.1 == i) && !(q.1 + 1 == i && q.2.category == 2)) = lv') (k : PW g Y d μ0 μF Qk pc' lv' st μ) : PW g Y d μ0 μF Qk pc lv (.ref x :: st) μ := by subst hp; exact PW.pure k (fun hx hb ho ht hl kk => lv_astore_n hx hb hd hi hl hn hf kk)
theorem P.astore {i : Nat} {x : Nat} (hd : decode Y.2.1 pc = .ok (.astore i, 2)) (hp : pc + 2 = pc') (hn : i < Y.2.2.1) (hf : (i, Value.ref x) :: lv.filter (fun q => !(q.1 == i) && !(q.1 + 1 == i && q.2.category == 2)) = lv') (k : PW g Y d μ0 μF Qk pc' lv' st μ) : PW g Y d μ0 μF Qk pc lv (.ref x :: st) μ := by subst hp; exact PW.pure k (fun hx hb ho ht hl kk => lv_astore hx hb hd hl hn hf kk)
theorem P.iinc {i : Nat} {n : Int} {x v w : Int32} (q : Nat) (hd : decode Y.2.1 pc = .ok (.iinc i n, 3)) (hp : pc + 3 = pc') (hq : lv[q]? = some (i, .int x)) (hc : Int32.ofInt n = w) (hv : x + w = v) (hn : i < Y.2.2.1) (hf : (i, Value.int v) :: lv.filter (fun q => !(q.1 == i) && !(q.1 + 1 == i && q.2.category == 2)) = lv') (k : PW g Y d μ0 μF Qk pc' lv' st μ) : PW g Y d μ0 μF Qk pc lv (st) μ := by subst hp; exact PW.pure k (fun hx hb ho ht hl kk => lv_iinc hx hb hd hl hq (by rw [hc]; exact hv) hn hf kk)
theorem P.if_eq {x : Int32} {off : Int} (hd : decode Y.2.1 pc = .ok (.ifCond .eq off, 3)) (ht : (pc : Int) + off = (tgt : Int)) (hp : pc + 3 = pc') (kt : (x = 0) → PW g Y d μ0 μF Qk tgt lv st μ) (kf : ¬ (x = 0) → PW g Y d μ0 μF Qk pc' lv st μ) : PW g Y d μ0 μF Qk pc lv (.int x :: st) μ := by subst hp; exact PW.br (c := (x = 0)) kt kf (fun hx hb a b => lv_if_eq hx hb hd ht a b)
theorem P.if_lt {x : Int32} {off : Int} (hd : decode Y.2.1 pc = .ok (.ifCond .lt off, 3)) (ht : (pc : Int) + off = (tgt : Int)) (hp : pc + 3 = pc') (kt : (x < 0) → PW g Y d μ0 μF Qk tgt lv st μ) (kf : ¬ (x < 0) → PW g Y d μ0 μF Qk pc' lv st μ) : PW g Y d μ0 μF Qk pc lv (.int x :: st) μ := by subst hp; exact PW.br (c := (x < 0)) kt kf (fun hx hb a b => lv_if_lt hx hb hd ht a b)
theorem P.if_ge {x : Int32} {off : Int} (hd : decode Y.2.1 pc = .ok (.ifCond .ge off, 3)) (ht : (pc : Int) + off = (tgt : Int)) (hp : pc + 3 = pc') (kt : (0 ≤ x) → PW g Y d μ0 μF Qk tgt lv st μ) (kf : ¬ (0 ≤ x) → PW g Y d μ0 μF Qk pc' lv st μ) : PW g Y d μ0 μF Qk pc lv (.int x :: st) μ := by subst hp; exact PW.br (c := (0 ≤ x)) kt kf (fun hx hb a b => lv_if_ge hx hb hd ht a b)
theorem P.if_gt {x : Int32} {off : Int} (hd : decode Y.2.1 pc = .ok (.ifCond .gt off, 3)) (ht : (pc : Int) + off = (tgt : Int)) (hp : pc + 3 = pc') (kt : (0 < x) → PW g Y d μ0 μF Qk tgt lv st μ) (kf : ¬ (0 < x) → PW g Y d μ0 μF Qk pc' lv st μ) : PW g Y d μ0 μF Qk pc lv (.int x :: st) μ := by subst hp; exact PW.br (c := (0 < x)) kt kf (fun hx hb a b => lv_if_gt hx hb hd ht a b)
theorem P.if_le {x : Int32} {off : Int} (hd : decode Y.2.1 pc = .ok (.ifCond .le off, 3)) (ht : (pc : Int) + off = (tgt : Int)) (hp : pc + 3 = pc') (kt : (x ≤ 0) → PW g Y d μ0 μF Qk tgt lv st μ) (kf : ¬ (x ≤ 0) → PW g Y d μ0 μF Qk pc' lv st μ) : PW g Y d μ0 μF Qk pc lv (.int x :: st) μ := by subst hp; exact PW.br (c := (x ≤ 0)) kt kf (fun hx hb a b => lv_if_le hx hb hd ht a b)
theorem P.icmp_eq {x y : Int32} {off : Int} (hd : decode Y.2.1 pc = .ok (.if_icmp .eq off, 3)) (ht : (pc : Int) + off = (tgt : Int)) (hp : pc + 3 = pc') (kt : (x = y) → PW g Y d μ0 μF Qk tgt lv st μ) (kf : ¬ (x = y) → PW g Y d μ0 μF Qk pc' lv st μ) : PW g Y d μ0 μF Qk pc lv (.int y :: .int x :: st) μ := by subst hp; exact PW.br (c := (x = y)) kt kf (fun hx hb a b => lv_icmp_eq hx hb hd ht a b)
theorem P.icmp_lt {x y : Int32} {off : Int} (hd : decode Y.2.1 pc = .ok (.if_icmp .lt off, 3)) (ht : (pc : Int) + off = (tgt : Int)) (hp : pc + 3 = pc') (kt : (x < y) → PW g Y d μ0 μF Qk tgt lv st μ) (kf : ¬ (x < y) → PW g Y d μ0 μF Qk pc' lv st μ) : PW g Y d μ0 μF Qk pc lv (.int y :: .int x :: st) μ := by subst hp; exact PW.br (c := (x < y)) kt kf (fun hx hb a b => lv_icmp_lt hx hb hd ht a b)
theorem P.icmp_ge {x y : Int32} {off : Int} (hd : decode Y.2.1 pc = .ok (.if_icmp .ge off, 3)) (ht : (pc : Int) + off = (tgt : Int)) (hp : pc + 3 = pc') (kt : (y ≤ x) → PW g Y d μ0 μF Qk tgt lv st μ) (kf : ¬ (y ≤ x) → PW g Y d μ0 μF Qk pc' lv st μ) : PW g Y d μ0 μF Qk pc lv (.int y :: .int x :: st) μ := by subst hp; exact PW.br (c := (y ≤ x)) kt kf (fun hx hb a b => lv_icmp_ge hx hb hd ht a b)
theorem P.icmp_gt {x y : Int32} {off : Int} (hd : decode Y.2.1 pc = .ok (.if_icmp .gt off, 3)) (ht : (pc : Int) + off = (tgt : Int)) (hp : pc + 3 = pc') (kt : (y < x) → PW g Y d μ0 μF Qk tgt lv st μ) (kf : ¬ (y < x) → PW g Y d μ0 μF Qk pc' lv st μ) : PW g Y d μ0 μF Qk pc lv (.int y :: .int x :: st) μ := by subst hp; exact PW.br (c := (y < x)) kt kf (fun hx hb a b => lv_icmp_gt hx hb hd ht a b)
theorem P.icmp_le {x y : Int32} {off : Int} (hd : decode Y.2.1 pc = .ok (.if_icmp .le off, 3)) (ht : (pc : Int) + off = (tgt : Int)) (hp : pc + 3 = pc') (kt : (x ≤ y) → PW g Y d μ0 μF Qk tgt lv st μ) (kf : ¬ (x ≤ y) → PW g Y d μ0 μF Qk pc' lv st μ) : PW g Y d μ0 μF Qk pc lv (.int y :: .int x :: st) μ := by subst hp; exact PW.br (c := (x ≤ y)) kt kf (fun hx hb a b => lv_icmp_le hx hb hd ht a b)
theorem P.if_ne {x : Int32} {off : Int} (hd : decode Y.2.1 pc = .ok (.ifCond .ne off, 3)) (ht : (pc : Int) + off = (tgt : Int)) (hp : pc + 3 = pc') (kt : ¬ (x = 0) → PW g Y d μ0 μF Qk tgt lv st μ) (kf : (x = 0) → PW g Y d μ0 μF Qk pc' lv st μ) : PW g Y d μ0 μF Qk pc lv (.int x :: st) μ := by subst hp; exact PW.br (c := (x = 0)) kf kt (fun hx hb a b => lv_if_ne hx hb hd ht b a)
theorem P.icmp_ne {x y : Int32} {off : Int} (hd : decode Y.2.1 pc = .ok (.if_icmp .ne off, 3)) (ht : (pc : Int) + off = (tgt : Int)) (hp : pc + 3 = pc') (kt : ¬ (x = y) → PW g Y d μ0 μF Qk tgt lv st μ) (kf : (x = y) → PW g Y d μ0 μF Qk pc' lv st μ) : PW g Y d μ0 μF Qk pc lv (.int y :: .int x :: st) μ := by subst hp; exact PW.br (c := (x = y)) kf kt (fun hx hb a b => lv_icmp_ne hx hb hd ht b a)
theorem P.goto {off : Int} (hd : decode Y.2.1 pc = .ok (.goto off, 3)) (ht : (pc : Int) + off = (tgt : Int)) (k : PW g Y d μ0 μF Qk tgt lv st μ) : PW g Y d μ0 μF Qk pc lv st μ := PW.pure k (fun hx hb _ _ hl kk => lv_goto hx hb hd ht (kk _ hl))
theorem P.ifnonnull {x : Nat} {off : Int} (hd : decode Y.2.1 pc = .ok (.ifnonnull off, 3)) (ht : (pc : Int) + off = (tgt : Int)) (k : PW g Y d μ0 μF Qk tgt lv st μ) : PW g Y d μ0 μF Qk pc lv (.ref x :: st) μ := PW.pure k (fun hx hb _ _ hl kk => lv_ifnonnull hx hb hd ht (kk _ hl))
theorem P.ifnonnullN {off : Int} (hd : decode Y.2.1 pc = .ok (.ifnonnull off, 3)) (hp : pc + 3 = pc') (k : PW g Y d μ0 μF Qk pc' lv st μ) : PW g Y d μ0 μF Qk pc lv (.null :: st) μ := by subst hp; exact PW.pure k (fun hx hb _ _ hl kk => lv_ifnonnullN hx hb hd (kk _ hl))
theorem P.ifnull {x : Nat} {off : Int} (hd : decode Y.2.1 pc = .ok (.ifnull off, 3)) (hp : pc + 3 = pc') (k : PW g Y d μ0 μF Qk pc' lv st μ) : PW g Y d μ0 μF Qk pc lv (.ref x :: st) μ := by subst hp; exact PW.pure k (fun hx hb _ _ hl kk => lv_ifnull hx hb hd (kk _ hl))
theorem P.ifnullN {off : Int} (hd : decode Y.2.1 pc = .ok (.ifnull off, 3)) (ht : (pc : Int) + off = (tgt : Int)) (k : PW g Y d μ0 μF Qk tgt lv st μ) : PW g Y d μ0 μF Qk pc lv (.null :: st) μ := PW.pure k (fun hx hb _ _ hl kk => lv_ifnullN hx hb hd ht (kk _ hl))
theorem P.acmp_eq {x y : Nat} {off : Int} (hd : decode Y.2.1 pc = .ok (.if_acmp .eq off, 3)) (ht : (pc : Int) + off = (tgt : Int)) (hp : pc + 3 = pc') (kt : x = y → PW g Y d μ0 μF Qk tgt lv st μ) (kf : ¬ x = y → PW g Y d μ0 μF Qk pc' lv st μ) : PW g Y d μ0 μF Qk pc lv (.ref y :: .ref x :: st) μ := by subst hp; exact PW.br (c := x = y) kt kf (fun hx hb a b => lv_acmp_eq (rx := some x) (ry := some y) hx hb hd ht (fun z => a (Option.some.inj z)) (fun z => b (fun w => z (congrArg some w))))
theorem P.acmp_ne {x y : Nat} {off : Int} (hd : decode Y.2.1 pc = .ok (.if_acmp .ne off, 3)) (ht : (pc : Int) + off = (tgt : Int)) (hp : pc + 3 = pc') (kt : ¬ x = y → PW g Y d μ0 μF Qk tgt lv st μ) (kf : x = y → PW g Y d μ0 μF Qk pc' lv st μ) : PW g Y d μ0 μF Qk pc lv (.ref y :: .ref x :: st) μ := by subst hp; exact PW.br (c := x = y) kf kt (fun hx hb a b => lv_acmp_ne (rx := some x) (ry := some y) hx hb hd ht (fun z => b (fun w => z (congrArg some w))) (fun z => a (Option.some.inj z)))
theorem P.tsIn {dflt lo hi : Int} {offs : Array Int} {len : Nat} {x : Int32} {off : Int} (hd : decode Y.2.1 pc = .ok (.tableswitch dflt lo hi offs, len)) (h1 : ¬ x.toInt < lo) (h2 : ¬ hi < x.toInt) (ho : offs[(x.toInt - lo).toNat]? = some off) (ht : (pc : Int) + off = (tgt : Int)) (k : PW g Y d μ0 μF Qk tgt lv st μ) : PW g Y d μ0 μF Qk pc lv (.int x :: st) μ := PW.pure k (fun hx hb _ _ hl kk => lv_tableIn hx hb hd h1 h2 ho ht (kk _ hl))
theorem P.tsOut {dflt lo hi : Int} {offs : Array Int} {len : Nat} {x : Int32} (hd : decode Y.2.1 pc = .ok (.tableswitch dflt lo hi offs, len)) (h : x.toInt < lo ∨ hi < x.toInt) (ht : (pc : Int) + dflt = (tgt : Int)) (k : PW g Y d μ0 μF Qk tgt lv st μ) : PW g Y d μ0 μF Qk pc lv (.int x :: st) μ := PW.pure k (fun hx hb _ _ hl kk => lv_tableOut hx hb hd h ht (kk _ hl))
theorem P.ls {dflt : Int} {ps : Array (Int × Int)} {len : Nat} {x : Int32} {off : Int} (hd : decode Y.2.1 pc = .ok (.lookupswitch dflt ps, len)) (hs : (ps.toList.zip (ps.toList.drop 1)).all (fun (a, next) => a.1 < next.1) = true) (ho : Op.lookupswitch.offset ps.toList dflt x.toInt = off) (ht : (pc : Int) + off = (tgt : Int)) (k : PW g Y d μ0 μF Qk tgt lv st μ) : PW g Y d μ0 μF Qk pc lv (.int x :: st) μ := PW.pure k (fun hx hb _ _ hl kk => lv_lookup hx hb hd hs ho ht (kk _ hl))
theorem P.nmi {a x : Int32} (h : a = x) (k : PW g Y d μ0 μF Qk pc lv (.int x :: st) μ) : PW g Y d μ0 μF Qk pc lv (.int a :: st) μ := by subst h; exact k
theorem P.nml {a x : Int64} (h : a = x) (k : PW g Y d μ0 μF Qk pc lv (.long x :: st) μ) : PW g Y d μ0 μF Qk pc lv (.long a :: st) μ := by subst h; exact k
end PWR
