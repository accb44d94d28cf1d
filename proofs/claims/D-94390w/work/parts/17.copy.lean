set_option maxRecDepth 100000
/-! System.arraycopy over the pure memory -/
theorem sp_get : ∀ (xs : List Value) (i at_ : Nat) (c : Cell) (k : Nat), k < c.slots.size → (c.storePairs at_ (xs.zipIdx i)).slots[k]? = if at_ + i ≤ k ∧ k < at_ + i + xs.length then some (xs.getD (k - (at_ + i)) .null) else c.slots[k]?
  | [], i, at_, c, k, hk => by
    rw [if_neg (by simp only [List.length_nil]; omega)]
    rfl
  | x :: xs, i, at_, c, k, hk => by
    rw [List.zipIdx_cons]
    show ((c.setSlot (at_ + i) x).storePairs at_ (xs.zipIdx (i + 1))).slots[k]? = _
    rw [sp_get xs (i + 1) at_ _ k (by rw [setSlot_size]; exact hk)]
    by_cases hk2 : k = at_ + i
    · subst hk2
      rw [if_neg (by omega), if_pos (by simp only [List.length_cons]; omega), setSlot_get _ _ _ _ hk, if_pos rfl, Nat.sub_self]
      rfl
    · by_cases h : at_ + (i + 1) ≤ k ∧ k < at_ + (i + 1) + xs.length
      · rw [if_pos h, if_pos (by simp only [List.length_cons]; omega)]
        have e : k - (at_ + i) = (k - (at_ + (i + 1))) + 1 := by omega
        rw [e, List.getD_cons_succ]
      · rw [if_neg h, if_neg (by simp only [List.length_cons]; omega)]
        exact slot_ne c x (Ne.symm hk2)
theorem sr_get (cs cd : Cell) (sp dp n k : Nat) (hk : k < cd.slots.size) : (cd.storeRun dp (cs.stretch sp n)).slots[k]? = if dp ≤ k ∧ k < dp + n then some (cs.slots.getD (sp + (k - dp)) .null) else cd.slots[k]? := by
  unfold Cell.storeRun
  rw [show (cs.stretch sp n).zipIdx = (cs.stretch sp n).zipIdx 0 from rfl, sp_get _ _ _ _ _ hk]
  have hl : (cs.stretch sp n).length = n := by simp [Cell.stretch]
  rw [hl, Nat.add_zero]
  by_cases h : dp ≤ k ∧ k < dp + n
  · rw [if_pos h, if_pos h, List.getD_eq_getElem?_getD]
    unfold Cell.stretch
    rw [List.getElem?_map, List.getElem?_range (by omega)]
    rfl
  · rw [if_neg h, if_neg h]
/-- the kinds that may be copied into one another -/
def cpT (ta tb : Nat) : Bool := (tb == 6 && (ta == 6 || ta == 12)) || (tb == 8 && ta == 8)
def elOK (μ : Sw) (tb : Nat) (x : Option Nat) : Bool := match x with
  | none => true
  | some y => if tb = 6 then (oAny μ y).isSome else if tb = 8 then (oc μ y 8).isSome else false
def cpI (μ : Sw) (a : Nat) (sp : Int32) (b : Nat) (dp n : Int32) : Option Sw := match μ.1 a, μ.1 b with
  | some (.inl (t0, (n0, .inl f))), some (.inl (t1, (n1, .inl h))) => if t0 = 0 ∧ t1 = 0 ∧ ¬ sp < 0 ∧ ¬ dp < 0 ∧ ¬ n < 0 ∧ sp.toNatClampNeg + n.toNatClampNeg ≤ n0 ∧ dp.toNatClampNeg + n.toNatClampNeg ≤ n1 then some (mup μ.1 b (.inl (0, (n1, .inl (va_cpy f h sp.toNatClampNeg dp.toNatClampNeg n.toNatClampNeg)))), μ.2) else none
  | _, _ => none
def cpQ (μ : Sw) (tb : Nat) (a : Nat) (sp : Int32) (b : Nat) (dp n : Int32) : Option Sw := match μ.1 a, μ.1 b with
  | some (.inl (t0, (n0, .inr (.inr f)))), some (.inl (t1, (n1, .inr (.inr h)))) => if t1 = tb ∧ tb < 10 ∧ cpT t0 tb = true ∧ ¬ sp < 0 ∧ ¬ dp < 0 ∧ ¬ n < 0 ∧ sp.toNatClampNeg + n.toNatClampNeg ≤ n0 ∧ dp.toNatClampNeg + n.toNatClampNeg ≤ n1 ∧ (List.range n.toNatClampNeg).all (fun i => elOK μ tb (f (sp.toNatClampNeg + i))) = true then some (mup μ.1 b (.inl (tb, (n1, .inr (.inr (va_cpy f h sp.toNatClampNeg dp.toNatClampNeg n.toNatClampNeg))))), μ.2) else none
  | _, _ => none
theorem cpI_spec {μ μ' : Sw} {a b : Nat} {sp dp n : Int32} (e : cpI μ a sp b dp n = some μ') : ∃ n0 n1 f h, μ.1 a = some (.inl (0, (n0, .inl f))) ∧ μ.1 b = some (.inl (0, (n1, .inl h))) ∧ ¬ sp < 0 ∧ ¬ dp < 0 ∧ ¬ n < 0 ∧ sp.toNatClampNeg + n.toNatClampNeg ≤ n0 ∧ dp.toNatClampNeg + n.toNatClampNeg ≤ n1 ∧ μ' = (mup μ.1 b (.inl (0, (n1, .inl (va_cpy f h sp.toNatClampNeg dp.toNatClampNeg n.toNatClampNeg)))), μ.2) := by
  unfold cpI at e
  split at e
  · next t0 n0 f t1 n1 h e0 e1 =>
    split at e
    · next c => obtain ⟨c0, c1, c2, c3, c4, c5, c6⟩ := c; subst c0; subst c1; cases e; exact ⟨n0, n1, f, h, e0, e1, c2, c3, c4, c5, c6, rfl⟩
    · cases e
  · cases e
theorem cpQ_spec {μ μ' : Sw} {tb a b : Nat} {sp dp n : Int32} (e : cpQ μ tb a sp b dp n = some μ') : ∃ t0 n0 n1 f h, μ.1 a = some (.inl (t0, (n0, .inr (.inr f)))) ∧ μ.1 b = some (.inl (tb, (n1, .inr (.inr h)))) ∧ tb < 10 ∧ cpT t0 tb = true ∧ ¬ sp < 0 ∧ ¬ dp < 0 ∧ ¬ n < 0 ∧ sp.toNatClampNeg + n.toNatClampNeg ≤ n0 ∧ dp.toNatClampNeg + n.toNatClampNeg ≤ n1 ∧ (∀ i, i < n.toNatClampNeg → elOK μ tb (f (sp.toNatClampNeg + i)) = true) ∧ μ' = (mup μ.1 b (.inl (tb, (n1, .inr (.inr (va_cpy f h sp.toNatClampNeg dp.toNatClampNeg n.toNatClampNeg))))), μ.2) := by
  unfold cpQ at e
  split at e
  · next t0 n0 f t1 n1 h e0 e1 =>
    split at e
    · next c => obtain ⟨c1, c10, c0, c2, c3, c4, c5, c6, c7⟩ := c; subst c1; cases e; exact ⟨t0, n0, n1, f, h, e0, e1, c10, c0, c2, c3, c4, c5, c6, fun i hi => List.all_eq_true.mp c7 i (List.mem_range.mpr hi), rfl⟩
    · cases e
  · cases e
theorem nn_int {z : Int32} (hz : ¬ z < 0) : z.toInt = (z.toNatClampNeg : Int) := by
  have hz0 : (0 : Int) ≤ z.toInt := by
    have := Int32.not_lt.mp hz
    simpa using Int32.le_iff_toInt_le.mp this
  show z.toInt = ((z.toInt.toNat : Nat) : Int)
  omega
section CPW
variable {p : Program} {l : Launch} {e : Env} {R : Room} {s : State} {m : MethodId} {args : Array Value} {below : List Frame} {meth : Method} {c : Code} {H : Heap} {locs : List Loc} {cells slots : Nat} {Q : State → Prop}
variable {cc : ByteArray} {pc : Nat} {ls : Array Slot} {rest : List Value}
theorem W.copyK (hexec : p.tables.exec = Jvm.exec) (hb : c.code = cc) (hml : c.maxLocals = ls.size) {own : String} {index : Nat} (hown : s.vm.findClass own = some m.cls) (hlink : (Cond.methodLink own index arraycopyName).before args s = true) (hnat : (Cond.native arraycopyName).before args s = true) (hstat : (Cond.static arraycopyName).before args s = true) (hini : (Cond.initialized "java/lang/System").before args s = true)
    {a0 a : Nat} {cs cd : Cell} {sT dT : FieldType} {sp dp n : Int32} {sC dC : ClassId} {ks kd : Class} (hs : H[a0]? = some cs) (hd : H[a]? = some cd) (hs1 : ∀ k, cs.vm ≠ .statics k) (hd1 : ∀ k, cd.vm ≠ .statics k) (hs2 : cs.vm ≠ .unknown) (hd2 : cd.vm ≠ .unknown) (hks : s.vm.classes[cs.cls]? = some ks) (hkd : s.vm.classes[cd.cls]? = some kd) (hsk : ks.kind = .array sC sT) (hdk : kd.kind = .array dC dT) (hty : ((refKind sT != refKind dT) || (!refKind sT && sT != dT)) = false)
    (h1 : ¬ sp < 0) (h2 : ¬ dp < 0) (h3 : ¬ n < 0) (h4 : sp.toNatClampNeg + n.toNatClampNeg ≤ cs.slots.size) (h5 : dp.toNatClampNeg + n.toNatClampNeg ≤ cd.slots.size)
    (hvals : ∀ T : State, T.heap = H → ∀ vm', s.vm.Alike vm' → ∀ i, i < n.toNatClampNeg → fits dT (cs.slots.getD (sp.toNatClampNeg + i) .null) = true ∧ (T.setVm vm').takes dC (cs.slots.getD (sp.toNatClampNeg + i) .null))
    (hframes : 1 ≤ R.frames) (hlocals : (rest.map fun v => v.category).sum + (nativeFrameWords "java/lang/System" "arraycopy" 5 + 11) ≤ R.locals) (hdg : decode cc pc = .ok (.invokestatic index, 3))
    (kk : ∀ (H1 : Heap) (L : List Loc), H1[a]? = some (cd.storeRun dp.toNatClampNeg (cs.stretch sp.toNatClampNeg n.toNatClampNeg)) → H1.size = H.size → (∀ q : Nat, q ≠ a → H1[q]? = H[q]?) → (∀ z ∈ L, z.base = a) → W p l e R s m args below meth c H1 (locs ++ L) cells slots Q (F0 m (pc + 3) ls rest)) : W p l e R s m args below meth c H locs cells slots Q (F0 m pc ls (.int n :: .int dp :: .ref a :: .int sp :: .ref a0 :: rest)) := by
  intro T hT X
  obtain ⟨vm', X', step⟩ := X.arraycopy hexec hown hlink hnat hstat hini (src := a0) (dst := a) (cs := cs) (cd := cd) (srcPos := sp) (destPos := dp) (n := n) (by rw [hT]; exact hs) (by rw [hT]; exact hd) hs1 hd1 hs2 hd2 hks hkd hsk hdk hty h1 h2 h3
    (by rw [nn_int h1, nn_int h3]; omega) (by rw [nn_int h2, nn_int h3]; omega) (fun vm1 hv i hi => hvals T hT vm1 hv i hi)
    (g := F0 m pc ls (.int n :: .int dp :: .ref a :: .int sp :: .ref a0 :: rest)) rfl (by rw [hml]) (rest := rest) rfl (by rw [hb]; exact hdg) hframes (by show 2 * 0 + _ + _ ≤ _; omega)
  have hl : a < H.size := (Array.getElem?_eq_some_iff.mp hd).1
  have hheap : ((T.setVm vm').setCell a (copied cs cd sp dp n)).heap = H.setIfInBounds a (copied cs cd sp dp n) := by rw [← hT]; rfl
  obtain ⟨t, a1, b1⟩ := kk _ _ (show (H.setIfInBounds a (copied cs cd sp dp n))[a]? = some (copied cs cd sp dp n) by simp [Array.getElem?_setIfInBounds, hl]) (by simp) (fun q hq => by simp [Array.getElem?_setIfInBounds, Ne.symm hq]) (fun z hz => by
    obtain ⟨y, -, hy⟩ := List.mem_map.mp hz
    rw [← hy]) _ hheap X'
  exact ⟨t, step t a1, b1⟩
end CPW
section CPP
variable {g : Gx} {Y : Ym} {d : Nat} {μ0 μF : Sw} {Qk : List Frame → Array Value → State → State → Prop} {pc pc' tgt : Nat} {lv lv' : List (Nat × Value)} {st st' : List Value} {μ μ' : Sw}
theorem va_S.puts {A : Nat → Prop} {H0 H H1 : Heap} {locs L : List Loc} {a : Nat} (h : va_S A H0 H locs) (z : H1.size = H.size) (oq : ∀ q : Nat, q ≠ a → H1[q]? = H[q]?) (ha : A a) (hL : ∀ z ∈ L, z.base = a) : va_S A H0 H1 (locs ++ L) := by
  refine ⟨by rw [z]; exact h.1, fun q h1 h2 => ?_, fun q hq => ?_⟩
  · rw [oq q (fun e => h2 (by rw [e]; exact ha))]
    exact h.2.1 q h1 h2
  · rcases List.mem_append.mp hq with h1 | h1
    · exact h.2.2 q h1
    · rw [hL q h1]
      exact ha
theorem P.cpI {index a b : Nat} {sp dp n : Int32} (h : cpI μ a sp b dp n = some μ') (hlink : Cond.methodLink Y.1 index arraycopyName ∈ lw_all) (hnat : Cond.native arraycopyName ∈ lw_all) (hstat : Cond.static arraycopyName ∈ lw_all) (hini : Cond.initialized "java/lang/System" ∈ lw_all) (hd1 : 1 ≤ d) (hst : (st.map fun v => v.category).sum ≤ 8) (hd : decode Y.2.1 pc = .ok (.invokestatic index, 3)) (hp : pc + 3 = pc') (kk : PW g Y d μ0 μF Qk pc' lv st μ') : PW g Y d μ0 μF Qk pc lv (.int n :: .int dp :: .ref b :: .int sp :: .ref a :: st) μ := by
  subst hp
  obtain ⟨n0, n1, f, h9, hMa, hMb, b1, b2, b3, b4, b5, rfl⟩ := cpI_spec h
  refine ⟨kk.1, fun h0 l p e s m args below meth c H locs ls Z hW hS hl => ?_⟩
  have k9 := fun H locs hW hS => kk.2 h0 l p e s m args below meth c H locs ls Z hW hS hl
  obtain ⟨-, hx, hb, -, -, hml, hown, hts, hK, -⟩ := Z
  obtain ⟨⟨cs, c1, c2, c3, c4, c5, c6⟩, -, -⟩ := hW.2.1 a _ hMa
  obtain ⟨⟨cd, e1, e2, e3, e4, e5, e6⟩, -, hga⟩ := hW.2.1 b _ hMb
  have hga : gA g b := hga (show (0 : Nat) < 10 by decide)
  obtain ⟨-, ks, k1, sC, k2⟩ := (hK.2.1 0 (by decide)).1 0 (fun _ => .null)
  have hsrc : ∀ j, j < n0 → cs.slots.getD j .null = .int (f j) := fun j hj => by
    rw [Array.getD_eq_getD_getElem?, c6 j hj]
    rfl
  refine W.copyK hx hb (by rw [hml]; exact hl.1.symm) hown (hts _ hlink) (hts _ hnat) (hts _ hstat) (hts _ hini) c1 e1 c3 e3 c4 e4 (by rw [c2]; exact k1) (by rw [e2]; exact k1) k2 k2 rfl b1 b2 b3 (Nat.le_trans b4 c5.1) (Nat.le_trans b5 e5.1) (fun T hT vm' hv i hi => by rw [hsrc _ (by omega)]; exact ⟨rfl, trivial⟩) hd1 (show (st.map fun v => v.category).sum + (7 + 11) ≤ 64 * d by omega) hd fun H1 L o1 o2 o3 hL => ?_
  refine k9 H1 _ (hW.set o2 o3 ⟨⟨_, o1, ?_, ?_, ?_, ?_, fun j hj => ?_⟩, (show (0 : Nat) < 13 by decide), fun _ => hga⟩) (hS.puts o2 o3 hga hL)
  · rw [Cell.storeRun, (Cell.storePairs_facts _ _ _).1]; exact e2
  · rw [Cell.storeRun, (Cell.storePairs_facts _ _ _).2.1]; exact e3
  · rw [Cell.storeRun, (Cell.storePairs_facts _ _ _).2.1]; exact e4
  · exact sz5.same (by rw [Cell.storeRun, (Cell.storePairs_facts _ _ _).2.2.1]) e5
  · have hj : j < n1 := hj
    rw [sr_get _ _ _ _ _ _ (Nat.lt_of_lt_of_le hj e5.1)]
    show _ = some (Value.int (va_cpy f h9 sp.toNatClampNeg dp.toNatClampNeg n.toNatClampNeg j))
    unfold va_cpy
    by_cases hc : dp.toNatClampNeg ≤ j ∧ j < dp.toNatClampNeg + n.toNatClampNeg
    · rw [if_pos hc, if_pos hc, hsrc _ (by omega)]
    · rw [if_neg hc, if_neg hc, e6 j hj]
      rfl
theorem P.cpQ {index tb a b : Nat} {sp dp n : Int32} (h : cpQ μ tb a sp b dp n = some μ') (hlink : Cond.methodLink Y.1 index arraycopyName ∈ lw_all) (hnat : Cond.native arraycopyName ∈ lw_all) (hstat : Cond.static arraycopyName ∈ lw_all) (hini : Cond.initialized "java/lang/System" ∈ lw_all) (hd1 : 1 ≤ d) (hst : (st.map fun v => v.category).sum ≤ 8) (hd : decode Y.2.1 pc = .ok (.invokestatic index, 3)) (hp : pc + 3 = pc') (kk : PW g Y d μ0 μF Qk pc' lv st μ') : PW g Y d μ0 μF Qk pc lv (.int n :: .int dp :: .ref b :: .int sp :: .ref a :: st) μ := by
  subst hp
  obtain ⟨t0, n0, n1, f, h9, hMa, hMb, h10, hT, b1, b2, b3, b4, b5, hel, rfl⟩ := cpQ_spec h
  refine ⟨kk.1, fun h0 l p e s m args below meth c H locs ls Z hW hS hl => ?_⟩
  have k9 := fun H locs hW hS => kk.2 h0 l p e s m args below meth c H locs ls Z hW hS hl
  obtain ⟨-, hx, hb, -, -, hml, hown, hts, hK, -, hN, -⟩ := Z
  obtain ⟨⟨cs, c1, c2, c3, c4, c5, c6⟩, h13, -⟩ := hW.2.1 a _ hMa
  obtain ⟨⟨cd, e1, e2, e3, e4, e5, e6⟩, h13b, hga⟩ := hW.2.1 b _ hMb
  have hga : gA g b := hga h10
  obtain ⟨-, ks, k1, sC, k2⟩ := (hK.2.1 t0 h13).1 0 (fun _ => .null)
  have hsrc : ∀ j, j < n0 → cs.slots.getD j .null = va_rf (f j) := fun j hj => by
    rw [Array.getD_eq_getD_getElem?, c6 j hj]
    rfl
  have hC : ∃ C C' : String, kty tb = .object C ∧ kty t0 = .object C' ∧ ∀ y, elOK μ tb (some y) = true → ∃ cellV : Cell, H[y]? = some cellV ∧ (∀ q, cellV.vm ≠ .statics q) ∧ (∃ kC : Class, s.vm.classes[cellV.cls]? = some kC) ∧ ∀ comp, s.vm.findClass C = some comp → s.vm.assignable cellV.cls comp = true := by
    have hobj : ∀ y ci fs, μ.1 y = some (.inr (ci, fs)) → ∃ (r : vw_C) (cellV : Cell) (kC : Class), kcl[ci]? = some r ∧ H[y]? = some cellV ∧ (∀ q, cellV.vm ≠ .statics q) ∧ s.vm.classes[cellV.cls]? = some kC ∧ cellV.cls = g.1 ci := fun y ci fs hy => by
      obtain ⟨⟨r, r1, cellV, g1, g2, g3, -⟩, -⟩ := hW.2.1 y _ hy
      obtain ⟨kC, hkC, -⟩ := (hK.1 ci _ r1).2.2
      exact ⟨r, cellV, kC, r1, g1, (fun q h => by rw [g3] at h; cases h), by rw [g2]; exact hkC, g2⟩
    unfold cpT at hT
    simp only [Bool.or_eq_true, Bool.and_eq_true, beq_iff_eq] at hT
    rcases hT with ⟨rfl, ht⟩ | ⟨rfl, rfl⟩
    · refine ⟨"java/lang/Object", "java/lang/Object", rfl, by rcases ht with rfl | rfl <;> rfl, fun y hy => ?_⟩
      have hy : (oAny μ y).isSome = true := hy
      obtain ⟨u, hu⟩ := Option.isSome_iff_exists.mp hy
      obtain ⟨ci, fs, hM⟩ := oAny_spec hu
      obtain ⟨r, cellV, kC, r1, v1, v2, v3, v4⟩ := hobj y ci fs hM
      exact ⟨cellV, v1, v2, ⟨kC, v3⟩, fun comp hc => by rw [v4]; exact vb_asgC (hN.1 _ (obj_cast _ _ r1) rfl) _ _ hc (hK.1 ci _ r1).2.1⟩
    · refine ⟨"StiltTown$Kept", "StiltTown$Kept", rfl, rfl, fun y hy => ?_⟩
      have hy : (oc μ y 8).isSome = true := hy
      obtain ⟨u, hu⟩ := Option.isSome_iff_exists.mp hy
      obtain ⟨fs, hM⟩ := oc_spec hu
      obtain ⟨r, cellV, kC, r1, v1, v2, v3, v4⟩ := hobj y 8 fs hM
      exact ⟨cellV, v1, v2, ⟨kC, v3⟩, fun comp hc => by
        have h2 := (hK.1 8 _ ci8.1).2
        rw [v4, show comp = g.1 8 from Option.some.inj (hc.symm.trans h2.1)]
        exact va_assign h2⟩
  obtain ⟨C, C', hkb, hka, hall⟩ := hC
  have hRA := (hK.2.1 tb h13b).2 (by rintro rfl; cases hkb)
  rw [hkb] at hRA
  obtain ⟨kA, comp, r1, r2, r3, -⟩ := hRA
  obtain ⟨kE, hkE, -⟩ := Vm.findClass_spec r3
  have k2 : ks.kind = .array sC (kty t0) := k2
  rw [hka] at k2
  refine W.copyK hx hb (by rw [hml]; exact hl.1.symm) hown (hts _ hlink) (hts _ hnat) (hts _ hstat) (hts _ hini) c1 e1 c3 e3 c4 e4 (by rw [c2]; exact k1) (by rw [e2]; exact r1) k2 r2 rfl b1 b2 b3 (Nat.le_trans b4 c5.1) (Nat.le_trans b5 e5.1) (fun T hT vm' hv i hi => ?_) hd1 (show (st.map fun v => v.category).sum + (7 + 11) ≤ 64 * d by omega) hd fun H1 L o1 o2 o3 hL => ?_
  · rw [hsrc _ (by omega)]
    have hi := hel i hi
    cases hfi : f (sp.toNatClampNeg + i) with
    | none => exact ⟨rfl, trivial⟩
    | some y =>
      rw [hfi] at hi
      obtain ⟨cellV, v1, v2, ⟨kC, v3⟩, v4⟩ := hall y hi
      refine ⟨rfl, cellV, by show T.heap[y]? = _; rw [hT]; exact v1, v2, ?_, ?_, ?_⟩
      · obtain ⟨k', hk', -⟩ := hv.2.2 _ _ v3
        exact ⟨k', hk'⟩
      · obtain ⟨k', hk', -⟩ := hv.2.2 _ _ hkE
        exact ⟨k', hk'⟩
      · show vm'.assignable _ _ = true
        rw [hv.assignable]
        exact v4 comp r3
  refine k9 H1 _ (hW.set o2 o3 ⟨⟨_, o1, ?_, ?_, ?_, ?_, fun j hj => ?_⟩, by omega, fun _ => hga⟩) (hS.puts o2 o3 hga hL)
  · rw [Cell.storeRun, (Cell.storePairs_facts _ _ _).1]; exact e2
  · rw [Cell.storeRun, (Cell.storePairs_facts _ _ _).2.1]; exact e3
  · rw [Cell.storeRun, (Cell.storePairs_facts _ _ _).2.1]; exact e4
  · exact sz5.same (by rw [Cell.storeRun, (Cell.storePairs_facts _ _ _).2.2.1]) e5
  · have hj : j < n1 := hj
    rw [sr_get _ _ _ _ _ _ (Nat.lt_of_lt_of_le hj e5.1)]
    show _ = some (va_rf (va_cpy f h9 sp.toNatClampNeg dp.toNatClampNeg n.toNatClampNeg j))
    unfold va_cpy
    by_cases hc : dp.toNatClampNeg ≤ j ∧ j < dp.toNatClampNeg + n.toNatClampNeg
    · rw [if_pos hc, if_pos hc, hsrc _ (by omega)]
    · rw [if_neg hc, if_neg hc, e6 j hj]
      rfl
end CPP
