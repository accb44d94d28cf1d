set_option maxRecDepth 100000
/-! more rows: division, objects and arrays that are made, by their equations -/
def dvO (x y : Int32) : Option Int32 := if y = 0 then none else some (x / y)
def rmO (x y : Int32) : Option Int32 := if y = 0 then none else some (x - x / y * y)
theorem dvO_spec {x y z : Int32} (h : dvO x y = some z) : ¬ y = 0 ∧ z = x / y := by
  unfold dvO at h
  split at h
  · cases h
  · next h0 => cases h; exact ⟨h0, rfl⟩
theorem rmO_spec {x y z : Int32} (h : rmO x y = some z) : ¬ y = 0 ∧ z = x - x / y * y := by
  unfold rmO at h
  split at h
  · cases h
  · next h0 => cases h; exact ⟨h0, rfl⟩
def mx (x y : Int32) : Int32 := if x < y then y else x
def mn (x y : Int32) : Int32 := if y < x then y else x
def ab (x : Int32) : Int32 := if 0 ≤ x then x else 0 - x
def pfZ (μ : Sw) (a ci k : Nat) (v : Int32) : Option Sw := if v = 0 ∨ v = 1 then pf μ a ci k (.int v) else none
theorem pfZ_spec {μ μ' : Sw} {a ci k : Nat} {v : Int32} (h : pfZ μ a ci k v = some μ') : (v = 0 ∨ v = 1) ∧ pf μ a ci k (.int v) = some μ' := by
  unfold pfZ at h
  split at h
  · next h0 => exact ⟨h0, h⟩
  · cases h
theorem pfZ_nar {μ μ' : Sw} {a ci k : Nat} {v : Int32} (h : pfZ μ a ci k v = some μ') : narrow .boolean (.int v) = .int v := by
  rcases (pfZ_spec h).1 with rfl | rfl <;> rfl
theorem pfZ_fit {μ μ' : Sw} {a ci k : Nat} {v : Int32} (h : pfZ μ a ci k v = some μ') : fits .boolean (.int v) = true := by
  rcases (pfZ_spec h).1 with rfl | rfl <;> rfl
section PWE
variable {g : Gx} {Y : Ym} {d : Nat} {μ0 μF : Sw} {Qk : List Frame → Array Value → State → State → Prop} {pc pc' tgt : Nat} {lv lv' : List (Nat × Value)} {st st' : List Value} {μ μ' : Sw}
theorem P.idivO {x y z : Int32} (h : dvO x y = some z) (hd : decode Y.2.1 pc = .ok (.idiv, 1)) (hp : pc + 1 = pc') (k : PW g Y d μ0 μF Qk pc' lv (.int z :: st) μ) : PW g Y d μ0 μF Qk pc lv (.int y :: .int x :: st) μ := by
  obtain ⟨h0, rfl⟩ := dvO_spec h
  exact P.idiv hd hp h0 k
theorem P.iremO {x y z : Int32} (h : rmO x y = some z) (hd : decode Y.2.1 pc = .ok (.irem, 1)) (hp : pc + 1 = pc') (k : PW g Y d μ0 μF Qk pc' lv (.int z :: st) μ) : PW g Y d μ0 μF Qk pc lv (.int y :: .int x :: st) μ := by
  obtain ⟨h0, rfl⟩ := rmO_spec h
  exact P.irem hd hp h0 k
theorem P.newE {ci N index : Nat} {C : String} {T : u_T} {ty : Nat → FieldType} {fs : List Value} (hci : CI ci C T N ty) (hcl : Cond.classLink Y.1 index C ∈ lw_all) (hinst : Cond.instantiable C N ∈ lw_all) (hini : Cond.initialized C ∈ lw_all) (hfs : ∀ j, j < N → defaultValue (ty j) = vp_V fs j) (e : nw μ (.inr (ci, fs)) N = μ') (hd : decode Y.2.1 pc = .ok (.new index, 3)) (hp : pc + 3 = pc') (kk : PW g Y d μ0 μF Qk pc' lv (.ref μ.2.1 :: st) μ') : PW g Y d μ0 μF Qk pc lv st μ := by
  subst e
  exact P.new hci hcl hinst hini hfs hd hp kk
theorem P.newarrE {t N : Nat} {atype : ArrayType} {n : Int32} {x : Ar} (harr : Cond.arrayClass (newarray.typeOf atype) ∈ lw_all) (hty : newarray.typeOf atype = kty t) (h10 : t < 10) (hra : ∀ (U : State) (cA : ClassId), va_RA U cA (kty t) → U.vm.findClass ("[" ++ (kty t).toString) = some cA) (hx1 : x.1 = N) (hx2 : ∀ j, aV x j = defaultValue (kty t)) (hn : ¬ n < 0) (hN : n.toNatClampNeg = N) (hbytes : N * componentBytes (kty t) ≤ 536870912) (e : nw μ (.inl (t, x)) N = μ') (hd : decode Y.2.1 pc = .ok (.newarray atype, 2)) (hp : pc + 2 = pc') (kk : PW g Y d μ0 μF Qk pc' lv (.ref μ.2.1 :: st) μ') : PW g Y d μ0 μF Qk pc lv (.int n :: st) μ := by
  subst e
  exact P.newarr harr hty h10 hra hx1 hx2 hn hN hbytes hd hp kk
theorem P.anewE {t N index : Nat} {C : String} {n : Int32} (hcl : Cond.classLink Y.1 index C ∈ lw_all) (hao : C ∈ aoL) (hty : kty t = .object C) (h10 : t < 10) (hn : ¬ n < 0) (hN : n.toNatClampNeg = N) (hbytes : N * 4 ≤ 536870912) (e : nw μ (.inl (t, (N, .inr (.inr (fun _ => none))))) N = μ') (hd : decode Y.2.1 pc = .ok (.anewarray index, 3)) (hp : pc + 3 = pc') (kk : PW g Y d μ0 μF Qk pc' lv (.ref μ.2.1 :: st) μ') : PW g Y d μ0 μF Qk pc lv (.int n :: st) μ := by
  subst e
  exact P.anew hcl hao hty h10 hn hN hbytes hd hp kk
theorem P.mmax {index : Nat} {x y : Int32} (hlink : Cond.methodLink Y.1 index Lib.Math.max.name ∈ lw_all) (hstat : Cond.static Lib.Math.max.name ∈ lw_all) (hini : Cond.initialized "java/lang/Math" ∈ lw_all) (hcode : Cond.code Lib.Math.max.name Lib.Math.max.code 2 (some .int) ∈ lw_all) (hd1 : 1 ≤ d) (hst : (st.map fun v => v.category).sum ≤ 8) (hd : decode Y.2.1 pc = .ok (.invokestatic index, 3)) (hp : pc + 3 = pc') (kk : PW g Y d μ0 μF Qk pc' lv (.int (mx x y) :: st) μ) : PW g Y d μ0 μF Qk pc lv (.int y :: .int x :: st) μ := by
  subst hp
  obtain ⟨k1, k2⟩ := kk
  refine ⟨k1, fun h0 l p e s m args below meth c H locs ls Z hW hS hl => ?_⟩
  have k9 := k2 h0 l p e s m args below meth c H locs ls Z hW hS hl
  obtain ⟨-, hx, hb, -, -, hml, hown, hts, -⟩ := Z
  exact va_mmax hx hb (by rw [hml]; exact hl.1.symm) hown (hts _ hlink) (hts _ hstat) (hts _ hini) (hts _ hcode) hd1 (show _ ≤ 64 * d by omega) (show μ.2.1 - μ0.2.1 ≤ μF.2.1 - μ0.2.1 by omega) (show μ.2.2.1 - μ0.2.2.1 ≤ μF.2.2.1 - μ0.2.2.1 by omega) hd k9
theorem P.mmin {index : Nat} {x y : Int32} (hlink : Cond.methodLink Y.1 index Lib.Math.min.name ∈ lw_all) (hstat : Cond.static Lib.Math.min.name ∈ lw_all) (hini : Cond.initialized "java/lang/Math" ∈ lw_all) (hcode : Cond.code Lib.Math.min.name Lib.Math.min.code 2 (some .int) ∈ lw_all) (hd1 : 1 ≤ d) (hst : (st.map fun v => v.category).sum ≤ 8) (hd : decode Y.2.1 pc = .ok (.invokestatic index, 3)) (hp : pc + 3 = pc') (kk : PW g Y d μ0 μF Qk pc' lv (.int (mn x y) :: st) μ) : PW g Y d μ0 μF Qk pc lv (.int y :: .int x :: st) μ := by
  subst hp
  obtain ⟨k1, k2⟩ := kk
  refine ⟨k1, fun h0 l p e s m args below meth c H locs ls Z hW hS hl => ?_⟩
  have k9 := k2 h0 l p e s m args below meth c H locs ls Z hW hS hl
  obtain ⟨-, hx, hb, -, -, hml, hown, hts, -⟩ := Z
  exact va_mmin hx hb (by rw [hml]; exact hl.1.symm) hown (hts _ hlink) (hts _ hstat) (hts _ hini) (hts _ hcode) hd1 (show _ ≤ 64 * d by omega) (show μ.2.1 - μ0.2.1 ≤ μF.2.1 - μ0.2.1 by omega) (show μ.2.2.1 - μ0.2.2.1 ≤ μF.2.2.1 - μ0.2.2.1 by omega) hd k9
theorem P.mabs {index : Nat} {x : Int32} (hlink : Cond.methodLink Y.1 index Lib.Math.abs.name ∈ lw_all) (hstat : Cond.static Lib.Math.abs.name ∈ lw_all) (hini : Cond.initialized "java/lang/Math" ∈ lw_all) (hcode : Cond.code Lib.Math.abs.name Lib.Math.abs.code 1 (some .int) ∈ lw_all) (hd1 : 1 ≤ d) (hst : (st.map fun v => v.category).sum ≤ 8) (hd : decode Y.2.1 pc = .ok (.invokestatic index, 3)) (hp : pc + 3 = pc') (kk : PW g Y d μ0 μF Qk pc' lv (.int (ab x) :: st) μ) : PW g Y d μ0 μF Qk pc lv (.int x :: st) μ := by
  subst hp
  obtain ⟨k1, k2⟩ := kk
  refine ⟨k1, fun h0 l p e s m args below meth c H locs ls Z hW hS hl => ?_⟩
  have k9 := k2 h0 l p e s m args below meth c H locs ls Z hW hS hl
  obtain ⟨-, hx, hb, -, -, hml, hown, hts, -⟩ := Z
  exact va_mabs hx hb (by rw [hml]; exact hl.1.symm) hown (hts _ hlink) (hts _ hstat) (hts _ hini) (hts _ hcode) hd1 (show _ ≤ 64 * d by omega) (show μ.2.1 - μ0.2.1 ≤ μF.2.1 - μ0.2.1 by omega) (show μ.2.2.1 - μ0.2.2.1 ≤ μF.2.2.1 - μ0.2.2.1 by omega) hd k9
end PWE
def dfX0 : List Value := [.null, .null, .int 0, .null, .null, .null, .null, .null, .null, .int 0, .null, .int 0, .null, .int 0, .null, .null, .null, .null, .null, .null]
theorem dfX0_ok : ∀ j, j < 20 → defaultValue (tyX0 j) = vp_V dfX0 j := by
  intro j hj
  match j, hj with
  | 0, _ => rfl
  | 1, _ => rfl
  | 2, _ => rfl
  | 3, _ => rfl
  | 4, _ => rfl
  | 5, _ => rfl
  | 6, _ => rfl
  | 7, _ => rfl
  | 8, _ => rfl
  | 9, _ => rfl
  | 10, _ => rfl
  | 11, _ => rfl
  | 12, _ => rfl
  | 13, _ => rfl
  | 14, _ => rfl
  | 15, _ => rfl
  | 16, _ => rfl
  | 17, _ => rfl
  | 18, _ => rfl
  | 19, _ => rfl
  | j + 20, hj => exact absurd hj (by omega)
def dfX1 : List Value := [.null, .int 0, .null, .null, .null, .int 0]
theorem dfX1_ok : ∀ j, j < 6 → defaultValue (tyX1 j) = vp_V dfX1 j := by
  intro j hj
  match j, hj with
  | 0, _ => rfl
  | 1, _ => rfl
  | 2, _ => rfl
  | 3, _ => rfl
  | 4, _ => rfl
  | 5, _ => rfl
  | j + 6, hj => exact absurd hj (by omega)
def dfX2 : List Value := [.null, .int 0, .int 0, .int 0, .int 0, .null, .null, .null, .int 0]
theorem dfX2_ok : ∀ j, j < 9 → defaultValue (tyX2 j) = vp_V dfX2 j := by
  intro j hj
  match j, hj with
  | 0, _ => rfl
  | 1, _ => rfl
  | 2, _ => rfl
  | 3, _ => rfl
  | 4, _ => rfl
  | 5, _ => rfl
  | 6, _ => rfl
  | 7, _ => rfl
  | 8, _ => rfl
  | j + 9, hj => exact absurd hj (by omega)
def dfX3 : List Value := [.null, .null, .null, .null, .null, .null, .int 0, .null, .int 0, .null, .int 0, .int 0, .int 0, .null, .null, .null]
theorem dfX3_ok : ∀ j, j < 16 → defaultValue (tyX3 j) = vp_V dfX3 j := by
  intro j hj
  match j, hj with
  | 0, _ => rfl
  | 1, _ => rfl
  | 2, _ => rfl
  | 3, _ => rfl
  | 4, _ => rfl
  | 5, _ => rfl
  | 6, _ => rfl
  | 7, _ => rfl
  | 8, _ => rfl
  | 9, _ => rfl
  | 10, _ => rfl
  | 11, _ => rfl
  | 12, _ => rfl
  | 13, _ => rfl
  | 14, _ => rfl
  | 15, _ => rfl
  | j + 16, hj => exact absurd hj (by omega)
def dfX4 : List Value := [.int 0]
theorem dfX4_ok : ∀ j, j < 1 → defaultValue (tyX4 j) = vp_V dfX4 j := by
  intro j hj
  match j, hj with
  | 0, _ => rfl
  | j + 1, hj => exact absurd hj (by omega)
def dfX5 : List Value := [.int 0]
theorem dfX5_ok : ∀ j, j < 1 → defaultValue (tyX5 j) = vp_V dfX5 j := by
  intro j hj
  match j, hj with
  | 0, _ => rfl
  | j + 1, hj => exact absurd hj (by omega)
def dfX6 : List Value := [.null, .null, .null, .int 0, .null, .null]
theorem dfX6_ok : ∀ j, j < 6 → defaultValue (tyX6 j) = vp_V dfX6 j := by
  intro j hj
  match j, hj with
  | 0, _ => rfl
  | 1, _ => rfl
  | 2, _ => rfl
  | 3, _ => rfl
  | 4, _ => rfl
  | 5, _ => rfl
  | j + 6, hj => exact absurd hj (by omega)
def dfX7 : List Value := [.null, .int 0]
theorem dfX7_ok : ∀ j, j < 2 → defaultValue (tyX7 j) = vp_V dfX7 j := by
  intro j hj
  match j, hj with
  | 0, _ => rfl
  | 1, _ => rfl
  | j + 2, hj => exact absurd hj (by omega)
def dfX8 : List Value := [.null, .null]
theorem dfX8_ok : ∀ j, j < 2 → defaultValue (tyX8 j) = vp_V dfX8 j := by
  intro j hj
  match j, hj with
  | 0, _ => rfl
  | 1, _ => rfl
  | j + 2, hj => exact absurd hj (by omega)
def dfX9 : List Value := [.int 0, .null, .int 0, .null, .null, .null, .null, .int 0, .int 0, .int 0, .int 0, .int 0, .null, .null, .null, .null, .null, .null, .null, .null, .null, .null, .null, .null, .null, .int 0, .null, .null, .null, .int 0, .int 0, .null, .int 0, .int 0, .null, .int 0, .null, .null, .null, .null, .int 0, .int 0, .int 0, .null, .null, .null, .null, .null, .int 0, .int 0, .int 0, .null, .null]
theorem dfX9_ok : ∀ j, j < 53 → defaultValue (tyX9 j) = vp_V dfX9 j := by
  intro j hj
  match j, hj with
  | 0, _ => rfl
  | 1, _ => rfl
  | 2, _ => rfl
  | 3, _ => rfl
  | 4, _ => rfl
  | 5, _ => rfl
  | 6, _ => rfl
  | 7, _ => rfl
  | 8, _ => rfl
  | 9, _ => rfl
  | 10, _ => rfl
  | 11, _ => rfl
  | 12, _ => rfl
  | 13, _ => rfl
  | 14, _ => rfl
  | 15, _ => rfl
  | 16, _ => rfl
  | 17, _ => rfl
  | 18, _ => rfl
  | 19, _ => rfl
  | 20, _ => rfl
  | 21, _ => rfl
  | 22, _ => rfl
  | 23, _ => rfl
  | 24, _ => rfl
  | 25, _ => rfl
  | 26, _ => rfl
  | 27, _ => rfl
  | 28, _ => rfl
  | 29, _ => rfl
  | 30, _ => rfl
  | 31, _ => rfl
  | 32, _ => rfl
  | 33, _ => rfl
  | 34, _ => rfl
  | 35, _ => rfl
  | 36, _ => rfl
  | 37, _ => rfl
  | 38, _ => rfl
  | 39, _ => rfl
  | 40, _ => rfl
  | 41, _ => rfl
  | 42, _ => rfl
  | 43, _ => rfl
  | 44, _ => rfl
  | 45, _ => rfl
  | 46, _ => rfl
  | 47, _ => rfl
  | 48, _ => rfl
  | 49, _ => rfl
  | 50, _ => rfl
  | 51, _ => rfl
  | 52, _ => rfl
  | j + 53, hj => exact absurd hj (by omega)
def dfX10 : List Value := [.null, .null, .null, .null, .null, .int 0, .int 0, .int 0]
theorem dfX10_ok : ∀ j, j < 8 → defaultValue (tyX10 j) = vp_V dfX10 j := by
  intro j hj
  match j, hj with
  | 0, _ => rfl
  | 1, _ => rfl
  | 2, _ => rfl
  | 3, _ => rfl
  | 4, _ => rfl
  | 5, _ => rfl
  | 6, _ => rfl
  | 7, _ => rfl
  | j + 8, hj => exact absurd hj (by omega)
def dfX11 : List Value := [.int 0, .int 0, .int 0]
theorem dfX11_ok : ∀ j, j < 3 → defaultValue (tyX11 j) = vp_V dfX11 j := by
  intro j hj
  match j, hj with
  | 0, _ => rfl
  | 1, _ => rfl
  | 2, _ => rfl
  | j + 3, hj => exact absurd hj (by omega)
def dfX12 : List Value := [.int 0, .int 0, .int 0]
theorem dfX12_ok : ∀ j, j < 3 → defaultValue (tyX12 j) = vp_V dfX12 j := by
  intro j hj
  match j, hj with
  | 0, _ => rfl
  | 1, _ => rfl
  | 2, _ => rfl
  | j + 3, hj => exact absurd hj (by omega)
def dfX13 : List Value := [.int 0, .int 0]
theorem dfX13_ok : ∀ j, j < 2 → defaultValue (tyX13 j) = vp_V dfX13 j := by
  intro j hj
  match j, hj with
  | 0, _ => rfl
  | 1, _ => rfl
  | j + 2, hj => exact absurd hj (by omega)
def dfX14 : List Value := [.int 0, .null, .null]
theorem dfX14_ok : ∀ j, j < 3 → defaultValue (tyX14 j) = vp_V dfX14 j := by
  intro j hj
  match j, hj with
  | 0, _ => rfl
  | 1, _ => rfl
  | 2, _ => rfl
  | j + 3, hj => exact absurd hj (by omega)
def dfX15 : List Value := [.int 0, .null, .null]
theorem dfX15_ok : ∀ j, j < 3 → defaultValue (tyX15 j) = vp_V dfX15 j := by
  intro j hj
  match j, hj with
  | 0, _ => rfl
  | 1, _ => rfl
  | 2, _ => rfl
  | j + 3, hj => exact absurd hj (by omega)
def dfX16 : List Value := [.null]
theorem dfX16_ok : ∀ j, j < 1 → defaultValue (tyX16 j) = vp_V dfX16 j := by
  intro j hj
  match j, hj with
  | 0, _ => rfl
  | j + 1, hj => exact absurd hj (by omega)
def dfX17 : List Value := [.int 0, .null]
theorem dfX17_ok : ∀ j, j < 2 → defaultValue (tyX17 j) = vp_V dfX17 j := by
  intro j hj
  match j, hj with
  | 0, _ => rfl
  | 1, _ => rfl
  | j + 2, hj => exact absurd hj (by omega)
def dfX18 : List Value := [.int 0, .int 0, .int 0]
theorem dfX18_ok : ∀ j, j < 3 → defaultValue (tyX18 j) = vp_V dfX18 j := by
  intro j hj
  match j, hj with
  | 0, _ => rfl
  | 1, _ => rfl
  | 2, _ => rfl
  | j + 3, hj => exact absurd hj (by omega)
def dfX19 : List Value := [.int 0, .int 0, .int 0, .int 0]
theorem dfX19_ok : ∀ j, j < 4 → defaultValue (tyX19 j) = vp_V dfX19 j := by
  intro j hj
  match j, hj with
  | 0, _ => rfl
  | 1, _ => rfl
  | 2, _ => rfl
  | 3, _ => rfl
  | j + 4, hj => exact absurd hj (by omega)
def dfJ2 : List Value := [.int 0, .null, .int 0]
theorem dfJ2_ok : ∀ j, j < 3 → defaultValue (tyJ2 j) = vp_V dfJ2 j := by
  intro j hj
  match j, hj with
  | 0, _ => rfl
  | 1, _ => rfl
  | 2, _ => rfl
  | j + 3, hj => exact absurd hj (by omega)
section PWG
variable {g : Gx} {Y : Ym} {d : Nat} {μ0 μF : Sw} {Qk : List Frame → Array Value → State → State → Prop} {pc pc' tgt : Nat} {lv lv' : List (Nat × Value)} {st st' : List Value} {μ μ' : Sw}
/-- a static field that holds one of the constants -/
theorem P.getsR {C n ds : String} {index : Nat} (k : Nat) (hz : (C, n, ds, Value.ref (g.2.2.2.2 k)) ∈ zsL g) (hlink : Cond.fieldLink Y.1 index C n ds ∈ lw_all) (hd : decode Y.2.1 pc = .ok (.getstatic index, 3)) (hp : pc + 3 = pc') (kk : PW g Y d μ0 μF Qk pc' lv (.ref (μ.2.2.2 k) :: st) μ) : PW g Y d μ0 μF Qk pc lv st μ := by
  subst hp
  refine ⟨kk.1, fun h0 l p e s m args below meth c H locs ls Z hW hS hl => ?_⟩
  have k9 := kk.2 h0 l p e s m args below meth c H locs ls Z hW hS hl
  rw [hW.2.2] at k9
  obtain ⟨-, hx, hb, -, -, hml, hown, hts, -, hZ, -⟩ := Z
  exact va_gets hx hb (hZ.1 _ hz) hS hown (hts _ hlink) (fun _ h => h) hd k9
theorem P.aloadN_n {k1 : Fin 4} {i : Nat} (q : Nat) (hd : decode Y.2.1 pc = .ok (.aload_n k1, 1)) (hp : pc + 1 = pc') (hi : (k1 : Nat) = i) (hq : lv[q]? = some (i, .null)) (k : PW g Y d μ0 μF Qk pc' lv (.null :: st) μ) : PW g Y d μ0 μF Qk pc lv st μ := by subst hp; exact PW.pure k (fun hx hb ho ht hl kk => lv_aload_nN hx hb hd hi (lv_at hl q hq) (kk _ hl))
theorem P.aloadN {i : Nat} (q : Nat) (hd : decode Y.2.1 pc = .ok (.aload i, 2)) (hp : pc + 2 = pc') (hq : lv[q]? = some (i, .null)) (k : PW g Y d μ0 μF Qk pc' lv (.null :: st) μ) : PW g Y d μ0 μF Qk pc lv st μ := by subst hp; exact PW.pure k (fun hx hb ho ht hl kk => lv_aloadN hx hb hd (lv_at hl q hq) (kk _ hl))
/-- an array of references of any length -/
def nwQ (μ : Sw) (t : Nat) (n : Int32) : Option Sw := if ¬ n < 0 ∧ n.toNatClampNeg * 4 ≤ 536870912 then some (nw μ (.inl (t, (n.toNatClampNeg, .inr (.inr (fun _ => none))))) n.toNatClampNeg) else none
theorem nwQ_spec {μ μ' : Sw} {t : Nat} {n : Int32} (h : nwQ μ t n = some μ') : (¬ n < 0 ∧ n.toNatClampNeg * 4 ≤ 536870912) ∧ nw μ (.inl (t, (n.toNatClampNeg, .inr (.inr (fun _ => none))))) n.toNatClampNeg = μ' := by
  unfold nwQ at h
  split at h
  · next h0 => cases h; exact ⟨h0, rfl⟩
  · cases h
theorem P.anewQ {t index : Nat} {C : String} {n : Int32} (hcl : Cond.classLink Y.1 index C ∈ lw_all) (hao : C ∈ aoL) (hty : kty t = .object C) (h10 : t < 10) (h : nwQ μ t n = some μ') (hd : decode Y.2.1 pc = .ok (.anewarray index, 3)) (hp : pc + 3 = pc') (kk : PW g Y d μ0 μF Qk pc' lv (.ref μ.2.1 :: st) μ') : PW g Y d μ0 μF Qk pc lv (.int n :: st) μ := by
  obtain ⟨h1, h2⟩ := nwQ_spec h
  exact P.anewE hcl hao hty h10 h1.1 rfl h1.2 h2 hd hp kk
end PWG
