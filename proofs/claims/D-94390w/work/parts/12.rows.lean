set_option maxRecDepth 100000
theorem gK.arr {g : Gx} {s : State} {t : Nat} {cell : Cell} (h : gK g s) (ht : t < 13) (hc : cell.cls = g.2.2.1 t) (hv : ∀ k, cell.vm ≠ .statics k) : s.isArrayOf cell (kty t) := by
  obtain ⟨-, k, hk, hkind⟩ := (h.2.1 t ht).1 0 (fun _ => .null)
  exact ⟨hv, k, by rw [hc]; exact hk, hkind⟩
theorem gK.va {g : Gx} {s : State} (h : gK g s) : va_K (gD g) kcl [] s := ⟨h.1, fun k q hk => by simp at hk⟩
theorem setSlot_size (cell : Cell) (j : Nat) (v : Value) : (cell.setSlot j v).slots.size = cell.slots.size := by simp [Cell.setSlot]
theorem setSlot_get (cell : Cell) (j i : Nat) (v : Value) (hj : j < cell.slots.size) : (cell.setSlot j v).slots[i]? = if i = j then some v else cell.slots[i]? := by
  by_cases h : i = j
  · subst h
    simp [Cell.setSlot, hj]
  · rw [if_neg h]
    exact slot_ne cell v (Ne.symm h)
/-- an array with one place written -/
theorem aOK.set {g : Gx} {t a j : Nat} {x y : Ar} {H1 : Heap} {cell : Cell} {v : Value} (c2 : cell.cls = g.2.2.1 t) (c3 : ∀ k, cell.vm ≠ .statics k) (c4 : cell.vm ≠ .unknown) (c5 : sz5 x.1 cell) (c6 : ∀ i : Nat, i < x.1 → cell.slots[i]? = some (aV x i)) (e : H1[a]? = some (cell.setSlot j v)) (hj : j < x.1) (h1 : y.1 = x.1) (hv : aV y j = v) (ho : ∀ i, i ≠ j → aV y i = aV x i) : aOK g t y a H1 := by
  refine ⟨cell.setSlot j v, e, c2, c3, c4, by rw [h1]; exact ⟨by rw [setSlot_size]; exact c5.1, by rw [setSlot_size]; exact c5.2⟩, fun i hi => ?_⟩
  rw [setSlot_get _ _ _ _ (Nat.lt_of_lt_of_le hj c5.1)]
  by_cases hij : i = j
  · subst hij
    rw [if_pos rfl, hv]
  · rw [if_neg hij, ho i hij]
    exact c6 i (by rw [← h1]; exact hi)
theorem Cx.pre {g : Gx} {Y : Ym} {l : Launch} {p : Program} {s : State} {m : MethodId} {args : Array Value} {meth : Method} {c : Code} {μ : Sw} {H : Heap} {locs : List Loc} {As : List Value} (Z : Cx g Y l p s m args meth c) (hW : Wd g μ H) (hS : va_S (gA g) s.heap H locs) (U : State) (hU : U.heap = H) (hw : s.WarmedH U.vm) : cP g As μ As.toArray U := by
  obtain ⟨-, -, -, -, -, -, -, -, hK, hZ, hN, hb, -⟩ := Z
  subst hU
  exact ⟨rfl, hW, hK.moved hw.alike, (hZ.moved hw.alike).kept hS.2.1, hN.warm hw, Nat.le_trans hb hS.1⟩
theorem sm_of {args : Array Value} {s : State} {a b n ds : String} (h : a = b ∨ Cond.sameField b a n ds ∈ lw_all) (hts : ∀ w ∈ lw_all, w.before args s = true) (x : ClassId × Class × Nat × Field) (hx : s.fieldFound? a n ds = some x) : s.fieldFound? b n ds = some x := by
  rcases h with h | h
  · rw [← h]; exact hx
  · exact u_same (hts _ h) x hx
section PWM
variable {g : Gx} {Y : Ym} {d : Nat} {μ0 μF : Sw} {Qk : List Frame → Array Value → State → State → Prop} {pc pc' tgt : Nat} {lv lv' : List (Nat × Value)} {st st' : List Value} {μ μ' : Sw}
theorem P.get {ci N index : Nat} {C ref : String} {T : u_T} {ty : Nat → FieldType} (hci : CI ci C T N ty) (k : Nat) (hk : k < N) {a : Nat} {v : Value} (hv : gf μ a ci k = some v) (hlink : Cond.fieldLink Y.1 index ref (T k).2.1 (T k).2.2.1 ∈ lw_all)
    (hsame : (T k).1 = ref ∨ Cond.sameField ref (T k).1 (T k).2.1 (T k).2.2.1 ∈ lw_all) (hd : decode Y.2.1 pc = .ok (.getfield index, 3)) (hp : pc + 3 = pc') (kk : PW g Y d μ0 μF Qk pc' lv (v :: st) μ) : PW g Y d μ0 μF Qk pc lv (.ref a :: st) μ := by
  subst hp
  refine ⟨kk.1, fun h0 l p e s m args below meth c H locs ls Z hW hS hl => ?_⟩
  have k9 := kk.2 h0 l p e s m args below meth c H locs ls Z hW hS hl
  obtain ⟨-, hx, hb, -, -, -, hown, hts, hK, -⟩ := Z
  obtain ⟨fs, hM, hf⟩ := gf_spec hv
  obtain ⟨⟨r, h1, cell, q1, q2, q3, q4⟩, -⟩ := hW.2.1 a _ hM
  have hr : r = (C, T, N) := Option.some.inj (h1.symm.trans hci.1)
  subst hr
  obtain ⟨hSl, hfc, kC, hkC, hkind⟩ := hK.1 ci _ hci.1
  obtain ⟨cf, kf, fi, f, hi, hsl⟩ := hSl k hk
  refine W.getf hx hb hown (hts _ hlink) (sm_of hsame hts _ hi) (u_facts hfc hkC (u_lays hts hci.2.1 hk) hi).1 q1 (by rw [q3]; exact fun h => by cases h) (v := v) ?_ rfl rfl hd k9
  rw [hsl, q4 k hk]
  simp [vp_V, hf]
theorem P.getN {ci N index : Nat} {C ref host : String} {T : u_T} {ty : Nat → FieldType} (hci : CI ci C T N ty) (k : Nat) (hk : k < N) {a : Nat} {v : Value} (hv : gf μ a ci k = some v) (hlink : Cond.fieldLinkNest Y.1 index ref (T k).2.1 (T k).2.2.1 host ∈ lw_tbl)
    (hsame : (T k).1 = ref ∨ Cond.sameField ref (T k).1 (T k).2.1 (T k).2.2.1 ∈ lw_all) (hd : decode Y.2.1 pc = .ok (.getfield index, 3)) (hp : pc + 3 = pc') (kk : PW g Y d μ0 μF Qk pc' lv (v :: st) μ) : PW g Y d μ0 μF Qk pc lv (.ref a :: st) μ := by
  subst hp
  refine ⟨kk.1, fun h0 l p e s m args below meth c H locs ls Z hW hS hl => ?_⟩
  have k9 := kk.2 h0 l p e s m args below meth c H locs ls Z hW hS hl
  obtain ⟨-, hx, hb, -, -, -, hown, hts, hK, -, hN, -⟩ := Z
  obtain ⟨fs, hM, hf⟩ := gf_spec hv
  obtain ⟨⟨r, h1, cell, q1, q2, q3, q4⟩, -⟩ := hW.2.1 a _ hM
  have hr : r = (C, T, N) := Option.some.inj (h1.symm.trans hci.1)
  subst hr
  obtain ⟨hSl, hfc, kC, hkC, hkind⟩ := hK.1 ci _ hci.1
  obtain ⟨cf, kf, fi, f, hi, hsl⟩ := hSl k hk
  refine va_Wgetf hx hb hown (va_Nw.use rfl (hN.1 _ hlink rfl)) (sm_of hsame hts _ hi) (u_facts hfc hkC (u_lays hts hci.2.1 hk) hi).1 q1 (by rw [q3]; exact fun h => by cases h) (v := v) ?_ rfl rfl hd k9
  rw [hsl, q4 k hk]
  simp [vp_V, hf]
theorem P.put {ci N index : Nat} {C ref : String} {T : u_T} {ty : Nat → FieldType} (hci : CI ci C T N ty) (k : Nat) (hk : k < N) {a : Nat} {v : Value} (hv : pf μ a ci k v = some μ') (hlink : Cond.fieldLink Y.1 index ref (T k).2.1 (T k).2.2.1 ∈ lw_all)
    (hsame : (T k).1 = ref ∨ Cond.sameField ref (T k).1 (T k).2.1 (T k).2.2.1 ∈ lw_all) (hfin : (T k).2.2.2 = false) (hn : narrow (ty k) v = v) (hfit : fits (ty k) v = true) (hd : decode Y.2.1 pc = .ok (.putfield index, 3)) (hp : pc + 3 = pc') (kk : PW g Y d μ0 μF Qk pc' lv st μ') : PW g Y d μ0 μF Qk pc lv (v :: .ref a :: st) μ := by
  subst hp
  obtain ⟨fs, hM, hlt, rfl⟩ := pf_spec hv
  refine ⟨kk.1, fun h0 l p e s m args below meth c H locs ls Z hW hS hl => ?_⟩
  have k9 := fun H locs hW hS => kk.2 h0 l p e s m args below meth c H locs ls Z hW hS hl
  obtain ⟨-, hx, hb, -, -, -, hown, hts, hK, -⟩ := Z
  obtain ⟨⟨r, h1, cell, q1, q2, q3, q4⟩, hga⟩ := hW.2.1 a _ hM
  have hr : r = (C, T, N) := Option.some.inj (h1.symm.trans hci.1)
  subst hr
  have hap := va_apart (own := Y.1) hts hci.2.1 ty hci.2.2.1 hci.2.2.2 hK.va hci.1
  obtain ⟨hSl, hfc, kC, hkC, hkind⟩ := hK.1 ci _ hci.1
  obtain ⟨cf, kf, fi, f, hi, hsl⟩ := hSl k hk
  have hlay := hts _ (hci.2.1 _ (u_in_lay hk))
  unfold u_lay at hlay
  rw [if_neg (by rw [hfin]; decide)] at hlay
  have hst := (u_facts hfc hkC (u_lays hts hci.2.1 hk) hi).1
  have h6 := u_store hfc hkC hkind hlay hi (hci.2.2.1 k hk) hn hfit
  refine W.putK hx hb (f := f) ⟨hown, hts _ hlink, ⟨_, _, _, sm_of hsame hts _ hi⟩, hst⟩ (by rw [q2]; exact h6) q1 q3 (by rw [hsl]; exact k2_hasslot (q4 k hk)) rfl rfl hd fun H' e1 e2 e3 => ?_
  rw [hsl] at e1 ⊢
  exact k9 H' _ (hW.set e2 e3 ⟨⟨_, hci.1, t_OB.to (V := updV (vp_V fs) k v) ⟨_, e1, q2, q3, t_set q4 hap hk v⟩ (fun j _ => vp_updV_set hlt v j)⟩, hga⟩) (hS.put e2 e3 hga)
theorem P.putN {ci N index : Nat} {C ref host : String} {T : u_T} {ty : Nat → FieldType} (hci : CI ci C T N ty) (k : Nat) (hk : k < N) {a : Nat} {v : Value} (hv : pf μ a ci k v = some μ') (hlink : Cond.fieldLinkNest Y.1 index ref (T k).2.1 (T k).2.2.1 host ∈ lw_tbl)
    (hsame : (T k).1 = ref ∨ Cond.sameField ref (T k).1 (T k).2.1 (T k).2.2.1 ∈ lw_all) (hfin : (T k).2.2.2 = false) (hn : narrow (ty k) v = v) (hfit : fits (ty k) v = true) (hd : decode Y.2.1 pc = .ok (.putfield index, 3)) (hp : pc + 3 = pc') (kk : PW g Y d μ0 μF Qk pc' lv st μ') : PW g Y d μ0 μF Qk pc lv (v :: .ref a :: st) μ := by
  subst hp
  obtain ⟨fs, hM, hlt, rfl⟩ := pf_spec hv
  refine ⟨kk.1, fun h0 l p e s m args below meth c H locs ls Z hW hS hl => ?_⟩
  have k9 := fun H locs hW hS => kk.2 h0 l p e s m args below meth c H locs ls Z hW hS hl
  obtain ⟨-, hx, hb, -, -, -, hown, hts, hK, -, hN, -⟩ := Z
  obtain ⟨⟨r, h1, cell, q1, q2, q3, q4⟩, hga⟩ := hW.2.1 a _ hM
  have hr : r = (C, T, N) := Option.some.inj (h1.symm.trans hci.1)
  subst hr
  have hap := va_apart (own := Y.1) hts hci.2.1 ty hci.2.2.1 hci.2.2.2 hK.va hci.1
  obtain ⟨hSl, hfc, kC, hkC, hkind⟩ := hK.1 ci _ hci.1
  obtain ⟨cf, kf, fi, f, hi, hsl⟩ := hSl k hk
  have hlay := hts _ (hci.2.1 _ (u_in_lay hk))
  unfold u_lay at hlay
  rw [if_neg (by rw [hfin]; decide)] at hlay
  have hst := (u_facts hfc hkC (u_lays hts hci.2.1 hk) hi).1
  have h6 := u_store hfc hkC hkind hlay hi (hci.2.2.1 k hk) hn hfit
  refine va_WputK hx hb (f := f) hown (va_Nw.use rfl (hN.1 _ hlink rfl)) (sm_of hsame hts _ hi) hst (by rw [q2]; exact h6) q1 q3 (by rw [hsl]; exact k2_hasslot (q4 k hk)) rfl rfl hd fun H' e1 e2 e3 => ?_
  rw [hsl] at e1 ⊢
  exact k9 H' _ (hW.set e2 e3 ⟨⟨_, hci.1, t_OB.to (V := updV (vp_V fs) k v) ⟨_, e1, q2, q3, t_set q4 hap hk v⟩ (fun j _ => vp_updV_set hlt v j)⟩, hga⟩) (hS.put e2 e3 hga)
/-- a final field, in a constructor -/
theorem P.putF {ci N index : Nat} {C ref : String} {T : u_T} {ty : Nat → FieldType} (hci : CI ci C T N ty) (k : Nat) (hk : k < N) {a : Nat} {v : Value} (hv : pf μ a ci k v = some μ') (hlink : Cond.fieldLink Y.1 index ref (T k).2.1 (T k).2.2.1 ∈ lw_all)
    (hsame : (T k).1 = ref ∨ Cond.sameField ref (T k).1 (T k).2.1 (T k).2.2.1 ∈ lw_all) (hfin : (T k).2.2.2 = true) (hini : Y.2.2.2.2.1 = true) (hdecl : (T k).1 = Y.1) (hn : narrow (ty k) v = v) (hfit : fits (ty k) v = true) (hd : decode Y.2.1 pc = .ok (.putfield index, 3)) (hp : pc + 3 = pc') (kk : PW g Y d μ0 μF Qk pc' lv st μ') : PW g Y d μ0 μF Qk pc lv (v :: .ref a :: st) μ := by
  subst hp
  obtain ⟨fs, hM, hlt, rfl⟩ := pf_spec hv
  refine ⟨kk.1, fun h0 l p e s m args below meth c H locs ls Z hW hS hl => ?_⟩
  have k9 := fun H locs hW hS => kk.2 h0 l p e s m args below meth c H locs ls Z hW hS hl
  obtain ⟨-, hx, hb, -, -, -, hown, hts, hK, -, -, -, hin2, -⟩ := Z
  obtain ⟨⟨r, h1, cell, q1, q2, q3, q4⟩, hga⟩ := hW.2.1 a _ hM
  have hr : r = (C, T, N) := Option.some.inj (h1.symm.trans hci.1)
  subst hr
  have hap := va_apart (own := Y.1) hts hci.2.1 ty hci.2.2.1 hci.2.2.2 hK.va hci.1
  obtain ⟨hSl, hfc, kC, hkC, hkind⟩ := hK.1 ci _ hci.1
  obtain ⟨cf, kf, fi, f, hi, hsl⟩ := hSl k hk
  have hlay := hts _ (hci.2.1 _ (u_in_lay hk))
  unfold u_lay at hlay
  rw [if_pos hfin] at hlay
  have hst := (u_facts hfc hkC (u_lays hts hci.2.1 hk) hi).1
  have hcf : m.cls = cf := by
    obtain ⟨_, _, c', _, _, _, -, -, hf', -, -, -, hown2, -⟩ := Cond.laysFinal_spec hlay
    have e1 : c' = cf := by have := hi.symm.trans hf'; simp at this; exact this.1.symm
    rw [hdecl] at hown2
    rw [← e1]; exact Option.some.inj (hown.symm.trans hown2)
  have h6 := u_fits hfc hkC hkind (Or.inr hlay) hi (hci.2.2.1 k hk) hn hfit
  refine W.putFinK hx hb hown (hts _ hlink) (sm_of hsame hts _ hi) hst hcf (hin2 hini) (by rw [q2]; exact h6) q1 q3 (by rw [hsl]; exact k2_hasslot (q4 k hk)) rfl rfl hd fun H' e1 e2 e3 => ?_
  rw [hsl] at e1 ⊢
  exact k9 H' _ (hW.set e2 e3 ⟨⟨_, hci.1, t_OB.to (V := updV (vp_V fs) k v) ⟨_, e1, q2, q3, t_set q4 hap hk v⟩ (fun j _ => vp_updV_set hlt v j)⟩, hga⟩) (hS.put e2 e3 hga)
theorem P.iald {t a : Nat} {i : Int32} {v : Int32} (ht : kty t = .int) (hv : aI μ t a i = some v) (hd : decode Y.2.1 pc = .ok (.iaload, 1)) (hp : pc + 1 = pc') (kk : PW g Y d μ0 μF Qk pc' lv (.int v :: st) μ) : PW g Y d μ0 μF Qk pc lv (.int i :: .ref a :: st) μ := by
  subst hp
  obtain ⟨n, f, hM, hin, rfl⟩ := aI_spec hv
  refine ⟨kk.1, fun h0 l p e s m args below meth c H locs ls Z hW hS hl => ?_⟩
  have k9 := kk.2 h0 l p e s m args below meth c H locs ls Z hW hS hl
  obtain ⟨-, hx, hb, -, -, -, hown, hts, hK, -⟩ := Z
  obtain ⟨⟨cell, c1, c2, c3, c4, c5, c6⟩, ht13, -⟩ := hW.2.1 a _ hM
  have hA : s.isArrayOf cell (kty t) := hK.arr ht13 c2 c3
  rw [ht] at hA
  exact W.iald hx hb c1 hA c4 (c5.inn hin) (c6 _ (Nat.not_le.mp fun q => hin (Or.inr q))) rfl rfl hd k9
theorem P.bald {t a : Nat} {i : Int32} {v : Int32} (ht : kty t = .byte) (hv : aI μ t a i = some v) (hd : decode Y.2.1 pc = .ok (.baload, 1)) (hp : pc + 1 = pc') (kk : PW g Y d μ0 μF Qk pc' lv (.int v :: st) μ) : PW g Y d μ0 μF Qk pc lv (.int i :: .ref a :: st) μ := by
  subst hp
  obtain ⟨n, f, hM, hin, rfl⟩ := aI_spec hv
  refine ⟨kk.1, fun h0 l p e s m args below meth c H locs ls Z hW hS hl => ?_⟩
  have k9 := kk.2 h0 l p e s m args below meth c H locs ls Z hW hS hl
  obtain ⟨-, hx, hb, -, -, -, hown, hts, hK, -⟩ := Z
  obtain ⟨⟨cell, c1, c2, c3, c4, c5, c6⟩, ht13, -⟩ := hW.2.1 a _ hM
  have hA : s.isArrayOf cell (kty t) := hK.arr ht13 c2 c3
  rw [ht] at hA
  exact W.bald hx hb c1 hA c4 (c5.inn hin) (c6 _ (Nat.not_le.mp fun q => hin (Or.inr q))) rfl rfl hd k9
theorem P.zald {t a : Nat} {i : Int32} {v : Int32} (ht : kty t = .boolean) (hv : aI μ t a i = some v) (hd : decode Y.2.1 pc = .ok (.baload, 1)) (hp : pc + 1 = pc') (kk : PW g Y d μ0 μF Qk pc' lv (.int v :: st) μ) : PW g Y d μ0 μF Qk pc lv (.int i :: .ref a :: st) μ := by
  subst hp
  obtain ⟨n, f, hM, hin, rfl⟩ := aI_spec hv
  refine ⟨kk.1, fun h0 l p e s m args below meth c H locs ls Z hW hS hl => ?_⟩
  have k9 := kk.2 h0 l p e s m args below meth c H locs ls Z hW hS hl
  obtain ⟨-, hx, hb, -, -, -, hown, hts, hK, -⟩ := Z
  obtain ⟨⟨cell, c1, c2, c3, c4, c5, c6⟩, ht13, -⟩ := hW.2.1 a _ hM
  have hA : s.isArrayOf cell (kty t) := hK.arr ht13 c2 c3
  rw [ht] at hA
  exact W.zald hx hb c1 hA c4 (c5.inn hin) (c6 _ (Nat.not_le.mp fun q => hin (Or.inr q))) rfl rfl hd k9
theorem P.sald {t a : Nat} {i : Int32} {v : Int32} (ht : kty t = .short) (hv : aI μ t a i = some v) (hd : decode Y.2.1 pc = .ok (.saload, 1)) (hp : pc + 1 = pc') (kk : PW g Y d μ0 μF Qk pc' lv (.int v :: st) μ) : PW g Y d μ0 μF Qk pc lv (.int i :: .ref a :: st) μ := by
  subst hp
  obtain ⟨n, f, hM, hin, rfl⟩ := aI_spec hv
  refine ⟨kk.1, fun h0 l p e s m args below meth c H locs ls Z hW hS hl => ?_⟩
  have k9 := kk.2 h0 l p e s m args below meth c H locs ls Z hW hS hl
  obtain ⟨-, hx, hb, -, -, -, hown, hts, hK, -⟩ := Z
  obtain ⟨⟨cell, c1, c2, c3, c4, c5, c6⟩, ht13, -⟩ := hW.2.1 a _ hM
  have hA : s.isArrayOf cell (kty t) := hK.arr ht13 c2 c3
  rw [ht] at hA
  exact W.sald hx hb c1 hA c4 (c5.inn hin) (c6 _ (Nat.not_le.mp fun q => hin (Or.inr q))) rfl rfl hd k9
theorem P.lald {t a : Nat} {i : Int32} {v : Int64} (ht : kty t = .long) (hv : aL μ t a i = some v) (hd : decode Y.2.1 pc = .ok (.laload, 1)) (hp : pc + 1 = pc') (kk : PW g Y d μ0 μF Qk pc' lv (.long v :: st) μ) : PW g Y d μ0 μF Qk pc lv (.int i :: .ref a :: st) μ := by
  subst hp
  obtain ⟨n, f, hM, hin, rfl⟩ := aL_spec hv
  refine ⟨kk.1, fun h0 l p e s m args below meth c H locs ls Z hW hS hl => ?_⟩
  have k9 := kk.2 h0 l p e s m args below meth c H locs ls Z hW hS hl
  obtain ⟨-, hx, hb, -, -, -, hown, hts, hK, -⟩ := Z
  obtain ⟨⟨cell, c1, c2, c3, c4, c5, c6⟩, ht13, -⟩ := hW.2.1 a _ hM
  have hA : s.isArrayOf cell (kty t) := hK.arr ht13 c2 c3
  rw [ht] at hA
  exact W.lald hx hb c1 hA c4 (c5.inn hin) (c6 _ (Nat.not_le.mp fun q => hin (Or.inr q))) rfl rfl hd k9
theorem P.iast {a : Nat} {i : Int32} {x : Int32} (hv : sI μ 0 a i x = some μ') (hd : decode Y.2.1 pc = .ok (.iastore, 1)) (hp : pc + 1 = pc') (kk : PW g Y d μ0 μF Qk pc' lv st μ') : PW g Y d μ0 μF Qk pc lv (.int x :: .int i :: .ref a :: st) μ := by
  subst hp
  obtain ⟨n, f, hM, hin, rfl⟩ := sI_spec hv
  refine ⟨kk.1, fun h0 l p e s m args below meth c H locs ls Z hW hS hl => ?_⟩
  have k9 := fun H locs hW hS => kk.2 h0 l p e s m args below meth c H locs ls Z hW hS hl
  obtain ⟨-, hx, hb, -, -, -, hown, hts, hK, -⟩ := Z
  obtain ⟨⟨cell, c1, c2, c3, c4, c5, c6⟩, ht13, hga⟩ := hW.2.1 a _ hM
  have hga : gA g a := hga (show (0 : Nat) < 10 by decide)
  have hA : s.isArrayOf cell .int := hK.arr (t := 0) (by decide) c2 c3
  refine W.iast hx hb c1 hA c4 (c5.inn hin) rfl rfl hd fun H' e1 e2 e3 => ?_
  refine k9 H' _ (hW.set e2 e3 ⟨aOK.set (v := _) c2 c3 c4 c5 c6 e1 (Nat.not_le.mp fun q => hin (Or.inr q)) rfl ?_ ?_, (show (0 : Nat) < 13 by decide), fun _ => hga⟩) (hS.put e2 e3 hga)
  · simp [aV, upd, nar, narrow]
  · intro j hj
    simp [aV, upd, hj]
theorem P.bast {a : Nat} {i : Int32} {x : Int32} (hv : sI μ 2 a i x = some μ') (hd : decode Y.2.1 pc = .ok (.bastore, 1)) (hp : pc + 1 = pc') (kk : PW g Y d μ0 μF Qk pc' lv st μ') : PW g Y d μ0 μF Qk pc lv (.int x :: .int i :: .ref a :: st) μ := by
  subst hp
  obtain ⟨n, f, hM, hin, rfl⟩ := sI_spec hv
  refine ⟨kk.1, fun h0 l p e s m args below meth c H locs ls Z hW hS hl => ?_⟩
  have k9 := fun H locs hW hS => kk.2 h0 l p e s m args below meth c H locs ls Z hW hS hl
  obtain ⟨-, hx, hb, -, -, -, hown, hts, hK, -⟩ := Z
  obtain ⟨⟨cell, c1, c2, c3, c4, c5, c6⟩, ht13, hga⟩ := hW.2.1 a _ hM
  have hga : gA g a := hga (show (2 : Nat) < 10 by decide)
  have hA : s.isArrayOf cell .byte := hK.arr (t := 2) (by decide) c2 c3
  refine W.bast hx hb c1 hA c4 (c5.inn hin) rfl rfl hd fun H' e1 e2 e3 => ?_
  refine k9 H' _ (hW.set e2 e3 ⟨aOK.set (v := _) c2 c3 c4 c5 c6 e1 (Nat.not_le.mp fun q => hin (Or.inr q)) rfl ?_ ?_, (show (2 : Nat) < 13 by decide), fun _ => hga⟩) (hS.put e2 e3 hga)
  · simp [aV, upd, nar, narrow]
  · intro j hj
    simp [aV, upd, hj]
theorem P.zast {a : Nat} {i : Int32} {x : Int32} (hv : sI μ 4 a i x = some μ') (hd : decode Y.2.1 pc = .ok (.bastore, 1)) (hp : pc + 1 = pc') (kk : PW g Y d μ0 μF Qk pc' lv st μ') : PW g Y d μ0 μF Qk pc lv (.int x :: .int i :: .ref a :: st) μ := by
  subst hp
  obtain ⟨n, f, hM, hin, rfl⟩ := sI_spec hv
  refine ⟨kk.1, fun h0 l p e s m args below meth c H locs ls Z hW hS hl => ?_⟩
  have k9 := fun H locs hW hS => kk.2 h0 l p e s m args below meth c H locs ls Z hW hS hl
  obtain ⟨-, hx, hb, -, -, -, hown, hts, hK, -⟩ := Z
  obtain ⟨⟨cell, c1, c2, c3, c4, c5, c6⟩, ht13, hga⟩ := hW.2.1 a _ hM
  have hga : gA g a := hga (show (4 : Nat) < 10 by decide)
  have hA : s.isArrayOf cell .boolean := hK.arr (t := 4) (by decide) c2 c3
  refine W.zast hx hb c1 hA c4 (c5.inn hin) rfl rfl hd fun H' e1 e2 e3 => ?_
  refine k9 H' _ (hW.set e2 e3 ⟨aOK.set (v := _) c2 c3 c4 c5 c6 e1 (Nat.not_le.mp fun q => hin (Or.inr q)) rfl ?_ ?_, (show (4 : Nat) < 13 by decide), fun _ => hga⟩) (hS.put e2 e3 hga)
  · simp [aV, upd, nar, narrow]
  · intro j hj
    simp [aV, upd, hj]
theorem P.sast {a : Nat} {i : Int32} {x : Int32} (hv : sI μ 3 a i x = some μ') (hd : decode Y.2.1 pc = .ok (.sastore, 1)) (hp : pc + 1 = pc') (kk : PW g Y d μ0 μF Qk pc' lv st μ') : PW g Y d μ0 μF Qk pc lv (.int x :: .int i :: .ref a :: st) μ := by
  subst hp
  obtain ⟨n, f, hM, hin, rfl⟩ := sI_spec hv
  refine ⟨kk.1, fun h0 l p e s m args below meth c H locs ls Z hW hS hl => ?_⟩
  have k9 := fun H locs hW hS => kk.2 h0 l p e s m args below meth c H locs ls Z hW hS hl
  obtain ⟨-, hx, hb, -, -, -, hown, hts, hK, -⟩ := Z
  obtain ⟨⟨cell, c1, c2, c3, c4, c5, c6⟩, ht13, hga⟩ := hW.2.1 a _ hM
  have hga : gA g a := hga (show (3 : Nat) < 10 by decide)
  have hA : s.isArrayOf cell .short := hK.arr (t := 3) (by decide) c2 c3
  refine W.sast hx hb c1 hA c4 (c5.inn hin) rfl rfl hd fun H' e1 e2 e3 => ?_
  refine k9 H' _ (hW.set e2 e3 ⟨aOK.set (v := _) c2 c3 c4 c5 c6 e1 (Nat.not_le.mp fun q => hin (Or.inr q)) rfl ?_ ?_, (show (3 : Nat) < 13 by decide), fun _ => hga⟩) (hS.put e2 e3 hga)
  · simp [aV, upd, nar, narrow]
  · intro j hj
    simp [aV, upd, hj]
theorem P.last {a : Nat} {i : Int32} {x : Int64} (hv : sL μ 1 a i x = some μ') (hd : decode Y.2.1 pc = .ok (.lastore, 1)) (hp : pc + 1 = pc') (kk : PW g Y d μ0 μF Qk pc' lv st μ') : PW g Y d μ0 μF Qk pc lv (.long x :: .int i :: .ref a :: st) μ := by
  subst hp
  obtain ⟨n, f, hM, hin, rfl⟩ := sL_spec hv
  refine ⟨kk.1, fun h0 l p e s m args below meth c H locs ls Z hW hS hl => ?_⟩
  have k9 := fun H locs hW hS => kk.2 h0 l p e s m args below meth c H locs ls Z hW hS hl
  obtain ⟨-, hx, hb, -, -, -, hown, hts, hK, -⟩ := Z
  obtain ⟨⟨cell, c1, c2, c3, c4, c5, c6⟩, ht13, hga⟩ := hW.2.1 a _ hM
  have hga : gA g a := hga (show (1 : Nat) < 10 by decide)
  have hA : s.isArrayOf cell .long := hK.arr (t := 1) (by decide) c2 c3
  refine W.last hx hb c1 hA c4 (c5.inn hin) rfl rfl hd fun H' e1 e2 e3 => ?_
  refine k9 H' _ (hW.set e2 e3 ⟨aOK.set (v := _) c2 c3 c4 c5 c6 e1 (Nat.not_le.mp fun q => hin (Or.inr q)) rfl ?_ ?_, (show (1 : Nat) < 13 by decide), fun _ => hga⟩) (hS.put e2 e3 hga)
  · simp [aV, vp_updL, nar, narrow]
  · intro j hj
    simp [aV, vp_updL, hj]
theorem P.alen {a : Nat} {v : Int32} (hv : aN μ a = some v) (hd : decode Y.2.1 pc = .ok (.arraylength, 1)) (hp : pc + 1 = pc') (kk : PW g Y d μ0 μF Qk pc' lv (.int v :: st) μ) : PW g Y d μ0 μF Qk pc lv (.ref a :: st) μ := by
  subst hp
  obtain ⟨t, x, hM, rfl⟩ := aN_spec hv
  refine ⟨kk.1, fun h0 l p e s m args below meth c H locs ls Z hW hS hl => ?_⟩
  have k9 := kk.2 h0 l p e s m args below meth c H locs ls Z hW hS hl
  obtain ⟨-, hx, hb, -, -, -, hown, hts, hK, -⟩ := Z
  obtain ⟨⟨cell, c1, c2, c3, c4, c5, c6⟩, ht13, -⟩ := hW.2.1 a _ hM
  have hA : s.isArrayOf cell (kty t) := hK.arr ht13 c2 c3
  exact W.alen (n := Int32.ofNat x.1) hx hb c1 hA c5.2 rfl rfl hd k9
/-- a reference out of an array: never null here -/
theorem P.aald {t a x : Nat} {i : Int32} (ht : (kty t).isReference = true) (hv : aR μ t a i = some x) (hd : decode Y.2.1 pc = .ok (.aaload, 1)) (hp : pc + 1 = pc') (kk : PW g Y d μ0 μF Qk pc' lv (.ref x :: st) μ) : PW g Y d μ0 μF Qk pc lv (.int i :: .ref a :: st) μ := by
  subst hp
  obtain ⟨n, f, hM, hin, he⟩ := aQ_spec (aR_spec hv)
  refine ⟨kk.1, fun h0 l p e s m args below meth c H locs ls Z hW hS hl => ?_⟩
  have k9 := kk.2 h0 l p e s m args below meth c H locs ls Z hW hS hl
  obtain ⟨-, hx, hb, -, -, -, hown, hts, hK, -⟩ := Z
  obtain ⟨⟨cell, c1, c2, c3, c4, c5, c6⟩, ht13, -⟩ := hW.2.1 a _ hM
  have hA : s.isArrayOf cell (kty t) := hK.arr ht13 c2 c3
  have h6 := c6 _ (Nat.not_le.mp fun q => hin (Or.inr q))
  have h7 : aV (n, .inr (.inr f)) i.toNatClampNeg = .ref x := by show va_rf (f i.toNatClampNeg) = _; rw [← he]; rfl
  rw [h7] at h6
  exact W.aald hx hb c1 hA ht c4 (c5.inn hin) h6 rfl rfl hd k9
theorem P.aaldN {t a : Nat} {i : Int32} (ht : (kty t).isReference = true) (hv : aQ μ t a i = some none) (hd : decode Y.2.1 pc = .ok (.aaload, 1)) (hp : pc + 1 = pc') (kk : PW g Y d μ0 μF Qk pc' lv (.null :: st) μ) : PW g Y d μ0 μF Qk pc lv (.int i :: .ref a :: st) μ := by
  subst hp
  obtain ⟨n, f, hM, hin, he⟩ := aQ_spec hv
  refine ⟨kk.1, fun h0 l p e s m args below meth c H locs ls Z hW hS hl => ?_⟩
  have k9 := kk.2 h0 l p e s m args below meth c H locs ls Z hW hS hl
  obtain ⟨-, hx, hb, -, -, -, hown, hts, hK, -⟩ := Z
  obtain ⟨⟨cell, c1, c2, c3, c4, c5, c6⟩, ht13, -⟩ := hW.2.1 a _ hM
  have hA : s.isArrayOf cell (kty t) := hK.arr ht13 c2 c3
  have h6 := c6 _ (Nat.not_le.mp fun q => hin (Or.inr q))
  have h7 : aV (n, .inr (.inr f)) i.toNatClampNeg = .null := by show va_rf (f i.toNatClampNeg) = _; rw [← he]; rfl
  rw [h7] at h6
  exact W.aald hx hb c1 hA ht c4 (c5.inn hin) h6 rfl rfl hd k9
/-- an object of the component's own class comes into an array -/
theorem P.aast {t a x ci N : Nat} {C : String} {T : u_T} {ty : Nat → FieldType} {fs : List Value} {i : Int32} (hci : CI ci C T N ty) (ht : kty t = .object C) (h10 : t < 10) (hx0 : μ.1 x = some (.inr (ci, fs))) (hv : sQ μ t a i (some x) = some μ') (hd : decode Y.2.1 pc = .ok (.aastore, 1)) (hp : pc + 1 = pc') (kk : PW g Y d μ0 μF Qk pc' lv st μ') : PW g Y d μ0 μF Qk pc lv (.ref x :: .int i :: .ref a :: st) μ := by
  subst hp
  obtain ⟨n, f, hM, hin, rfl⟩ := sQ_spec hv
  refine ⟨kk.1, fun h0 l p e s m args below meth c H locs ls Z hW hS hl => ?_⟩
  have k9 := fun H locs hW hS => kk.2 h0 l p e s m args below meth c H locs ls Z hW hS hl
  obtain ⟨-, hx, hb, -, -, -, hown, hts, hK, -⟩ := Z
  obtain ⟨⟨cell, c1, c2, c3, c4, c5, c6⟩, ht13, hga⟩ := hW.2.1 a _ hM
  have hga : gA g a := hga h10
  obtain ⟨⟨r, r1, cellV, g1, g2, g3, -⟩, -⟩ := hW.2.1 x _ hx0
  have hcls := (hK.1 ci _ hci.1).2
  have hRA := (hK.2.1 t ht13).2 (by omega)
  rw [ht] at hRA
  obtain ⟨kA, comp, k1, k2, k3, -⟩ := hRA
  have hcomp : comp = g.1 ci := Option.some.inj (k3.symm.trans hcls.1)
  subst hcomp
  obtain ⟨kC, hkC, -⟩ := hcls.2
  have hlt : i.toNatClampNeg < n := Nat.not_le.mp fun q => hin (Or.inr q)
  refine W.aast hx hb c1 c3 c4 (by rw [c2]; exact k1) k2 rfl hkC ⟨fun q => hin (Or.inl q), Nat.lt_of_lt_of_le hlt c5.1⟩ g1 (fun q h => by rw [g3] at h; cases h) (by rw [g2]; exact hkC) (by rw [g2]; exact va_assign hcls) rfl rfl hd fun H' e1 e2 e3 => ?_
  refine k9 H' _ (hW.set e2 e3 ⟨aOK.set (v := _) c2 c3 c4 c5 c6 e1 hlt rfl ?_ ?_, ht13, fun _ => hga⟩) (hS.put e2 e3 hga)
  · simp [aV, va_up, va_rf]
  · intro j hj
    simp [aV, va_up, hj]
theorem P.aastN {t a : Nat} {C : String} {i : Int32} (ht : kty t = .object C) (h10 : t < 10) (hv : sQ μ t a i none = some μ') (hd : decode Y.2.1 pc = .ok (.aastore, 1)) (hp : pc + 1 = pc') (kk : PW g Y d μ0 μF Qk pc' lv st μ') : PW g Y d μ0 μF Qk pc lv (.null :: .int i :: .ref a :: st) μ := by
  subst hp
  obtain ⟨n, f, hM, hin, rfl⟩ := sQ_spec hv
  refine ⟨kk.1, fun h0 l p e s m args below meth c H locs ls Z hW hS hl => ?_⟩
  have k9 := fun H locs hW hS => kk.2 h0 l p e s m args below meth c H locs ls Z hW hS hl
  obtain ⟨-, hx, hb, -, -, -, hown, hts, hK, -⟩ := Z
  obtain ⟨⟨cell, c1, c2, c3, c4, c5, c6⟩, ht13, hga⟩ := hW.2.1 a _ hM
  have hga : gA g a := hga h10
  have hA : s.isArrayOf cell (kty t) := hK.arr ht13 c2 c3
  rw [ht] at hA
  have hlt : i.toNatClampNeg < n := Nat.not_le.mp fun q => hin (Or.inr q)
  refine va_WaastN hx hb c1 hA c4 (c5.inn hin) rfl rfl hd fun H' e1 e2 e3 => ?_
  refine k9 H' _ (hW.set e2 e3 ⟨aOK.set (v := _) c2 c3 c4 c5 c6 e1 hlt rfl ?_ ?_, ht13, fun _ => hga⟩) (hS.put e2 e3 hga)
  · simp [aV, va_up, va_rf]
  · intro j hj
    simp [aV, va_up, hj]
theorem P.new {ci N index : Nat} {C : String} {T : u_T} {ty : Nat → FieldType} {fs : List Value} (hci : CI ci C T N ty) (hcl : Cond.classLink Y.1 index C ∈ lw_all) (hinst : Cond.instantiable C N ∈ lw_all) (hini : Cond.initialized C ∈ lw_all) (hfs : ∀ j, j < N → defaultValue (ty j) = vp_V fs j) (hd : decode Y.2.1 pc = .ok (.new index, 3)) (hp : pc + 3 = pc') (kk : PW g Y d μ0 μF Qk pc' lv (.ref μ.2.1 :: st) (nw μ (.inr (ci, fs)) N)) : PW g Y d μ0 μF Qk pc lv st μ := by
  subst hp
  obtain ⟨k1, k2⟩ := kk
  have k11 : μ.2.1 + 1 ≤ μF.2.1 := k1.1
  have k12 : μ.2.2.1 + N ≤ μF.2.2.1 := k1.2
  refine ⟨⟨by omega, by omega⟩, fun h0 l p e s m args below meth c H locs ls Z hW hS hl => ?_⟩
  have k9 := fun H locs hW hS => k2 ⟨show μ0.2.1 ≤ μ.2.1 + 1 by omega, show μ0.2.2.1 ≤ μ.2.2.1 + N by omega⟩ l p e s m args below meth c H locs ls Z hW hS hl
  obtain ⟨-, hx, hb, -, -, -, hown, hts, hK, -, -, hbs, -⟩ := Z
  have hKn := hK.1 ci _ hci.1
  refine W.newcK hx hb hown (hts _ hcl) (hts _ hinst) (hts _ hini) rfl hd (show μ.2.1 - μ0.2.1 + 1 ≤ μF.2.1 - μ0.2.1 by omega) (show μ.2.2.1 - μ0.2.2.1 + N ≤ μF.2.2.1 - μ0.2.2.1 by omega) hKn.2.1 rfl fun H1 kC hkC e1 z1 o1 => ?_
  rw [hW.1] at e1 z1 o1 ⊢
  refine W.cs (cells' := μ.2.1 + 1 - μ0.2.1) (slots' := μ.2.2.1 + N - μ0.2.2.1) (by omega) (by omega) (k9 H1 locs (hW.push (by rw [z1, hW.1]) (fun q hq => o1 q (by rw [← hW.1]; exact hq)) ?_) ⟨?_, fun x h1 h2 => (o1 x ?_).trans (hS.2.1 x h1 h2), hS.2.2⟩)
  · rw [hW.1]
    exact ⟨⟨_, hci.1, (u_born ty hts hci.2.1 hKn hkC e1 hci.2.2.1).to hfs⟩, Nat.le_trans hbs (by rw [← hW.1]; exact hS.1)⟩
  · have := hS.1
    rw [z1, ← hW.1]; omega
  · have := hS.1
    rw [← hW.1]; omega
theorem P.newarr {t N : Nat} {atype : ArrayType} {n : Int32} {x : Ar} (harr : Cond.arrayClass (newarray.typeOf atype) ∈ lw_all) (hty : newarray.typeOf atype = kty t) (h10 : t < 10) (hra : ∀ (U : State) (cA : ClassId), va_RA U cA (kty t) → U.vm.findClass ("[" ++ (kty t).toString) = some cA) (hx1 : x.1 = N) (hx2 : ∀ j, aV x j = defaultValue (kty t)) (hn : ¬ n < 0) (hN : n.toNatClampNeg = N) (hbytes : N * componentBytes (kty t) ≤ 536870912) (hd : decode Y.2.1 pc = .ok (.newarray atype, 2)) (hp : pc + 2 = pc') (kk : PW g Y d μ0 μF Qk pc' lv (.ref μ.2.1 :: st) (nw μ (.inl (t, x)) N)) : PW g Y d μ0 μF Qk pc lv (.int n :: st) μ := by
  subst hp
  obtain ⟨k1, k2⟩ := kk
  have k11 : μ.2.1 + 1 ≤ μF.2.1 := k1.1
  have k12 : μ.2.2.1 + N ≤ μF.2.2.1 := k1.2
  refine ⟨⟨by omega, by omega⟩, fun h0 l p e s m args below meth c H locs ls Z hW hS hl => ?_⟩
  have k9 := fun H locs hW hS => k2 ⟨show μ0.2.1 ≤ μ.2.1 + 1 by omega, show μ0.2.2.1 ≤ μ.2.2.1 + N by omega⟩ l p e s m args below meth c H locs ls Z hW hS hl
  obtain ⟨-, hx, hb, -, -, -, hown, hts, hK, -, -, hbs, -⟩ := Z
  refine va_newaK hx hb (hts _ harr) rfl hd rfl hn hN (by rw [hty]; exact hbytes) (show μ.2.1 - μ0.2.1 + 1 ≤ μF.2.1 - μ0.2.1 by omega) (show μ.2.2.1 - μ0.2.2.1 + N ≤ μF.2.2.1 - μ0.2.2.1 by omega) rfl fun H1 cA e1 z1 o1 hAr hNm => ?_
  rw [hty] at e1 hAr hNm
  have hcA : cA = g.2.2.1 t := Option.some.inj (hNm.symm.trans (hra s _ ((hK.2.1 t (by omega)).2 (by omega))))
  rw [hW.1] at e1 z1 o1 ⊢
  refine W.cs (cells' := μ.2.1 + 1 - μ0.2.1) (slots' := μ.2.2.1 + N - μ0.2.2.1) (by omega) (by omega) (k9 H1 locs (hW.push (by rw [z1, hW.1]) (fun q hq => o1 q (by rw [← hW.1]; exact hq)) ?_) ⟨?_, fun x h1 h2 => (o1 x ?_).trans (hS.2.1 x h1 h2), hS.2.2⟩)
  · rw [hW.1]
    refine ⟨⟨_, e1, hcA, (fun k h => by cases h), (fun h => by cases h), sz5.of (by rw [arrV_size, hx1]), fun j hj => ?_⟩, by omega, fun _ => Nat.le_trans hbs (by rw [← hW.1]; exact hS.1)⟩
    show (arrV _ _ _).slots[j]? = _
    rw [arrV_read _ _ (by rw [hx1] at hj; exact hj), hx2]
  · have := hS.1
    rw [z1, ← hW.1]; omega
  · have := hS.1
    rw [← hW.1]; omega
theorem P.anew {t N index : Nat} {C : String} {n : Int32} (hcl : Cond.classLink Y.1 index C ∈ lw_all) (hao : C ∈ aoL) (hty : kty t = .object C) (h10 : t < 10) (hn : ¬ n < 0) (hN : n.toNatClampNeg = N) (hbytes : N * 4 ≤ 536870912) (hd : decode Y.2.1 pc = .ok (.anewarray index, 3)) (hp : pc + 3 = pc') (kk : PW g Y d μ0 μF Qk pc' lv (.ref μ.2.1 :: st) (nw μ (.inl (t, (N, .inr (.inr (fun _ => none))))) N)) : PW g Y d μ0 μF Qk pc lv (.int n :: st) μ := by
  subst hp
  subst hN
  obtain ⟨k1, k2⟩ := kk
  have k11 : μ.2.1 + 1 ≤ μF.2.1 := k1.1
  have k12 : μ.2.2.1 + n.toNatClampNeg ≤ μF.2.2.1 := k1.2
  refine ⟨⟨by omega, by omega⟩, fun h0 l p e s m args below meth c H locs ls Z hW hS hl => ?_⟩
  have k9 := fun H locs hW hS => k2 ⟨show μ0.2.1 ≤ μ.2.1 + 1 by omega, show μ0.2.2.1 ≤ μ.2.2.1 + n.toNatClampNeg by omega⟩ l p e s m args below meth c H locs ls Z hW hS hl
  obtain ⟨-, hx, hb, -, -, -, hown, hts, hK, -, hNs, hbs, -⟩ := Z
  refine W.anew hx hb hown (hts _ hcl) (va_AO.use (hNs.2.2.1 C hao)) rfl hd rfl hn hbytes (show μ.2.1 - μ0.2.1 + 1 ≤ μF.2.1 - μ0.2.1 by omega) (show μ.2.2.1 - μ0.2.2.1 + n.toNatClampNeg ≤ μF.2.2.1 - μ0.2.2.1 by omega) fun cA kA comp f1 f2 f3 f4 => ?_
  generalize hH1 : H.push ({ cls := cA, slots := Array.replicate n.toNatClampNeg .null, vm := .none } : Cell) = H1
  have z1 : H1.size = H.size + 1 := by rw [← hH1, Array.size_push]
  have e1 : H1[H.size]? = some (arrV cA n.toNatClampNeg (fun _ => .null)) := by rw [← hH1, Array.getElem?_push_size, ← arrV_new]
  have o1 : ∀ q : Nat, q < H.size → H1[q]? = H[q]? := fun q hq => by rw [← hH1, Array.getElem?_push, if_neg (Nat.ne_of_lt hq)]
  have hRA := (hK.2.1 t (by omega)).2 (by omega)
  rw [hty] at hRA
  obtain ⟨kA2, comp2, -, -, -, r4⟩ := hRA
  have hcA : cA = g.2.2.1 t := Option.some.inj (f1.symm.trans r4)
  rw [hW.1] at e1 z1 o1 ⊢
  refine W.cs (cells' := μ.2.1 + 1 - μ0.2.1) (slots' := μ.2.2.1 + n.toNatClampNeg - μ0.2.2.1) (by omega) (by omega) (k9 H1 locs (hW.push (by rw [z1, hW.1]) (fun q hq => o1 q (by rw [← hW.1]; exact hq)) ?_) ⟨?_, fun x h1 h2 => (o1 x ?_).trans (hS.2.1 x h1 h2), hS.2.2⟩)
  · rw [hW.1]
    refine ⟨⟨_, e1, hcA, (fun k h => by cases h), (fun h => by cases h), sz5.of (by rw [arrV_size]), fun j hj => ?_⟩, by omega, fun _ => Nat.le_trans hbs (by rw [← hW.1]; exact hS.1)⟩
    show (arrV _ _ _).slots[j]? = _
    rw [arrV_read _ _ hj]
    rfl
  · have := hS.1
    rw [z1, ← hW.1]; omega
  · have := hS.1
    rw [← hW.1]; omega
theorem P.castY {ci N index a : Nat} {C nm : String} {T : u_T} {ty : Nat → FieldType} {u : Unit} (hci : CI ci C T N ty) (hlink : Cond.classLink Y.1 index nm ∈ lw_all) (hc : Cond.castable C nm ∈ lw_tbl) (hv : oc μ a ci = some u) (hd : decode Y.2.1 pc = .ok (.checkcast index, 3)) (hp : pc + 3 = pc') (kk : PW g Y d μ0 μF Qk pc' lv (.ref a :: st) μ) : PW g Y d μ0 μF Qk pc lv (.ref a :: st) μ := by
  subst hp
  obtain ⟨fs, hM⟩ := oc_spec hv
  refine ⟨kk.1, fun h0 l p e s m args below meth c H locs ls Z hW hS hl => ?_⟩
  have k9 := kk.2 h0 l p e s m args below meth c H locs ls Z hW hS hl
  obtain ⟨-, hx, hb, -, -, -, hown, hts, hK, -, hN, -⟩ := Z
  obtain ⟨⟨r, r1, cellV, g1, g2, g3, -⟩, -⟩ := hW.2.1 a _ hM
  exact va_castY hx hb hown (hts _ hlink) (hN.1 _ hc rfl) ⟨cellV, g1, by rw [g3]; rfl, by rw [g2]; exact (hK.1 ci _ hci.1).2.1⟩ hd k9
theorem P.objInit {index a : Nat} (h1 : Cond.methodLink Y.1 index Lib.objectInit ∈ lw_all) (h2 : Cond.instanceMethod Lib.objectInit ∈ lw_all) (h3 : Cond.code Lib.objectInit ⟨#[0xb1]⟩ 1 none ∈ lw_all) (hd1 : 1 ≤ d) (hst : (st.map fun v => v.category).sum ≤ 8) (hd : decode Y.2.1 pc = .ok (.invokespecial index, 3)) (hp : pc + 3 = pc') (kk : PW g Y d μ0 μF Qk pc' lv st μ) : PW g Y d μ0 μF Qk pc lv (.ref a :: st) μ := by
  subst hp
  refine ⟨kk.1, fun h0 l p e s m args below meth c H locs ls Z hW hS hl => ?_⟩
  have k9 := kk.2 h0 l p e s m args below meth c H locs ls Z hW hS hl
  obtain ⟨-, hx, hb, -, -, hml, hown, hts, -⟩ := Z
  have h9 : 2 * (F0 m pc ls (.ref a :: st)).monitorRoom + (st.map fun v => v.category).sum ≤ 8 := lv_room hst
  exact W.objInit hx hb hown (hts _ h1) (hts _ h2) (hts _ h3) rfl (by rw [hml]; exact hl.1) rfl hd hd1 (show _ ≤ 64 * d by omega) k9
theorem P.gets {C n ds ref : String} {v : Value} {index : Nat} (hz : (C, n, ds, v) ∈ zsL g) (hlink : Cond.fieldLink Y.1 index ref n ds ∈ lw_all) (hsame : ∀ (s : State) x, s.fieldFound? C n ds = some x → s.fieldFound? ref n ds = some x) (hd : decode Y.2.1 pc = .ok (.getstatic index, 3)) (hp : pc + 3 = pc') (kk : PW g Y d μ0 μF Qk pc' lv (v :: st) μ) : PW g Y d μ0 μF Qk pc lv st μ := by
  subst hp
  refine ⟨kk.1, fun h0 l p e s m args below meth c H locs ls Z hW hS hl => ?_⟩
  have k9 := kk.2 h0 l p e s m args below meth c H locs ls Z hW hS hl
  obtain ⟨-, hx, hb, -, -, hml, hown, hts, -, hZ, -⟩ := Z
  exact va_gets hx hb (hZ.1 _ hz) hS hown (hts _ hlink) (hsame s) hd k9
end PWM
