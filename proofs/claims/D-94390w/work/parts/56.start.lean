set_option maxRecDepth 100000
/-! the law's entry: what the given start tells -/
theorem ra_cls {s : State} {args : Array Value} {ty : FieldType} (h : (Cond.arrayClass ty).before args s = true) (hra : ∀ cA, s.vm.findClass ("[" ++ ty.toString) = some cA → va_RA s cA ty) : ∃ cA, ArrOfT s cA ty ∧ va_RA s cA ty := by
  obtain ⟨c, k, comp, h1, h2, h3⟩ := Cond.arrayClass_spec h
  exact ⟨c, fun n z => ⟨fun k h => (by cases h), k, h2, comp, h3⟩, hra c h1⟩
theorem ra_over {s : State} {args : Array Value} {C : String} (h : (Cond.arrayOver (.object C)).before args s = true) : ∃ cA, ArrOfT s cA (.object C) ∧ va_RA s cA (.object C) := by
  obtain ⟨comp, c, k, h1, -, h2, h3, h4⟩ := Cond.arrayOver_spec h
  exact ⟨c, fun n z => ⟨fun k h => (by cases h), k, h2, comp, h3⟩, k, comp, h2, h3, h1, h4⟩
theorem ra_arr {s : State} {args : Array Value} (h : (Cond.arrayOver (.array .int)).before args s = true) : ∃ cA, ArrOfT s cA (.array .int) ∧ va_RA s cA (.array .int) := by
  obtain ⟨comp, c, k, h1, h2, h3, h4⟩ := Cond.arrayOver_specA h
  exact ⟨c, fun n z => ⟨fun k h => (by cases h), k, h2, comp, h3⟩, h4⟩
theorem eq_ref {args : Array Value} {s : State} {t u : Term} {a : Nat} (h : (Cond.eq t u).before args s = true) (hu : u.eval args s none [] s = some (.ref a)) : t.eval args s none [] s = some (.ref a) := by
  cases hv : t.eval args s none [] s with
  | none => simp [Cond.before, Cond.holds, Cond.value, hv] at h
  | some w =>
    simp only [Cond.before, Cond.holds, Cond.value, hv, hu] at h
    cases w <;> simp_all
/-- an array that was there before, read only -/
theorem ro_arr {args : Array Value} {s : State} {tm : Term} {ty : FieldType} {nm : String} {N : Nat} {f : Nat → Value} {A : Nat → Prop} {cA : ClassId} (hT : ∃ t : Nat, tm.eval args s none [] s = some (.ref t) ∧ va_T ty t N f A s s.heap) (hex : (Cond.exactly tm nm).before args s = true) (hcA : s.vm.findClass nm = some cA) : ∃ t : Nat, tm.eval args s none [] s = some (.ref t) ∧ ∃ cell : Cell, s.heap[t]? = some cell ∧ cell.cls = cA ∧ (∀ k, cell.vm ≠ .statics k) ∧ cell.vm ≠ .unknown ∧ sz5 N cell ∧ (∀ j : Nat, j < N → cell.slots[j]? = some (f j)) ∧ s.isArrayOf cell ty := by
  obtain ⟨t, ht, cell, h1, h2, h3, h4, h5, h6, h7⟩ := hT
  obtain ⟨a, c, cB, kB, q1, q2, q3, q4, q5, q6, -⟩ := Cond.exactly_spec (args := args) (first := s) (o := none) (s := s) (idx := []) (t := tm) (cls := nm) hex
  cases q1.symm.trans ht
  cases q3.symm.trans h1
  refine ⟨t, ht, cell, h1, ?_, h2.1, h3, ⟨h4, h5⟩, h6, h2⟩
  rw [q6]
  exact Option.some.inj (q2.symm.trans hcA)
theorem st_cls {s : State} {args : Array Value} (hts : ∀ w ∈ lw_all, w.before args s = true) : ∀ c : Nat, ∃ q : ClassId × (Nat → Nat), ∀ r : vw_C, kcl[c]? = some r → u_Kn s r.1 r.2.1 r.2.2 q.1 q.2 := by
  intro c
  by_cases h0 : c = 0
  · subst h0; obtain ⟨a, b, h⟩ := u_known hts ci0.2.1 (hts _ q197); exact ⟨(a, b), fun r hr => by cases (ci0.1.symm.trans hr); exact h⟩
  by_cases h1 : c = 1
  · subst h1; obtain ⟨a, b, h⟩ := u_known hts ci1.2.1 (hts _ q205); exact ⟨(a, b), fun r hr => by cases (ci1.1.symm.trans hr); exact h⟩
  by_cases h2 : c = 2
  · subst h2; obtain ⟨a, b, h⟩ := u_known hts ci2.2.1 (hts _ q237); exact ⟨(a, b), fun r hr => by cases (ci2.1.symm.trans hr); exact h⟩
  by_cases h3 : c = 3
  · subst h3; obtain ⟨a, b, h⟩ := u_known hts ci3.2.1 (hts _ q272); exact ⟨(a, b), fun r hr => by cases (ci3.1.symm.trans hr); exact h⟩
  by_cases h4 : c = 4
  · subst h4; obtain ⟨a, b, h⟩ := u_known hts ci4.2.1 (hts _ q304); exact ⟨(a, b), fun r hr => by cases (ci4.1.symm.trans hr); exact h⟩
  by_cases h5 : c = 5
  · subst h5; obtain ⟨a, b, h⟩ := u_known hts ci5.2.1 (hts _ q318); exact ⟨(a, b), fun r hr => by cases (ci5.1.symm.trans hr); exact h⟩
  by_cases h6 : c = 6
  · subst h6; obtain ⟨a, b, h⟩ := u_known hts ci6.2.1 (hts _ q405); exact ⟨(a, b), fun r hr => by cases (ci6.1.symm.trans hr); exact h⟩
  by_cases h7 : c = 7
  · subst h7; obtain ⟨a, b, h⟩ := u_known hts ci7.2.1 (hts _ q441); exact ⟨(a, b), fun r hr => by cases (ci7.1.symm.trans hr); exact h⟩
  by_cases h8 : c = 8
  · subst h8; obtain ⟨a, b, h⟩ := u_known hts ci8.2.1 (hts _ q458); exact ⟨(a, b), fun r hr => by cases (ci8.1.symm.trans hr); exact h⟩
  by_cases h9 : c = 9
  · subst h9; obtain ⟨a, b, h⟩ := u_known hts ci9.2.1 (hts _ q1534); exact ⟨(a, b), fun r hr => by cases (ci9.1.symm.trans hr); exact h⟩
  by_cases h10 : c = 10
  · subst h10; obtain ⟨a, b, h⟩ := u_known hts ci10.2.1 (hts _ q681); exact ⟨(a, b), fun r hr => by cases (ci10.1.symm.trans hr); exact h⟩
  by_cases h11 : c = 11
  · subst h11; obtain ⟨a, b, h⟩ := u_known hts ci11.2.1 (hts _ q778); exact ⟨(a, b), fun r hr => by cases (ci11.1.symm.trans hr); exact h⟩
  by_cases h12 : c = 12
  · subst h12; obtain ⟨a, b, h⟩ := u_known hts ci12.2.1 (hts _ q876); exact ⟨(a, b), fun r hr => by cases (ci12.1.symm.trans hr); exact h⟩
  by_cases h13 : c = 13
  · subst h13; obtain ⟨a, b, h⟩ := u_known hts ci13.2.1 (hts _ q895); exact ⟨(a, b), fun r hr => by cases (ci13.1.symm.trans hr); exact h⟩
  by_cases h14 : c = 14
  · subst h14; obtain ⟨a, b, h⟩ := u_known hts ci14.2.1 (hts _ q934); exact ⟨(a, b), fun r hr => by cases (ci14.1.symm.trans hr); exact h⟩
  by_cases h15 : c = 15
  · subst h15; obtain ⟨a, b, h⟩ := u_known hts ci15.2.1 (hts _ q968); exact ⟨(a, b), fun r hr => by cases (ci15.1.symm.trans hr); exact h⟩
  by_cases h16 : c = 16
  · subst h16; obtain ⟨a, b, h⟩ := u_known hts ci16.2.1 (hts _ q984); exact ⟨(a, b), fun r hr => by cases (ci16.1.symm.trans hr); exact h⟩
  by_cases h17 : c = 17
  · subst h17; obtain ⟨a, b, h⟩ := u_known hts ci17.2.1 (hts _ q994); exact ⟨(a, b), fun r hr => by cases (ci17.1.symm.trans hr); exact h⟩
  by_cases h18 : c = 18
  · subst h18; obtain ⟨a, b, h⟩ := u_known hts ci18.2.1 (hts _ q1256); exact ⟨(a, b), fun r hr => by cases (ci18.1.symm.trans hr); exact h⟩
  by_cases h19 : c = 19
  · subst h19; obtain ⟨a, b, h⟩ := u_known hts ci19.2.1 (hts _ q1418); exact ⟨(a, b), fun r hr => by cases (ci19.1.symm.trans hr); exact h⟩
  by_cases h20 : c = 20
  · subst h20; obtain ⟨a, b, h⟩ := u_known hts ci20.2.1 (hts _ q278); exact ⟨(a, b), fun r hr => by cases (ci20.1.symm.trans hr); exact h⟩
  refine ⟨(0, fun _ => 0), fun r hr => ?_⟩
  have h21 : c < 21 := (List.getElem?_eq_some_iff.mp hr).1
  omega
theorem st_arr {s : State} {args : Array Value} {cs : ClassId} (hts : ∀ w ∈ lw_tbl, w.before args s = true) (hta : ∀ w ∈ lw_all, w.before args s = true) (h10 : ArrOfT s cs .int) : ∀ t : Nat, ∃ cA : ClassId, t < 13 → ArrOfT s cA (kty t) ∧ (t ≠ 10 → va_RA s cA (kty t)) ∧ (t = 10 → cA = cs) := by
  intro t
  by_cases h0 : t = 0
  · subst h0; obtain ⟨c, a, b⟩ := ra_cls (hta _ q270) (fun _ h => h); exact ⟨c, fun _ => ⟨a, fun _ => b, fun h => by cases h⟩⟩
  by_cases h1 : t = 1
  · subst h1; obtain ⟨c, a, b⟩ := ra_cls (hta _ q235) (fun _ h => h); exact ⟨c, fun _ => ⟨a, fun _ => b, fun h => by cases h⟩⟩
  by_cases h2 : t = 2
  · subst h2; obtain ⟨c, a, b⟩ := ra_cls (hta _ q233) (fun _ h => h); exact ⟨c, fun _ => ⟨a, fun _ => b, fun h => by cases h⟩⟩
  by_cases h3 : t = 3
  · subst h3; obtain ⟨c, a, b⟩ := ra_cls (hta _ q234) (fun _ h => h); exact ⟨c, fun _ => ⟨a, fun _ => b, fun h => by cases h⟩⟩
  by_cases h4 : t = 4
  · subst h4; obtain ⟨c, a, b⟩ := ra_cls (hta _ q316) (fun _ h => h); exact ⟨c, fun _ => ⟨a, fun _ => b, fun h => by cases h⟩⟩
  by_cases h9 : t = 9
  · subst h9; obtain ⟨c, a, b⟩ := ra_cls (hta _ q270) (fun _ h => h); exact ⟨c, fun _ => ⟨a, fun _ => b, fun h => by cases h⟩⟩
  by_cases h5 : t = 5
  · subst h5; obtain ⟨c, a, b⟩ := ra_arr (hts _ q474); exact ⟨c, fun _ => ⟨a, fun _ => b, fun h => by cases h⟩⟩
  by_cases h6 : t = 6
  · subst h6; obtain ⟨c, a, b⟩ := ra_over (hts _ q854); exact ⟨c, fun _ => ⟨a, fun _ => b, fun h => by cases h⟩⟩
  by_cases h7 : t = 7
  · subst h7; obtain ⟨c, a, b⟩ := ra_over (hts _ q439); exact ⟨c, fun _ => ⟨a, fun _ => b, fun h => by cases h⟩⟩
  by_cases h8 : t = 8
  · subst h8; obtain ⟨c, a, b⟩ := ra_over (hts _ q472); exact ⟨c, fun _ => ⟨a, fun _ => b, fun h => by cases h⟩⟩
  by_cases h11 : t = 11
  · subst h11; obtain ⟨c, a, b⟩ := ra_over (hts _ q2349); exact ⟨c, fun _ => ⟨a, fun _ => b, fun h => by cases h⟩⟩
  by_cases h12 : t = 12
  · subst h12; obtain ⟨c, a, b⟩ := ra_over (hts _ q854); exact ⟨c, fun _ => ⟨a, fun _ => b, fun h => by cases h⟩⟩
  by_cases h10 : t = 10
  · subst h10; exact ⟨cs, fun _ => ⟨h10, fun h => absurd rfl h, fun _ => rfl⟩⟩
  exact ⟨0, fun h => by omega⟩
theorem st_Nst {s : State} {args : Array Value} (hts : ∀ w ∈ lw_tbl, w.before args s = true) : Nst s := by
  refine ⟨fun w hw hn => va_Nw.of (by cases w <;> first | rfl | cases hn) (hts w hw), fun f hf => ?_, fun C hC => ?_, hts _ q474⟩
  · have h5 : ∀ f ∈ fwL, Cond.declares f.2.1 ∈ lw_tbl ∧ Cond.interfaceMethod f.2.1.cls f.2.1.cls f.2.1.name f.2.1.desc ∈ lw_tbl ∧ Cond.publicMethod f.2.2 ∈ lw_tbl ∧ Cond.unhidden f.1 f.2.1.name f.2.1.desc ∈ lw_tbl ∧ Cond.castable f.1 f.2.1.cls ∈ lw_tbl := by decide +kernel
    obtain ⟨a1, a2, a3, a4, a5⟩ := h5 f hf
    exact va_Fw.of (hts _ a1) (hts _ a2) (hts _ a3) (hts _ a4) (hts _ a5)
  · simp only [aoL, List.mem_cons, List.not_mem_nil, or_false] at hC
    rcases hC with rfl | rfl | rfl
    · exact va_AO.of (hts _ q854)
    · exact va_AO.of (hts _ q439)
    · exact va_AO.of (hts _ q472)
abbrev tmS (i : Nat) : Term := .string "StiltTown$Scanner" (87 + 2 * i)
abbrev tmW : Term := .static "StiltTown$Scanner" "WORDS" "[Ljava/lang/String;"
abbrev tmE : Term := .static "java/util/ArrayList" "DEFAULTCAPACITY_EMPTY_ELEMENTDATA" "[Ljava/lang/Object;"
abbrev fl9 : List Cond := flatC (Jvm.Cond.and given_1 narrow_1)
theorem a9_ex : ∀ i : Nat, i < 26 → Cond.exactly (tmS i) "java/lang/String" ∈ fl9 := by decide +kernel
theorem a9_co : ∀ i : Nat, i < 26 → Cond.eq (.field (tmS i) "java/lang/String" "coder" "B") (.int 0) ∈ fl9 := by decide +kernel
theorem a9_ar : ∀ i : Nat, i < 26 → Cond.arrayOf (.field (tmS i) "java/lang/String" "value" "[B") .byte ∈ fl9 := by decide +kernel
theorem a9_le : ∀ i : Nat, i < 26 → Cond.eq (.length (.field (tmS i) "java/lang/String" "value" "[B")) (.int (Int32.ofNat (wl.getD i 0))) ∈ fl9 := by decide +kernel
theorem a9_el : ∀ i : Nat, i < 26 → ∀ j : Nat, j < wl.getD i 0 → Cond.eq (.elem (.field (tmS i) "java/lang/String" "value" "[B") (.int (Int32.ofNat j))) (.int ((wb.getD i []).getD j 0)) ∈ fl9 := by decide +kernel
theorem a9_w : ∀ i : Nat, i < 26 → Cond.eq (.elem tmW (.int (Int32.ofNat i))) (tmS i) ∈ fl9 := by decide +kernel
theorem wl_31 : ∀ i : Nat, i < 26 → wl.getD i 0 < 2 ^ 31 := by decide +kernel
theorem st_str {args : Array Value} {s : State} {A : Nat → Prop} (hs : ∀ c ∈ fl9, c.before args s = true) (hA : ∀ a : Nat, a < s.heap.size → ¬ A a) : ∀ i : Nat, ∃ q : Nat × Nat, i < 26 → (tmS i).eval args s none [] s = some (.ref q.1) ∧ va_O "java/lang/String" q.1 A s s.heap ∧ va_OF "java/lang/String" "coder" "B" (.int 0) q.1 A s s.heap ∧ va_OF "java/lang/String" "value" "[B" (.ref q.2) q.1 A s s.heap ∧ va_T .byte q.2 (wl.getD i 0) (fun j => .int ((wb.getD i []).getD j 0)) A s s.heap := by
  intro i
  by_cases hi : i < 26
  · obtain ⟨a, c, cA, kA, q1, q2, q3, q4, q5, q6, -⟩ := Cond.exactly_spec (args := args) (first := s) (o := none) (s := s) (idx := []) (t := tmS i) (cls := "java/lang/String") (hs _ (a9_ex i hi))
    obtain ⟨t, ht, hT⟩ := va_Tof (f := fun j => .int ((wb.getD i []).getD j 0)) (A := A) (wl_31 i hi) (hs _ (a9_ar i hi)) (va_eqt (hs _ (a9_le i hi))) (fun j hj => va_eqt (hs _ (a9_el i hi j hj))) hA
    exact ⟨(a, t), fun _ => ⟨q1, ⟨cA, q3, q5, by rw [q6]; exact q2, hA a (Array.getElem?_eq_some_iff.mp q3).1⟩, vk_OFof q1 (va_eqt (hs _ (a9_co i hi))) hA, vk_OFof q1 ht hA, hT⟩⟩
  · exact ⟨(0, 0), fun h => absurd h hi⟩
theorem zq_code {C n d : String} {A : Nat → Prop} {s : State} (h : va_Zq C n d A s s.heap) : ∃ k : Nat, va_Z C n d (cV k) A s s.heap := by
  rcases h with h | ⟨t, h⟩
  · exact ⟨0, h⟩
  · exact ⟨t + 1, h⟩
theorem st_all {s : State} {b L : Nat} {xs : Nat → Int32} (hts : ∀ w ∈ lw_tbl, w.before #[Value.ref b] s = true) (hta : ∀ w ∈ lw_all, w.before #[Value.ref b] s = true) (hX : va_X b L xs s s.heap) (hs : ∀ c ∈ fl9, c.before #[Value.ref b] s = true) : ∃ (g : Gx) (M0 : Sw), g.2.2.2.1 = s.heap.size ∧ gK g s ∧ Zs g s s.heap ∧ Nst s ∧ Wd g M0 s.heap ∧ M0.2.2.1 = 0 ∧ M0.1 b = some (.inl (10, (L, .inl xs))) ∧ M0.1 (M0.2.2.2 0) = some (.inl (12, (0, .inr (.inr (fun _ => none))))) ∧ M0.1 (M0.2.2.2 1) = some (.inl (11, (26, .inr (.inr (fun j => some (M0.2.2.2 (10 + j))))))) ∧ (∀ a : Nat, s.heap.size ≤ a → M0.1 a = none) := by
  have hA : ∀ a : Nat, a < s.heap.size → ¬ (fun q : Nat => s.heap.size ≤ q) a := fun a h z => absurd z (Nat.not_le.mpr h)
  obtain ⟨scr, x1, x2, x3, x4, x5⟩ := hX
  obtain ⟨D, hD⟩ := Classical.axiomOfChoice (st_cls hta)
  have h10 : ArrOfT s scr.cls .int := fun n z => ⟨fun k h => (by cases h), x2.2⟩
  obtain ⟨dA, hdA⟩ := Classical.axiomOfChoice (st_arr (cs := scr.cls) hts hta h10)
  obtain ⟨S, hS⟩ := Classical.axiomOfChoice (st_str (A := fun q : Nat => s.heap.size ≤ q) hs hA)
  obtain ⟨mi, hmi⟩ := va_Mi.of (hs (Cond.isRef (.mirror "[Ljava/lang/Object;")) (by decide +kernel))
  have hE0 := va_Tof (N := 0) (f := fun _ => Value.null) (A := fun q : Nat => s.heap.size ≤ q) (tm := tmE) (by decide) (hs (Cond.arrayOf tmE (.object "java/lang/Object")) (by decide +kernel)) (va_eqt (hs (Cond.eq (.length tmE) (.int 0)) (by decide +kernel))) (fun j hj => by omega) hA
  have hW0 := va_Tof (N := 26) (f := fun j => Value.ref (S j).1) (A := fun q : Nat => s.heap.size ≤ q) (tm := tmW) (by decide) (hs (Cond.arrayOf tmW (.object "java/lang/String")) (by decide +kernel)) (va_eqt (hs (Cond.eq (.length tmW) (.int 26)) (by decide +kernel))) (fun j hj => eq_ref (hs _ (a9_w j hj)) (hS j hj).1) hA
  obtain ⟨tE, hE1, cE, e1, e2, e3, e4, e5, e6, e7⟩ := ro_arr hE0 (hs (Cond.exactly tmE "[Ljava/lang/Object;") (by decide +kernel)) (va_nmO ((hdA 12 (by decide)).2.1 (by decide)) rfl)
  obtain ⟨tW, hW1, cW, w1, w2, w3, w4, w5, w6, w7⟩ := ro_arr hW0 (hs (Cond.exactly tmW "[Ljava/lang/String;") (by decide +kernel)) (va_nmO ((hdA 11 (by decide)).2.1 (by decide)) rfl)
  obtain ⟨k3, z3⟩ := zq_code (va_Zqof (hts _ q707) (hta _ q177) (hs _ (by decide +kernel)) hA)
  obtain ⟨k4, z4⟩ := zq_code (va_Zqof (hts _ q709) (hta _ q177) (hs _ (by decide +kernel)) hA)
  obtain ⟨k5, z5⟩ := zq_code (va_Zqof (hts _ q616) (hta _ q175) (hs _ (by decide +kernel)) hA)
  have z0 := va_Zof (hts _ q290) (hta _ q165) hE1 hA
  have z1 := va_Zof (hts _ q586) (hta _ q160) hW1 hA
  have z2 := va_Zof (hts _ q600) (hta _ q173) (va_eqt (hs (Cond.eq (.static "java/lang/String" "COMPACT_STRINGS" "Z") (.int 1)) (by decide +kernel))) hA
  let ro : Nat → Nat := fun q => if q = 0 then tE else if q = 1 then tW else if q = 2 then mi else if q = 3 then k3 else if q = 4 then k4 else if q = 5 then k5 else if q < 40 then (S (q - 10)).1 else (S (q - 40)).2
  have r1 : ∀ i : Nat, i < 26 → ro (10 + i) = (S i).1 := fun i hi => by
    show (if 10 + i = 0 then tE else if 10 + i = 1 then tW else if 10 + i = 2 then mi else if 10 + i = 3 then k3 else if 10 + i = 4 then k4 else if 10 + i = 5 then k5 else if 10 + i < 40 then (S (10 + i - 10)).1 else (S (10 + i - 40)).2) = _
    rw [if_neg (by omega), if_neg (by omega), if_neg (by omega), if_neg (by omega), if_neg (by omega), if_neg (by omega), if_pos (by omega), Nat.add_sub_cancel_left]
  have r4 : ∀ i : Nat, i < 26 → ro (40 + i) = (S i).2 := fun i hi => by
    show (if 40 + i = 0 then tE else if 40 + i = 1 then tW else if 40 + i = 2 then mi else if 40 + i = 3 then k3 else if 40 + i = 4 then k4 else if 40 + i = 5 then k5 else if 40 + i < 40 then (S (40 + i - 10)).1 else (S (40 + i - 40)).2) = _
    rw [if_neg (by omega), if_neg (by omega), if_neg (by omega), if_neg (by omega), if_neg (by omega), if_neg (by omega), if_neg (by omega), Nat.add_sub_cancel_left]
  have d1 : tE ≠ b := fun h => by
    subst h
    cases e1.symm.trans x1
    obtain ⟨-, k, a1, c1, a2⟩ := e7
    obtain ⟨-, k', b1, c2, b2⟩ := x2
    cases a1.symm.trans b1
    cases a2.symm.trans b2
  have d2 : tW ≠ b := fun h => by
    subst h
    cases w1.symm.trans x1
    obtain ⟨-, k, a1, c1, a2⟩ := w7
    obtain ⟨-, k', b1, c2, b2⟩ := x2
    cases a1.symm.trans b1
    cases a2.symm.trans b2
  have d3 : tW ≠ tE := fun h => by
    subst h
    cases w1.symm.trans e1
    obtain ⟨-, k, a1, c1, a2⟩ := w7
    obtain ⟨-, k', b1, c2, b2⟩ := e7
    cases a1.symm.trans b1
    have := a2.symm.trans b2
    injection this with _ z
    injection z with z
    exact absurd z (by decide)
  refine ⟨(fun c => (D c).1, fun c => (D c).2, dA, s.heap.size, ro), (fun a => if a = b then some (.inl (10, (L, .inl xs))) else if a = tE then some (.inl (12, (0, .inr (.inr (fun _ => none))))) else if a = tW then some (.inl (11, (26, .inr (.inr (fun j => some (ro (10 + j))))))) else none, s.heap.size, 0, ro), rfl, ⟨fun c q hq => hD c q hq, fun t ht => ⟨(hdA t ht).1, (hdA t ht).2.1⟩, hmi⟩, ⟨?_, fun i hi => ?_⟩, st_Nst hts, ⟨rfl, fun a ob ha => ?_, rfl⟩, rfl, if_pos rfl, (if_neg d1).trans (if_pos rfl), (if_neg d2).trans ((if_neg d3).trans (if_pos rfl)), fun a ha => ?_⟩
  · intro z hz
    simp only [zsL, List.mem_cons, List.not_mem_nil, or_false] at hz
    rcases hz with rfl | rfl | rfl | rfl | rfl | rfl
    · exact z0
    · exact z1
    · exact z2
    · exact z3
    · exact z4
    · exact z5
  · obtain ⟨-, p1, p2, p3, p4⟩ := hS i hi
    show va_O _ (ro (10 + i)) _ _ _ ∧ va_OF _ _ _ _ (ro (10 + i)) _ _ _ ∧ va_OF _ _ _ (.ref (ro (40 + i))) (ro (10 + i)) _ _ _ ∧ va_T _ (ro (40 + i)) _ _ _ _ _
    rw [r1 i hi, r4 i hi]
    exact ⟨p1, p2, p3, p4⟩
  · have ha : (if a = b then some (.inl (10, (L, .inl xs))) else if a = tE then some (.inl (12, (0, .inr (.inr (fun _ => none))))) else if a = tW then some (.inl (11, (26, .inr (.inr (fun j => some (ro (10 + j))))))) else none : Option Ob) = some ob := ha
    by_cases a1 : a = b
    · rw [if_pos a1] at ha
      cases ha
      subst a1
      exact ⟨⟨scr, x1, ((hdA 10 (by decide)).2.2 rfl).symm, x2.1, x3, sz5.of x4, fun j hj => x5 j hj⟩, (show (10 : Nat) < 13 by decide), fun h => absurd (show (10 : Nat) < 10 from h) (by decide)⟩
    · rw [if_neg a1] at ha
      by_cases a2 : a = tE
      · rw [if_pos a2] at ha
        cases ha
        subst a2
        exact ⟨⟨cE, e1, e2, e3, e4, e5, fun j hj => absurd hj (Nat.not_lt_zero j)⟩, (show (12 : Nat) < 13 by decide), fun h => absurd h (by decide)⟩
      · rw [if_neg a2] at ha
        by_cases a3 : a = tW
        · rw [if_pos a3] at ha
          cases ha
          subst a3
          exact ⟨⟨cW, w1, w2, w3, w4, w5, fun j hj => by
            rw [w6 j hj]
            show some (Value.ref (S j).1) = some (va_rf (some (ro (10 + j))))
            rw [r1 j hj]
            rfl⟩, (show (11 : Nat) < 13 by decide), fun h => absurd (show (11 : Nat) < 10 from h) (by decide)⟩
        · rw [if_neg a3] at ha
          cases ha
  · have hb : b < s.heap.size := (Array.getElem?_eq_some_iff.mp x1).1
    have hE : tE < s.heap.size := (Array.getElem?_eq_some_iff.mp e1).1
    have hW : tW < s.heap.size := (Array.getElem?_eq_some_iff.mp w1).1
    show (if a = b then _ else if a = tE then _ else if a = tW then _ else none : Option Ob) = none
    rw [if_neg (by omega), if_neg (by omega), if_neg (by omega)]

/-- what the plain law owes: for any memory with the given arrays and no object else, both constructors come out and the steps agree -/
def PlainLaw : Prop := ∃ F : Nat, ∀ (M0 : Sw) (b L : Nat) (xs : Nat → Int32), L ≤ 448 → M0.2.2.1 = 0 → M0.1 b = some (.inl (10, (L, .inl xs))) → M0.1 (M0.2.2.2 0) = some (.inl (12, (0, .inr (.inr (fun _ => none))))) → M0.1 (M0.2.2.2 1) = some (.inl (11, (26, .inr (.inr (fun j => some (M0.2.2.2 (10 + j))))))) → (∀ a : Nat, M0.2.1 ≤ a → M0.1 a = none) → ∃ (M1 : Sw) (τ : Tw) (I : Sw → Tw → Prop), f_X0_init F M0.2.1 (nw M0 (.inr (0, dfX0)) 20) = some M1 ∧ t_X9_init F = some τ ∧ IOK I M0.2.1 M1.2.1 b L xs ∧ IST I F M0.2.1 M1.2.1 b ∧ I (mT M1.2.1 τ (M1.1, M1.2.1 + 35, M1.2.2.1 + 53 + 20474, M1.2.2.2)) τ ∧ M1.2.1 + 35 ≤ M0.2.1 + 3000 ∧ M1.2.2.1 + 20527 ≤ M0.2.2.1 + 60000
theorem start_of {p : Program} {e : Env} {s : State} {m : MethodId} {below : List Frame} {meth : Method} {c : Code} (hPL : PlainLaw) (l : Launch) (hflags : l.flags = flags0) {b L : Nat} {xs : Nat → Int32} (hL : L ≤ 448) (C0 : lw_At p s m meth c b L xs) : W p l e room_1 s m #[Value.ref b] below meth c s.heap [] 0 0 (lw_Z below #[Value.ref b] s) (entryFrame m ([Value.ref b] : List Value).toArray 4) := by
  obtain ⟨hx, hb, hr, hml, hown, hts, hX, hbl, hlk, hgv⟩ := C0
  have hta : ∀ w ∈ lw_all, w.before #[Value.ref b] s = true := fun w hw => hts w (lw_all_tbl hw)
  obtain ⟨g, M0, g0, hK, hZ, hN, hW, m0, m1, m2, m3, m4⟩ := st_all hts hta hX (flat_of_before _ hgv)
  obtain ⟨F, hF⟩ := hPL
  obtain ⟨μF, hbd, hpw⟩ := law_body (g := g) (F := F) (M0 := M0) hL (hF M0 b L xs hL m0 m1 m2 m3 (fun a ha => m4 a (by rw [hW.1]; exact ha)))
  have k := hpw.2 ⟨Nat.le_refl _, Nat.le_refl _⟩ l p e s m #[.ref b] below meth c s.heap [] _ ⟨hflags, hx, hb, hr, hlk, hml, hown, hta, hK, hZ, hN, Nat.le_of_eq g0, (fun h => by cases h), (fun h => absurd rfl h)⟩ hW va_S.rf (lv_entry [Value.ref b] (n := 4) (Nat.le_of_ble_eq_true rfl))
  rw [lg_entry_eq]
  rw [Nat.sub_self, Nat.sub_self] at k
  refine W_room (R' := rmD 1562 M0 μF) ⟨Nat.le_of_ble_eq_true rfl, Nat.le_of_ble_eq_true rfl, hbd.1, hbd.2⟩ ?_
  intro T hT X
  obtain ⟨t, h1, h2⟩ := k T hT X
  exact ⟨t, h1, h2 g0⟩

