set_option maxRecDepth 100000
/-! an array of arrays of ints -/
def nwG (μ : Sw) (n k : Nat) : Sw := (fun a => if a = μ.2.1 then some (.inl (5, (n, .inr (.inr (fun j => some (μ.2.1 + 1 + j)))))) else if μ.2.1 < a ∧ a ≤ μ.2.1 + n then some (.inl (0, (k, .inl fun _ => 0))) else μ.1 a, μ.2.1 + 1 + n, μ.2.2.1 + n + n * k, μ.2.2.2)
section PMU
variable {g : Gx} {Y : Ym} {d : Nat} {μ0 μF : Sw} {Qk : List Frame → Array Value → State → State → Prop} {pc pc' tgt : Nat} {lv lv' : List (Nat × Value)} {st st' : List Value} {μ μ' : Sw}
theorem P.multi {n2 k2 index : Nat} {n k : Int32} (hcl : Cond.classLink Y.1 index "[[I" ∈ lw_all) (harr : Cond.arrayClass .int ∈ lw_all) (hn : ¬ n < 0) (hk : ¬ k < 0) (hn2 : n.toNatClampNeg = n2) (hk2 : k.toNatClampNeg = k2) (hb1 : n2 * 4 ≤ 536870912) (hb2 : k2 * 4 ≤ 536870912) (hb3 : k2 ≤ 536870912) (e : nwG μ n2 k2 = μ') (hd : decode Y.2.1 pc = .ok (.multianewarray index 2, 4)) (hp : pc + 4 = pc') (kk : PW g Y d μ0 μF Qk pc' lv (.ref μ.2.1 :: st) μ') : PW g Y d μ0 μF Qk pc lv (.int k :: .int n :: st) μ := by
  subst hp
  subst e
  subst hn2
  subst hk2
  obtain ⟨k1, kw⟩ := kk
  have k11 : μ.2.1 + 1 + n.toNatClampNeg ≤ μF.2.1 := k1.1
  have k12 : μ.2.2.1 + n.toNatClampNeg + n.toNatClampNeg * k.toNatClampNeg ≤ μF.2.2.1 := k1.2
  refine ⟨⟨by omega, by omega⟩, fun h0 l p e s m args below meth c H locs ls Z hW hS hl => ?_⟩
  have k9 := fun H locs hW hS => kw ⟨show μ0.2.1 ≤ μ.2.1 + 1 + n.toNatClampNeg by omega, show μ0.2.2.1 ≤ μ.2.2.1 + n.toNatClampNeg + n.toNatClampNeg * k.toNatClampNeg by omega⟩ l p e s m args below meth c H locs ls Z hW hS hl
  obtain ⟨-, hx, hb, -, -, -, hown, hts, hK, -, hNs, hbs, -⟩ := Z
  intro T hT X
  have hAA : (Cond.arrayOver (.array .int)).before args s = true := hNs.2.2.2
  obtain ⟨vm₁, cA, comp, hW1, hfA, hfC, -, -, X1, step⟩ := X.multianewarray2F hx (own := Y.1) (index := index) (ty := .int) hown (hts _ hcl) hAA (hts _ harr) (g := F0 m pc ls (.int k :: .int n :: st)) rfl (by rw [hb]; exact hd) (n := n) (k := k) (rest := st) rfl hn hk hb1 hb2 hb3 rfl rfl
    (show μ.2.1 - μ0.2.1 + (1 + n.toNatClampNeg) ≤ μF.2.1 - μ0.2.1 by omega) (show μ.2.2.1 - μ0.2.2.1 + (n.toNatClampNeg + n.toNatClampNeg * k.toNatClampNeg) ≤ μF.2.2.1 - μ0.2.2.1 by omega)
  have hsz : (T.setVm vm₁).heap.size = μ.2.1 := by show T.heap.size = _; rw [hT]; exact hW.1
  have hTs : T.heap.size = μ.2.1 := by rw [hT]; exact hW.1
  rw [hTs] at step
  obtain ⟨f1, f2, -⟩ := Jvm.Free.Multi.fill_facts (T.setVm vm₁) cA comp n.toNatClampNeg k.toNatClampNeg (defaultValue .int) n.toNatClampNeg
  have fin := fun j hj => Jvm.Free.Multi.fill_inner (T.setVm vm₁) cA comp n.toNatClampNeg k.toNatClampNeg (defaultValue .int) n.toNatClampNeg j hj
  have fold := fun (a : Nat) (ha : a < (T.setVm vm₁).heap.size) => Jvm.Free.Multi.fill_old (T.setVm vm₁) cA comp n.toNatClampNeg k.toNatClampNeg (defaultValue .int) ha n.toNatClampNeg
  obtain ⟨o1, o2, o3⟩ := Jvm.Free.Multi.outerC_facts cA n.toNatClampNeg (T.setVm vm₁).heap.size n.toNatClampNeg
  have oslot := fun j hj => Jvm.Free.Multi.outerC_slot cA n.toNatClampNeg (T.setVm vm₁).heap.size n.toNatClampNeg j hj
  rw [hsz] at f1 f2 fin fold o1 o2 o3 oslot
  have hold : ∀ a : Nat, a < μ.2.1 → (Jvm.Free.Multi.fill (T.setVm vm₁) cA comp n.toNatClampNeg k.toNatClampNeg (defaultValue .int) n.toNatClampNeg).heap[a]? = H[a]? := fun a ha => by
    rw [fold a ha]
    show T.heap[a]? = _
    rw [hT]
  have hcA : cA = g.2.2.1 5 := Option.some.inj (hfA.symm.trans ((hK.2.1 5 (by decide)).2 (by decide)))
  have hcC : comp = g.2.2.1 0 := Option.some.inj (hfC.symm.trans ((hK.2.1 0 (by decide)).2 (by decide)))
  have hga : ∀ q, μ.2.1 ≤ q → gA g q := fun q hq => Nat.le_trans hbs (Nat.le_trans (by rw [← hW.1]; exact hS.1) hq)
  have hWd : Wd g (nwG μ n.toNatClampNeg k.toNatClampNeg) (Jvm.Free.Multi.fill (T.setVm vm₁) cA comp n.toNatClampNeg k.toNatClampNeg (defaultValue .int) n.toNatClampNeg).heap := by
    refine ⟨f1, fun a o ha => ?_, hW.2.2⟩
    have hb2 : (if a = μ.2.1 then some (Sum.inl (5, (n.toNatClampNeg, .inr (.inr (fun j => some (μ.2.1 + 1 + j)))))) else if μ.2.1 < a ∧ a ≤ μ.2.1 + n.toNatClampNeg then some (.inl (0, (k.toNatClampNeg, .inl fun _ => 0))) else μ.1 a) = some o := ha
    clear ha
    split at hb2
    · next h =>
      cases hb2
      rw [h]
      exact ⟨⟨_, f2, by rw [o1]; exact hcA, (fun q h => by rw [o2] at h; cases h), (fun h => by rw [o2] at h; cases h), sz5.of o3, fun j hj => by rw [oslot j hj, if_pos hj]; rfl⟩, (show (5 : Nat) < 13 by decide), fun _ => hga _ (Nat.le_refl _)⟩
    · split at hb2
      · next h1 h2 =>
        cases hb2
        obtain ⟨j, rfl⟩ : ∃ j, a = μ.2.1 + 1 + j := ⟨a - (μ.2.1 + 1), by omega⟩
        refine ⟨⟨_, fin j (by omega), hcC, (fun q h => by cases h), (fun h => by cases h), sz5.of (by simp [Jvm.Free.Multi.innerC]), fun i hi => ?_⟩, (show (0 : Nat) < 13 by decide), fun _ => hga _ (by omega)⟩
        have hi : i < k.toNatClampNeg := hi
        simp [Jvm.Free.Multi.innerC, hi, aV, defaultValue]
      · have h1 := hW.2.1 a o hb2
        exact h1.kept (hold a (by rw [← hW.1]; exact h1.lt))
  have hSS : va_S (gA g) s.heap (Jvm.Free.Multi.fill (T.setVm vm₁) cA comp n.toNatClampNeg k.toNatClampNeg (defaultValue .int) n.toNatClampNeg).heap locs := by
    refine ⟨Nat.le_trans hS.1 (by rw [f1, hW.1]; omega), fun q h1 h2 => ?_, hS.2.2⟩
    rw [hold q (by rw [← hW.1]; exact Nat.lt_of_lt_of_le h1 hS.1)]
    exact hS.2.1 q h1 h2
  have X2 : Stand p l e (rmD d μ0 μF) s m args below meth c (Jvm.Free.Multi.fill (T.setVm vm₁) cA comp n.toNatClampNeg k.toNatClampNeg (defaultValue .int) n.toNatClampNeg) locs (μ.2.1 + 1 + n.toNatClampNeg - μ0.2.1) (μ.2.2.1 + n.toNatClampNeg + n.toNatClampNeg * k.toNatClampNeg - μ0.2.2.1) := by
    rw [show μ.2.1 + 1 + n.toNatClampNeg - μ0.2.1 = μ.2.1 - μ0.2.1 + 1 + n.toNatClampNeg by omega, show μ.2.2.1 + n.toNatClampNeg + n.toNatClampNeg * k.toNatClampNeg - μ0.2.2.1 = μ.2.2.1 - μ0.2.2.1 + n.toNatClampNeg + n.toNatClampNeg * k.toNatClampNeg by omega]
    exact X1
  obtain ⟨t2, a1, b1⟩ := k9 _ locs hWd hSS _ rfl X2
  exact ⟨t2, step t2 a1, b1⟩
end PMU
