set_option maxRecDepth 100000
/-! 21: done -/
variable {X : Nat → Option Ob} {ad ad' : Nat → Nat} {B B' : Sw} {A A' : Av} {σ σ' : Cs} {τ : Tw} {F : Nat}
/-- the lots turn by one -/
def rtI (i : Nat) : Nat := if (54 ≤ i ∧ i < 73) ∨ (74 ≤ i ∧ i < 93) ∨ (94 ≤ i ∧ i < 113) then i + 1 else if i = 73 then 54 else if i = 93 then 74 else if i = 113 then 94 else i
theorem rt_lt : ∀ r, r < 114 → rtI r < 114 := by decide +kernel
theorem rt_in : ∀ r, r < 114 → ∀ r', r' < 114 → rtI r = rtI r' → r = r' := by decide +kernel
theorem rt_on : ∀ r, r < 114 → ∃ r', r' < 114 ∧ rtI r' = r := by
  intro r hr
  by_cases h : r < 54
  · exact ⟨r, hr, by unfold rtI; rw [if_neg (by omega), if_neg (by omega), if_neg (by omega), if_neg (by omega)]⟩
  by_cases h1 : r = 54
  · exact ⟨73, by omega, by rw [h1]; rfl⟩
  by_cases h2 : r = 74
  · exact ⟨93, by omega, by rw [h2]; rfl⟩
  by_cases h3 : r = 94
  · exact ⟨113, by omega, by rw [h3]; rfl⟩
  · refine ⟨r - 1, by omega, ?_⟩
    unfold rtI
    rw [if_pos (by omega)]
    omega
theorem rt_o {r : Nat} (h : r < 54 ∨ 114 ≤ r) : rtI r = r := by
  unfold rtI
  rw [if_neg (by omega), if_neg (by omega), if_neg (by omega), if_neg (by omega)]
theorem rt_20 {r : Nat} (h : 54 ≤ r ∧ r < 74) : rtI (r + 20) = rtI r + 20 ∧ rtI (r + 40) = rtI r + 40 ∧ 54 ≤ rtI r ∧ rtI r < 74 := by
  have : ∀ r, r < 74 → 54 ≤ r → rtI (r + 20) = rtI r + 20 ∧ rtI (r + 40) = rtI r + 40 ∧ 54 ≤ rtI r ∧ rtI r < 74 := by decide +kernel
  exact this r h.2 h.1
theorem rt_74 {r : Nat} (h : 74 ≤ r ∧ r < 94) : 74 ≤ rtI r ∧ rtI r < 94 := by
  have : ∀ r, r < 94 → 74 ≤ r → 74 ≤ rtI r ∧ rtI r < 94 := by decide +kernel
  exact this r h.2 h.1
theorem rt_94 {r : Nat} (h : 94 ≤ r ∧ r < 114) : 94 ≤ rtI r ∧ rtI r < 114 := by
  have : ∀ r, r < 114 → 94 ≤ r → 94 ≤ rtI r ∧ rtI r < 114 := by decide +kernel
  exact this r h.2 h.1
def rtC (σ : Cs) : Cs := (σ.1, (fun r => σ.2.1 (rtI r)), σ.2.2)
theorem cB_rt {r : Nat} (hr : r < 114) : cB ad σ (rtI r) = cB (fun i => ad (rtI i)) (rtC σ) r := by
  by_cases h1 : r < 54
  · rw [rt_o (Or.inl h1)]
    have hk : cK (rtC σ) r = cK σ r := rfl
    have ho : (rtC σ).2.1 r = σ.2.1 r := by
      show σ.2.1 (rtI r) = _
      rw [rt_o (Or.inl h1)]
    by_cases h0 : (cK σ r).1 = 0
    · rw [cB_o h0, cB_o (by rw [hk]; exact h0)]
      have g : cO (fun i => ad (rtI i)) (rtC σ) r = cO ad σ r := by
        rcases kind0 hr h0 with e | e | e | e | e | e | e | e | e
        · subst e; rfl
        · subst e; rfl
        · subst e; rfl
        · subst e; rfl
        · subst e; rfl
        · subst e; rfl
        · subst e; rfl
        · subst e; rfl
        · omega
      rw [g]
    · unfold cB
      rw [hk, if_neg h0, if_neg h0, ho]
      rfl
  by_cases h2 : r < 74
  · obtain ⟨a, b, c, d⟩ := rt_20 (r := r) ⟨by omega, h2⟩
    rw [cB_o (cK_54 ⟨c, d⟩), cB_o (cK_54 ⟨by omega, h2⟩), cO_54 ⟨c, d⟩, cO_54 ⟨by omega, h2⟩, a, b]
  by_cases h3 : r < 94
  · obtain ⟨c, d⟩ := rt_74 (r := r) ⟨by omega, h3⟩
    rw [cB_i (cK_74 ⟨c, d⟩), cB_i (cK_74 ⟨by omega, h3⟩)]
    rfl
  · obtain ⟨c, d⟩ := rt_94 (r := r) ⟨by omega, hr⟩
    rw [cB_i (cK_94 ⟨c, d⟩), cB_i (cK_94 ⟨by omega, hr⟩)]
    rfl
theorem AdOK.rot (hA : AdOK ad B) : AdOK (fun i => ad (rtI i)) B := by
  refine ⟨fun r r' h h' hb he => rt_in r h r' h' (hA.1 _ _ (rt_lt r h) (rt_lt r' h') hb he), fun r h x y => ?_, fun r h => hA.2.2.1 _ (rt_lt r h), hA.2.2.2⟩
  refine hA.2.1 _ (rt_lt r h) (fun q => ?_) (fun q => ?_)
  · exact x (rt_in r h 51 (by decide) q)
  · exact y (rt_in r h 53 (by decide) q)
theorem cM_rt (hA : AdOK ad B) : cM X ad σ B = cM X (fun i => ad (rtI i)) (rtC σ) B := by
  refine cM_of hA.rot rfl (fun a o h => cM_fz h) (fun r hr hb => ?_) (fun a hb hx => ?_)
  · rw [← cB_rt hr]
    exact cM_rl hA (rt_lt r hr) hb
  · rw [cM_1, hb]
    cases hq : rl ad a with
    | none => rfl
    | some i =>
      obtain ⟨x, y⟩ := rl_some hq
      obtain ⟨r', h1, h2⟩ := rt_on i x
      exact absurd (show (fun i => ad (rtI i)) r' = a by show ad (rtI r') = a; rw [h2]; exact y) (hx r' h1)
theorem XT.rot (hA : AdOK ad B) : XT ad B (fun i => ad (rtI i)) B := by
  refine ⟨?_, fun _ _ h => h, fun a h => ?_, Nat.le_refl _, Nat.le_add_right _ _, Nat.le_add_right _ _, rfl⟩
  · show ad (rtI 0) = ad 0
    rw [rt_o (by omega)]
  · rcases h with h | ⟨r, h, e⟩
    · exact Or.inl (Or.inl h)
    · exact Or.inl (Or.inr ⟨_, rt_lt r h, e⟩)
/-- twenty lots: the first one goes -/
theorem CR.rot (hC : CR ad B A σ) (hz : zN A 0 40 = 20) {g : Nat → Int32} (hg : ∀ q, q < 456 → g q = A 27 (q + 24)) {q15 : Nat → Option Nat} (hq : ∀ j, j < 20 → q15 j = some (ad (rtI (54 + j)))) : CR (fun i => ad (rtI i)) B (aw (aw A 27 g) 0 (upd (A 0) 40 (Int32.ofNat 19))) (csI (csQ (rtC σ) 15 q15) 9 (Int32.ofNat 19)) := by
  obtain ⟨⟨p1, p2, p3, p4, p5⟩, h2, h3, h4, h5, h6, h7, h8, ⟨h9, h9', h9''⟩, h10, h11, h12⟩ := hC
  obtain ⟨A', eA'⟩ : ∃ A', A' = aw (aw A 27 g) 0 (upd (A 0) 40 (Int32.ofNat 19)) := ⟨_, rfl⟩
  obtain ⟨σ', eσ'⟩ : ∃ σ', σ' = csI (csQ (rtC σ) 15 q15) 9 (Int32.ofNat 19) := ⟨_, rfl⟩
  have a0 : ∀ q, q ≠ 40 → A' 0 q = A 0 q := fun q hq => by rw [eA', aw_s, up_n _ _ _ _ hq]
  have a040 : A' 0 40 = Int32.ofNat 19 := by rw [eA', aw_s, up_s]
  have ao : ∀ j, j ≠ 0 → j ≠ 27 → A' j = A j := fun j x y => by rw [eA', aw_n _ _ _ _ x, aw_n _ _ _ _ y]
  have a27 : A' 27 = g := by rw [eA', aw_n _ _ _ _ (by decide), aw_s]
  have i9 : σ'.1 9 = Int32.ofNat 19 := by rw [eσ', csI_s]
  have io : ∀ i, i ≠ 9 → σ'.1 i = σ.1 i := fun i hi => by rw [eσ', csI_n _ _ _ _ hi]; rfl
  have ar : ∀ r, σ'.2.1 r = σ.2.1 (rtI r) := fun r => by rw [eσ']; rfl
  have alo : ∀ r, r < 54 → σ'.2.1 r = σ.2.1 r := fun r hr => by rw [ar, rt_o (Or.inl hr)]
  have qo : ∀ r, r ≠ 15 → σ'.2.2.2 r = σ.2.2.2 r := fun r hr => by rw [eσ']; exact csQ_n _ _ _ _ hr
  have q5 : σ'.2.2.2 15 = q15 := by rw [eσ']; exact csQ_s _ _ _
  have z0 : zN A' 0 0 = zN A 0 0 := by unfold zN; rw [a0 0 (by decide)]
  have z50 : zN A' 0 50 = zN A 0 50 := by unfold zN; rw [a0 50 (by decide)]
  have z40 : zN A' 0 40 = 19 := by unfold zN; rw [a040]; exact i_cl (n := 1000) (by omega) (by omega)
  have z7 : ∀ k, zN A' 7 k = zN A 7 k := fun k => by unfold zN; rw [ao 7 (by decide) (by decide)]
  rw [← eA', ← eσ']
  refine ⟨⟨?_, ?_, ?_, ?_, ?_⟩, ?_, ?_, ?_, ?_, ?_, fun j i hj hi => ?_, fun j i hj hi => ?_, ⟨fun j hj => ?_, fun j hj => ?_, fun j hj => ?_⟩, ?_, ?_, fun s hs => ?_⟩
  · rw [io 21 (by decide), a0 0 (by decide)]; exact p1
  · rw [io 2 (by decide), a0 9 (by decide)]; exact p2
  · rw [i9, a040]
  · rw [io 11 (by decide), a0 50 (by decide)]; exact p4
  · rw [io 43 (by decide), ao 7 (by decide) (by decide)]; exact p5
  · rw [z0, alo 2 (by decide), ao 1 (by decide) (by decide)]; exact h2
  · rw [z50, alo 16 (by decide), ao 33 (by decide) (by decide)]; exact h3
  · rw [alo 47 (by decide), ao 7 (by decide) (by decide)]; exact h4
  · rw [alo 48 (by decide), ao 7 (by decide) (by decide)]; exact h5
  · rw [alo 49 (by decide), ao 7 (by decide) (by decide)]; exact h6
  · rw [z40] at hj
    have e : rtI (74 + j) = 74 + (j + 1) := by
      unfold rtI
      rw [if_pos (by omega)]
      rfl
    rw [ar, e, a27, hg _ (by omega), h7 (j + 1) i (by omega) hi]
    congr 1
    omega
  · rw [z40] at hj
    have e : rtI (94 + j) = 94 + (j + 1) := by
      unfold rtI
      rw [if_pos (by omega)]
      rfl
    rw [ar, e, a27, hg _ (by omega), h8 (j + 1) i (by omega) hi]
    congr 1
    omega
  · rw [q5]; exact hq j hj
  · rw [qo 17 (by decide), h9' j hj]
    show some (ad (18 + j)) = some (ad (rtI (18 + j)))
    rw [rt_o (by omega)]
  · rw [qo 32 (by decide), h9'' j hj]
    show some (ad (33 + j)) = some (ad (rtI (33 + j)))
    rw [rt_o (by omega)]
  · rw [z7, ao 7 (by decide) (by decide)]
    refine h10.gr (fun _ _ h => h) ?_ (fun h => h) rfl (io 52 (by decide)) (io 53 (by decide)) (qo 51 (by decide)) (fun j hj => ?_) (fun j hj => rfl)
    · show ad (rtI 51) = ad 51
      rw [rt_o (by omega)]
    · show ad (rtI (1500 + j)) = ad (1500 + j)
      rw [rt_o (by omega)]
  · rw [z7, ao 7 (by decide) (by decide)]
    refine h11.gr (fun _ _ h => h) ?_ (fun h => h) rfl (io 62 (by decide)) (io 63 (by decide)) (qo 53 (by decide)) (fun j hj => ?_) (fun j hj => rfl)
    · show ad (rtI 53) = ad 53
      rw [rt_o (by omega)]
    · show ad (rtI (1600 + j)) = ad (1600 + j)
      rw [rt_o (by omega)]
  · rw [qo 9 (by decide), ao 18 (by decide) (by decide)]
    have er : rowL A' (s + 1) = rowL A (s + 1) := by unfold rowL; rw [ao 7 (by decide) (by decide)]
    rw [er]
    exact h12 s hs
theorem WF.rot (hW : WF A) (hz : zN A 0 40 = 20) {g : Nat → Int32} (hg : ∀ q, q < 456 → g q = A 27 (q + 24)) : WF (aw (aw A 27 g) 0 (upd (A 0) 40 (Int32.ofNat 19))) := by
  obtain ⟨h1, ⟨n1, n2, n3, n4, n5, n6, n7⟩, h3, h4⟩ := hW
  obtain ⟨A', eA'⟩ : ∃ A', A' = aw (aw A 27 g) 0 (upd (A 0) 40 (Int32.ofNat 19)) := ⟨_, rfl⟩
  have a0 : ∀ q, q ≠ 40 → A' 0 q = A 0 q := fun q hq => by rw [eA', aw_s, up_n _ _ _ _ hq]
  have a040 : A' 0 40 = Int32.ofNat 19 := by rw [eA', aw_s, up_s]
  have a27 : A' 27 = g := by rw [eA', aw_n _ _ _ _ (by decide), aw_s]
  have z50 : zN A' 0 50 = zN A 0 50 := by unfold zN; rw [a0 50 (by decide)]
  have z40 : zN A' 0 40 = 19 := by unfold zN; rw [a040]; exact i_cl (n := 1000) (by omega) (by omega)
  refine ⟨h1, ?_, h3, h4⟩
  rw [← eA']
  have ao : ∀ j, j ≠ 0 → j ≠ 27 → A' j = A j := fun j x y => by rw [eA', aw_n _ _ _ _ x, aw_n _ _ _ _ y]
  refine ⟨?_, ?_, ?_, ?_, ?_, fun j i hj hi => ?_, fun j i hj hi => ?_⟩
  · rw [a0 0 (by decide)]; exact n1
  · rw [a040]; exact isN.of (by omega) (by omega)
  · rw [a0 50 (by decide)]; exact n3
  · rw [z50, ao 33 (by decide) (by decide)]; exact n4
  · rw [ao 1 (by decide) (by decide)]; exact n5
  · rw [z40] at hj
    rw [a27, hg _ (by omega), show 24 * j + i + 24 = 24 * (j + 1) + i by omega]
    exact n6 (j + 1) i (by omega) hi
  · rw [z40] at hj
    rw [a27, hg _ (by omega), show 24 * j + 16 + i + 24 = 24 * (j + 1) + 16 + i by omega]
    exact n7 (j + 1) i (by omega) hi
/-- a lot more -/
theorem push_rel (hE : EV ad B A) (hC : CR ad B A σ) {z : Nat} (hz : zN A 0 40 = z) (hz20 : z < 20) {f g gk : Nat → Int32} (k1 : ∀ q, q < 24 * z → gk q = A 27 q) (k2 : ∀ i, i < 16 → f i = gk (24 * z + i) ∧ isN (gk (24 * z + i)) 99) (k3 : ∀ i, i < 8 → g i = gk (24 * z + 16 + i) ∧ isN (gk (24 * z + 16 + i)) 99) : EV ad B (aw (aw A 27 gk) 0 (upd (A 0) 40 (Int32.ofNat (z + 1)))) ∧ CR ad B (aw (aw A 27 gk) 0 (upd (A 0) 40 (Int32.ofNat (z + 1)))) (csI (csA (csA σ (74 + z) f) (94 + z) g) 9 (Int32.ofNat (z + 1))) := by
  obtain ⟨hA, hB, hW⟩ := hE
  obtain ⟨A', eA'⟩ : ∃ A', A' = aw (aw A 27 gk) 0 (upd (A 0) 40 (Int32.ofNat (z + 1))) := ⟨_, rfl⟩
  obtain ⟨σ', eσ'⟩ : ∃ σ', σ' = csI (csA (csA σ (74 + z) f) (94 + z) g) 9 (Int32.ofNat (z + 1)) := ⟨_, rfl⟩
  have a0 : ∀ q, q ≠ 40 → A' 0 q = A 0 q := fun q hq => by rw [eA', aw_s, up_n _ _ _ _ hq]
  have a040 : A' 0 40 = Int32.ofNat (z + 1) := by rw [eA', aw_s, up_s]
  have ao : ∀ j, j ≠ 0 → j ≠ 27 → A' j = A j := fun j x y => by rw [eA', aw_n _ _ _ _ x, aw_n _ _ _ _ y]
  have a27 : A' 27 = gk := by rw [eA', aw_n _ _ _ _ (by decide), aw_s]
  have i9 : σ'.1 9 = Int32.ofNat (z + 1) := by rw [eσ', csI_s]
  have io : ∀ i, i ≠ 9 → σ'.1 i = σ.1 i := fun i hi => by rw [eσ', csI_n _ _ _ _ hi]; rfl
  have ar : ∀ r, r ≠ 74 + z → r ≠ 94 + z → σ'.2.1 r = σ.2.1 r := fun r x y => by
    rw [eσ']
    show (csA (csA σ (74 + z) f) (94 + z) g).2.1 r = _
    rw [csA_n _ _ _ _ y, csA_n _ _ _ _ x]
  have a74 : σ'.2.1 (74 + z) = f := by
    rw [eσ']
    show (csA (csA σ (74 + z) f) (94 + z) g).2.1 (74 + z) = _
    rw [csA_n _ _ _ _ (by omega), csA_s]
  have a94 : σ'.2.1 (94 + z) = g := by
    rw [eσ']
    show (csA (csA σ (74 + z) f) (94 + z) g).2.1 (94 + z) = _
    rw [csA_s]
  have q0 : σ'.2.2 = σ.2.2 := by rw [eσ']; rfl
  have z0 : zN A' 0 0 = zN A 0 0 := by unfold zN; rw [a0 0 (by decide)]
  have z50 : zN A' 0 50 = zN A 0 50 := by unfold zN; rw [a0 50 (by decide)]
  have z40 : zN A' 0 40 = z + 1 := by unfold zN; rw [a040]; exact i_cl (n := 1000) (by omega) (by omega)
  have z7 : ∀ k, zN A' 7 k = zN A 7 k := fun k => by unfold zN; rw [ao 7 (by decide) (by decide)]
  rw [← eA', ← eσ']
  refine ⟨⟨hA, hB.cg fun j hj => ao j (fun e => by rw [e] at hj; cases hj) (fun e => by rw [e] at hj; cases hj), ?_⟩, ?_⟩
  · obtain ⟨h1, ⟨n1, n2, n3, n4, n5, n6, n7⟩, h3, h4⟩ := hW
    have e6 := ao 6 (by decide) (by decide)
    have e7 := ao 7 (by decide) (by decide)
    have z6 : ∀ k, zN A' 6 k = zN A 6 k := fun k => by unfold zN; rw [e6]
    refine ⟨?_, ⟨?_, ?_, ?_, ?_, ?_, fun j i hj hi => ?_, fun j i hj hi => ?_⟩, ?_, fun s hs => ?_⟩
    · unfold WFt
      simp only [z6, e6]
      exact h1
    · rw [a0 0 (by decide)]; exact n1
    · rw [a040]; exact isN.of (by omega) (by omega)
    · rw [a0 50 (by decide)]; exact n3
    · rw [z50, ao 33 (by decide) (by decide)]; exact n4
    · rw [ao 1 (by decide) (by decide)]; exact n5
    · rw [z40] at hj
      rw [a27]
      by_cases e : j = z
      · rw [e]; exact (k2 i hi).2
      · rw [k1 _ (by omega)]; exact n6 j i (by omega) hi
    · rw [z40] at hj
      rw [a27]
      by_cases e : j = z
      · rw [e]; exact (k3 i hi).2
      · rw [k1 _ (by omega)]; exact n7 j i (by omega) hi
    · rw [z6, z6, e7]; exact h3
    · have er : rowL A' (s + 1) = rowL A (s + 1) := by unfold rowL; rw [e7]
      rw [ao 18 (by decide) (by decide), z6, z6, er]
      exact h4 s hs
  · obtain ⟨⟨p1, p2, p3, p4, p5⟩, h2, h3, h4, h5, h6, h7, h8, h9, h10, h11, h12⟩ := hC
    refine ⟨⟨?_, ?_, ?_, ?_, ?_⟩, ?_, ?_, ?_, ?_, ?_, fun j i hj hi => ?_, fun j i hj hi => ?_, ?_, ?_, ?_, fun s hs => ?_⟩
    · rw [io 21 (by decide), a0 0 (by decide)]; exact p1
    · rw [io 2 (by decide), a0 9 (by decide)]; exact p2
    · rw [i9, a040]
    · rw [io 11 (by decide), a0 50 (by decide)]; exact p4
    · rw [io 43 (by decide), ao 7 (by decide) (by decide)]; exact p5
    · rw [z0, ar 2 (by omega) (by omega), ao 1 (by decide) (by decide)]; exact h2
    · rw [z50, ar 16 (by omega) (by omega), ao 33 (by decide) (by decide)]; exact h3
    · rw [ar 47 (by omega) (by omega), ao 7 (by decide) (by decide)]; exact h4
    · rw [ar 48 (by omega) (by omega), ao 7 (by decide) (by decide)]; exact h5
    · rw [ar 49 (by omega) (by omega), ao 7 (by decide) (by decide)]; exact h6
    · rw [z40] at hj
      rw [a27]
      by_cases e : j = z
      · rw [e, a74]; exact (k2 i hi).1
      · rw [ar _ (by omega) (by omega), k1 _ (by omega)]; exact h7 j i (by omega) hi
    · rw [z40] at hj
      rw [a27]
      by_cases e : j = z
      · rw [e, a94]; exact (k3 i hi).1
      · rw [ar _ (by omega) (by omega), k1 _ (by omega)]; exact h8 j i (by omega) hi
    · rw [q0]; exact h9
    · rw [z7, ao 7 (by decide) (by decide)]
      exact h10.gr (fun _ _ h => h) rfl (fun h => h) rfl (io 52 (by decide)) (io 53 (by decide)) (by rw [q0]) (fun _ _ => rfl) (fun _ _ => rfl)
    · rw [z7, ao 7 (by decide) (by decide)]
      exact h11.gr (fun _ _ h => h) rfl (fun h => h) rfl (io 62 (by decide)) (io 63 (by decide)) (by rw [q0]) (fun _ _ => rfl) (fun _ _ => rfl)
    · rw [q0, ao 18 (by decide) (by decide)]
      have er : rowL A' (s + 1) = rowL A (s + 1) := by unfold rowL; rw [ao 7 (by decide) (by decide)]
      rw [er]
      exact h12 s hs
/-! the reference's loops -/
theorem shift_T (hF : 1000 ≤ F) (f0 : Nat → Int32) (h27 : τ.2.1 27 = f0) {K : Tw → Option (Int32 × Tw)} : ∃ g, t_X9_done_L44 F K F 0 τ = K (twA τ 27 g) ∧ (∀ q, q < 456 → g q = f0 (q + 24)) ∧ ∀ q, 456 ≤ q → g q = f0 q := by
  refine for_up (L := fun n i (s : Nat → Int32) => t_X9_done_L44 F K n i (twA τ 27 s)) (N := 456) (Inv := fun k s => (∀ i, i < k → s i = f0 (i + 24)) ∧ ∀ q, k ≤ q → s q = f0 q) (Post := fun r => ∃ g, r = K (twA τ 27 g) ∧ (∀ q, q < 456 → g q = f0 (q + 24)) ∧ ∀ q, 456 ≤ q → g q = f0 q) ?_ ?_ 456 0 F (τ.2.1 27) (Nat.zero_add _) (by omega) ⟨fun i hi => absurd hi (Nat.not_lt_zero i), fun _ _ => by rw [h27]⟩ |> fun h => by
    rw [twA_id] at h
    exact h
  · rintro n k s hk ⟨h1, h2⟩
    refine Or.inl ⟨upd s k (f0 (k + 24)), ⟨fun i hi => ?_, fun q hq => ?_⟩, ?_⟩
    · by_cases e : i = k
      · rw [e, up_s]
      · rw [up_n _ _ _ _ (by omega)]; exact h1 i (by omega)
    · rw [up_n _ _ _ _ (by omega)]; exact h2 q (by omega)
    · have e := h2 (k + 24) (by omega)
      show t_X9_done_L44_b F K (t_X9_done_L44 F K n) (Int32.ofNat k) (twA τ 27 s) = _
      unfold t_X9_done_L44_b
      simp (disch := omega) only [Option.bind_some, Option.bind_none, nmE, n_pp, n_pl, n_lp, n_mm, n_ml, n_lm, taI_n, taI_l, tsA_n, tsA_l, nar0, twA_1, twA_s, twA_n, twA_2, twA_twA, tsI_s, tsI_n, tsI_2, c_le, c_le_l, c_le_r, c_lt, c_lt_l, c_lt_r, c_eq, c_eq_l, c_eq_r, if_true, if_false, if_pos, if_neg, e]
  · rintro n s ⟨h1, h2⟩
    refine ⟨s, ?_, h1, h2⟩
    show t_X9_done_L44_b F K (t_X9_done_L44 F K n) (Int32.ofNat 456) (twA τ 27 s) = _
    unfold t_X9_done_L44_b
    rw [if_pos (show (456 : Int32) ≤ Int32.ofNat 456 by decide)]
theorem push_T (hF : 1000 ≤ F) {z : Nat} (hz : z < 20) (f0 f7 : Nat → Int32) (h27 : τ.2.1 27 = f0) (h7 : τ.2.1 7 = f7) (h40 : τ.1 40 = Int32.ofNat z) : ∃ g, t_X9_done_L80 F F 0 τ = some (τ.1 41, twA (tsI (twA τ 27 g) 40 (Int32.ofNat (z + 1))) 7 (upd f7 1 0)) ∧ (∀ i, i < 24 → g (24 * z + i) = f0 (480 + i)) ∧ ∀ q, q < 24 * z ∨ 24 * z + 24 ≤ q → g q = f0 q := by
  refine for_up (L := fun n i (s : Nat → Int32) => t_X9_done_L80 F n i (twA τ 27 s)) (N := 24) (Inv := fun k s => (∀ i, i < k → s (24 * z + i) = f0 (480 + i)) ∧ ∀ q, q < 24 * z ∨ 24 * z + k ≤ q → s q = f0 q) (Post := fun r => ∃ g, r = some (τ.1 41, twA (tsI (twA τ 27 g) 40 (Int32.ofNat (z + 1))) 7 (upd f7 1 0)) ∧ (∀ i, i < 24 → g (24 * z + i) = f0 (480 + i)) ∧ ∀ q, q < 24 * z ∨ 24 * z + 24 ≤ q → g q = f0 q) ?_ ?_ 24 0 F (τ.2.1 27) (Nat.zero_add _) (by omega) ⟨fun i hi => absurd hi (Nat.not_lt_zero i), fun _ _ => by rw [h27]⟩ |> fun h => by
    rw [twA_id] at h
    exact h
  · rintro n k s hk ⟨h1, h2⟩
    refine Or.inl ⟨upd s (24 * z + k) (f0 (480 + k)), ⟨fun i hi => ?_, fun q hq => ?_⟩, ?_⟩
    · by_cases e : i = k
      · rw [e, up_s]
      · rw [up_n _ _ _ _ (by omega)]; exact h1 i (by omega)
    · rw [up_n _ _ _ _ (by omega)]; exact h2 q (by omega)
    · have e := h2 (480 + k) (by omega)
      have e40 : (twA τ 27 s).1 40 = Int32.ofNat z := h40
      show t_X9_done_L80_b F (t_X9_done_L80 F n) (Int32.ofNat k) (twA τ 27 s) = _
      unfold t_X9_done_L80_b
      rw [e40]
      simp (disch := omega) only [Option.bind_some, Option.bind_none, nmE, n_pp, n_pl, n_lp, n_mm, n_ml, n_lm, taI_n, taI_l, tsA_n, tsA_l, nar0, twA_1, twA_s, twA_n, twA_2, twA_twA, tsI_s, tsI_n, tsI_2, c_le, c_le_l, c_le_r, c_lt, c_lt_l, c_lt_r, c_eq, c_eq_l, c_eq_r, if_true, if_false, if_pos, if_neg, e]
  · rintro n s ⟨h1, h2⟩
    refine ⟨s, ?_, h1, h2⟩
    have e40 : (twA τ 27 s).1 40 = Int32.ofNat z := h40
    show t_X9_done_L80_b F (t_X9_done_L80 F n) (Int32.ofNat 24) (twA τ 27 s) = _
    unfold t_X9_done_L80_b
    rw [if_pos (show (24 : Int32) ≤ Int32.ofNat 24 by decide), e40, n_lp 1 z]
    simp (disch := omega) only [Option.bind_some, Option.bind_none, nmE, n_pp, n_pl, n_lp, n_mm, n_ml, n_lm, taI_n, taI_l, tsA_n, tsA_l, nar0, twA_1, twA_s, twA_n, twA_2, twA_twA, tsI_s, tsI_n, tsI_2, c_le, c_le_l, c_le_r, c_lt, c_lt_l, c_lt_r, c_eq, c_eq_l, c_eq_r, if_true, if_false, if_pos, if_neg, h7]
/-- the component's end of done -/
theorem push_C (hF : 1000 ≤ F) (hE : EV ad B A) (hC : CR ad B A σ) {z : Nat} (hz : zN A 0 40 = z) (hz20 : z < 20) {gk : Nat → Int32} (k1 : ∀ q, q < 24 * z → gk q = A 27 q) (k2 : ∀ i, i < 16 → σ.2.1 13 i = gk (24 * z + i) ∧ isN (gk (24 * z + i)) 99) (k3 : ∀ i, i < 8 → σ.2.1 14 i = gk (24 * z + 16 + i) ∧ isN (gk (24 * z + 16 + i)) 99) : ∃ σ', f_X0_done_j96 F (ad 0) (cM X ad σ B) = some (σ.1 13, cM X ad σ' B) ∧ EV ad B (aw (aw (aw A 27 gk) 0 (upd (A 0) 40 (Int32.ofNat (z + 1)))) 7 (upd (A 7) 1 0)) ∧ CR ad B (aw (aw (aw A 27 gk) 0 (upd (A 0) 40 (Int32.ofNat (z + 1)))) 7 (upd (A 7) 1 0)) σ' := by
  have hA := hE.1
  have ek : A 0 40 = Int32.ofNat z := by rw [← hz]; exact hE.2.2.k0.1
  have kt : ktR (54 + z) (74 + z) (94 + z) := Or.inr ⟨by omega, by omega, by omega, by omega⟩
  have hq : σ.2.2.2 15 z = some (ad (54 + z)) := hC.2.2.2.2.2.2.2.2.1.1 z (by omega)
  obtain ⟨f, ef⟩ : ∃ f, f = va_cpy (σ.2.1 13) (σ.2.1 (74 + z)) 0 0 16 := ⟨_, rfl⟩
  obtain ⟨g, eg⟩ : ∃ g, g = va_cpy (σ.2.1 14) (σ.2.1 (94 + z)) 0 0 8 := ⟨_, rfl⟩
  have f1 : ∀ i, i < 16 → f i = σ.2.1 13 i := fun i hi => by rw [ef]; exact cpy_i hi
  have g1 : ∀ i, i < 8 → g i = σ.2.1 14 i := fun i hi => by rw [eg]; exact cpy_i hi
  obtain ⟨p1, p2⟩ := push_rel (f := f) (g := g) (gk := gk) hE hC hz hz20 k1 (fun i hi => ⟨(f1 i hi).trans (k2 i hi).1, (k2 i hi).2⟩) (fun i hi => ⟨(g1 i hi).trans (k3 i hi).1, (k3 i hi).2⟩)
  obtain ⟨A1, eA1⟩ : ∃ A1, A1 = aw (aw A 27 gk) 0 (upd (A 0) 40 (Int32.ofNat (z + 1))) := ⟨_, rfl⟩
  obtain ⟨σ1, eσ1⟩ : ∃ σ1, σ1 = csI (csA (csA σ (74 + z) f) (94 + z) g) 9 (Int32.ofNat (z + 1)) := ⟨_, rfl⟩
  rw [← eA1] at p1 p2 ⊢
  rw [← eσ1] at p2
  obtain ⟨σ2, c1, c2, c3⟩ := clear50 (X := X) (F := F) hF p1 p2
  have a7 : A1 7 = A 7 := by rw [eA1, aw_n _ _ _ _ (by decide), aw_n _ _ _ _ (by decide)]
  have l1 : upd (A 7) 1 0 1 = 0 := up_s _ _ _
  have lo : ∀ k, k ≠ 1 → upd (A 7) 1 0 k = A1 7 k := fun k hk => by rw [a7]; exact up_n _ _ _ _ hk
  refine ⟨σ2, ?_, ⟨hA, p1.2.1.aw rfl, p1.2.2.cl l1 lo⟩, c3 _ l1 lo⟩
  have s13 : σ2.1 13 = σ.1 13 := by
    rw [c2, eσ1, csI_n _ _ _ _ (by decide)]
    rfl
  obtain ⟨y1, y2, y3, y4, y5, y6, y7, y8, y9, y10, y11, y12, y13⟩ := kt_k kt σ
  obtain ⟨o1, o2, o3⟩ := kt_o (X := X) hA kt σ
  obtain ⟨u1, u2, u3⟩ := kt_o (X := X) hA kt (csA σ (74 + z) f)
  have cp1 : cpI (cM X ad σ B) (ad 13) 0 (ad (74 + z)) 0 16 = some (cM X ad (csA σ (74 + z) f) B) := by
    rw [ef]
    exact R_cpI (k := 16) (m := 16) hA (by decide) (by decide) (by decide) y3 y5 y6 (n := 16) (n' := 16) rfl y1 rfl (Nat.le_refl _) (Nat.le_refl _) (by omega)
  have cp2 : cpI (cM X ad (csA σ (74 + z) f) B) (ad 14) 0 (ad (94 + z)) 0 8 = some (cM X ad (csA (csA σ (74 + z) f) (94 + z) g) B) := by
    have := R_cpI (X := X) (σ := csA σ (74 + z) f) (k := 8) (m := 8) hA (r := 14) (r' := 94 + z) (by decide) (by decide) (by decide) y4 y7 y8 (n := 8) (n' := 8) rfl y2 rfl (Nat.le_refl _) (Nat.le_refl _) (by omega)
    rw [csA_n _ _ _ _ (show (14 : Nat) ≠ 74 + z by omega), csA_n _ _ _ _ (show 94 + z ≠ 74 + z by omega), ← eg] at this
    exact this
  unfold f_X0_done_j96
  rw [o0_7 hA, Option.bind_some, o12_0 hA, Option.bind_some, o0_8 hA, Option.bind_some, o0_9 hA, Option.bind_some, hC.1.2.2.1, ek, q15r hA _ _ _ (by omega) hq, Option.bind_some, o1, Option.bind_some, cp1, Option.bind_some, o0_7 hA, Option.bind_some, o12_1 hA, Option.bind_some, o0_8 hA, Option.bind_some, o0_9 hA, Option.bind_some]
  rw [show (csA σ (74 + z) f).1 9 = Int32.ofNat z from hC.1.2.2.1.trans ek, q15r hA _ _ _ (by omega) (show (csA σ (74 + z) f).2.2.2 15 z = some (ad (54 + z)) from hq), Option.bind_some, u2, Option.bind_some, cp2, Option.bind_some, o0_9 hA, Option.bind_some]
  rw [show (csA (csA σ (74 + z) f) (94 + z) g).1 9 = Int32.ofNat z from hC.1.2.2.1.trans ek, n_lp 1 z, p0_9 hA, Option.bind_some]
  rw [← eσ1, o0_4 hA, Option.bind_some, o46_4 hA, Option.bind_some, oc50 hA, Option.bind_some, c1, Option.bind_some, o0_13 hA, Option.bind_some, s13]
/-- the twentieth lot: the row of lots turns -/
theorem turn_C (hA : AdOK ad B) (hC : CR ad B A σ) : ∃ q15, cpQ (cM X ad σ B) 8 (ad 15) 1 (ad 15) 0 19 = some (cM X ad (csQ σ 15 q15) B) ∧ (∀ j, j < 19 → q15 j = some (ad (54 + (j + 1)))) := by
  have q := hC.2.2.2.2.2.2.2.2.1.1
  refine ⟨va_cpy (σ.2.2.2 15) (σ.2.2.2 15) 1 0 19, ?_, fun j hj => ?_⟩
  · have hM : (cM X ad σ B).1 (ad 15) = some (.inl (8, (20, .inr (.inr (σ.2.2.2 15))))) := by
      rw [cM_at hA (by decide) (by decide) (by decide), cB_q (t := 8) (n := 20) rfl]
    unfold cpQ
    rw [hM]
    have z1 : (1 : Int32).toNatClampNeg = 1 := rfl
    have z0 : (0 : Int32).toNatClampNeg = 0 := rfl
    have zn : (19 : Int32).toNatClampNeg = 19 := rfl
    show (if 8 = 8 ∧ 8 < 10 ∧ cpT 8 8 = true ∧ ¬ (1 : Int32) < 0 ∧ ¬ (0 : Int32) < 0 ∧ ¬ (19 : Int32) < 0 ∧ (1 : Int32).toNatClampNeg + (19 : Int32).toNatClampNeg ≤ 20 ∧ (0 : Int32).toNatClampNeg + (19 : Int32).toNatClampNeg ≤ 20 ∧ (List.range (19 : Int32).toNatClampNeg).all (fun i => elOK (cM X ad σ B) 8 (σ.2.2.2 15 ((1 : Int32).toNatClampNeg + i))) = true then some (mup (cM X ad σ B).1 (ad 15) (.inl (8, (20, .inr (.inr (va_cpy (σ.2.2.2 15) (σ.2.2.2 15) (1 : Int32).toNatClampNeg (0 : Int32).toNatClampNeg (19 : Int32).toNatClampNeg))))), (cM X ad σ B).2) else none) = _
    rw [z1, z0, zn, if_pos]
    · refine congrArg some (cM_up hA (by decide) (hA.2.1 15 (by decide) (by decide) (by decide)) ?_ fun i hi hne => cB_Q hne)
      rw [cB_q (t := 8) (n := 20) rfl, csQ_s]
    · refine ⟨rfl, by omega, rfl, by decide, by decide, by decide, by omega, by omega, ?_⟩
      rw [List.all_eq_true]
      intro i hi
      rw [List.mem_range] at hi
      rw [q (1 + i) (by omega)]
      show (oc (cM X ad σ B) (ad (54 + (1 + i))) 8).isSome = true
      rw [R_oc hA (by omega) (by omega) (by omega) (cK_54 (by omega)) (cO_54 (by omega))]
      rfl
  · rw [pk_cpy_in (by omega) (by omega), q _ (by omega)]
    congr 2
    omega
/-- 21: done -/
theorem st_21 (hF : 1000000 ≤ F) (h : INV ad B A σ τ) (x : Nat → Int32) : ST F 21 x X ad B σ τ := by
  have hI := h
  obtain ⟨hE, hK, hC, hT⟩ := h
  have hA := hE.1
  have hW := hE.2.2
  have ew : A 7 1 = Int32.ofNat (zN A 7 1) := hW.2.2.1.1.2.1.1
  have lw : zN A 7 1 ≤ 40 := hW.2.2.1.1.2.1.2
  have h1 : stC F 21 (ad 0) x (cM X ad σ B) = f_X0_done F (ad 0) (cM X ad σ B) := rfl
  have h2 : stT F 21 x τ = t_X9_done F τ := rfl
  unfold f_X0_done f_J2_isEmpty at h1
  unfold t_X9_done at h2
  rw [o0_4 hA, Option.bind_some, o46_4 hA, Option.bind_some, oc50 hA, Option.bind_some, o50_2 hA, Option.bind_some, hC.nw] at h1
  rw [taI_l _ _ _ _ (by omega) (by omega), Option.bind_some, hT.2 7 rfl, show A 7 (OfNat.ofNat 1) = Int32.ofNat (zN A 7 1) from ew] at h2
  by_cases hz : Int32.ofNat (zN A 7 1) = 0
  · rw [if_pos hz, Option.bind_some, if_neg (by decide)] at h1
    rw [if_pos hz] at h2
    exact ST.ro hI h1 h2 hC hT
  · rw [if_neg hz, Option.bind_some, if_pos rfl] at h1
    rw [if_neg hz] at h2
    obtain ⟨σ1, A1, τ1, k1, k2, k3, k4, k5, k6, k7, k8, k9, k10, k11, k12, -⟩ := trial_CT (X := X) (F := F) (by omega) hE hC hT
    obtain ⟨r, σ2, A2, τ2, w1, w2, w3, w4, w5, w6⟩ := works_CT (X := X) (F := F) (by omega) k3 k4 k5
    rw [o0_7 hA, Option.bind_some, Option.bind_some, oc12 hA, Option.bind_some, k1, Option.bind_some, oc0 hA, Option.bind_some, w1, Option.bind_some] at h1
    rw [k2, Option.bind_some, w2, Option.bind_some] at h2
    have h1 : stC F 21 (ad 0) x (cM X ad σ B) = if r = 0 then
      Option.bind (gfI (cM X ad σ2 B) (ad 0) 0 9) fun x23 =>
      if x23 = 20 then
        Option.bind (gfR (cM X ad σ2 B) (ad 0) 0 8) fun x26 =>
        Option.bind (aR (cM X ad σ2 B) 8 x26 0) fun x28 =>
        Option.bind (gfR (cM X ad σ2 B) (ad 0) 0 8) fun x30 =>
        Option.bind (gfR (cM X ad σ2 B) (ad 0) 0 8) fun x32 =>
        Option.bind (cpQ (cM X ad σ2 B) 8 x30 1 x32 0 19) fun μ34 =>
        Option.bind (gfR μ34 (ad 0) 0 8) fun x36 =>
        Option.bind (sQ μ34 8 x36 19 (some x28)) fun μ39 =>
        Option.bind (oc μ34 x28 8) fun u41 =>
        Option.bind (gfI μ39 (ad 0) 0 9) fun x42 =>
        Option.bind (pf μ39 (ad 0) 0 9 (.int (x42 - 1))) fun μ44 =>
        f_X0_done_j96 F (ad 0) μ44
      else
        f_X0_done_j96 F (ad 0) (cM X ad σ2 B)
    else
      Option.bind (gfR (cM X ad σ2 B) (ad 0) 0 7) fun x46 =>
      Option.bind (gfR (cM X ad σ2 B) (ad 0) 0 4) fun x48 =>
      Option.bind (oc (cM X ad σ2 B) x46 8) fun u52 =>
      Option.bind (f_X8_back F x46 x48 (cM X ad σ2 B)) fun q50 =>
      some ((-2), q50) := h1
    have h2 : stT F 21 x τ = if r = 0 then
      if (τ2.1 40) = 20 then
        t_X9_done_L44 F
          (fun τ10 =>
            nm (tsI τ10 40 19) fun τ11 =>
            t_X9_done_L80 F F 0 τ11)
           F 0 τ2
      else
        t_X9_done_L80 F F 0 τ2
    else
      Option.bind (t_X9_putBack F 20 τ2) fun q13 =>
      some ((-2), q13) := h2
    have t40 : τ2.1 40 = A2 0 40 := w5.1 40 rfl
    have a27 : A2 27 = A1 27 := w6.1 27 (by decide) (by decide) (by decide) (by decide)
    have e40 : A2 0 40 = A 0 40 := by rw [w6.2.1 40 (by decide), k7]
    have z40 : zN A2 0 40 = zN A 0 40 := by unfold zN; rw [e40]
    have b1 : ∀ i, i < 16 → A2 27 (480 + i) = A 7 (10 + i) := fun i hi => by rw [a27]; exact k10 i hi
    have b2 : ∀ i, i < 8 → A2 27 (496 + i) = A 7 (50 + i) := fun i hi => by rw [a27]; exact k11 i hi
    have c1 : ∀ i, i < 16 → σ2.2.1 13 i = A 7 (10 + i) := fun i hi => by rw [w6.2.2.2.1]; exact k8 i hi
    have c2 : ∀ i, i < 8 → σ2.2.1 14 i = A 7 (50 + i) := fun i hi => by rw [w6.2.2.2.2.1]; exact k9 i hi
    have nH : ∀ i, i < 16 → isN (A 7 (10 + i)) 99 := hW.2.2.1.2.1
    have nW : ∀ i, i < 8 → isN (A 7 (50 + i)) 99 := hW.2.2.1.2.2.2.2.1
    by_cases hr : r = 0
    · rw [if_pos hr, o0_9 hA, Option.bind_some, w4.1.2.2.1] at h1
      rw [if_pos hr, t40] at h2
      by_cases h20 : A2 0 40 = 20
      · rw [if_pos h20] at h1 h2
        have zz : zN A2 0 40 = 20 := by unfold zN; rw [h20]; rfl
        obtain ⟨q15, u1, u2⟩ := turn_C (X := X) hA w4
        have q0 : σ2.2.2.2 15 0 = some (ad (54 + 0)) := w4.2.2.2.2.2.2.2.2.1.1 0 (by omega)
        have s9 : (csQ σ2 15 (va_up q15 19 (some (ad 54)))).1 9 - 1 = Int32.ofNat 19 := by
          show σ2.1 9 - 1 = _
          rw [w4.1.2.2.1, h20]
          decide
        have sq : sQ (cM X ad (csQ σ2 15 q15) B) 8 (ad 15) 19 (some (ad 54)) = some (cM X ad (csQ σ2 15 (va_up q15 19 (some (ad 54)))) B) := by
          have := R_sQ (X := X) (σ := csQ σ2 15 q15) (r := 15) (k := 19) (x := some (ad 54)) hA (by decide) (hA.2.1 15 (by decide) (by decide) (by decide)) (t := 8) (n := 20) rfl (by omega) (by omega)
          rw [csQ_s, csQ_csQ] at this
          exact this
        have o54 : oc (cM X ad (csQ σ2 15 q15) B) (ad 54) 8 = some () := R_oc hA (by omega) (by omega) (by omega) (cK_54 (by omega)) (cO_54 (by omega))
        rw [o0_8 hA, Option.bind_some, show (0 : Int32) = Int32.ofNat 0 from rfl, q15r hA _ _ _ (by omega) q0, Option.bind_some, Option.bind_some, Option.bind_some] at h1
        have h1 : stC F 21 (ad 0) x (cM X ad σ B) = Option.bind (cpQ (cM X ad σ2 B) 8 (ad 15) 1 (ad 15) 0 19) fun μ34 =>
          Option.bind (gfR μ34 (ad 0) 0 8) fun x36 =>
          Option.bind (sQ μ34 8 x36 19 (some (ad 54))) fun μ39 =>
          Option.bind (oc μ34 (ad 54) 8) fun u41 =>
          Option.bind (gfI μ39 (ad 0) 0 9) fun x42 =>
          Option.bind (pf μ39 (ad 0) 0 9 (.int (x42 - 1))) fun μ44 =>
          f_X0_done_j96 F (ad 0) μ44 := h1
        rw [u1, Option.bind_some, o0_8 hA, Option.bind_some, sq, Option.bind_some, o54, Option.bind_some, o0_9 hA, Option.bind_some, s9, p0_9 hA, Option.bind_some, cM_rt (X := X) (σ := csI (csQ σ2 15 (va_up q15 19 (some (ad 54)))) 9 (Int32.ofNat 19)) hA] at h1
        obtain ⟨ad2, ead2⟩ : ∃ ad2 : Nat → Nat, ad2 = fun i => ad (rtI i) := ⟨_, rfl⟩
        obtain ⟨g, v1, v2, v3⟩ := shift_T (F := F) (τ := τ2) (by omega) (A2 27) (w5.2 27 rfl) (K := fun τ10 =>
            nm (tsI τ10 40 19) fun τ11 =>
            t_X9_done_L80 F F 0 τ11)
        rw [v1, nmE] at h2
        have hq : ∀ j, j < 20 → va_up q15 19 (some (ad 54)) j = some (ad (rtI (54 + j))) := fun j hj => by
          by_cases e : j = 19
          · rw [e, va_up_self]; rfl
          · rw [va_up_ne _ _ e, u2 j (by omega)]
            have e : rtI (54 + j) = 54 + (j + 1) := by
              unfold rtI
              rw [if_pos (by omega)]
              rfl
            rw [e]
        have hC3 := w4.rot zz v2 hq
        have hW3 := w3.2.2.rot zz v2
        obtain ⟨A3, eA3⟩ : ∃ A3, A3 = aw (aw A2 27 g) 0 (upd (A2 0) 40 (Int32.ofNat 19)) := ⟨_, rfl⟩
        obtain ⟨σ3, eσ3⟩ : ∃ σ3, σ3 = csI (csQ (rtC σ2) 15 (va_up q15 19 (some (ad 54)))) 9 (Int32.ofNat 19) := ⟨_, rfl⟩
        have e3 : rtC (csI (csQ σ2 15 (va_up q15 19 (some (ad 54)))) 9 (Int32.ofNat 19)) = σ3 := by rw [eσ3]; rfl
        rw [← eA3, ← eσ3, ← ead2] at hC3
        rw [← eA3] at hW3
        rw [e3, ← ead2] at h1
        have hA3 : AdOK ad2 B := by rw [ead2]; exact hA.rot
        have a0 : ad2 0 = ad 0 := by rw [ead2]; show ad (rtI 0) = ad 0; rw [rt_o (by omega)]
        have hX3 : XT ad B ad2 B := by rw [ead2]; exact XT.rot hA
        have o3 : ∀ j, j ≠ 0 → j ≠ 27 → A3 j = A2 j := fun j x y => by rw [eA3, aw_n _ _ _ _ x, aw_n _ _ _ _ y]
        have hB3 : TB ad2 B A3 := (w3.2.1.cg (fun j hj => o3 j (fun e => by rw [e] at hj; cases hj) (fun e => by rw [e] at hj; cases hj))).gr hW3 (fun _ _ h => h) (fun r hr => by
          rw [ead2]
          show ad (rtI r) = ad r
          rw [rt_o (by unfold twA' at hr; omega)])
        have hT3 : TR A3 (tsI (twA τ2 27 g) 40 (Int32.ofNat 19)) := by
          have := (w5.W (j := 27) (f := g) (by decide)).I (k := 40) (v := Int32.ofNat 19)
          rw [aw_n _ _ _ _ (show (0 : Nat) ≠ 27 by decide)] at this
          rw [eA3]
          exact this
        have z3 : zN A3 0 40 = 19 := by unfold zN; rw [eA3, aw_s, up_s]; rfl
        have a327 : A3 27 = g := by rw [eA3, aw_n _ _ _ _ (by decide), aw_s]
        have a37 : A3 7 = A2 7 := o3 7 (by decide) (by decide)
        obtain ⟨gk, y1, y2, y3⟩ := push_T (F := F) (τ := tsI (twA τ2 27 g) 40 (Int32.ofNat 19)) (by omega) (show 19 < 20 by omega) (A3 27) (A3 7) (hT3.2 27 rfl) (hT3.2 7 rfl) (tsI_s _ _ _)
        have g480 : ∀ i, i < 24 → A3 27 (480 + i) = A2 27 (480 + i) := fun i hi => by rw [a327, v3 _ (by omega)]
        have s3lo : ∀ r, r < 54 → σ3.2.1 r = σ2.2.1 r := fun r hr => by
          rw [eσ3]
          show σ2.2.1 (rtI r) = _
          rw [rt_o (Or.inl hr)]
        obtain ⟨σ4, j1, j2, j3⟩ := push_C (X := X) (F := F) (gk := gk) (by omega) ⟨hA3, hB3, hW3⟩ hC3 z3 (by omega) (fun q hq => y3 q (Or.inl hq)) (fun i hi => by
          rw [y2 i (by omega), g480 i (by omega), b1 i hi, s3lo 13 (by decide), c1 i hi]
          exact ⟨rfl, nH i hi⟩) (fun i hi => by
          have e := y2 (16 + i) (by omega)
          rw [g480 _ (by omega), show 480 + (16 + i) = 496 + i by omega, b2 i hi, ← Nat.add_assoc] at e
          rw [e, s3lo 14 (by decide), c2 i hi]
          exact ⟨rfl, nW i hi⟩)
        have e13 : σ3.1 13 = A2 0 41 := by
          rw [eσ3, csI_n _ _ _ _ (by decide)]
          exact w6.2.2.2.2.2
        have e41 : (tsI (twA τ2 27 g) 40 (Int32.ofNat 19)).1 41 = A2 0 41 := by
          rw [tsI_n _ _ _ _ (by decide)]
          exact w5.1 41 rfl
        rw [← a0, j1, e13, a0] at h1
        have h2 : stT F 21 x τ = t_X9_done_L80 F F 0 (tsI (twA τ2 27 g) 40 (Int32.ofNat 19)) := h2
        rw [y1, e41] at h2
        have hT4 := ((hT3.W (j := 27) (f := gk) (by decide)).I (k := 40) (v := Int32.ofNat (19 + 1))).W (j := 7) (f := upd (A3 7) 1 0) (by decide)
        rw [aw_n _ _ _ _ (show (0 : Nat) ≠ 27 by decide)] at hT4
        exact ⟨_, ad2, B, _, σ4, _, h1, h2, ⟨j2, hK, j3, hT4⟩, hX3⟩
      · rw [if_neg h20] at h1 h2
        obtain ⟨ek, lk⟩ := hW.k0
        have z19 : zN A2 0 40 < 20 := by
          apply Classical.byContradiction
          intro q
          have : zN A 0 40 = 20 := by omega
          apply h20
          rw [e40, ek, this]
          rfl
        obtain ⟨z, ez⟩ : ∃ z, z = zN A2 0 40 := ⟨_, rfl⟩
        obtain ⟨gk, y1, y2, y3⟩ := push_T (F := F) (τ := τ2) (by omega) (show z < 20 by omega) (A2 27) (A2 7) (w5.2 27 rfl) (w5.2 7 rfl) (by rw [t40, e40, ek, ez, z40])
        obtain ⟨σ4, j1, j2, j3⟩ := push_C (X := X) (F := F) (gk := gk) (by omega) w3 w4 ez.symm (by omega) (fun q hq => y3 q (Or.inl hq)) (fun i hi => by
          rw [y2 i (by omega), b1 i hi, c1 i hi]
          exact ⟨rfl, nH i hi⟩) (fun i hi => by
          have e := y2 (16 + i) (by omega)
          rw [show 480 + (16 + i) = 496 + i by omega, b2 i hi, ← Nat.add_assoc] at e
          rw [e, c2 i hi]
          exact ⟨rfl, nW i hi⟩)
        rw [j1, w6.2.2.2.2.2] at h1
        rw [y1, w5.1 41 rfl] at h2
        have hT4 := ((w5.W (j := 27) (f := gk) (by decide)).I (k := 40) (v := Int32.ofNat (z + 1))).W (j := 7) (f := upd (A2 7) 1 0) (by decide)
        rw [aw_n _ _ _ _ (show (0 : Nat) ≠ 27 by decide)] at hT4
        exact ST.rw hI h1 h2 j2.2.1 j2.2.2 j3 hT4
    · obtain ⟨σ3, A3, τ3, b1, b2, b3, b4, b5⟩ := untry_CT (X := X) (F := F) (by omega) hE.2.2 w3 w4 w5 w6 k8 k9 k10 k11
      rw [if_neg hr, o0_7 hA, Option.bind_some, o0_4 hA, Option.bind_some, oc12 hA, Option.bind_some, b1, Option.bind_some] at h1
      rw [if_neg hr, b2, Option.bind_some] at h2
      exact ST.rw hI h1 h2 b3.2.1 b3.2.2 b4 b5
