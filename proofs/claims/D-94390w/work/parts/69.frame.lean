set_option maxRecDepth 100000
/-! what a change of the abstract state leaves alone -/
variable {X : Nat → Option Ob} {ad : Nat → Nat} {B : Sw} {A A' : Av} {σ σ' : Cs} {τ : Tw} {F : Nat}
theorem cAt_cg (h9 : A' 9 = A 9) (h10 : A' 10 = A 10) : ∀ {c : Cd} {k : Nat}, cAt A k c → cAt A' k c := by
  intro c
  induction c with
  | nil => intro k h; trivial
  | cons p c ih =>
    intro k h
    exact ⟨by rw [h9]; exact h.1, by rw [h10]; exact h.2.1, ih h.2.2⟩
/-- the rows that the town is told in -/
def twn (j : Nat) : Bool := j == 6 || j == 9 || j == 10 || j == 12 || j == 13 || j == 14 || j == 15 || j == 16 || j == 17
theorem LitB.cg (e : ∀ j, twn j = true → A' j = A j) {a k : Nat} (h : LitB A B a k) : LitB A' B a k := by
  obtain ⟨b, s, l, r, dl, dr, f0, cl, cr, h1, h2, h3, h4, h5, h6, h7, h8, h9, h10, h11, h12, h13⟩ := h
  refine ⟨b, s, l, r, dl, dr, f0, cl, cr, ?_, h2, ?_, h4, h5, h6, h7, ?_, ?_, ?_, cAt_cg (e 9 rfl) (e 10 rfl) h11, cAt_cg (e 9 rfl) (e 10 rfl) h12, h13⟩
  · rw [e 12 rfl]; exact h1
  · rw [e 13 rfl]; exact h3
  · rw [e 14 rfl]; exact h8
  · rw [e 15 rfl]; exact h9
  · rw [e 16 rfl]; exact h10
theorem AllB.cg (e : ∀ j, twn j = true → A' j = A j) {a k n : Nat} {row : Int32} (h : AllB A B a k n row) : AllB A' B a k n row := by
  obtain ⟨h0, l, el, h1, h2, h3⟩ := h
  refine ⟨h0, l, el, h1, h2, fun j hj => ⟨(h3 j hj).1.cg e, ?_⟩⟩
  rw [e 17 rfl]
  exact (h3 j hj).2
theorem RowsB.cg (e : ∀ j, twn j = true → A' j = A j) {el : Nat → Nat} : ∀ {ns : List Nat} {j k : Nat}, RowsB A B el j k ns → RowsB A' B el j k ns := by
  intro ns
  induction ns with
  | nil => intro j k h; trivial
  | cons n ns ih =>
    intro j k h
    exact ⟨h.1.cg e, ih h.2⟩
theorem AnyB.cg (e : ∀ j, twn j = true → A' j = A j) {a k : Nat} {ns : List Nat} (h : AnyB A B a k ns) : AnyB A' B a k ns := by
  obtain ⟨l, el, h1, h2, h3, h4⟩ := h
  exact ⟨l, el, h1, h2, h3, h4.cg e⟩
theorem LawB.cg (e : ∀ j, twn j = true → A' j = A j) {t w : Nat} {c0 : Int32 × Int32} (h : LawB A B t w c0) : LawB A' B t w c0 := by
  obtain ⟨d, c, h1, h2, h3⟩ := h
  refine ⟨d, c, h1, h2, ?_⟩
  rw [e 6 rfl]
  rcases h3 with h3 | ⟨f0, q1, q2, q3, q4⟩
  · exact Or.inl h3
  · exact Or.inr ⟨f0, q1, q2, cAt_cg (e 9 rfl) (e 10 rfl) q3, q4⟩
theorem RuleB.cg (e : ∀ j, twn j = true → A' j = A j) {base n : Nat} {el : Nat → Nat} (h : RuleB A B base n el) : RuleB A' B base n el := by
  intro k hk
  obtain ⟨f0, ns, h1, h2, h3, h4⟩ := h k hk
  refine ⟨f0, ns, h1.cg e, ?_, ?_, h4⟩
  · rw [e 6 rfl]; exact h2
  · rw [e 6 rfl]; exact h3
theorem TB.cg (h : TB ad B A) (e : ∀ j, twn j = true → A' j = A j) : TB ad B A' := by
  obtain ⟨h1, h2, h3, h4, h5, h6, h7, h8, h9, h10, h11⟩ := h
  have z : ∀ k, zN A' 6 k = zN A 6 k := fun k => by unfold zN; rw [e 6 rfl]
  refine ⟨?_, ?_, ?_, ?_, ?_, ?_, ?_, ?_, h9.cg e, h10.cg e, h11.cg e⟩
  · rw [e 6 rfl]; exact h1
  · rw [z, e 6 rfl]; exact h2
  · rw [z, e 6 rfl]; exact h3
  · rw [z, e 6 rfl]; exact h4
  · rw [z]; exact ⟨h5.1, h5.2.cg e⟩
  · rw [z]; exact ⟨h6.1, h6.2.cg e⟩
  · rw [z, e 6 rfl]; exact h7
  · rw [z, e 6 rfl]; exact h8
theorem TB.aw (h : TB ad B A) {j : Nat} {f : Nat → Int32} (hj : twn j = false) : TB ad B (aw A j f) := h.cg fun i hi => aw_n _ _ _ _ (fun e => by rw [e, hj] at hi; cases hi)
/-- months, heights, offices, wood: where they stand -/
def liv (k : Nat) : Prop := k = 0 ∨ (10 ≤ k ∧ k < 26) ∨ (30 ≤ k ∧ k < 46) ∨ (50 ≤ k ∧ k < 58)
def sC (σ σ' : Cs) : Prop := (∀ i, scI i = false → i ≠ 43 → σ'.1 i = σ.1 i) ∧ (∀ r, scA r = false → r ≠ 47 → r ≠ 48 → r ≠ 49 → σ'.2.1 r = σ.2.1 r) ∧ σ'.2.2.2 = σ.2.2.2
theorem scA_hi {r : Nat} (h : 46 ≤ r) : scA r = false := by
  unfold scA
  simp
  omega
theorem sC.rf : sC σ σ := ⟨fun _ _ _ => rfl, fun _ _ _ _ _ => rfl, rfl⟩
theorem sC.tr {σ2 : Cs} (h : sC σ σ') (g : sC σ' σ2) : sC σ σ2 := ⟨fun i a b => (g.1 i a b).trans (h.1 i a b), fun r a b c d => (g.2.1 r a b c d).trans (h.2.1 r a b c d), g.2.2.trans h.2.2⟩
theorem sC.a {r : Nat} {f : Nat → Int32} (hr : scA r = true ∨ r = 47 ∨ r = 48 ∨ r = 49) : sC σ (csA σ r f) := ⟨fun _ _ _ => rfl, fun q h1 h2 h3 h4 => csA_n _ _ _ _ (fun e => by
  subst e
  rcases hr with h | h | h | h
  · rw [h] at h1; cases h1
  · exact h2 h
  · exact h3 h
  · exact h4 h), rfl⟩
theorem sC.i {z : Nat} {v : Int32} (hz : scI z = true ∨ z = 43) : sC σ (csI σ z v) := ⟨fun q h1 h2 => csI_n _ _ _ _ (fun e => by
  subst e
  rcases hz with h | h
  · rw [h] at h1; cases h1
  · exact h2 h), fun _ _ _ _ _ => rfl, rfl⟩
theorem CR.hw {L : Nat → Int32} (h : CR ad B A σ) (hL : ∀ k, ¬ liv k → L k = A 7 k) (hs : sC σ σ') (hm : σ'.1 43 = L 0) (hh : ∀ i, i < 16 → σ'.2.1 47 i = L (10 + i)) (ho : ∀ i, i < 16 → σ'.2.1 48 i = if L (30 + i) = -2 then -1 else L (30 + i)) (hw : ∀ i, i < 8 → σ'.2.1 49 i = L (50 + i)) : CR ad B (aw A 7 L) σ' := by
  obtain ⟨⟨p1, p2, p3, p4, p5⟩, h2, h3, h4, h5, h6, h7, h8, h9, h10, h11, h12⟩ := h
  have l1 : L 1 = A 7 1 := hL 1 (by unfold liv; omega)
  have l2 : L 2 = A 7 2 := hL 2 (by unfold liv; omega)
  have z1 : zN (aw A 7 L) 7 1 = zN A 7 1 := by unfold zN; rw [aw_s, l1]
  have z2 : zN (aw A 7 L) 7 2 = zN A 7 2 := by unfold zN; rw [aw_s, l2]
  refine ⟨⟨?_, ?_, ?_, ?_, ?_⟩, ?_, ?_, ?_, ?_, ?_, ?_, ?_, ?_, ?_, ?_, ?_⟩
  · rw [hs.1 21 rfl (by decide)]; exact p1
  · rw [hs.1 2 rfl (by decide)]; exact p2
  · rw [hs.1 9 rfl (by decide)]; exact p3
  · rw [hs.1 11 rfl (by decide)]; exact p4
  · rw [aw_s]; exact hm
  · rw [hs.2.1 2 rfl (by decide) (by decide) (by decide)]; exact h2
  · rw [hs.2.1 16 rfl (by decide) (by decide) (by decide)]; exact h3
  · rw [aw_s]; exact hh
  · rw [aw_s]; exact ho
  · rw [aw_s]; exact hw
  · intro j i hj hi
    rw [hs.2.1 _ (scA_hi (by omega)) (by omega) (by omega) (by omega)]
    exact h7 j i hj hi
  · intro j i hj hi
    rw [hs.2.1 _ (scA_hi (by omega)) (by omega) (by omega) (by omega)]
    exact h8 j i hj hi
  · rw [hs.2.2]; exact h9
  · rw [z1, aw_s]
    obtain ⟨a, b, c⟩ := h10
    refine ⟨?_, ?_, ?_⟩
    · rw [hs.1 (50 + 2) rfl (by decide)]; exact a
    · rw [hs.1 (50 + 3) rfl (by decide)]; exact b
    · rw [hs.2.2]
      intro j hj
      have := c j hj
      show σ.2.2.2 (50 + 1) j = some (ad (1500 + j)) ∧ B.1 (ad (1500 + j)) = some (.inr (18, [.int (L (60 + 3 * j)), .int (L (60 + 3 * j + 1)), .int (L (60 + 3 * j + 2))]))
      rw [hL _ (by unfold liv; omega), hL _ (by unfold liv; omega), hL _ (by unfold liv; omega)]
      exact this
  · rw [z2, aw_s]
    obtain ⟨a, b, c⟩ := h11
    refine ⟨?_, ?_, ?_⟩
    · rw [hs.1 (60 + 2) rfl (by decide)]; exact a
    · rw [hs.1 (60 + 3) rfl (by decide)]; exact b
    · rw [hs.2.2]
      intro j hj
      have := c j hj
      show σ.2.2.2 (52 + 1) j = some (ad (1600 + j)) ∧ B.1 (ad (1600 + j)) = some (.inr (19, [.int (L (180 + 4 * j)), .int (L (180 + 4 * j + 1)), .int (L (180 + 4 * j + 2)), .int (L (180 + 4 * j + 3))]))
      rw [hL _ (by unfold liv; omega), hL _ (by unfold liv; omega), hL _ (by unfold liv; omega), hL _ (by unfold liv; omega)]
      exact this
  · rw [hs.2.2]
    intro s hs2
    have e : rowL (aw A 7 L) (s + 1) = rowL A (s + 1) := by
      funext k
      unfold rowL
      rw [aw_s, hL _ (by unfold liv; omega)]
    rw [e]
    exact h12 s hs2
theorem WFl.hw {H O : Nat} {L L' : Nat → Int32} (h : WFl H O L) (hL : ∀ k, ¬ liv k → L' k = L k) (hm : isN (L' 0) 11) (hh : ∀ i, i < 16 → isN (L' (10 + i)) 99) (ho : ∀ i, i < 16 → L' (30 + i) = -2 ∨ (isN (L' (30 + i)) 11 ∧ (L' (30 + i)).toNatClampNeg < O ∧ i < H)) (hu : ∀ i j, i < 16 → j < 16 → L' (30 + i) = L' (30 + j) → L' (30 + i) = -2 ∨ i = j) (hw : ∀ i, i < 8 → isN (L' (50 + i)) 99) : WFl H O L' := by
  obtain ⟨⟨a0, a1, a2⟩, h2, h3, h4, h5, h6, h7⟩ := h
  have l1 : L' 1 = L 1 := hL 1 (by unfold liv; omega)
  have l2 : L' 2 = L 2 := hL 2 (by unfold liv; omega)
  refine ⟨⟨hm, by rw [l1]; exact a1, by rw [l2]; exact a2⟩, hh, ho, hu, hw, ?_, ?_⟩
  · rw [l1]
    intro j hj
    rw [hL _ (by unfold liv; omega), hL _ (by unfold liv; omega), hL _ (by unfold liv; omega)]
    exact h6 j hj
  · rw [l2]
    intro j hj
    rw [hL _ (by unfold liv; omega), hL _ (by unfold liv; omega), hL _ (by unfold liv; omega)]
    exact h7 j hj
theorem WF.hw {L : Nat → Int32} (h : WF A) (hL : ∀ k, ¬ liv k → L k = A 7 k) (hm : isN (L 0) 11) (hh : ∀ i, i < 16 → isN (L (10 + i)) 99) (ho : ∀ i, i < 16 → L (30 + i) = -2 ∨ (isN (L (30 + i)) 11 ∧ (L (30 + i)).toNatClampNeg < zN A 6 1 ∧ i < zN A 6 0)) (hu : ∀ i j, i < 16 → j < 16 → L (30 + i) = L (30 + j) → L (30 + i) = -2 ∨ i = j) (hw : ∀ i, i < 8 → isN (L (50 + i)) 99) : WF (aw A 7 L) := by
  obtain ⟨h1, h2, h3, h4⟩ := h
  refine ⟨h1, h2, ?_, ?_⟩
  · have : WFl (zN A 6 0) (zN A 6 1) L := h3.hw hL hm hh ho hu hw
    exact this
  · intro s hs e
    have e2 : rowL (aw A 7 L) (s + 1) = rowL A (s + 1) := by
      funext k
      unfold rowL
      rw [aw_s, hL _ (by unfold liv; omega)]
    rw [e2]
    exact h4 s hs e
/-- a change of what is not told, does not live, is not kept -/
def irr (A A' : Av) : Prop := (∀ j, j = 1 ∨ j = 6 ∨ j = 7 ∨ j = 9 ∨ j = 10 ∨ j = 12 ∨ j = 13 ∨ j = 14 ∨ j = 15 ∨ j = 16 ∨ j = 17 ∨ j = 18 ∨ j = 27 ∨ j = 33 → A' j = A j) ∧ (∀ k, k = 0 ∨ k = 9 ∨ k = 40 ∨ k = 50 → A' 0 k = A 0 k)
theorem irr.rf : irr A A := ⟨fun _ _ => rfl, fun _ _ => rfl⟩
theorem irr.tr {A2 : Av} (h : irr A A') (g : irr A' A2) : irr A A2 := ⟨fun j hj => (g.1 j hj).trans (h.1 j hj), fun k hk => (g.2 k hk).trans (h.2 k hk)⟩
theorem irr.w {j : Nat} {f : Nat → Int32} (hj : j = 25 ∨ j = 26 ∨ j = 28 ∨ j = 29 ∨ j = 30 ∨ j = 31 ∨ j = 32 ∨ j = 34) : irr A (aw A j f) := ⟨fun i hi => aw_n _ _ _ _ (by omega), fun k _ => by rw [aw_n _ _ _ _ (by omega)]⟩
theorem irr.i {z : Nat} {v : Int32} (hz : z ≠ 0 ∧ z ≠ 9 ∧ z ≠ 40 ∧ z ≠ 50) : irr A (aw A 0 (upd (A 0) z v)) := ⟨fun i hi => aw_n _ _ _ _ (by omega), fun k hk => by rw [aw_s]; exact up_n _ _ _ _ (by omega)⟩
theorem irr.tb (h : irr A A') (hB : TB ad B A) : TB ad B A' := hB.cg fun j hj => h.1 j (by
  unfold twn at hj
  simp at hj
  omega)
theorem irr.cr (h : irr A A') (hC : CR ad B A σ) : CR ad B A' σ := by
  obtain ⟨p1, h2, h3, h4, h5, h6, h7, h8, h9, h10, h11, h12⟩ := hC
  have e1 := h.1 1 (by omega)
  have e7 := h.1 7 (by omega)
  have e18 := h.1 18 (by omega)
  have e27 := h.1 27 (by omega)
  have e33 := h.1 33 (by omega)
  have z7 : ∀ k, zN A' 7 k = zN A 7 k := fun k => by unfold zN; rw [e7]
  have z0 : zN A' 0 0 = zN A 0 0 := by unfold zN; rw [h.2 0 (by omega)]
  have z40 : zN A' 0 40 = zN A 0 40 := by unfold zN; rw [h.2 40 (by omega)]
  have z50 : zN A' 0 50 = zN A 0 50 := by unfold zN; rw [h.2 50 (by omega)]
  have er : ∀ s, rowL A' s = rowL A s := fun s => by unfold rowL; rw [e7]
  refine ⟨?_, ?_, ?_, ?_, ?_, ?_, ?_, ?_, h9, ?_, ?_, ?_⟩
  · rw [h.2 0 (by omega), h.2 9 (by omega), h.2 40 (by omega), h.2 50 (by omega), e7]; exact p1
  · rw [z0, e1]; exact h2
  · rw [z50, e33]; exact h3
  · rw [e7]; exact h4
  · rw [e7]; exact h5
  · rw [e7]; exact h6
  · rw [z40, e27]; exact h7
  · rw [z40, e27]; exact h8
  · rw [z7, e7]; exact h10
  · rw [z7, e7]; exact h11
  · intro s hs; rw [e18, er]; exact h12 s hs
theorem irr.wf (h : irr A A') (hW : WF A) : WF A' := by
  obtain ⟨w1, w2, w3, w4⟩ := hW
  have e1 := h.1 1 (by omega)
  have e6 := h.1 6 (by omega)
  have e7 := h.1 7 (by omega)
  have e18 := h.1 18 (by omega)
  have e27 := h.1 27 (by omega)
  have e33 := h.1 33 (by omega)
  have z6 : ∀ k, zN A' 6 k = zN A 6 k := fun k => by unfold zN; rw [e6]
  have z40 : zN A' 0 40 = zN A 0 40 := by unfold zN; rw [h.2 40 (by omega)]
  have z50 : zN A' 0 50 = zN A 0 50 := by unfold zN; rw [h.2 50 (by omega)]
  have er : ∀ s, rowL A' s = rowL A s := fun s => by unfold rowL; rw [e7]
  refine ⟨?_, ?_, ?_, ?_⟩
  · unfold WFt
    simp only [z6, e6]
    exact w1
  · unfold WFn
    rw [h.2 0 (by omega), h.2 40 (by omega), h.2 50 (by omega), z40, z50, e1, e27, e33]
    exact w2
  · rw [z6, z6, e7]; exact w3
  · intro s hs; rw [e18, z6, z6, er]; exact w4 s hs
theorem irr.ev (h : irr A A') (hE : EV ad B A) : EV ad B A' := ⟨hE.1, h.tb hE.2.1, h.wf hE.2.2⟩
