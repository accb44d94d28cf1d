set_option maxRecDepth 100000
/-! 2: read -/
variable {X X' X2 : Nat → Option Ob} {ad ad' : Nat → Nat} {B B' B2 : Sw} {A A' A2 : Av} {σ σ' σ2 : Cs} {τ τ' τ2 : Tw} {F : Nat} {c pl : Nat → Nat} {last j : Nat}
/-- what lasts of a state -/
def Aof (τ : Tw) : Av := fun q => if q = 0 then τ.1 else τ.2.1 q
theorem Aof_0 : Aof τ 0 = τ.1 := if_pos rfl
theorem Aof_n {q : Nat} (h : q ≠ 0) : Aof τ q = τ.2.1 q := if_neg h
theorem TR_of : TR (Aof τ) τ := ⟨fun k _ => by rw [Aof_0], fun j hj => by
  rw [Aof_n]
  intro e
  subst e
  cases hj⟩
/-- a step, where cells that were no one's may have changed -/
def STW (F k : Nat) (x : Nat → Int32) (X : Nat → Option Ob) (ad : Nat → Nat) (B : Sw) (σ : Cs) (τ : Tw) : Prop := ∃ (r : Int32) (ad' : Nat → Nat) (B' : Sw) (A' : Av) (σ' : Cs) (τ' : Tw) (X' : Nat → Option Ob), stC F k (ad 0) x (cM X ad σ B) = some (r, cM X' ad' σ' B') ∧ stT F k x τ = some (r, τ') ∧ INV ad' B' A' σ' τ' ∧ XT ad B ad' B' ∧ ∀ a, a < B.2.1 → ¬ Own ad B a → X' a = X a
theorem ST.w {k : Nat} {x : Nat → Int32} (h : ST F k x X ad B σ τ) : STW F k x X ad B σ τ := by
  obtain ⟨r, ad', B', A', σ', τ', h1, h2, h3, h4⟩ := h
  exact ⟨r, ad', B', A', σ', τ', X, h1, h2, h3, h4, fun _ _ _ => rfl⟩
theorem LitB_u {a k : Nat} : LitB A B a k ↔ LitU A B a k 500 := Iff.rfl
theorem AllB.u {a k n : Nat} {row : Int32} (h : AllB A B a k n row) : AllU A B a k n row 500 := h
theorem RowsB.u {e : Nat → Nat} : ∀ {ns : List Nat} {i k : Nat}, RowsB A B e i k ns → RowsU A B e 500 i k ns := by
  intro ns
  induction ns with
  | nil => intro i k _; trivial
  | cons n ns ih => intro i k h; exact ⟨h.1.u, ih h.2⟩
theorem RuleB.u {base n : Nat} {e : Nat → Nat} (h : RuleB A B base n e) : RuleU A B base n e 500 200 := by
  intro k hk
  obtain ⟨f0, ns, ⟨l, e', h1, h2, h3, h4⟩, h5⟩ := h k hk
  exact ⟨f0, ns, ⟨l, e', h1, h2, h3, h4.u⟩, h5⟩
/-- the town that holds is seen in a state where it stands as it stood -/
theorem TB.ag (h : TB ad B A) (hW : WFt A) (h6 : ∀ k, k < 210 → A' 6 k = A 6 k) (ha : AG 500 200 A A') : TB ad B A' ∧ WFt A' ∧ zN A' 6 0 = zN A 6 0 ∧ zN A' 6 1 = zN A 6 1 := by
  obtain ⟨h1, h2, h3, h4, h5, h7, h8, h9, h10, h11, h12⟩ := h
  obtain ⟨⟨w0, w1, w3, w4, w5, w6, w7, w8, w9, w10, w11⟩, W2, W3, W4, W5, W6⟩ := hW
  have z : ∀ k, k < 210 → zN A' 6 k = zN A 6 k := fun k hk => by unfold zN; rw [h6 k hk]
  have l0 : zN A 6 0 ≤ 16 := w0.2
  have l1 : zN A 6 1 ≤ 12 := w1.2
  have l3 : zN A 6 3 ≤ 12 := w3.2
  have l4 : zN A 6 4 ≤ 4 := w4.2
  have l5 : zN A 6 5 ≤ 8 := w5.2
  have l8 : zN A 6 8 ≤ 4 := w8.2
  have l9 : zN A 6 9 ≤ 4 := w9.2
  have gr : Gr B B := fun _ _ q => q
  refine ⟨⟨?_, ⟨?_, fun k hk => ?_⟩, ⟨?_, fun k hk => ?_⟩, ⟨?_, fun k hk => ?_⟩, ⟨?_, ?_⟩, ⟨?_, ?_⟩, ?_, ?_, ?_, ?_, ?_⟩, ⟨?_, fun x hx => ?_, fun x hx => ?_, fun x hx => ?_, fun x hx => ?_, fun x hx => ?_⟩, z 0 (by decide), z 1 (by decide)⟩
  · rw [h6 1 (by decide), h6 2 (by decide), h6 4 (by decide), h6 6 (by decide), h6 7 (by decide)]; exact h1
  · rw [z 0 (by decide)]; exact h2.1
  · rw [z 0 (by decide)] at hk
    rw [h6 _ (by omega), h6 _ (by omega), h6 _ (by omega)]; exact h2.2 k hk
  · rw [z 3 (by decide)]; exact h3.1
  · rw [z 3 (by decide)] at hk
    rw [h6 _ (by omega), h6 _ (by omega), h6 _ (by omega)]; exact h3.2 k hk
  · rw [z 5 (by decide)]; exact h4.1
  · rw [z 5 (by decide)] at hk
    rw [h6 _ (by omega), h6 _ (by omega)]; exact h4.2 k hk
  · rw [z 8 (by decide)]; exact h5.1
  · rw [z 8 (by decide)]; exact ((h5.2.u).of gr ha (fun k hk => h6 _ (by omega)) (Nat.le_refl _) (Nat.le_refl _)).b (Nat.le_refl _) (Nat.le_refl _)
  · rw [z 9 (by decide)]; exact h7.1
  · rw [z 9 (by decide)]; exact ((h7.2.u).of gr ha (fun k hk => h6 _ (by omega)) (Nat.le_refl _) (Nat.le_refl _)).b (Nat.le_refl _) (Nat.le_refl _)
  · obtain ⟨f, q1, q2⟩ := h8
    refine ⟨f, q1, fun o ho => ?_⟩
    rw [z 1 (by decide)] at ho
    rw [h6 _ (by omega)]; exact q2 o ho
  · obtain ⟨f, q1, q2⟩ := h9
    refine ⟨f, q1, fun x hx => ?_⟩
    rw [z 4 (by decide)]
    rcases q2 x hx with ⟨a1, q, a2, a3⟩ | ⟨a1, a2⟩
    · exact Or.inl ⟨a1, q, a2, by rw [h6 _ (by omega)]; exact a3⟩
    · exact Or.inr ⟨a1, fun q hq => by rw [h6 _ (by omega)]; exact a2 q hq⟩
  · exact (LawU.of (m := 500) h10 gr ha (h6 _ (by decide)) (h6 _ (by decide)) (Nat.le_refl _)).b (Nat.le_refl _)
  · exact (LawU.of (m := 500) h11 gr ha (h6 _ (by decide)) (h6 _ (by decide)) (Nat.le_refl _)).b (Nat.le_refl _)
  · exact (LawU.of (m := 500) h12 gr ha (h6 _ (by decide)) (h6 _ (by decide)) (Nat.le_refl _)).b (Nat.le_refl _)
  · rw [z 6 (by decide), z 7 (by decide), h6 0 (by decide), h6 1 (by decide), h6 3 (by decide), h6 4 (by decide), h6 5 (by decide), h6 6 (by decide), h6 7 (by decide), h6 8 (by decide), h6 9 (by decide)]
    exact ⟨w0, w1, w3, w4, w5, w6, w7, w8, w9, w10, w11⟩
  · rw [z 0 (by decide)] at hx
    rw [h6 _ (by omega), h6 _ (by omega), h6 _ (by omega)]; exact W2 x hx
  · rw [z 1 (by decide)] at hx
    rw [h6 _ (by omega)]; exact W3 x hx
  · rw [z 3 (by decide)] at hx
    rw [z 0 (by decide), z _ (by omega), z _ (by omega), h6 _ (by omega), h6 _ (by omega), h6 _ (by omega)]; exact W4 x hx
  · rw [z 4 (by decide)] at hx
    rw [z 0 (by decide), z _ (by omega), h6 _ (by omega)]; exact W5 x hx
  · rw [z 5 (by decide)] at hx
    rw [z _ (by omega), h6 _ (by omega)]; exact W6 x hx
/-- what the reading leaves alone: the town that holds -/
theorem TX.low (h : TX τ τ') : (∀ k, k < 210 → Aof τ' 6 k = Aof τ 6 k) ∧ AG 500 200 (Aof τ) (Aof τ') := by
  refine ⟨fun k hk => ?_, fun k hk => ⟨?_, ?_⟩, fun r k a b hk => ?_, fun k hk _ => ?_⟩
  · rw [Aof_n (by decide), Aof_n (by decide)]; exact h.2.2.1 k hk
  · rw [Aof_n (by decide), Aof_n (by decide)]; exact (h.2.2.2.1 k hk).1
  · rw [Aof_n (by decide), Aof_n (by decide)]; exact (h.2.2.2.1 k hk).2
  · rw [Aof_n (by omega), Aof_n (by omega)]; exact h.2.2.2.2.1 r k (by omega) b hk
  · rw [Aof_n (by decide), Aof_n (by decide)]; exact h.2.2.2.2.1 12 k (by decide) (by decide) hk
/-- the memory's growth, seen by the law -/
theorem MF.xt {u : Nat} {ad1 : Nat → Nat} (lo : ∀ i, i < 114 → ad1 i = ad i) (h : MF ad1 X B X' B' u) (hu : u ≤ 10600) : XT ad B ad1 B' := by
  obtain ⟨a1, a2, a3, a4, a5, ⟨a6, -⟩, a7, a8⟩ := h
  refine ⟨lo 0 (by decide), a2, fun a q => ?_, a5, by omega, by omega, a8⟩
  rcases a3 a q with q | q
  · exact Or.inl ((Own.lo lo).1 q)
  · exact Or.inr q
/-- the reading fails: all stays as it was, but what is noted -/
theorem read_no (hE : EV ad B A) (hK : KB B) (hC : CR ad B A σ) (hT : TR A τ) {σc σ1 : Cs} {τc : Tw} {ad1 : Nat → Nat} {e p : Nat} {k : Int32} {rC rT : Option (Int32 × Tw)} (lo : ∀ i, i < 114 → ad1 i = ad i) (hi : ∀ i, i ≠ 130 → ad1 i = ad i) (s1 : SF σ σc) (s2 : σc.1 21 = 0) (t1 : TF τ τc) (hM : MF ad1 X B X' B' 9800) (hR : RF (r0C (csI σc 2 (-1))) σ') (hX : TX (r0T τc) τ') (f : B'.1 e = some (fltO k p)) (k8 : τ'.1 8 = k) (k9 : τ'.1 9 = Int32.ofNat p) (k0 : k ≠ 0) : (∃ A2, INV ad1 B' A2 (csI σ' 2 (Int32.ofNat p)) (tsI τ' 0 0)) ∧ XT ad B ad1 B' ∧ (Option.bind (gfI (cM X' ad1 σ' B') e 10 7) fun x48 => Option.bind (pf (cM X' ad1 σ' B') (ad 0) 0 2 (.int x48)) fun μ50 => Option.bind (gfI μ50 e 10 6) fun x52 => some (x52, μ50)) = some (k, cM X' ad1 (csI σ' 2 (Int32.ofNat p)) B') ∧ t_X9_read_j54 F τ' = some (k, tsI τ' 0 0) ∧ ∀ a, a < B.2.1 → ¬ Own ad B a → X' a = X a := by
  obtain ⟨hA, hTB, hW⟩ := hE
  have hA1 := hM.1
  have hG := hM.2.1
  -- the frame of the ints that last
  have e1 : ∀ z, z ≠ 2 → z ≠ 21 → z ≠ 25 → z ≠ 31 → z ≠ 32 → z ≠ 33 → z ≠ 34 → z ≠ 38 → σ'.1 z = σ.1 z := fun z q1 q2 q3 q4 q5 q6 q7 q8 => by
    rw [hR.1 z q4 q5 q6 q7 q8, r0_i q4 q5 q6 q8, csI_n _ _ _ _ q1, s1.1 z q2 q3]
  have e2 : ∀ r, r ≠ 3 → r ≠ 4 → r ≠ 8 → σ'.2.1 r = σ.2.1 r := fun r q1 q2 q3 => by
    rw [hR.2.1 r q3]
    show σc.2.1 r = _
    rw [s1.2.1 r q1 q2]
  have e4 : σ'.2.2.2 = σ.2.2.2 := by
    rw [hR.2.2.2]
    show σc.2.2.2 = _
    rw [s1.2.2.2]
  have i21 : σ'.1 21 = 0 := by
    rw [hR.1 21 (by decide) (by decide) (by decide) (by decide) (by decide), r0_i (by decide) (by decide) (by decide) (by decide), csI_n _ _ _ _ (by decide)]
    exact s2
  have g1 : ∀ z, z ≠ 2 → z ≠ 7 → z ≠ 8 → z ≠ 9 → z ≠ 10 → z ≠ 11 → z ≠ 25 → z ≠ 29 → z ≠ 30 → z ≠ 32 → z ≠ 33 → τ'.1 z = τ.1 z := fun z q1 q2 q3 q4 q5 q6 q7 q8 q9 q10 q11 => by
    rw [hX.1 z q2 q3 q4 q5 q6 q7 q8 q9 q10 q11, r0T_i q3 q4 q5 q2 q7, t1.1 z q1]
  have g2 : ∀ r, r ≠ 2 → r ≠ 3 → r ≠ 4 → r ≠ 6 → r ≠ 8 → r ≠ 9 → r ≠ 10 → r ≠ 11 → ¬ (12 ≤ r ∧ r ≤ 17) → r ≠ 20 → r ≠ 21 → r ≠ 22 → τ'.2.1 r = τ.2.1 r := fun r q1 q2 q3 q4 q5 q6 q7 q8 q9 q10 q11 q12 => by
    rw [hX.2.1 r q4 q5 q6 q7 q8 q9 q10 q11 q12, r0T_o q4 q5 q8, t1.2.1 r q1 q2 q3]
  obtain ⟨τ2, eτ⟩ : ∃ τ2, τ2 = tsI τ' 0 0 := ⟨_, rfl⟩
  have hi2 : ∀ z, z ≠ 0 → τ2.1 z = τ'.1 z := fun z q => by rw [eτ]; exact tsI_n _ _ _ _ q
  have hz2 : τ2.1 0 = 0 := by rw [eτ]; exact tsI_s _ _ _
  have ha2 : τ2.2 = τ'.2 := by rw [eτ]; rfl
  -- the town that holds, seen in the new state
  have l6 : ∀ k, k < 210 → Aof τ2 6 k = A 6 k := fun k hk => by
    rw [Aof_n (by decide), ha2, hX.2.2.1 k hk, r0T_lo hk, t1.2.1 6 (by decide) (by decide) (by decide), hT.2 6 rfl]
  have lag : AG 500 200 A (Aof τ2) := by
    refine ⟨fun k hk => ⟨?_, ?_⟩, fun r k a b hk => ?_, fun k hk _ => ?_⟩
    · rw [Aof_n (by decide), ha2, (hX.2.2.2.1 k hk).1, r0T_o (by decide) (by decide) (by decide), t1.2.1 9 (by decide) (by decide) (by decide), hT.2 9 rfl]
    · rw [Aof_n (by decide), ha2, (hX.2.2.2.1 k hk).2, r0T_o (by decide) (by decide) (by decide), t1.2.1 10 (by decide) (by decide) (by decide), hT.2 10 rfl]
    · have pj : pjA r = true := by
        have : r = 13 ∨ r = 14 ∨ r = 15 ∨ r = 16 ∨ r = 17 := by omega
        rcases this with rfl | rfl | rfl | rfl | rfl <;> rfl
      rw [Aof_n (by omega), ha2, hX.2.2.2.2.1 r k (by omega) b hk, r0T_o (by omega) (by omega) (by omega), t1.2.1 r (by omega) (by omega) (by omega), hT.2 r pj]
    · rw [Aof_n (by decide), ha2, hX.2.2.2.2.1 12 k (by decide) (by decide) hk, r0T_o (by decide) (by decide) (by decide), t1.2.1 12 (by decide) (by decide) (by decide), hT.2 12 rfl]
  obtain ⟨B1, B2, B3, B4⟩ := hTB.ag hW.1 l6 lag
  -- the rest of the arrays
  have ar : ∀ r, r = 1 ∨ r = 7 ∨ r = 18 ∨ r = 27 ∨ r = 33 → Aof τ2 r = A r := fun r q => by
    have pj : pjA r = true := by rcases q with rfl | rfl | rfl | rfl | rfl <;> rfl
    rw [Aof_n (by omega), ha2, g2 r (by omega) (by omega) (by omega) (by omega) (by omega) (by omega) (by omega) (by omega) (by omega) (by omega) (by omega) (by omega), hT.2 r pj]
  have a0 : ∀ z, z = 40 ∨ z = 50 → Aof τ2 0 z = A 0 z := fun z q => by
    have pj : pjI z = true := by rcases q with rfl | rfl <;> rfl
    rw [Aof_0, hi2 z (by omega), g1 z (by omega) (by omega) (by omega) (by omega) (by omega) (by omega) (by omega) (by omega) (by omega) (by omega) (by omega), hT.1 z pj]
  have a00 : Aof τ2 0 0 = 0 := by rw [Aof_0]; exact hz2
  have a09 : Aof τ2 0 9 = Int32.ofNat p := by rw [Aof_0, hi2 9 (by decide)]; exact k9
  have z00 : zN (Aof τ2) 0 0 = 0 := by unfold zN; rw [a00]; rfl
  have zz : ∀ q z, Aof τ2 q z = A q z → zN (Aof τ2) q z = zN A q z := fun q z h => by unfold zN; rw [h]
  have z40 := zz 0 40 (a0 40 (Or.inl rfl))
  have z50 := zz 0 50 (a0 50 (Or.inr rfl))
  have ro : ∀ s, rowL (Aof τ2) s = rowL A s := fun s => by
    unfold rowL
    rw [ar 7 (by omega)]
  have hW2 : WF (Aof τ2) := by
    obtain ⟨-, ⟨n1, n2, n3, n4, n5, n6, n7⟩, q3, q4⟩ := hW
    refine ⟨B2, ⟨?_, ?_, ?_, ?_, ?_, ?_, ?_⟩, ?_, fun s hs q => ?_⟩
    · rw [a00]; exact isN.of (k := 0) (by decide) (by decide)
    · rw [a0 40 (Or.inl rfl)]; exact n2
    · rw [a0 50 (Or.inr rfl)]; exact n3
    · rw [z50, ar 33 (by omega)]; exact n4
    · rw [ar 1 (by omega)]; exact n5
    · rw [z40, ar 27 (by omega)]; exact n6
    · rw [z40, ar 27 (by omega)]; exact n7
    · rw [B3, B4, ar 7 (by omega)]; exact q3
    · rw [B3, B4, ro]
      rw [ar 18 (by omega)] at q
      exact q4 s hs q
  have hno : ∀ r, r < 114 → B.1 (ad r) = none → B'.1 (ad r) = none := fun r hr hb => hM.2.2.2.2.2.1.2 _ (hA.2.2.1 r hr) hb
  have hCR : CR ad1 B' (Aof τ2) (csI σ' 2 (Int32.ofNat p)) := by
    obtain ⟨⟨r1, r2, r3, r4, r5⟩, p2, p3, p4, p5, p6, p7, p8, ⟨p9, p10, p11⟩, p12, p13, p14⟩ := hC
    have si : ∀ z, z ≠ 2 → (csI σ' 2 (Int32.ofNat p)).1 z = σ'.1 z := fun z q => csI_n _ _ _ _ q
    refine ⟨⟨?_, ?_, ?_, ?_, ?_⟩, ?_, ?_, ?_, ?_, ?_, ?_, ?_, ⟨?_, ?_, ?_⟩, ?_, ?_, ?_⟩
    · rw [si 21 (by decide), a00]; exact i21
    · rw [csI_s, a09]
    · rw [si 9 (by decide), a0 40 (Or.inl rfl), e1 9 (by decide) (by decide) (by decide) (by decide) (by decide) (by decide) (by decide) (by decide)]; exact r3
    · rw [si 11 (by decide), a0 50 (Or.inr rfl), e1 11 (by decide) (by decide) (by decide) (by decide) (by decide) (by decide) (by decide) (by decide)]; exact r4
    · rw [si 43 (by decide), ar 7 (by omega), e1 43 (by decide) (by decide) (by decide) (by decide) (by decide) (by decide) (by decide) (by decide)]; exact r5
    · intro k hk
      rw [z00] at hk
      omega
    · rw [z50, ar 33 (by omega)]
      show ∀ k, k < zN A 0 50 → σ'.2.1 16 k = _
      rw [e2 16 (by decide) (by decide) (by decide)]; exact p3
    · rw [ar 7 (by omega)]
      show ∀ k, k < 16 → σ'.2.1 47 k = _
      rw [e2 47 (by decide) (by decide) (by decide)]; exact p4
    · rw [ar 7 (by omega)]
      show ∀ k, k < 16 → σ'.2.1 48 k = _
      rw [e2 48 (by decide) (by decide) (by decide)]; exact p5
    · rw [ar 7 (by omega)]
      show ∀ k, k < 8 → σ'.2.1 49 k = _
      rw [e2 49 (by decide) (by decide) (by decide)]; exact p6
    · rw [z40, ar 27 (by omega)]
      intro i h hi hh
      show σ'.2.1 (74 + i) h = _
      rw [e2 (74 + i) (by omega) (by omega) (by omega)]; exact p7 i h hi hh
    · rw [z40, ar 27 (by omega)]
      intro i h hi hh
      show σ'.2.1 (94 + i) h = _
      rw [e2 (94 + i) (by omega) (by omega) (by omega)]; exact p8 i h hi hh
    · intro i hi
      show σ'.2.2.2 15 i = _
      rw [e4, lo _ (by omega)]; exact p9 i hi
    · intro i hi
      show σ'.2.2.2 17 i = _
      rw [e4, lo _ (by omega)]; exact p10 i hi
    · intro i hi
      show σ'.2.2.2 32 i = _
      rw [e4, lo _ (by omega)]; exact p11 i hi
    · rw [zz 7 1 (by rw [ar 7 (by omega)]), ar 7 (by omega)]
      exact p12.gr hG (lo _ (by decide)) (hno 51 (by decide)) hM.2.2.2.2.2.2.2 (by rw [si _ (by decide), e1 _ (by decide) (by decide) (by decide) (by decide) (by decide) (by decide) (by decide) (by decide)]) (by rw [si _ (by decide), e1 _ (by decide) (by decide) (by decide) (by decide) (by decide) (by decide) (by decide) (by decide)]) (by show σ'.2.2.2 51 = _; rw [e4]) (fun y hy => hi _ (by omega)) (fun _ _ => rfl)
    · rw [zz 7 2 (by rw [ar 7 (by omega)]), ar 7 (by omega)]
      exact p13.gr hG (lo _ (by decide)) (hno 53 (by decide)) hM.2.2.2.2.2.2.2 (by rw [si _ (by decide), e1 _ (by decide) (by decide) (by decide) (by decide) (by decide) (by decide) (by decide) (by decide)]) (by rw [si _ (by decide), e1 _ (by decide) (by decide) (by decide) (by decide) (by decide) (by decide) (by decide) (by decide)]) (by show σ'.2.2.2 53 = _; rw [e4]) (fun y hy => hi _ (by omega)) (fun _ _ => rfl)
    · intro s hs
      show (Aof τ2 18 (s + 1) = 0 ∧ σ'.2.2.2 9 s = none) ∨ (Aof τ2 18 (s + 1) = 1 ∧ ∃ a, σ'.2.2.2 9 s = some a ∧ SB B' a (rowL (Aof τ2) (s + 1)))
      rw [e4, ar 18 (by omega), ro]
      rcases p14 s hs with q | ⟨q1, q2, q3, q4⟩
      · exact Or.inl q
      · exact Or.inr ⟨q1, q2, q3, q4.gr hG⟩
  have lz : ∀ r, twA' r → ad1 r = ad r := fun r hr => hi r (by unfold twA' at hr; omega)
  refine ⟨⟨Aof τ2, ⟨hA1, B1.gr hW2 hG lz, hW2⟩, hK.gr hG hM.2.2.2.2.2.2.2, hCR, ?_⟩, hM.xt lo (by decide), ?_, ?_, fun a l o => hM.2.2.2.1 a l (fun z => o ((Own.lo lo).1 z))⟩
  · rw [eτ]; exact TR_of
  · have p2 := p0_2 (X := X') hA1 σ' (Int32.ofNat p)
    rw [lo 0 (by decide)] at p2
    have q7 : gfI (cM X' ad1 σ' B') e 10 7 = some (Int32.ofNat p) := F_gI (k := 7) f rfl
    have q6 : gfI (cM X' ad1 (csI σ' 2 (Int32.ofNat p)) B') e 10 6 = some k := F_gI (k := 6) f rfl
    rw [q7, Option.bind_some, p2, Option.bind_some, q6, Option.bind_some]
  · unfold t_X9_read_j54
    have i8 : (tsI τ' 0 0).1 8 = k := (tsI_n _ _ _ _ (by decide)).trans k8
    rw [nmE, i8, if_neg k0]
