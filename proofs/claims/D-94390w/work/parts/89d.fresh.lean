set_option maxRecDepth 100000
/-! fresh frozen objects; what lasts when B grows -/
variable {X : Nat → Option Ob} {ad ad' : Nat → Nat} {B B' : Sw} {A A' : Av} {σ σ' : Cs} {τ : Tw} {F : Nat}
theorem LR.gr {r z n : Nat} {e e' : Nat → Nat} {ob ob' : Nat → Ob} (h : LR ad B σ r z n e ob) (g : Gr B B') (ha : ad' (r + 1) = ad (r + 1)) (hb : B.1 (ad (r + 1)) = none → B'.1 (ad (r + 1)) = none) (hc : B'.2.2.2 = B.2.2.2) (h2 : σ'.1 (z + 2) = σ.1 (z + 2)) (h3 : σ'.1 (z + 3) = σ.1 (z + 3)) (hq : σ'.2.2.2 (r + 1) = σ.2.2.2 (r + 1)) (he : ∀ j, j < n → e' j = e j) (ho : ∀ j, j < n → ob' j = ob j) : LR ad' B' σ' r z n e' ob' := by
  obtain ⟨l1, l2, l3⟩ := h
  refine ⟨by rw [h2]; exact l1, ?_, fun j hj => ?_⟩
  · rw [ha, h3, hc]
    rcases l2 with ⟨a, b, c⟩ | l2
    · exact Or.inl ⟨hb a, b, c⟩
    · exact Or.inr l2
  · rw [hq, he j hj, ho j hj]
    exact ⟨(l3 j hj).1, g _ _ (l3 j hj).2⟩
/-- B grows, the state stays -/
theorem CR.gr (h : CR ad B A σ) (g : Gr B B') (hb : ∀ i, i < 114 → B.1 (ad i) = none → B'.1 (ad i) = none) (hc : B'.2.2.2 = B.2.2.2) : CR ad B' A σ := by
  obtain ⟨h1, h2, h3, h4, h5, h6, h7, h8, h9, h10, h11, h12⟩ := h
  refine ⟨h1, h2, h3, h4, h5, h6, h7, h8, h9, h10.gr g rfl (hb 51 (by omega)) hc rfl rfl rfl (fun _ _ => rfl) (fun _ _ => rfl), h11.gr g rfl (hb 53 (by omega)) hc rfl rfl rfl (fun _ _ => rfl) (fun _ _ => rfl), fun s hs => ?_⟩
  rcases h12 s hs with h | ⟨a, b, c, d⟩
  · exact Or.inl h
  · exact Or.inr ⟨a, b, c, d.gr g⟩
/-- a list has changed, and the state's row with it -/
theorem CR.la {r z : Nat} (hrz : (r = 50 ∧ z = 50) ∨ (r = 52 ∧ z = 60)) (h : CR ad B A σ) (hl : LA ad B σ ad' B' σ' r z) {ad2 : Nat → Nat} (e2 : ∀ i, i < 1500 → ad2 i = ad' i) {L : Nat → Int32} (hL0 : L 0 = A 7 0) (hL : ∀ k, (10 ≤ k ∧ k < 60) ∨ 420 ≤ k → L k = A 7 k) (hw : LR ad2 B' σ' 50 50 (zN (aw A 7 L) 7 1) (fun j => ad2 (1500 + j)) (fun j => .inr (18, [.int (L (60 + 3 * j)), .int (L (60 + 3 * j + 1)), .int (L (60 + 3 * j + 2))]))) (hg : LR ad2 B' σ' 52 60 (zN (aw A 7 L) 7 2) (fun j => ad2 (1600 + j)) (fun j => .inr (19, [.int (L (180 + 4 * j)), .int (L (180 + 4 * j + 1)), .int (L (180 + 4 * j + 2)), .int (L (180 + 4 * j + 3))]))) : CR ad2 B' (aw A 7 L) σ' := by
  obtain ⟨⟨p1, p2, p3, p4, p5⟩, h2, h3, h4, h5, h6, h7, h8, ⟨h9, h9', h9''⟩, h10, h11, h12⟩ := h
  obtain ⟨g1, g2, g3, g4, g5, g6, g7, g8, g9, g10, g11, g12, g13⟩ := hl
  have a2 : ∀ i, i < 1500 → i ≠ r + 1 → ad2 i = ad i := fun i a b => (e2 i a).trans (g3 i b)
  refine ⟨⟨?_, ?_, ?_, ?_, ?_⟩, ?_, ?_, ?_, ?_, ?_, ?_, ?_, ⟨fun j hj => ?_, fun j hj => ?_, fun j hj => ?_⟩, hw, hg, fun s hs => ?_⟩
  · rw [g4 21 (by omega) (by omega) (by omega)]; exact p1
  · rw [g4 2 (by omega) (by omega) (by omega)]; exact p2
  · rw [g4 9 (by omega) (by omega) (by omega)]; exact p3
  · rw [g4 11 (by omega) (by omega) (by omega)]; exact p4
  · rw [g4 43 (by omega) (by omega) (by omega), aw_s, hL0]; exact p5
  · rw [g5]; exact h2
  · rw [g5]; exact h3
  · rw [g5, aw_s]
    intro i hi
    rw [hL _ (by omega)]
    exact h4 i hi
  · rw [g5, aw_s]
    intro i hi
    rw [hL _ (by omega)]
    exact h5 i hi
  · rw [g5, aw_s]
    intro i hi
    rw [hL _ (by omega)]
    exact h6 i hi
  · rw [g5]; exact h7
  · rw [g5]; exact h8
  · rw [g7 15 (by omega), a2 _ (by omega) (by omega)]; exact h9 j hj
  · rw [g7 17 (by omega), a2 _ (by omega) (by omega)]; exact h9' j hj
  · rw [g7 32 (by omega), a2 _ (by omega) (by omega)]; exact h9'' j hj
  · rw [g7 9 (by omega)]
    rcases h12 s hs with h | ⟨a, b, c, d⟩
    · exact Or.inl h
    · refine Or.inr ⟨a, b, c, ?_⟩
      have : rowL (aw A 7 L) (s + 1) = rowL A (s + 1) := by
        funext k
        show aw A 7 L 7 (420 * (s + 1) + k) = A 7 (420 * (s + 1) + k)
        rw [aw_s, hL _ (by omega)]
      rw [this]
      exact d.gr g2
/-- a fresh cell of B -/
def fz (B : Sw) (o : Ob) (s : Nat) : Sw := (mup B.1 B.2.1 o, B.2.1 + 1, B.2.2.1 + s, B.2.2.2)
theorem mup_mup {M : Nat → Option Ob} {a : Nat} {o o' : Ob} : mup (mup M a o) a o' = mup M a o' := by
  funext b
  by_cases h : b = a
  · rw [h, mup_eq, mup_eq]
  · rw [mup_ne h, mup_ne h, mup_ne h]
theorem cM_fr {o : Ob} {s : Nat} : (mup (cM X ad σ B).1 B.2.1 o, (B.2.1 + 1, B.2.2.1 + s, B.2.2.2)) = cM X ad σ (fz B o s) := by
  refine Prod.ext (funext fun b => ?_) rfl
  show mup (cM X ad σ B).1 B.2.1 o b = _
  rw [cM_1]
  show _ = match mup B.1 B.2.1 o b with | some o => some o | none => match rl ad b with | some r => some (cB ad σ r) | none => X b
  by_cases h : b = B.2.1
  · rw [h, mup_eq, mup_eq]
  · rw [mup_ne h, mup_ne h, cM_1]
    rfl
theorem fz_gr (hA : AdOK ad B) {o : Ob} {s : Nat} : Gr B (fz B o s) := fun a o' h => by
  have := hA.lt h
  show mup B.1 B.2.1 o a = _
  rw [mup_ne (by omega)]
  exact h
theorem fz_no (hA : AdOK ad B) {o : Ob} {s : Nat} {i : Nat} (hi : i < 114) : (fz B o s).1 (ad i) = B.1 (ad i) := by
  have := hA.2.2.1 i hi
  exact mup_ne (by omega)
theorem fz_ad (hA : AdOK ad B) {o : Ob} {s : Nat} : AdOK ad (fz B o s) := by
  refine ⟨fun r r' h h' hb he => hA.1 r r' h h' (by rw [← fz_no hA h]; exact hb) he, fun r h x y => (fz_no hA h).trans (hA.2.1 r h x y), fun r h => ?_, fun a ha => ?_⟩
  · have := hA.2.2.1 r h
    show ad r < B.2.1 + 1
    omega
  · have ha : B.2.1 + 1 ≤ a := ha
    show mup B.1 B.2.1 o a = none
    rw [mup_ne (by omega)]
    exact hA.2.2.2 a (by omega)
theorem fz_own {o : Ob} {s : Nat} {a : Nat} (h : Own ad (fz B o s) a) : Own ad B a ∨ B.2.1 ≤ a := by
  rcases h with h | h
  · by_cases e : a = B.2.1
    · exact Or.inr (by omega)
    · have e1 : (fz B o s).1 a = B.1 a := mup_ne e
      rw [e1] at h
      exact Or.inl (Or.inl h)
  · exact Or.inl (Or.inr h)
theorem new18 {a b c : Int32} : f_X18_init F B.2.1 a b c (nw (cM X ad σ B) (.inr (18, dfX18)) 3) = some (cM X ad σ (fz B (.inr (18, [.int a, .int b, .int c])) 3)) := by
  unfold f_X18_init f_J3_init
  have s0 : (nw (cM X ad σ B) (.inr (18, dfX18)) 3).1 B.2.1 = some (.inr (18, dfX18)) := mup_eq
  rw [Option.bind_some, m_pf s0 (show 0 < 3 by omega), Option.bind_some, m_pf mup_eq (show 1 < 3 by omega), Option.bind_some, m_pf mup_eq (show 2 < 3 by omega), Option.bind_some]
  rw [← cM_fr]
  show some (mup (mup (mup (mup (cM X ad σ B).1 B.2.1 _) B.2.1 _) B.2.1 _) B.2.1 _, _) = _
  rw [mup_mup, mup_mup, mup_mup]
  rfl
theorem new19 {a b c d : Int32} : f_X19_init F B.2.1 a b c d (nw (cM X ad σ B) (.inr (19, dfX19)) 4) = some (cM X ad σ (fz B (.inr (19, [.int a, .int b, .int c, .int d])) 4)) := by
  unfold f_X19_init f_J3_init
  have s0 : (nw (cM X ad σ B) (.inr (19, dfX19)) 4).1 B.2.1 = some (.inr (19, dfX19)) := mup_eq
  rw [Option.bind_some, m_pf s0 (show 0 < 4 by omega), Option.bind_some, m_pf mup_eq (show 1 < 4 by omega), Option.bind_some, m_pf mup_eq (show 2 < 4 by omega), Option.bind_some, m_pf mup_eq (show 3 < 4 by omega), Option.bind_some]
  rw [← cM_fr]
  show some (mup (mup (mup (mup (mup (cM X ad σ B).1 B.2.1 _) B.2.1 _) B.2.1 _) B.2.1 _) B.2.1 _, _) = _
  rw [mup_mup, mup_mup, mup_mup, mup_mup]
  rfl
/-- the addresses that the memory sees -/
theorem cM_hi {ad2 : Nat → Nat} (e : ∀ i, i < 1000 → ad2 i = ad i) : cM X ad2 σ B = cM X ad σ B := by
  have h1 : ∀ a, rl ad2 a = rl ad a := fun a => by
    unfold rl
    have : ∀ l : List Nat, (∀ i ∈ l, i < 1000) → l.find? (fun r => ad2 r == a) = l.find? (fun r => ad r == a) := by
      intro l
      induction l with
      | nil => intro _; rfl
      | cons i l ih =>
        intro h
        rw [List.find?_cons, List.find?_cons, e i (h i (List.mem_cons_self ..)), ih fun j hj => h j (List.mem_cons_of_mem _ hj)]
    exact this _ fun i hi => by
      rw [List.mem_range] at hi
      omega
  have h2 : ∀ r, r < 114 → cB ad2 σ r = cB ad σ r := fun r hr => by
    unfold cB
    have : (cK σ r).1 = 0 → cO ad2 σ r = cO ad σ r := fun h0 => by
      rcases kind0 hr h0 with q | q | q | q | q | q | q | q | q
      · subst q; unfold cO; rw [e 1 (by omega), e 6 (by omega), e 114 (by omega), e 46 (by omega), e 9 (by omega), e 10 (by omega), e 12 (by omega), e 15 (by omega), e 16 (by omega), e 17 (by omega), e 27 (by omega), e 28 (by omega), e 29 (by omega), e 30 (by omega), e 31 (by omega), e 32 (by omega)]; rfl
      · subst q; unfold cO; rw [e 2 (by omega), e 3 (by omega), e 4 (by omega), e 5 (by omega)]; rfl
      · subst q; unfold cO; rw [e 1 (by omega), e 130 (by omega), e 7 (by omega), e 8 (by omega)]; rfl
      · subst q; unfold cO; rw [e 11 (by omega)]; rfl
      · subst q; unfold cO; rw [e 13 (by omega), e 14 (by omega)]; rfl
      · subst q; unfold cO; rw [e 47 (by omega), e 48 (by omega), e 49 (by omega), e 50 (by omega), e 52 (by omega)]; rfl
      · subst q; unfold cO; rw [e 51 (by omega)]; rfl
      · subst q; unfold cO; rw [e 53 (by omega)]; rfl
      · rw [cO_54 q, cO_54 q, e _ (by omega), e _ (by omega)]
    by_cases h0 : (cK σ r).1 = 0
    · rw [if_pos h0, if_pos h0, this h0]
    · rw [if_neg h0, if_neg h0]
  refine Prod.ext (funext fun a => ?_) rfl
  rw [cM_1, cM_1, h1]
  cases B.1 a with
  | some o => rfl
  | none =>
    cases hq : rl ad a with
    | none => rfl
    | some r =>
      show some (cB ad2 σ r) = some (cB ad σ r)
      rw [h2 r (rl_some hq).1]
theorem AdOK.hi (h : AdOK ad B) {ad2 : Nat → Nat} (e : ∀ i, i < 1000 → ad2 i = ad i) : AdOK ad2 B := by
  refine ⟨fun r r' h1 h2 hb he => ?_, fun r h1 x y => ?_, fun r h1 => ?_, h.2.2.2⟩
  · rw [e r (by omega)] at hb he
    rw [e r' (by omega)] at he
    exact h.1 r r' h1 h2 hb he
  · rw [e r (by omega)]; exact h.2.1 r h1 x y
  · rw [e r (by omega)]; exact h.2.2.1 r h1
