set_option maxRecDepth 100000
/-! the reading's end: the town that was told is frozen, and takes hold -/
variable {X X' X2 : Nat → Option Ob} {ad ad' : Nat → Nat} {B B' B2 : Sw} {A A' A2 : Av} {σ σ' σ2 : Cs} {τ τ' τ2 : Tw} {F : Nat} {c pl : Nat → Nat} {last j lo : Nat} {g : Nat → Nat} {ob : Nat → Ob} {D : Dn}
def frG (B : Sw) (X : Nat → Option Ob) (g : Nat → Nat) : Sw := (fun b => match B.1 b with
  | some o => some o
  | none => if (List.range 14).any (fun x => g x == b) = true then X b else none, B.2)
theorem frG_s {b : Nat} {o : Ob} (h : B.1 b = some o) : (frG B X g).1 b = some o := by
  show (match B.1 b with | some o => some o | none => if (List.range 14).any (fun x => g x == b) = true then X b else none) = some o
  rw [h]
theorem frG_n {b : Nat} (h : B.1 b = none) : (frG B X g).1 b = if (List.range 14).any (fun x => g x == b) = true then X b else none := by
  show (match B.1 b with | some o => some o | none => if (List.range 14).any (fun x => g x == b) = true then X b else none) = _
  rw [h]
theorem any14 {b : Nat} : (List.range 14).any (fun x => g x == b) = true ↔ ∃ x, x < 14 ∧ g x = b := by
  rw [List.any_eq_true]
  constructor
  · rintro ⟨x, h1, h2⟩
    exact ⟨x, List.mem_range.1 h1, by simpa using h2⟩
  · rintro ⟨x, h1, h2⟩
    exact ⟨x, List.mem_range.2 h1, by simpa using h2⟩
theorem frG_gr : Gr B (frG B X g) := fun _ _ h => frG_s h
theorem TC.un (h : TC ad lo X B g ob) (hK : KB B) {x b : Nat} (hx : x < 14) (e : g x = b) (hb : B.1 b = none) : ¬ Own ad B (g x) ∧ g x < B.2.1 ∧ lo ≤ g x ∧ X (g x) = some (ob x) := by
  rcases h.1 x hx with q | ⟨-, -, q⟩
  · exact q
  · rw [← e, q, hK.1] at hb
    cases hb
theorem frG_at (h : TC ad lo X B g ob) {x : Nat} (hx : x < 14) (ho : ¬ Own ad B (g x)) (hxx : X (g x) = some (ob x)) : (frG B X g).1 (g x) = some (ob x) := by
  rw [frG_n (no_B ho), if_pos (any14.2 ⟨x, hx, rfl⟩)]
  exact hxx
theorem frG_no (h : TC ad lo X B g ob) (hK : KB B) {r : Nat} (hr : r < 114) : (frG B X g).1 (ad r) = B.1 (ad r) := by
  cases hb : B.1 (ad r) with
  | some o => exact frG_s hb
  | none =>
    rw [frG_n hb, if_neg]
    intro q
    obtain ⟨x, hx, e⟩ := any14.1 q
    exact (h.un hK hx e hb).1 (Or.inr ⟨r, hr, e.symm⟩)
theorem frG_eq (h : TC ad lo X B g ob) (hK : KB B) : cM X ad σ B = cM X ad σ (frG B X g) := by
  refine Prod.ext (funext fun b => ?_) rfl
  rw [cM_1, cM_1]
  cases hb : B.1 b with
  | some o => rw [frG_s hb]
  | none =>
    rw [frG_n hb]
    by_cases q : (List.range 14).any (fun x => g x == b) = true
    · obtain ⟨x, hx, e⟩ := any14.1 q
      obtain ⟨h1, -, -, h4⟩ := h.un hK hx e hb
      rw [e] at h1 h4
      rw [if_pos q, rl_none (no_r h1), h4]
    · rw [if_neg q]
theorem frG_ad (hA : AdOK ad B) (h : TC ad lo X B g ob) (hK : KB B) : AdOK ad (frG B X g) := by
  refine ⟨fun r r' q q' hb he => hA.1 r r' q q' (by rw [← frG_no h hK q]; exact hb) he, fun r q x y => (frG_no h hK q).trans (hA.2.1 r q x y), hA.2.2.1, fun q hq => ?_⟩
  have hq : B.2.1 ≤ q := hq
  have hb := hA.2.2.2 q hq
  rw [frG_n hb, if_neg]
  intro z
  obtain ⟨x, hx, e⟩ := any14.1 z
  have := (h.un hK hx e hb).2.1
  omega
theorem frG_own (h : TC ad lo X B g ob) (hK : KB B) {a : Nat} (q : Own ad (frG B X g) a) : Own ad B a ∨ lo ≤ a := by
  rcases q with q | q
  · cases hb : B.1 a with
    | some o => exact Or.inl (Or.inl (by rw [hb]; exact fun z => by cases z))
    | none =>
      rw [frG_n hb] at q
      by_cases z : (List.range 14).any (fun x => g x == a) = true
      · obtain ⟨x, hx, e⟩ := any14.1 z
        have := (h.un hK hx e hb).2.2.1
        exact Or.inr (by omega)
      · rw [if_neg z] at q
        exact absurd rfl q
  · exact Or.inl (Or.inr q)
/-- a list of the town, frozen -/
theorem LI.lb (h : TC ad lo X B g ob) (hK : KB B) {i n : Nat} {e : Nat → Nat} (hi : i < 5) (hL : LI B g ob i n e) (hn : n < 1000) : LB (frG B X g) (g (1 + i)) n e := by
  obtain ⟨md, cap, f, h1, h2, h3⟩ := hL
  obtain ⟨a1, a2, a3, a4⟩ := h.at (x := 1 + i) (by omega) (by omega)
  have e1 := frG_at h (x := 1 + i) (by omega) a1 a4
  rw [h1] at e1
  rcases h2 with ⟨k1, k2⟩ | ⟨k1, k2, k3, k4, k5⟩
  · refine ⟨by omega, md, g (6 + i), 0, 12, fun _ => none, e1, ?_, fun z => absurd k1 z, Or.inr rfl, by omega, by omega, fun y hy => by omega⟩
    rw [k2]
    exact frG_s hK.1
  · rcases h.1 (6 + i) (by omega) with ⟨b1, b2, b3, b4⟩ | ⟨-, -, b⟩
    · have e2 := frG_at h (x := 6 + i) (by omega) b1 b4
      rw [k2] at e2
      exact ⟨by omega, md, g (6 + i), cap, 6, f, e1, e2, fun _ => rfl, Or.inl rfl, k3, by omega, k5⟩
    · exact absurd b k1
/-- the town's addresses when it holds -/
def adT (ad g : Nat → Nat) (D : Dn) : Nat → Nat := fun r => if r = 114 then g 0 else if 115 ≤ r ∧ r < 120 then g (r - 114) else if r = 120 then g 11 else if r = 121 then g 12 else if r = 122 then g 13 else if 123 ≤ r ∧ r < 126 then D.2.2.2.2 (r - 123) else if 1000 ≤ r ∧ r < 1500 then D.2.1 ((r - 1000) / 100) (r % 100) else ad r
theorem adT_lo {r : Nat} (h : r < 114 ∨ (126 ≤ r ∧ r < 1000) ∨ 1500 ≤ r) : adT ad g D r = ad r := by
  unfold adT
  rw [if_neg (by omega), if_neg (by omega), if_neg (by omega), if_neg (by omega), if_neg (by omega), if_neg (by omega), if_neg (by omega)]
theorem adT_l {i : Nat} (h : i < 5) : adT ad g D (115 + i) = g (1 + i) := by
  unfold adT
  rw [if_neg (by omega), if_pos (by omega)]
  congr 1
  omega
theorem adT_t {w : Nat} (h : w < 3) : adT ad g D (123 + w) = D.2.2.2.2 w := by
  unfold adT
  rw [if_neg (by omega), if_neg (by omega), if_neg (by omega), if_neg (by omega), if_neg (by omega), if_pos (by omega), Nat.add_sub_cancel_left]
theorem adT_e {i k : Nat} (h : i < 5) (hk : k < 100) : adT ad g D (1000 + 100 * i + k) = D.2.1 i k := by
  unfold adT
  rw [if_neg (by omega), if_neg (by omega), if_neg (by omega), if_neg (by omega), if_neg (by omega), if_neg (by omega), if_pos (by omega)]
  congr 1
  · congr 1
    omega
  · omega
/-- the main object's town is another one -/
theorem p0_3 (hA : AdOK ad B) (hlo : ∀ i, i < 114 → ad' i = ad i) (h130 : ad' 130 = ad 130) : pf (cM X ad σ B) (ad 0) 0 3 (.ref (ad' 114)) = some (cM X ad' σ B) := by
  have hb0 : B.1 (ad 0) = none := hA.2.1 0 (by decide) (by decide) (by decide)
  have h0 : (cM X ad σ B).1 (ad 0) = some (.inr (cO ad σ 0)) := by
    rw [cM_at hA (by decide) (by decide) (by decide), cB_o rfl]
  have hpf : pf (cM X ad σ B) (ad 0) 0 3 (.ref (ad' 114)) = some (mup (cM X ad σ B).1 (ad 0) (.inr (0, (cO ad σ 0).2.set 3 (.ref (ad' 114)))), (cM X ad σ B).2) := m_pf h0 (show 3 < 20 by decide)
  have cb : ∀ i, i < 114 → i ≠ 0 → cB ad' σ i = cB ad σ i := fun i hl hi => by
    by_cases z : (cK σ i).1 = 0
    · rw [cB_o z, cB_o z]
      have e : cO ad' σ i = cO ad σ i := by
        rcases kind0 hl z with e | e | e | e | e | e | e | e | e
        · exact absurd e hi
        · subst e
          unfold cO
          rw [hlo 2 (by decide), hlo 3 (by decide), hlo 4 (by decide), hlo 5 (by decide)]
        · subst e
          unfold cO
          rw [hlo 1 (by decide), hlo 7 (by decide), hlo 8 (by decide), h130]
        · subst e
          unfold cO
          rw [hlo 11 (by decide)]
        · subst e
          unfold cO
          rw [hlo 13 (by decide), hlo 14 (by decide)]
        · subst e
          unfold cO
          rw [hlo 47 (by decide), hlo 48 (by decide), hlo 49 (by decide), hlo 50 (by decide), hlo 52 (by decide)]
        · subst e
          unfold cO
          rw [hlo 51 (by decide)]
        · subst e
          unfold cO
          rw [hlo 53 (by decide)]
        · rw [cO_54 e, cO_54 e, hlo _ (by omega), hlo _ (by omega)]
      rw [e]
    · unfold cB
      rw [if_neg z, if_neg z]
  rw [hpf]
  refine congrArg some (cM_of (hA.lo hlo) rfl (fun a o h => ?_) (fun r hr hb => ?_) (fun a hb hx => ?_))
  · have : a ≠ ad 0 := fun e => by rw [e, hb0] at h; cases h
    show mup (cM X ad σ B).1 (ad 0) _ a = _
    rw [mup_ne this]
    exact cM_fz h
  · rw [hlo r hr] at hb ⊢
    show mup (cM X ad σ B).1 (ad 0) _ (ad r) = _
    by_cases r0 : r = 0
    · subst r0
      rw [mup_eq, cB_o rfl]
      unfold cO
      rw [hlo 1 (by decide), hlo 6 (by decide), hlo 46 (by decide), hlo 9 (by decide), hlo 10 (by decide), hlo 12 (by decide), hlo 15 (by decide), hlo 16 (by decide), hlo 17 (by decide), hlo 27 (by decide), hlo 28 (by decide), hlo 29 (by decide), hlo 30 (by decide), hlo 31 (by decide), hlo 32 (by decide)]
      rfl
    · have : ad r ≠ ad 0 := fun e => r0 (hA.1 r 0 hr (by decide) hb e)
      rw [mup_ne this, cM_rl hA hr hb, cb r hr r0]
  · have n0 : a ≠ ad 0 := fun e => hx 0 (by decide) (by rw [hlo 0 (by decide), e])
    show mup (cM X ad σ B).1 (ad 0) _ a = _
    rw [mup_ne n0, cM_1, hb, rl_none (fun r hr e => hx r hr (by rw [hlo r hr]; exact e))]
/-- the town holds: as it was told -/
theorem TWD.tb {m l : Nat} (h : TWD ad lo X B g ob D) (hK : KB B) (hC : CNT A D) (hD : DT A B D m l) (hm : m ≤ 500) (hl : l ≤ 200) (h6 : ∀ k, k < 210 → A2 6 k = A 6 k) (ha : AG m l A A2) : TB (adT ad g D) (frG B X g) A2 := by
  obtain ⟨hT, h0, hL, h11, h12, h13⟩ := h
  obtain ⟨⟨c0, n0⟩, ⟨c1, n1⟩, ⟨c2, n2⟩, ⟨c3, n3⟩, ⟨c4, n4⟩, ⟨c5, n5⟩, ⟨c8, n8⟩, c9, n9⟩ := hC
  obtain ⟨D1, ⟨L0, L1, L2⟩, D3, D4, D5, D6, D7, D8, D9⟩ := hD
  have z : ∀ k, k < 210 → zN A2 6 k = zN A 6 k := fun k hk => by unfold zN; rw [h6 k hk]
  have z0 : zN A2 6 0 = D.1 0 := by rw [z 0 (by decide)]; unfold zN; rw [c0]; exact i_cl (n := 100) (by omega) (by decide)
  have z1 : zN A2 6 1 = D.1 1 := by rw [z 1 (by decide)]; unfold zN; rw [c1]; exact i_cl (n := 100) (by omega) (by decide)
  have z3 : zN A2 6 3 = D.1 3 := by rw [z 3 (by decide)]; unfold zN; rw [c3]; exact i_cl (n := 100) (by omega) (by decide)
  have z4 : zN A2 6 4 = D.1 4 := by rw [z 4 (by decide)]; unfold zN; rw [c4]; exact i_cl (n := 100) (by omega) (by decide)
  have z5 : zN A2 6 5 = D.1 5 := by rw [z 5 (by decide)]; unfold zN; rw [c5]; exact i_cl (n := 100) (by omega) (by decide)
  have z8 : zN A2 6 8 = D.1 8 := by rw [z 8 (by decide)]; unfold zN; rw [c8]; exact i_cl (n := 100) (by omega) (by decide)
  have z9 : zN A2 6 9 = D.1 9 := by rw [z 9 (by decide)]; unfold zN; rw [c9]; exact i_cl (n := 100) (by omega) (by decide)
  have at0 : ∀ x, (x < 6 ∨ 11 ≤ x) → x < 14 → (frG B X g).1 (g x) = some (ob x) := fun x hx h14 => by
    obtain ⟨a1, a2, a3, a4⟩ := hT.at hx h14
    exact frG_at hT h14 a1 a4
  have lb : ∀ i, i < 5 → D.1 (cx i) ≤ 50 → LB (frG B X g) (adT ad g D (115 + i)) (D.1 (cx i)) (fun k => adT ad g D (1000 + 100 * i + k)) := fun i hi hn => by
    rw [adT_l hi]
    exact ((hL i hi).lb hT hK hi (by omega)).cg fun k hk => adT_e hi (by omega)
  have el : ∀ i k, i < 5 → k < 100 → adT ad g D (1000 + 100 * i + k) = D.2.1 i k := fun i k hi hk => adT_e hi hk
  have gr : Gr B (frG B X g) := frG_gr
  refine ⟨?_, ⟨?_, fun k hk => ?_⟩, ⟨?_, fun k hk => ?_⟩, ⟨?_, fun k hk => ?_⟩, ⟨?_, ?_⟩, ⟨?_, ?_⟩, ?_, ?_, ?_, ?_, ?_⟩
  · show (frG B X g).1 (g 0) = some (.inr (3, [.ref (g 1), .ref (g 2), .ref (g 3), .ref (g 4), .ref (g 5), .ref (g 11), .int (A2 6 1), .ref (g 12), .int (A2 6 2), .ref (g 13), .int (A2 6 4), .int (A2 6 6), .int (A2 6 7), .ref (D.2.2.2.2 0), .ref (D.2.2.2.2 1), .ref (D.2.2.2.2 2)]))
    rw [at0 0 (by omega) (by omega), h0, h6 1 (by decide), h6 2 (by decide), h6 4 (by decide), h6 6 (by decide), h6 7 (by decide), c1, c2, c4, ← D1.1.1, ← D1.2.1]
    rfl
  · rw [z0]; exact lb 0 (by decide) (show D.1 0 ≤ 50 by omega)
  · rw [z0] at hk
    rw [show (1000 + k) = 1000 + 100 * 0 + k by omega, el 0 k (by decide) (by omega), h6 _ (by omega), h6 _ (by omega), h6 _ (by omega)]
    exact gr _ _ (D3.1 k hk).1
  · rw [z3]; exact lb 1 (by decide) (show D.1 3 ≤ 50 by omega)
  · rw [z3] at hk
    rw [show (1100 + k) = 1000 + 100 * 1 + k by omega, el 1 k (by decide) (by omega), h6 _ (by omega), h6 _ (by omega), h6 _ (by omega)]
    exact gr _ _ (D6 k hk).1
  · rw [z5]; exact lb 2 (by decide) (show D.1 5 ≤ 50 by omega)
  · rw [z5] at hk
    rw [show (1200 + k) = 1000 + 100 * 2 + k by omega, el 2 k (by decide) (by omega), h6 _ (by omega), h6 _ (by omega)]
    exact gr _ _ (D8.1 k hk).1
  · rw [z8]; exact lb 3 (by decide) (show D.1 8 ≤ 50 by omega)
  · rw [z8]
    have := (D9.1.of (B' := frG B X g) gr ha (fun k hk => h6 _ (by omega)) (Nat.le_refl m) (Nat.le_refl l)).b hm hl
    intro k hk
    have e := el 3 k (by decide) (by omega)
    show ∃ (f0 : Nat) (ns : List Nat), AnyB A2 (frG B X g) (adT ad g D (1300 + k)) f0 ns ∧ _
    rw [show (1300 + k) = 1000 + 100 * 3 + k by omega, e]
    exact this k hk
  · rw [z9]; exact lb 4 (by decide) (show D.1 9 ≤ 50 by omega)
  · rw [z9]
    have := (D9.2.of (B' := frG B X g) gr ha (fun k hk => h6 _ (by omega)) (Nat.le_refl m) (Nat.le_refl l)).b hm hl
    intro k hk
    have e := el 4 k (by decide) (by omega)
    show ∃ (f0 : Nat) (ns : List Nat), AnyB A2 (frG B X g) (adT ad g D (1400 + k)) f0 ns ∧ _
    rw [show (1400 + k) = 1000 + 100 * 4 + k by omega, e]
    exact this k hk
  · refine ⟨D.2.2.1 11, ?_, fun o ho => ?_⟩
    · show (frG B X g).1 (g 11) = _
      rw [at0 11 (by omega) (by omega), h11]
    · rw [z1] at ho
      rw [h6 _ (by omega)]
      exact (D4 o ho).1
  · refine ⟨D.2.2.1 13, ?_, fun x hx => ?_⟩
    · show (frG B X g).1 (g 13) = _
      rw [at0 13 (by omega) (by omega), h13]
    · rw [z4]
      rcases D7.1 x hx with ⟨a1, q, a2, a3⟩ | ⟨a1, a2⟩
      · exact Or.inl ⟨a1, q, a2, by rw [h6 _ (by omega)]; exact a3⟩
      · exact Or.inr ⟨a1, fun q hq => by rw [h6 _ (by omega)]; exact a2 q hq⟩
  · rw [show (123 : Nat) = 123 + 0 from rfl, adT_t (by decide)]
    exact (L0.of (B' := frG B X g) gr ha (h6 _ (by decide)) (h6 _ (by decide)) (Nat.le_refl m)).b hm
  · rw [show (124 : Nat) = 123 + 1 from rfl, adT_t (by decide)]
    exact (L1.of (B' := frG B X g) gr ha (h6 _ (by decide)) (h6 _ (by decide)) (Nat.le_refl m)).b hm
  · rw [show (125 : Nat) = 123 + 2 from rfl, adT_t (by decide)]
    exact (L2.of (B' := frG B X g) gr ha (h6 _ (by decide)) (h6 _ (by decide)) (Nat.le_refl m)).b hm
/-- the town's ranges -/
theorem DT.wf {m l : Nat} (hC : CNT A D) (hD : DT A B D m l) (h6 : ∀ k, k < 210 → A2 6 k = A 6 k) : WFt A2 ∧ zN A2 6 0 = D.1 0 ∧ zN A2 6 1 = D.1 1 := by
  obtain ⟨⟨c0, n0⟩, ⟨c1, n1⟩, ⟨c2, n2⟩, ⟨c3, n3⟩, ⟨c4, n4⟩, ⟨c5, n5⟩, ⟨c8, n8⟩, c9, n9⟩ := hC
  obtain ⟨D1, -, D3, D4, D5, D6, D7, D8, D9⟩ := hD
  have z : ∀ k, k < 210 → zN A2 6 k = zN A 6 k := fun k hk => by unfold zN; rw [h6 k hk]
  have zz : ∀ k n, k < 210 → A 6 k = Int32.ofNat n → n < 1000 → zN A2 6 k = n := fun k n hk e hn => by rw [z k hk]; unfold zN; rw [e]; exact i_cl (n := 1000) hn (by decide)
  have z0 := zz 0 _ (by decide) c0 (by omega)
  have z1 := zz 1 _ (by decide) c1 (by omega)
  have z3 := zz 3 _ (by decide) c3 (by omega)
  have z4 := zz 4 _ (by decide) c4 (by omega)
  have z5 := zz 5 _ (by decide) c5 (by omega)
  have iN : ∀ k n mx, k < 210 → A 6 k = Int32.ofNat n → n ≤ mx → mx < 1000 → isN (A2 6 k) mx := fun k n mx hk e hn hm => by rw [h6 k hk, e]; exact isN.of hn (by omega)
  refine ⟨⟨⟨iN 0 _ _ (by decide) c0 n0 (by decide), iN 1 _ _ (by decide) c1 n1 (by decide), iN 3 _ _ (by decide) c3 n3 (by decide), iN 4 _ _ (by decide) c4 n4 (by decide), iN 5 _ _ (by decide) c5 n5 (by decide), by rw [h6 6 (by decide)]; exact D1.1.2.1, by rw [h6 7 (by decide)]; exact D1.2.2.1, iN 8 _ _ (by decide) c8 n8 (by decide), iN 9 _ _ (by decide) c9 n9 (by decide), by rw [z 6 (by decide)]; exact D1.1.2.2, by rw [z 7 (by decide)]; exact D1.2.2.2⟩, fun x hx => ?_, fun o ho => ?_, fun s hs => ?_, fun q hq => ?_, fun w hw => ?_⟩, z0, z1⟩
  · rw [z0] at hx
    rw [h6 _ (by omega), h6 _ (by omega), h6 _ (by omega)]
    exact (D3.1 x hx).2
  · rw [z1] at ho
    rw [h6 _ (by omega)]
    exact (D4 o ho).2
  · rw [z3] at hs
    obtain ⟨-, ⟨y, y1, y2⟩, a3, a4⟩ := D6 s hs
    rw [z0, h6 _ (by omega), h6 _ (by omega), h6 _ (by omega), zz _ y (by omega) y2 (by omega)]
    refine ⟨by rw [y2]; exact isN.of (by omega) (by decide), y1, ?_, a4⟩
    rcases a3 with a3 | ⟨w, w1, w2⟩
    · exact Or.inl a3
    · exact Or.inr ⟨by rw [w2]; exact isN.of (by omega) (by decide), by rw [zz _ w (by omega) w2 (by omega)]; exact w1⟩
  · rw [z4] at hq
    obtain ⟨y, y1, y2⟩ := D7.2 q hq
    rw [z0, h6 _ (by omega), zz _ y (by omega) y2 (by omega)]
    exact ⟨by rw [y2]; exact isN.of (by omega) (by decide), y1⟩
  · rw [z5] at hw
    obtain ⟨-, a1, a2, -⟩ := D8.1 w hw
    rw [h6 _ (by omega), z _ (by omega)]
    exact ⟨a1, a2⟩
