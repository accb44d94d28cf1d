set_option maxRecDepth 100000
/-! the town that is being told: its data, on both sides (no program here) -/
variable {ad : Nat → Nat} {B B' : Sw} {A A' : Av} {D D' : Dn} {m m' l l' : Nat}
/-- a law's tree, with a bound for its code -/
def LawU (A : Av) (B : Sw) (t w : Nat) (c0 : Int32 × Int32) (u : Nat) : Prop := ∃ (d : Nat) (c : Cd), TrB B d t c ∧ d ≤ 410 ∧
  ((A 6 (10 + 2 * w) = -1 ∧ c = [c0]) ∨ ∃ f0, A 6 (10 + 2 * w) = Int32.ofNat f0 ∧ A 6 (10 + 2 * w + 1) = Int32.ofNat (f0 + c.length) ∧ cAt A f0 c ∧ f0 + c.length ≤ u)
def RuleU (A : Av) (B : Sw) (base n : Nat) (e : Nat → Nat) (u l : Nat) : Prop := ∀ k, k < n → ∃ (f0 : Nat) (ns : List Nat), AnyU A B (e k) f0 ns u ∧ A 6 (base + 2 * k) = Int32.ofNat f0 ∧ A 6 (base + 2 * k + 1) = Int32.ofNat (f0 + ns.sum) ∧ f0 + ns.sum ≤ l
theorem LawU.of {t w : Nat} {c0 : Int32 × Int32} (h : LawU A B t w c0 m) (g : Gr B B') (ha : AG m l A A') (h1 : A' 6 (10 + 2 * w) = A 6 (10 + 2 * w)) (h2 : A' 6 (10 + 2 * w + 1) = A 6 (10 + 2 * w + 1)) (hm : m ≤ m') : LawU A' B' t w c0 m' := by
  obtain ⟨d, c, a1, a2, a3⟩ := h
  refine ⟨d, c, a1.gr g, a2, ?_⟩
  rw [h1, h2]
  rcases a3 with a3 | ⟨f0, b1, b2, b3, b4⟩
  · exact Or.inl a3
  · exact Or.inr ⟨f0, b1, b2, cAt_ag ha _ _ b4 b3, by omega⟩
theorem LawU.b {t w : Nat} {c0 : Int32 × Int32} (h : LawU A B t w c0 m) (hm : m ≤ 500) : LawB A B t w c0 := by
  obtain ⟨d, c, a1, a2, a3⟩ := h
  refine ⟨d, c, a1, a2, ?_⟩
  rcases a3 with a3 | ⟨f0, b1, b2, b3, b4⟩
  · exact Or.inl a3
  · exact Or.inr ⟨f0, b1, b2, b3, by omega⟩
theorem RuleU.of {base n : Nat} {e : Nat → Nat} (h : RuleU A B base n e m l) (g : Gr B B') (ha : AG m l A A') (h6 : ∀ k, k < 2 * n → A' 6 (base + k) = A 6 (base + k)) (hm : m ≤ m') (hl : l ≤ l') : RuleU A' B' base n e m' l' := by
  intro k hk
  obtain ⟨f0, ns, a1, a2, a3, a4⟩ := h k hk
  refine ⟨f0, ns, ((a1.ag ha a4).up hm).gr g, ?_, ?_, by omega⟩
  · rw [h6 (2 * k) (by omega)]; exact a2
  · rw [show base + 2 * k + 1 = base + (2 * k + 1) by omega, h6 (2 * k + 1) (by omega)]; exact a3
theorem RuleU.b {base n : Nat} {e : Nat → Nat} (h : RuleU A B base n e m l) (hm : m ≤ 500) (hl : l ≤ 200) : RuleB A B base n e := by
  intro k hk
  obtain ⟨f0, ns, a1, a2, a3, a4⟩ := h k hk
  exact ⟨f0, ns, a1.b hm, a2, a3, by omega⟩
/-- who holds which office, as told in rows -/
def ofA (A : Av) : Nat → Nat → Int32
  | 0 => fun j => if j < 16 then -1 else 0
  | i + 1 => upd (gvF (A 6 (90 + 2 * i + 1)) (ofA A i)) (zN A 6 (90 + 2 * i)) (A 6 (90 + 2 * i + 1))
theorem ofA_of : ∀ n, (∀ k, k < 2 * n → A' 6 (90 + k) = A 6 (90 + k)) → ofA A' n = ofA A n
  | 0, _ => rfl
  | n + 1, h => by
    have e1 := h (2 * n) (by omega)
    have e2 := h (2 * n + 1) (by omega)
    rw [← Nat.add_assoc] at e2
    show upd (gvF (A' 6 (90 + 2 * n + 1)) (ofA A' n)) (zN A' 6 (90 + 2 * n)) (A' 6 (90 + 2 * n + 1)) = upd (gvF (A 6 (90 + 2 * n + 1)) (ofA A n)) (zN A 6 (90 + 2 * n)) (A 6 (90 + 2 * n + 1))
    rw [ofA_of n fun k hk => h k (by omega), e2]
    unfold zN
    rw [e1]
def DTc (A : Av) (D : Dn) : Prop := (D.2.2.2.1 6 = A 6 6 ∧ isN (A 6 6) 9 ∧ 1 ≤ zN A 6 6) ∧ D.2.2.2.1 7 = A 6 7 ∧ isN (A 6 7) 99 ∧ 1 ≤ zN A 6 7
def DTl (A : Av) (B : Sw) (D : Dn) (m : Nat) : Prop := LawU A B (D.2.2.2.2 0) 0 (0, 0) m ∧ LawU A B (D.2.2.2.2 1) 1 (1, 1) m ∧ LawU A B (D.2.2.2.2 2) 2 (0, 0) m
def DTh (A : Av) (B : Sw) (D : Dn) : Prop := (∀ k, k < D.1 0 → B.1 (D.2.1 0 k) = some (.inr (11, [.int (A 6 (20 + 3 * k)), .int (A 6 (20 + 3 * k + 1)), .int (A 6 (20 + 3 * k + 2))])) ∧ isN (A 6 (20 + 3 * k)) 40 ∧ isN (A 6 (20 + 3 * k + 1)) 99 ∧ isN (A 6 (20 + 3 * k + 2)) 9) ∧ ∀ k, k < 16 → D.1 0 ≤ k → A 6 (20 + 3 * k + 1) = 0
def DTo (A : Av) (D : Dn) : Prop := ∀ o, o < D.1 1 → D.2.2.1 11 o = A 6 (70 + o) ∧ isN (A 6 (70 + o)) 99
def DTi (A : Av) (D : Dn) : Prop := (∀ i, i < D.1 2 → ∃ h o, h < D.1 0 ∧ o < D.1 1 ∧ A 6 (90 + 2 * i) = Int32.ofNat h ∧ A 6 (90 + 2 * i + 1) = Int32.ofNat o) ∧ D.2.2.1 12 = ofA A (D.1 2)
def DTs (A : Av) (B : Sw) (D : Dn) : Prop := ∀ k, k < D.1 3 → B.1 (D.2.1 1 k) = some (.inr (12, [.int (A 6 (120 + 3 * k)), .int (A 6 (120 + 3 * k + 1)), .int (A 6 (120 + 3 * k + 2))])) ∧ (∃ h, h < D.1 0 ∧ A 6 (120 + 3 * k) = Int32.ofNat h) ∧ (A 6 (120 + 3 * k + 1) = -1 ∨ ∃ h, h < D.1 0 ∧ A 6 (120 + 3 * k + 1) = Int32.ofNat h) ∧ isN (A 6 (120 + 3 * k + 2)) 99
def DTq (A : Av) (D : Dn) : Prop := (∀ h, h < 16 → (D.2.2.1 13 h = 1 ∧ ∃ q, q < D.1 4 ∧ A 6 (160 + q) = Int32.ofNat h) ∨ (D.2.2.1 13 h = 0 ∧ ∀ q, q < D.1 4 → A 6 (160 + q) ≠ Int32.ofNat h)) ∧ ∀ q, q < D.1 4 → ∃ h, h < D.1 0 ∧ A 6 (160 + q) = Int32.ofNat h
def DTw (A : Av) (B : Sw) (D : Dn) : Prop := (∀ k, k < D.1 5 → B.1 (D.2.1 2 k) = some (.inr (13, [.int (A 6 (170 + 2 * k)), .int (A 6 (170 + 2 * k + 1))])) ∧ isN (A 6 (170 + 2 * k)) 60 ∧ 1 ≤ zN A 6 (170 + 2 * k) ∧ isN (A 6 (170 + 2 * k + 1)) 99) ∧ ∀ k, k < 8 → D.1 5 ≤ k → A 6 (170 + 2 * k + 1) = 0
def DTr (A : Av) (B : Sw) (D : Dn) (m l : Nat) : Prop := RuleU A B 190 (D.1 8) (D.2.1 3) m l ∧ RuleU A B 200 (D.1 9) (D.2.1 4) m l
def DT (A : Av) (B : Sw) (D : Dn) (m l : Nat) : Prop := DTc A D ∧ DTl A B D m ∧ DTh A B D ∧ DTo A D ∧ DTi A D ∧ DTs A B D ∧ DTq A D ∧ DTw A B D ∧ DTr A B D m l
/-- the counts -/
def CNT (A : Av) (D : Dn) : Prop := (A 6 0 = Int32.ofNat (D.1 0) ∧ D.1 0 ≤ 16) ∧ (A 6 1 = Int32.ofNat (D.1 1) ∧ D.1 1 ≤ 12) ∧ (A 6 2 = Int32.ofNat (D.1 2) ∧ D.1 2 ≤ 12) ∧ (A 6 3 = Int32.ofNat (D.1 3) ∧ D.1 3 ≤ 12) ∧ (A 6 4 = Int32.ofNat (D.1 4) ∧ D.1 4 ≤ 4) ∧ (A 6 5 = Int32.ofNat (D.1 5) ∧ D.1 5 ≤ 8) ∧ (A 6 8 = Int32.ofNat (D.1 8) ∧ D.1 8 ≤ 4) ∧ A 6 9 = Int32.ofNat (D.1 9) ∧ D.1 9 ≤ 4
theorem DTc.of (h : DTc A D) (h6 : A' 6 6 = A 6 6) (h7 : A' 6 7 = A 6 7) (hD : D'.2.2.2.1 = D.2.2.2.1) : DTc A' D' := by
  unfold DTc zN at *
  rw [h6, h7, hD]
  exact h
theorem DTl.of (h : DTl A B D m) (g : Gr B B') (ha : AG m l A A') (h6 : ∀ k, 10 ≤ k → k < 16 → A' 6 k = A 6 k) (hD : D'.2.2.2.2 = D.2.2.2.2) (hm : m ≤ m') : DTl A' B' D' m' := by
  unfold DTl
  rw [hD]
  exact ⟨h.1.of g ha (h6 _ (by omega) (by omega)) (h6 _ (by omega) (by omega)) hm, h.2.1.of g ha (h6 _ (by omega) (by omega)) (h6 _ (by omega) (by omega)) hm, h.2.2.of g ha (h6 _ (by omega) (by omega)) (h6 _ (by omega) (by omega)) hm⟩
theorem DTh.of (h : DTh A B D) (g : Gr B B') (h6 : ∀ k, 20 ≤ k → k < 68 → A' 6 k = A 6 k) (hn : D.1 0 ≤ 16) (hN : D'.1 0 = D.1 0) (hE : D'.2.1 0 = D.2.1 0) : DTh A' B' D' := by
  unfold DTh
  rw [hN, hE]
  refine ⟨fun k hk => ?_, fun k hk hk2 => ?_⟩
  · rw [h6 (20 + 3 * k) (by omega) (by omega), h6 (20 + 3 * k + 1) (by omega) (by omega), h6 (20 + 3 * k + 2) (by omega) (by omega)]
    obtain ⟨a1, a2⟩ := h.1 k hk
    exact ⟨g _ _ a1, a2⟩
  · rw [h6 (20 + 3 * k + 1) (by omega) (by omega)]
    exact h.2 k hk hk2
theorem DTo.of (h : DTo A D) (h6 : ∀ k, 70 ≤ k → k < 82 → A' 6 k = A 6 k) (hn : D.1 1 ≤ 12) (hN : D'.1 1 = D.1 1) (hf : D'.2.2.1 11 = D.2.2.1 11) : DTo A' D' := by
  unfold DTo
  rw [hN, hf]
  intro o ho
  rw [h6 (70 + o) (by omega) (by omega)]
  exact h o ho
theorem DTi.of (h : DTi A D) (h6 : ∀ k, 90 ≤ k → k < 114 → A' 6 k = A 6 k) (hn : D.1 2 ≤ 12) (hN : D'.1 2 = D.1 2) (hf : D'.2.2.1 12 = D.2.2.1 12) (h0 : D.1 0 ≤ D'.1 0) (h1 : D.1 1 ≤ D'.1 1) : DTi A' D' := by
  unfold DTi
  rw [hN, hf]
  refine ⟨fun i hi => ?_, ?_⟩
  · obtain ⟨x, o, a1, a2, a3, a4⟩ := h.1 i hi
    rw [h6 (90 + 2 * i) (by omega) (by omega), h6 (90 + 2 * i + 1) (by omega) (by omega)]
    exact ⟨x, o, by omega, by omega, a3, a4⟩
  · rw [ofA_of (D.1 2) fun k hk => h6 (90 + k) (by omega) (by omega)]
    exact h.2
theorem DTs.of (h : DTs A B D) (g : Gr B B') (h6 : ∀ k, 120 ≤ k → k < 156 → A' 6 k = A 6 k) (hn : D.1 3 ≤ 12) (hN : D'.1 3 = D.1 3) (hE : D'.2.1 1 = D.2.1 1) (h0 : D.1 0 ≤ D'.1 0) : DTs A' B' D' := by
  unfold DTs
  rw [hN, hE]
  intro k hk
  rw [h6 (120 + 3 * k) (by omega) (by omega), h6 (120 + 3 * k + 1) (by omega) (by omega), h6 (120 + 3 * k + 2) (by omega) (by omega)]
  obtain ⟨a1, ⟨x, a2, a3⟩, a4, a5⟩ := h k hk
  refine ⟨g _ _ a1, ⟨x, by omega, a3⟩, ?_, a5⟩
  rcases a4 with a4 | ⟨y, b1, b2⟩
  · exact Or.inl a4
  · exact Or.inr ⟨y, by omega, b2⟩
theorem DTq.of (h : DTq A D) (h6 : ∀ k, 160 ≤ k → k < 164 → A' 6 k = A 6 k) (hn : D.1 4 ≤ 4) (hN : D'.1 4 = D.1 4) (hf : D'.2.2.1 13 = D.2.2.1 13) (h0 : D.1 0 ≤ D'.1 0) : DTq A' D' := by
  unfold DTq
  rw [hN, hf]
  refine ⟨fun x hx => ?_, fun q hq => ?_⟩
  · rcases h.1 x hx with ⟨a1, q, a2, a3⟩ | ⟨a1, a2⟩
    · exact Or.inl ⟨a1, q, a2, by rw [h6 (160 + q) (by omega) (by omega)]; exact a3⟩
    · exact Or.inr ⟨a1, fun q hq => by rw [h6 (160 + q) (by omega) (by omega)]; exact a2 q hq⟩
  · obtain ⟨x, a1, a2⟩ := h.2 q hq
    exact ⟨x, by omega, by rw [h6 (160 + q) (by omega) (by omega)]; exact a2⟩
theorem DTw.of (h : DTw A B D) (g : Gr B B') (h6 : ∀ k, 170 ≤ k → k < 186 → A' 6 k = A 6 k) (hn : D.1 5 ≤ 8) (hN : D'.1 5 = D.1 5) (hE : D'.2.1 2 = D.2.1 2) : DTw A' B' D' := by
  unfold DTw zN
  rw [hN, hE]
  refine ⟨fun k hk => ?_, fun k hk hk2 => ?_⟩
  · rw [h6 (170 + 2 * k) (by omega) (by omega), h6 (170 + 2 * k + 1) (by omega) (by omega)]
    obtain ⟨a1, a2⟩ := h.1 k hk
    exact ⟨g _ _ a1, a2⟩
  · rw [h6 (170 + 2 * k + 1) (by omega) (by omega)]
    exact h.2 k hk hk2
theorem DTr.of (h : DTr A B D m l) (g : Gr B B') (ha : AG m l A A') (h6 : ∀ k, 190 ≤ k → k < 208 → A' 6 k = A 6 k) (h8 : D.1 8 ≤ 4) (h9 : D.1 9 ≤ 4) (hN8 : D'.1 8 = D.1 8) (hN9 : D'.1 9 = D.1 9) (hE3 : D'.2.1 3 = D.2.1 3) (hE4 : D'.2.1 4 = D.2.1 4) (hm : m ≤ m') (hl : l ≤ l') : DTr A' B' D' m' l' := by
  unfold DTr
  rw [hN8, hN9, hE3, hE4]
  exact ⟨h.1.of g ha (fun k hk => h6 _ (by omega) (by omega)) hm hl, h.2.of g ha (fun k hk => h6 _ (by omega) (by omega)) hm hl⟩
/-- nothing but the codes' end and the frozen cells' -/
theorem DT.of (h : DT A B D m l) (hC : CNT A D) (g : Gr B B') (ha : AG m l A A') (h6 : A' 6 = A 6) (hm : m ≤ m') (hl : l ≤ l') : DT A' B' D m' l' := by
  obtain ⟨h1, h2, h3, h4, h5, h7, h8, h9, h10⟩ := h
  obtain ⟨⟨-, n0⟩, ⟨-, n1⟩, ⟨-, n2⟩, ⟨-, n3⟩, ⟨-, n4⟩, ⟨-, n5⟩, ⟨-, n8⟩, -, n9⟩ := hC
  have e : ∀ k, A' 6 k = A 6 k := fun k => by rw [h6]
  exact ⟨h1.of (e _) (e _) rfl, h2.of g ha (fun k _ _ => e k) rfl hm, h3.of g (fun k _ _ => e k) n0 rfl rfl, h4.of (fun k _ _ => e k) n1 rfl rfl, h5.of (fun k _ _ => e k) n2 rfl rfl (Nat.le_refl _) (Nat.le_refl _), h7.of g (fun k _ _ => e k) n3 rfl rfl (Nat.le_refl _), h8.of (fun k _ _ => e k) n4 rfl rfl (Nat.le_refl _), h9.of g (fun k _ _ => e k) n5 rfl rfl, h10.of g ha (fun k _ _ => e k) n8 n9 rfl rfl rfl rfl hm hl⟩
theorem CNT.of (h : CNT A D) (h6 : A' 6 = A 6) : CNT A' D := by
  unfold CNT at *
  rw [h6]
  exact h
theorem AG.same (h9 : ∀ k, A' 9 k = A 9 k) (h10 : ∀ k, A' 10 k = A 10 k) (hr : ∀ r k, 12 ≤ r → r ≤ 17 → A' r k = A r k) : AG m l A A' := ⟨fun k _ => ⟨h9 k, h10 k⟩, fun r k a b _ => hr r k (by omega) b, fun k _ _ => hr 12 k (by decide) (by decide)⟩
/-! a new element of each sort -/
theorem DTh.add {p x y z : Nat} (h : DTh A B D) (g : Gr B B') (hn : D.1 0 < 16) (h6 : ∀ k, 20 ≤ k → k < 68 → ¬ (20 + 3 * D.1 0 ≤ k ∧ k < 23 + 3 * D.1 0) → A' 6 k = A 6 k) (e1 : A' 6 (20 + 3 * D.1 0) = Int32.ofNat x) (e2 : A' 6 (20 + 3 * D.1 0 + 1) = Int32.ofNat y) (e3 : A' 6 (20 + 3 * D.1 0 + 2) = Int32.ofNat z) (hx : x ≤ 40) (hy : y ≤ 99) (hz : z ≤ 9) (hp : B'.1 p = some (.inr (11, [.int (Int32.ofNat x), .int (Int32.ofNat y), .int (Int32.ofNat z)]))) (hN : D'.1 0 = D.1 0 + 1) (hE : D'.2.1 0 = fun k => if k = D.1 0 then p else D.2.1 0 k) : DTh A' B' D' := by
  unfold DTh
  rw [hN, hE]
  refine ⟨fun k hk => ?_, fun k hk hk2 => ?_⟩
  · by_cases e : k = D.1 0
    · subst e
      rw [if_pos rfl, e1, e2, e3]
      exact ⟨hp, isN.of hx (by omega), isN.of hy (by omega), isN.of hz (by omega)⟩
    · rw [if_neg e, h6 (20 + 3 * k) (by omega) (by omega) (by omega), h6 (20 + 3 * k + 1) (by omega) (by omega) (by omega), h6 (20 + 3 * k + 2) (by omega) (by omega) (by omega)]
      obtain ⟨a1, a2⟩ := h.1 k (by omega)
      exact ⟨g _ _ a1, a2⟩
  · rw [h6 (20 + 3 * k + 1) (by omega) (by omega) (by omega)]
    exact h.2 k hk (by omega)
theorem DTo.add {x : Nat} (h : DTo A D) (hn : D.1 1 < 12) (h6 : ∀ k, 70 ≤ k → k < 82 → k ≠ 70 + D.1 1 → A' 6 k = A 6 k) (e1 : A' 6 (70 + D.1 1) = Int32.ofNat x) (hx : x ≤ 99) (hN : D'.1 1 = D.1 1 + 1) (hf : D'.2.2.1 11 = upd (D.2.2.1 11) (D.1 1) (Int32.ofNat x)) : DTo A' D' := by
  unfold DTo
  rw [hN, hf]
  intro o ho
  by_cases e : o = D.1 1
  · subst e
    rw [up_s, e1]
    exact ⟨rfl, isN.of hx (by omega)⟩
  · rw [up_n _ _ _ _ e, h6 (70 + o) (by omega) (by omega) (by omega)]
    exact h o (by omega)
theorem DTi.add {x y : Nat} (h : DTi A D) (hn : D.1 2 < 12) (h6 : ∀ k, 90 ≤ k → k < 114 → ¬ (90 + 2 * D.1 2 ≤ k ∧ k < 92 + 2 * D.1 2) → A' 6 k = A 6 k) (e1 : A' 6 (90 + 2 * D.1 2) = Int32.ofNat x) (e2 : A' 6 (90 + 2 * D.1 2 + 1) = Int32.ofNat y) (hx : x < D.1 0) (hx2 : x < 16) (hy : y < D.1 1) (hN : D'.1 2 = D.1 2 + 1) (h0 : D'.1 0 = D.1 0) (h1 : D'.1 1 = D.1 1) (hf : D'.2.2.1 12 = upd (gvF (Int32.ofNat y) (D.2.2.1 12)) x (Int32.ofNat y)) : DTi A' D' := by
  unfold DTi
  rw [hN, hf, h0, h1]
  refine ⟨fun i hi => ?_, ?_⟩
  · by_cases e : i = D.1 2
    · subst e
      exact ⟨x, y, hx, hy, e1, e2⟩
    · obtain ⟨x, o, a1, a2, a3, a4⟩ := h.1 i (by omega)
      rw [h6 (90 + 2 * i) (by omega) (by omega) (by omega), h6 (90 + 2 * i + 1) (by omega) (by omega) (by omega)]
      exact ⟨x, o, a1, a2, a3, a4⟩
  · show _ = upd (gvF (A' 6 (90 + 2 * D.1 2 + 1)) (ofA A' (D.1 2))) (zN A' 6 (90 + 2 * D.1 2)) (A' 6 (90 + 2 * D.1 2 + 1))
    unfold zN
    rw [e1, e2, ofA_of (D.1 2) fun k hk => h6 (90 + k) (by omega) (by omega) (by omega), ← h.2, i_cl (n := 16) hx2 (by omega)]
theorem DTs.add {p x z : Nat} {y : Int32} (h : DTs A B D) (g : Gr B B') (hn : D.1 3 < 12) (h6 : ∀ k, 120 ≤ k → k < 156 → ¬ (120 + 3 * D.1 3 ≤ k ∧ k < 123 + 3 * D.1 3) → A' 6 k = A 6 k) (e1 : A' 6 (120 + 3 * D.1 3) = Int32.ofNat x) (e2 : A' 6 (120 + 3 * D.1 3 + 1) = y) (e3 : A' 6 (120 + 3 * D.1 3 + 2) = Int32.ofNat z) (hx : x < D.1 0) (hy : y = -1 ∨ ∃ w, w < D.1 0 ∧ y = Int32.ofNat w) (hz : z ≤ 99) (hp : B'.1 p = some (.inr (12, [.int (Int32.ofNat x), .int y, .int (Int32.ofNat z)]))) (hN : D'.1 3 = D.1 3 + 1) (h0 : D'.1 0 = D.1 0) (hE : D'.2.1 1 = fun k => if k = D.1 3 then p else D.2.1 1 k) : DTs A' B' D' := by
  unfold DTs
  rw [hN, hE, h0]
  intro k hk
  by_cases e : k = D.1 3
  · subst e
    rw [if_pos rfl, e1, e2, e3]
    exact ⟨hp, ⟨x, hx, rfl⟩, hy, isN.of hz (by omega)⟩
  · rw [if_neg e, h6 (120 + 3 * k) (by omega) (by omega) (by omega), h6 (120 + 3 * k + 1) (by omega) (by omega) (by omega), h6 (120 + 3 * k + 2) (by omega) (by omega) (by omega)]
    obtain ⟨a1, a2⟩ := h k (by omega)
    exact ⟨g _ _ a1, a2⟩
theorem DTq.add {x : Nat} (h : DTq A D) (hn : D.1 4 < 4) (h6 : ∀ k, 160 ≤ k → k < 164 → k ≠ 160 + D.1 4 → A' 6 k = A 6 k) (e1 : A' 6 (160 + D.1 4) = Int32.ofNat x) (hx : x < D.1 0) (hx2 : x < 16) (hN : D'.1 4 = D.1 4 + 1) (h0 : D'.1 0 = D.1 0) (hf : D'.2.2.1 13 = upd (D.2.2.1 13) x 1) : DTq A' D' := by
  unfold DTq
  rw [hN, hf, h0]
  have e : ∀ q, q < D.1 4 → A' 6 (160 + q) = A 6 (160 + q) := fun q hq => h6 _ (by omega) (by omega) (by omega)
  refine ⟨fun y hy => ?_, fun q hq => ?_⟩
  · by_cases ey : y = x
    · subst ey
      rw [up_s]
      exact Or.inl ⟨rfl, D.1 4, Nat.lt_succ_self _, e1⟩
    · rw [up_n _ _ _ _ ey]
      rcases h.1 y hy with ⟨a1, q, a2, a3⟩ | ⟨a1, a2⟩
      · exact Or.inl ⟨a1, q, by omega, by rw [e q a2]; exact a3⟩
      · refine Or.inr ⟨a1, fun q hq => ?_⟩
        by_cases eq : q = D.1 4
        · rw [eq, e1]
          intro z
          have := (c_eq x y (by omega) (by omega)).1 z
          exact ey this.symm
        · rw [e q (by omega)]
          exact a2 q (by omega)
  · by_cases eq : q = D.1 4
    · exact ⟨x, hx, by rw [eq]; exact e1⟩
    · obtain ⟨y, a1, a2⟩ := h.2 q (by omega)
      exact ⟨y, a1, by rw [e q (by omega)]; exact a2⟩
theorem DTw.add {p x y : Nat} (h : DTw A B D) (g : Gr B B') (hn : D.1 5 < 8) (h6 : ∀ k, 170 ≤ k → k < 186 → ¬ (170 + 2 * D.1 5 ≤ k ∧ k < 172 + 2 * D.1 5) → A' 6 k = A 6 k) (e1 : A' 6 (170 + 2 * D.1 5) = Int32.ofNat x) (e2 : A' 6 (170 + 2 * D.1 5 + 1) = Int32.ofNat y) (hx : 1 ≤ x ∧ x ≤ 60) (hy : y ≤ 99) (hp : B'.1 p = some (.inr (13, [.int (Int32.ofNat x), .int (Int32.ofNat y)]))) (hN : D'.1 5 = D.1 5 + 1) (hE : D'.2.1 2 = fun k => if k = D.1 5 then p else D.2.1 2 k) : DTw A' B' D' := by
  unfold DTw zN
  rw [hN, hE]
  refine ⟨fun k hk => ?_, fun k hk hk2 => ?_⟩
  · by_cases e : k = D.1 5
    · subst e
      rw [if_pos rfl, e1, e2, i_cl (n := 61) (by omega) (by omega)]
      exact ⟨hp, isN.of hx.2 (by omega), hx.1, isN.of hy (by omega)⟩
    · rw [if_neg e, h6 (170 + 2 * k) (by omega) (by omega) (by omega), h6 (170 + 2 * k + 1) (by omega) (by omega) (by omega)]
      obtain ⟨a1, a2⟩ := h.1 k (by omega)
      exact ⟨g _ _ a1, a2⟩
  · rw [h6 (170 + 2 * k + 1) (by omega) (by omega) (by omega)]
    exact h.2 k hk (by omega)
theorem RuleU.add {base n p f0 : Nat} {ns : List Nat} {e e' : Nat → Nat} (h : RuleU A B base n e m l) (g : Gr B B') (ha : AG m l A A') (hm : m ≤ m') (hl : l ≤ l') (h6 : ∀ k, k < 2 * n → A' 6 (base + k) = A 6 (base + k)) (e1 : A' 6 (base + 2 * n) = Int32.ofNat f0) (e2 : A' 6 (base + 2 * n + 1) = Int32.ofNat (f0 + ns.sum)) (hp : AnyU A' B' p f0 ns m') (hs : f0 + ns.sum ≤ l') (he : e' = fun k => if k = n then p else e k) : RuleU A' B' base (n + 1) e' m' l' := by
  intro k hk
  rw [he]
  by_cases q : k = n
  · subst q
    exact ⟨f0, ns, by rw [if_pos rfl]; exact hp, e1, e2, hs⟩
  · obtain ⟨x, xs, a1⟩ := h.of g ha h6 hm hl k (by omega)
    exact ⟨x, xs, by rw [if_neg q]; exact a1.1, a1.2⟩
