set_option maxRecDepth 100000
/-! what B tells stays told when B grows; refolding a memory -/
variable {X : Nat → Option Ob} {ad ad' : Nat → Nat} {B B' : Sw} {A A' : Av} {σ σ' : Cs} {τ : Tw} {F : Nat}
abbrev Gr (B B' : Sw) : Prop := ∀ a o, B.1 a = some o → B'.1 a = some o
theorem TrB.gr (g : Gr B B') : ∀ {d t : Nat} {c : Cd}, TrB B d t c → TrB B' d t c := by
  intro d
  induction d with
  | zero => intro t c h; exact h
  | succ d ih =>
    intro t c h
    rcases h with ⟨v, h, e⟩ | ⟨w, hw, h, e⟩ | ⟨s, o, l, r, cl, cr, hs, h, h2, h3, e⟩
    · exact Or.inl ⟨v, g _ _ h, e⟩
    · exact Or.inr (Or.inl ⟨w, hw, g _ _ h, e⟩)
    · exact Or.inr (Or.inr ⟨s, o, l, r, cl, cr, hs, g _ _ h, ih h2, ih h3, e⟩)
theorem LB.gr (g : Gr B B') {a n : Nat} {e : Nat → Nat} (h : LB B a n e) : LB B' a n e := by
  obtain ⟨h0, md, d, cap, t, f, h1, h2, h3⟩ := h
  exact ⟨h0, md, d, cap, t, f, g _ _ h1, g _ _ h2, h3⟩
theorem LB.cg {a n : Nat} {e e' : Nat → Nat} (h : LB B a n e) (q : ∀ j, j < n → e' j = e j) : LB B a n e' := by
  obtain ⟨h0, md, d, cap, t, f, h1, h2, h3, h4, h5, h6, h7⟩ := h
  exact ⟨h0, md, d, cap, t, f, h1, h2, h3, h4, h5, h6, fun j hj => by rw [q j hj]; exact h7 j hj⟩
theorem LitB.gr (g : Gr B B') {a k : Nat} (h : LitB A B a k) : LitB A B' a k := by
  obtain ⟨b, s, l, r, dl, dr, f0, cl, cr, h1, h2, h3, h4, h5, h6⟩ := h
  refine ⟨b, s, l, r, dl, dr, f0, cl, cr, ?_, g _ _ h2, h3, h4.gr g, h5.gr g, h6⟩
  rcases h1 with h1 | ⟨p, q⟩
  · exact Or.inl h1
  · exact Or.inr ⟨p, g _ _ q⟩
theorem AllB.gr (g : Gr B B') {a k n : Nat} {row : Int32} (h : AllB A B a k n row) : AllB A B' a k n row := by
  obtain ⟨h0, l, el, h1, h2, h3⟩ := h
  exact ⟨h0, l, el, g _ _ h1, h2.gr g, fun j hj => ⟨(h3 j hj).1.gr g, (h3 j hj).2⟩⟩
theorem RowsB.gr (g : Gr B B') {el : Nat → Nat} : ∀ {ns : List Nat} {j k : Nat}, RowsB A B el j k ns → RowsB A B' el j k ns := by
  intro ns
  induction ns with
  | nil => intro j k h; trivial
  | cons n ns ih =>
    intro j k h
    exact ⟨h.1.gr g, ih h.2⟩
theorem AnyB.gr (g : Gr B B') {a k : Nat} {ns : List Nat} (h : AnyB A B a k ns) : AnyB A B' a k ns := by
  obtain ⟨l, el, h1, h2, h3, h4⟩ := h
  exact ⟨l, el, g _ _ h1, h2.gr g, h3, h4.gr g⟩
theorem LawB.gr (g : Gr B B') {t w : Nat} {c0 : Int32 × Int32} (h : LawB A B t w c0) : LawB A B' t w c0 := by
  obtain ⟨d, c, h1, h2⟩ := h
  exact ⟨d, c, h1.gr g, h2⟩
theorem RuleB.gr (g : Gr B B') {base n : Nat} {el el' : Nat → Nat} (h : RuleB A B base n el) (q : ∀ j, j < n → el' j = el j) : RuleB A B' base n el' := by
  intro k hk
  obtain ⟨f0, ns, h1, h2⟩ := h k hk
  rw [q k hk]
  exact ⟨f0, ns, h1.gr g, h2⟩
/-- the town's addresses -/
def twA' (r : Nat) : Prop := (114 ≤ r ∧ r < 126) ∨ (1000 ≤ r ∧ r < 1500)
theorem TB.gr (h : TB ad B A) (hW : WF A) (g : Gr B B') (q : ∀ r, twA' r → ad' r = ad r) : TB ad' B' A := by
  obtain ⟨h1, h2, h3, h4, h5, h6, h7, h8, h9, h10, h11⟩ := h
  obtain ⟨w0, w1, w3, w4, w5, w6, w7, w8, w9, w10, w11⟩ := hW.1.1
  have w0 : zN A 6 0 ≤ 16 := w0.2
  have w3 : zN A 6 3 ≤ 12 := w3.2
  have w5 : zN A 6 5 ≤ 8 := w5.2
  have w8 : zN A 6 8 ≤ 4 := w8.2
  have w9 : zN A 6 9 ≤ 4 := w9.2
  have t : ∀ r, 114 ≤ r → r < 126 → ad' r = ad r := fun r a b => q r (Or.inl ⟨a, b⟩)
  have u : ∀ r, 1000 ≤ r → r < 1500 → ad' r = ad r := fun r a b => q r (Or.inr ⟨a, b⟩)
  refine ⟨?_, ⟨?_, ?_⟩, ⟨?_, ?_⟩, ⟨?_, ?_⟩, ⟨?_, ?_⟩, ⟨?_, ?_⟩, ?_, ?_, ?_, ?_, ?_⟩
  · rw [t 114 (by omega) (by omega), t 115 (by omega) (by omega), t 116 (by omega) (by omega), t 117 (by omega) (by omega), t 118 (by omega) (by omega), t 119 (by omega) (by omega), t 120 (by omega) (by omega), t 121 (by omega) (by omega), t 122 (by omega) (by omega), t 123 (by omega) (by omega), t 124 (by omega) (by omega), t 125 (by omega) (by omega)]
    exact g _ _ h1
  · rw [t 115 (by omega) (by omega)]
    exact (h2.1.gr g).cg fun j hj => u _ (by omega) (by omega)
  · intro j hj
    rw [u _ (by omega) (by omega)]
    exact g _ _ (h2.2 j hj)
  · rw [t 116 (by omega) (by omega)]
    exact (h3.1.gr g).cg fun j hj => u _ (by omega) (by omega)
  · intro j hj
    rw [u _ (by omega) (by omega)]
    exact g _ _ (h3.2 j hj)
  · rw [t 117 (by omega) (by omega)]
    exact (h4.1.gr g).cg fun j hj => u _ (by omega) (by omega)
  · intro j hj
    rw [u _ (by omega) (by omega)]
    exact g _ _ (h4.2 j hj)
  · rw [t 118 (by omega) (by omega)]
    exact (h5.1.gr g).cg fun j hj => u _ (by omega) (by omega)
  · exact h5.2.gr g fun j hj => u _ (by omega) (by omega)
  · rw [t 119 (by omega) (by omega)]
    exact (h6.1.gr g).cg fun j hj => u _ (by omega) (by omega)
  · exact h6.2.gr g fun j hj => u _ (by omega) (by omega)
  · rw [t 120 (by omega) (by omega)]
    obtain ⟨f, p, r⟩ := h7
    exact ⟨f, g _ _ p, r⟩
  · rw [t 122 (by omega) (by omega)]
    obtain ⟨f, p, r⟩ := h8
    exact ⟨f, g _ _ p, r⟩
  · rw [t 123 (by omega) (by omega)]; exact h9.gr g
  · rw [t 124 (by omega) (by omega)]; exact h10.gr g
  · rw [t 125 (by omega) (by omega)]; exact h11.gr g
theorem SB.gr (g : Gr B B') {a : Nat} {L : Nat → Int32} (h : SB B a L) : SB B' a L := by
  obtain ⟨h, o, w, wl, ll, fh, fo, fw, ew, el, h1, h2, h3, h4, h5, h6, h7, h8, h9, h10, h11⟩ := h
  exact ⟨h, o, w, wl, ll, fh, fo, fw, ew, el, g _ _ h1, g _ _ h2, g _ _ h3, g _ _ h4, h5, h6, h7, h8.gr g, h9.gr g, fun j hj => g _ _ (h10 j hj), fun j hj => g _ _ (h11 j hj)⟩
theorem KB.gr (h : KB B) (g : Gr B B') (e : B'.2.2.2 = B.2.2.2) : KB B' := by
  unfold KB
  rw [e]
  exact ⟨g _ _ h.1, g _ _ h.2⟩
/-- a memory that is the component's after a change -/
theorem cM_of {M : Sw} (hA : AdOK ad B) (h2 : M.2 = B.2) (hF : ∀ a o, B.1 a = some o → M.1 a = some o) (hR : ∀ r, r < 114 → B.1 (ad r) = none → M.1 (ad r) = some (cB ad σ r)) (hX : ∀ a, B.1 a = none → (∀ r, r < 114 → ad r ≠ a) → M.1 a = X a) : M = cM X ad σ B := by
  refine Prod.ext (funext fun a => ?_) h2
  rw [cM_1]
  cases hb : B.1 a with
  | some o => exact hF a o hb
  | none =>
    cases hq : rl ad a with
    | some r =>
      obtain ⟨hr, e⟩ := rl_some hq
      have := hR r hr (by rw [e]; exact hb)
      rw [e] at this
      exact this
    | none =>
      refine hX a hb fun r hr e => ?_
      rw [← e] at hb hq
      rw [rl_at hA hr hb] at hq
      cases hq
