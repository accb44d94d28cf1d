set_option maxRecDepth 100000
/-! conditions, as long as they are told: rows with a bound for their codes -/
variable {X X' X2 : Nat → Option Ob} {ad : Nat → Nat} {B B' B2 : Sw} {A A' : Av} {σ σ' σ2 : Cs} {τ τ' τ2 : Tw} {F : Nat} {c pl : Nat → Nat} {last j : Nat}
def LitU (A : Av) (B : Sw) (a k u : Nat) : Prop := ∃ (b : Nat) (s : Int32) (l r dl dr f0 : Nat) (cl cr : Cd),
  ((A 12 k = 0 ∧ a = b) ∨ (A 12 k = 1 ∧ B.1 a = some (.inr (16, [.ref b])))) ∧
  B.1 b = some (.inr (15, [.int s, .ref l, .ref r])) ∧ ((s = 61 ∧ A 13 k = 300) ∨ (s = 33 ∧ A 13 k = 301) ∨ (s = 109 ∧ A 13 k = 302) ∨ (s = 60 ∧ A 13 k = 60)) ∧
  TrB B dl l cl ∧ TrB B dr r cr ∧ dl ≤ 410 ∧ dr ≤ 410 ∧ A 14 k = Int32.ofNat f0 ∧ A 15 k = Int32.ofNat (f0 + cl.length) ∧ A 16 k = Int32.ofNat (f0 + cl.length + cr.length) ∧ cAt A f0 cl ∧ cAt A (f0 + cl.length) cr ∧ f0 + cl.length + cr.length ≤ u
def AllU (A : Av) (B : Sw) (a k n : Nat) (row : Int32) (u : Nat) : Prop := 1 ≤ n ∧ ∃ (l : Nat) (e : Nat → Nat), B.1 a = some (.inr (17, [.int 1, .ref l])) ∧ LB B l n e ∧ ∀ j, j < n → LitU A B (e j) (k + j) u ∧ A 17 (k + j) = row
def RowsU (A : Av) (B : Sw) (e : Nat → Nat) (u : Nat) : Nat → Nat → List Nat → Prop
  | _, _, [] => True
  | j, k, n :: ns => AllU A B (e j) k n (Int32.ofNat j) u ∧ RowsU A B e u (j + 1) (k + n) ns
def AnyU (A : Av) (B : Sw) (a k : Nat) (ns : List Nat) (u : Nat) : Prop := ∃ (l : Nat) (e : Nat → Nat), B.1 a = some (.inr (17, [.int 0, .ref l])) ∧ LB B l ns.length e ∧ ns.length ≤ 200 ∧ RowsU A B e u 0 k ns
/-- two views agree: codes below m, rows below l (where a row says 'not', if it is 0 or 1) -/
def AG (m l : Nat) (A A' : Av) : Prop := (∀ k, k < m → A' 9 k = A 9 k ∧ A' 10 k = A 10 k) ∧ (∀ r k, 13 ≤ r → r ≤ 17 → k < l → A' r k = A r k) ∧ ∀ k, k < l → (A 12 k = 0 ∨ A 12 k = 1) → A' 12 k = A 12 k
theorem AG.le {m l m1 l1 : Nat} (h : AG m1 l1 A A') (hm : m ≤ m1) (hl : l ≤ l1) : AG m l A A' := ⟨fun k hk => h.1 k (by omega), fun r k x y hk => h.2.1 r k x y (by omega), fun k hk => h.2.2 k (by omega)⟩
theorem cAt_ag {m l : Nat} (h : AG m l A A') : ∀ (Q : Cd) (k : Nat), k + Q.length ≤ m → cAt A k Q → cAt A' k Q
  | [], _, _, _ => trivial
  | p :: Q, k, hk, ⟨x1, x2, x3⟩ => by
    rw [List.length_cons] at hk
    have y := h.1 k (by omega)
    exact ⟨y.1.trans x1, y.2.trans x2, cAt_ag h Q (k + 1) (by omega) x3⟩
theorem LitU.ag {a k m l : Nat} (h : LitU A B a k m) (g : AG m l A A') (hk : k < l) : LitU A' B a k m := by
  obtain ⟨b, s, l1, r, dl, dr, f0, cl, cr, h1, h2, h3, h4, h5, h6, h7, h8, h9, h10, h11, h12, h13⟩ := h
  have e : ∀ q, 13 ≤ q → q ≤ 17 → A' q k = A q k := fun q x y => g.2.1 q k x y hk
  have e12 : A' 12 k = A 12 k := g.2.2 k hk (by rcases h1 with ⟨q, -⟩ | ⟨q, -⟩; exacts [Or.inl q, Or.inr q])
  refine ⟨b, s, l1, r, dl, dr, f0, cl, cr, ?_, h2, ?_, h4, h5, h6, h7, ?_, ?_, ?_, cAt_ag g _ _ (by omega) h11, cAt_ag g _ _ (by omega) h12, h13⟩
  · rw [e12]; exact h1
  · rw [e 13 (by decide) (by decide)]; exact h3
  · rw [e 14 (by decide) (by decide)]; exact h8
  · rw [e 15 (by decide) (by decide)]; exact h9
  · rw [e 16 (by decide) (by decide)]; exact h10
theorem LitU.up {a k u v : Nat} (h : LitU A B a k u) (hv : u ≤ v) : LitU A B a k v := by
  obtain ⟨b, s, l1, r, dl, dr, f0, cl, cr, h1, h2, h3, h4, h5, h6, h7, h8, h9, h10, h11, h12, h13⟩ := h
  exact ⟨b, s, l1, r, dl, dr, f0, cl, cr, h1, h2, h3, h4, h5, h6, h7, h8, h9, h10, h11, h12, by omega⟩
theorem LitU.gr (g : Gr B B') {a k u : Nat} (h : LitU A B a k u) : LitU A B' a k u := by
  obtain ⟨b, s, l, r, dl, dr, f0, cl, cr, h1, h2, h3, h4, h5, h6⟩ := h
  refine ⟨b, s, l, r, dl, dr, f0, cl, cr, ?_, g _ _ h2, h3, h4.gr g, h5.gr g, h6⟩
  rcases h1 with h1 | ⟨p, q⟩
  · exact Or.inl h1
  · exact Or.inr ⟨p, g _ _ q⟩
theorem LitU.b {a k u : Nat} (h : LitU A B a k u) (hu : u ≤ 500) : LitB A B a k := by
  obtain ⟨b, s, l1, r, dl, dr, f0, cl, cr, h1, h2, h3, h4, h5, h6, h7, h8, h9, h10, h11, h12, h13⟩ := h
  exact ⟨b, s, l1, r, dl, dr, f0, cl, cr, h1, h2, h3, h4, h5, h6, h7, h8, h9, h10, h11, h12, by omega⟩
theorem AllU.ag {a k n m l : Nat} {row : Int32} (h : AllU A B a k n row m) (g : AG m l A A') (hk : k + n ≤ l) : AllU A' B a k n row m := by
  obtain ⟨h0, l1, e, h1, h2, h3⟩ := h
  refine ⟨h0, l1, e, h1, h2, fun i hi => ⟨(h3 i hi).1.ag g (by omega), ?_⟩⟩
  rw [g.2.1 17 (k + i) (by decide) (by decide) (by omega)]
  exact (h3 i hi).2
theorem AllU.up {a k n u v : Nat} {row : Int32} (h : AllU A B a k n row u) (hv : u ≤ v) : AllU A B a k n row v := by
  obtain ⟨h0, l1, e, h1, h2, h3⟩ := h
  exact ⟨h0, l1, e, h1, h2, fun i hi => ⟨(h3 i hi).1.up hv, (h3 i hi).2⟩⟩
theorem AllU.gr (g : Gr B B') {a k n u : Nat} {row : Int32} (h : AllU A B a k n row u) : AllU A B' a k n row u := by
  obtain ⟨h0, l1, e, h1, h2, h3⟩ := h
  exact ⟨h0, l1, e, g _ _ h1, h2.gr g, fun i hi => ⟨(h3 i hi).1.gr g, (h3 i hi).2⟩⟩
theorem AllU.b {a k n u : Nat} {row : Int32} (h : AllU A B a k n row u) (hu : u ≤ 500) : AllB A B a k n row := by
  obtain ⟨h0, l1, e, h1, h2, h3⟩ := h
  exact ⟨h0, l1, e, h1, h2, fun i hi => ⟨(h3 i hi).1.b hu, (h3 i hi).2⟩⟩
theorem RowsU.ag {e : Nat → Nat} {m l : Nat} (g : AG m l A A') : ∀ {ns : List Nat} {i k : Nat}, RowsU A B e m i k ns → k + ns.sum ≤ l → RowsU A' B e m i k ns := by
  intro ns
  induction ns with
  | nil => intro i k _ _; trivial
  | cons n ns ih =>
    intro i k h hk
    rw [List.sum_cons] at hk
    exact ⟨h.1.ag g (by omega), ih h.2 (by omega)⟩
theorem RowsU.up {e : Nat → Nat} {u v : Nat} (hv : u ≤ v) : ∀ {ns : List Nat} {i k : Nat}, RowsU A B e u i k ns → RowsU A B e v i k ns := by
  intro ns
  induction ns with
  | nil => intro i k _; trivial
  | cons n ns ih => intro i k h; exact ⟨h.1.up hv, ih h.2⟩
theorem RowsU.gr (g : Gr B B') {e : Nat → Nat} {u : Nat} : ∀ {ns : List Nat} {i k : Nat}, RowsU A B e u i k ns → RowsU A B' e u i k ns := by
  intro ns
  induction ns with
  | nil => intro i k _; trivial
  | cons n ns ih => intro i k h; exact ⟨h.1.gr g, ih h.2⟩
theorem RowsU.cg {e e' : Nat → Nat} {u : Nat} : ∀ {ns : List Nat} {i k : Nat}, (∀ q, i ≤ q → q < i + ns.length → e' q = e q) → RowsU A B e u i k ns → RowsU A B e' u i k ns := by
  intro ns
  induction ns with
  | nil => intro i k _ _; trivial
  | cons n ns ih =>
    intro i k he h
    rw [List.length_cons] at he
    refine ⟨?_, ih (fun q x y => he q (by omega) (by omega)) h.2⟩
    rw [he i (Nat.le_refl _) (by omega)]
    exact h.1
theorem RowsU.snoc {e : Nat → Nat} {u n : Nat} : ∀ {ns : List Nat} {i k : Nat}, RowsU A B e u i k ns → AllU A B (e (i + ns.length)) (k + ns.sum) n (Int32.ofNat (i + ns.length)) u → RowsU A B e u i k (ns ++ [n]) := by
  intro ns
  induction ns with
  | nil => intro i k _ h; exact ⟨h, trivial⟩
  | cons m ns ih =>
    intro i k h1 h2
    rw [List.length_cons, List.sum_cons] at h2
    refine ⟨h1.1, ih h1.2 ?_⟩
    rw [show i + 1 + ns.length = i + (ns.length + 1) by omega, show k + m + ns.sum = k + (m + ns.sum) by omega]
    exact h2
theorem RowsU.b {e : Nat → Nat} {u : Nat} (hu : u ≤ 500) : ∀ {ns : List Nat} {i k : Nat}, RowsU A B e u i k ns → RowsB A B e i k ns := by
  intro ns
  induction ns with
  | nil => intro i k _; trivial
  | cons n ns ih => intro i k h; exact ⟨h.1.b hu, ih h.2⟩
theorem AnyU.ag {a k m l : Nat} {ns : List Nat} (h : AnyU A B a k ns m) (g : AG m l A A') (hk : k + ns.sum ≤ l) : AnyU A' B a k ns m := by
  obtain ⟨l1, e, h1, h2, h3, h4⟩ := h
  exact ⟨l1, e, h1, h2, h3, h4.ag g hk⟩
theorem AnyU.up {a k u v : Nat} {ns : List Nat} (h : AnyU A B a k ns u) (hv : u ≤ v) : AnyU A B a k ns v := by
  obtain ⟨l1, e, h1, h2, h3, h4⟩ := h
  exact ⟨l1, e, h1, h2, h3, h4.up hv⟩
theorem AnyU.gr (g : Gr B B') {a k u : Nat} {ns : List Nat} (h : AnyU A B a k ns u) : AnyU A B' a k ns u := by
  obtain ⟨l1, e, h1, h2, h3, h4⟩ := h
  exact ⟨l1, e, g _ _ h1, h2.gr g, h3, h4.gr g⟩
theorem AnyU.b {a k u : Nat} {ns : List Nat} (h : AnyU A B a k ns u) (hu : u ≤ 500) : AnyB A B a k ns := by
  obtain ⟨l1, e, h1, h2, h3, h4⟩ := h
  exact ⟨l1, e, h1, h2, h3, h4.b hu⟩
theorem VW_l {r k : Nat} (h1 : 12 ≤ r) (h2 : r ≤ 17) : VW τ r k = τ.2.1 r (200 + k) := by
  unfold VW
  rw [if_neg (by omega), if_neg (by omega), if_pos ⟨h1, h2⟩]
theorem VW_9 {k : Nat} : VW τ 9 k = τ.2.1 9 (500 + k) := rfl
theorem VW_10 {k : Nat} : VW τ 10 k = τ.2.1 10 (500 + k) := rfl
theorem VW_6 {k : Nat} : VW τ 6 k = τ.2.1 6 (210 + k) := rfl
theorem cAt_VW : ∀ (Q : Cd) (k : Nat), cAt (vT τ) k Q → cAt (VW τ) k Q
  | [], _, _ => trivial
  | _ :: Q, k, ⟨x1, x2, x3⟩ => ⟨x1, x2, cAt_VW Q (k + 1) x3⟩
theorem CX.ag {m l : Nat} (h : CX m l τ τ') : AG m l (VW τ) (VW τ') := by
  have e : ∀ r k, 12 ≤ r → r ≤ 17 → k < l → VW τ' r k = VW τ r k := fun r k x y hk => by
    rw [VW_l x y, VW_l x y]
    exact h.2.2.2.2.1 r (200 + k) x y (by omega)
  exact ⟨fun k hk => h.2.2.2.1 (500 + k) (by omega), fun r k x y hk => e r k (by omega) y hk, fun k hk _ => e 12 k (by decide) (by decide) hk⟩
theorem rlS_if {q : Nat} (h : isRl q) : (if q = 13 then (61 : Int32) else if q = 14 then 33 else if q = 10 then 60 else if q = 15 then 109 else 0) = rlS q := by
  rcases h with rfl | rfl | rfl | rfl <;> rfl
theorem rlS_w {q : Nat} (h : isRl q) : (rlS q = 61 ∧ wT q = 300) ∨ (rlS q = 33 ∧ wT q = 301) ∨ (rlS q = 109 ∧ wT q = 302) ∨ (rlS q = 60 ∧ wT q = 60) := by
  rcases h with rfl | rfl | rfl | rfl
  · exact Or.inl ⟨rfl, rfl⟩
  · exact Or.inr (Or.inl ⟨rfl, rfl⟩)
  · exact Or.inr (Or.inr (Or.inl ⟨rfl, rfl⟩))
  · exact Or.inr (Or.inr (Or.inr ⟨rfl, rfl⟩))
/-- a whole relation, read on both sides -/
theorem litR_CT (hF : 100000 ≤ F) (hA : AdOK ad B) (hP : PK c pl last j σ τ) (h32 : σ.1 32 = 0) {m l : Nat} {v1 : Int32} (h8 : τ.2.1 8 1 = Int32.ofNat m) (h11 : τ.2.1 11 1 = Int32.ofNat l) (hm : m ≤ j) (hl : l < 200) {self : Int32 → Int32 → Tw → Option (Int32 × Tw)} : (∃ a q X' B' σ' τ' j' m', f_X2_literal F (ad 6) (cM X ad σ B) = some (.inl a, cM X' ad σ' B') ∧ t_X9_cond_L14_b F self v1 1 τ = RST F self v1 τ' ∧ j + 3 ≤ j' ∧ PK c pl last j' σ' τ' ∧ σ'.1 32 = 0 ∧ τ'.2.1 8 1 = Int32.ofNat m' ∧ (m ≤ m' ∧ m' - m ≤ j' - j) ∧ τ'.2.1 11 1 = Int32.ofNat (l + 1) ∧ LitU (VW τ') B' a l m' ∧ VW τ' 17 l = v1 ∧ B'.1 a = some (.inr q) ∧ MF ad X B X' B' (2 * (j' - j)) ∧ EF σ σ' ∧ CX m l τ τ') ∨ CNO last ad X B σ τ (2 * (last + 1 - j)) m l (f_X2_literal F (ad 6) (cM X ad σ B)) (t_X9_cond_L14_b F self v1 1 τ) := by
  have hj := hP.1.1
  have hjl := hP.2.2.2
  rw [lit_pre h11]
  unfold f_X2_literal
  rcases not_CT (X := X) (m := m) (w := 0) hA last F F 0 σ τ j (by omega) (by omega) (by omega) hP (Or.inl rfl) with ⟨s, σ1, τ1, j1, a1, a2, a3, a4, a5, a6, a7, a8, a9⟩ | hB
  · have hc1 : CX m l τ τ1 := a8.x.cc
    have hj1 := a4.2.2.2
    rw [a1, a2, oc6 hA, Option.bind_some]
    rcases expr_CT (X := X) hF hA a4 (a7.trans h32) (m := m) (by rw [a9]; exact h8) (by omega) with ⟨t, X2, B2, σ3, τ7, j2, cl, b1, b2, b3, b4, b5, b6, b7, b8, b9, b10, b11, b12, b13⟩ | hN
    · have hj2 := b4.2.2.2
      have hA2 := b11.1
      have hc2 : CX m l τ τ7 := hc1.tr b13.cc (Nat.le_refl _) (Nat.le_refl _)
      have hP2 : PK c pl last j2 σ3 (rfT τ7 l m (m + cl.length)) := b4.cc (rfT_CX (m := 0)) rfl
      have hc3 : CX m l τ (rfT τ7 l m (m + cl.length)) := hc2.tr rfT_CX (Nat.le_refl _) (Nat.le_refl _)
      have h117 : τ7.2.1 11 1 = Int32.ofNat l := by
        rw [b13.2.1 11 (by decide) (by decide) (by decide) (by decide), a9]
        exact h11
      rw [b1, th_l, b2, Option.bind_some, if_neg (show ¬ (1 : Int32) = 0 by decide), rf_T b6 b7 hl, rsg_T hP2, rsg_C hA2 hP2]
      by_cases hq : isRl (c j2)
      · have n1 : c j2 = 13 ∨ c j2 = 14 ∨ c j2 = 15 ∨ c j2 = 10 := hq
        rw [rlS_if hq, if_pos n1]
        have cl8 : (rfT τ7 l m (m + cl.length)).2.1 8 1 = Int32.ofNat (m + cl.length) := b7
        have cl11 : (rfT τ7 l m (m + cl.length)).2.1 11 1 = Int32.ofNat l := h117
        rcases rel_CT (X := X2) (t := t) (v1 := v1) (self := self) hF hA2 hP2 b5 cl8 cl11 (by omega) hl a5 hq with ⟨a, b, r, X3, B3, σ4, τ8, j3, cr, d1, d2, d3, d4, d5, d6, d7, d8, d9, d10, d11, d12, ⟨d13, d14, d15, d16, d17, d18⟩, d19, d20, d21⟩ | hN
        · have hj3 := d4.2.2.2
          obtain ⟨w1, w2⟩ := rfT_at (τ := τ7) (l := l) (f0 := m) (e := m + cl.length)
          have hAG : AG (m + cl.length) l (VW (rfT τ7 l m (m + cl.length))) (VW τ8) := d21.ag
          have hany : ∃ q, B3.1 a = some (.inr q) := by
            rcases d8 with ⟨-, e⟩ | ⟨-, e⟩
            · rw [e]; exact ⟨_, d9⟩
            · exact ⟨_, e⟩
          obtain ⟨q, hany⟩ := hany
          refine Or.inl ⟨a, q, X3, B3, σ4, τ8, j3, m + cl.length + cr.length, d1, d2, by omega, d4, d5, d6, ⟨by omega, by omega⟩, d7, ?_, ?_, hany, (b11.tr d19).le (by omega), (a6.tr b12).tr d20, hc3.tr d21 (Nat.le_add_right _ _) (Nat.le_refl _)⟩
          · refine ⟨b, rlS (c j2), t, r, j2 - j1, j3 - j2, m, cl, cr, ?_, d9, ?_, b9.gr d19.2.1, d10, by omega, by omega, ?_, ?_, ?_, ?_, cAt_VW _ _ d11, Nat.le_refl _⟩
            · rw [VW_l (by decide) (by decide), d15]
              rcases d8 with ⟨e1, e2⟩ | ⟨e1, e2⟩
              · exact Or.inl ⟨e1, e2⟩
              · exact Or.inr ⟨e1, e2⟩
            · rw [VW_l (by decide) (by decide), d13]
              exact rlS_w hq
            · rw [VW_l (by decide) (by decide), d17]
              exact w1
            · rw [VW_l (by decide) (by decide), d18]
              exact w2
            · rw [VW_l (by decide) (by decide), d14]
            · refine cAt_ag hAG _ _ (Nat.le_refl _) (cAt_VW _ _ (cAt_same (τ := τ7) (τ' := rfT τ7 l m (m + cl.length)) rfl rfl _ _ b8))
          · rw [VW_l (by decide) (by decide), d16]
        · exact Or.inr ((CNO.pre b11 (a6.tr b12) hc3 (Nat.le_add_right _ _) (Nat.le_refl _) hN).le (by omega))
      · have n1 : ¬ (c j2 = 13 ∨ c j2 = 14 ∨ c j2 = 15 ∨ c j2 = 10) := hq
        rw [if_neg n1, if_neg (fun e => n1 (Or.inl e)), if_neg (fun e => n1 (Or.inr (Or.inl e))), if_neg (fun e => n1 (Or.inr (Or.inr (Or.inr e)))), if_neg (fun e => n1 (Or.inr (Or.inr (Or.inl e))))]
        exact Or.inr ((CNO.pre b11 (a6.tr b12) hc3 (Nat.le_refl _) (Nat.le_refl _) (relno_CT (l := l) (m := m) hA2 hP2)).le (by omega))
    · obtain ⟨e, X3, B3, σ4, τ6, kk, p, f1, f2, f3, f4, f5, f6, f7, f8, f9⟩ := hN
      rw [f1, th_r, f2, Option.bind_some, if_pos rfl]
      exact Or.inr ⟨e, X3, B3, σ4, τ6, kk, p, rfl, rfl, f3, f4, f5, f6, f7.le (by omega), a6.tr f8, hc1.tr f9.cc (Nat.le_refl _) (Nat.le_refl _)⟩
  · exact Or.inr (hB.cc.le (by omega))
