set_option maxRecDepth 100000
/-! what the two states have in common -/
def zN (A : Av) (j k : Nat) : Nat := (A j k).toNatClampNeg
/-- a number up to m -/
def isN (x : Int32) (m : Nat) : Prop := x = Int32.ofNat x.toNatClampNeg ∧ x.toNatClampNeg ≤ m
theorem isN.eq {A : Av} {j k m : Nat} (h : isN (A j k) m) : A j k = Int32.ofNat (zN A j k) := h.1
theorem isN.le {A : Av} {j k m : Nat} (h : isN (A j k) m) : zN A j k ≤ m := h.2
theorem isN.of {k m : Nat} (h : k ≤ m) (hm : m < 2147483648) : isN (Int32.ofNat k) m := by
  unfold isN
  rw [i_cl (n := 2147483648) (by omega) (Nat.le_refl _)]
  exact ⟨rfl, h⟩
theorem isN.ex {x : Int32} {m : Nat} (h : isN x m) : ∃ k, k ≤ m ∧ x = Int32.ofNat k := ⟨_, h.2, h.1⟩
theorem isN.mono {x : Int32} {m n : Nat} (h : isN x m) (hn : m ≤ n) : isN x n := ⟨h.1, Nat.le_trans h.2 hn⟩
theorem i_t {k : Nat} (hk : k < 2147483648) : (Int32.ofNat k).toInt = (k : Int) := i_tn hk
/-- the town, as told -/
def WFt (A : Av) : Prop := (isN (A 6 0) 16 ∧ isN (A 6 1) 12 ∧ isN (A 6 3) 12 ∧ isN (A 6 4) 4 ∧ isN (A 6 5) 8 ∧ isN (A 6 6) 9 ∧ isN (A 6 7) 99 ∧ isN (A 6 8) 4 ∧ isN (A 6 9) 4 ∧ 1 ≤ zN A 6 6 ∧ 1 ≤ zN A 6 7) ∧
  (∀ h, h < zN A 6 0 → isN (A 6 (20 + 3 * h)) 40 ∧ isN (A 6 (20 + 3 * h + 1)) 99 ∧ isN (A 6 (20 + 3 * h + 2)) 9) ∧
  (∀ o, o < zN A 6 1 → isN (A 6 (70 + o)) 99) ∧
  (∀ s, s < zN A 6 3 → isN (A 6 (120 + 3 * s)) 15 ∧ zN A 6 (120 + 3 * s) < zN A 6 0 ∧ (A 6 (120 + 3 * s + 1) = -1 ∨ (isN (A 6 (120 + 3 * s + 1)) 15 ∧ zN A 6 (120 + 3 * s + 1) < zN A 6 0)) ∧ isN (A 6 (120 + 3 * s + 2)) 99) ∧
  (∀ q, q < zN A 6 4 → isN (A 6 (160 + q)) 15 ∧ zN A 6 (160 + q) < zN A 6 0) ∧
  (∀ w, w < zN A 6 5 → isN (A 6 (170 + 2 * w)) 60 ∧ 1 ≤ zN A 6 (170 + 2 * w))
/-- what lives: one of the three rows -/
def WFl (H O : Nat) (L : Nat → Int32) : Prop := (isN (L 0) 11 ∧ isN (L 1) 40 ∧ isN (L 2) 60) ∧
  (∀ h, h < 16 → isN (L (10 + h)) 99) ∧
  (∀ h, h < 16 → L (30 + h) = -2 ∨ (isN (L (30 + h)) 11 ∧ (L (30 + h)).toNatClampNeg < O ∧ h < H)) ∧
  (∀ h i, h < 16 → i < 16 → L (30 + h) = L (30 + i) → L (30 + h) = -2 ∨ h = i) ∧
  (∀ w, w < 8 → isN (L (50 + w)) 99) ∧
  (∀ j, j < (L 1).toNatClampNeg → isN (L (60 + 3 * j)) 99 ∧ isN (L (60 + 3 * j + 1)) 15 ∧ (L (60 + 3 * j + 1)).toNatClampNeg < H ∧ (-99 : Int) ≤ (L (60 + 3 * j + 2)).toInt ∧ (L (60 + 3 * j + 2)).toInt ≤ 99 ∧ L (60 + 3 * j + 2) ≠ 0) ∧
  (∀ j, j < (L 2).toNatClampNeg → isN (L (180 + 4 * j)) 2 ∧ (L (180 + 4 * j) = 1 → isN (L (180 + 4 * j + 2)) 99 ∧ isN (L (180 + 4 * j + 3)) 99))
/-- the reference's row of slot s (0: now) -/
def rowL (A : Av) (s : Nat) : Nat → Int32 := fun k => A 7 (420 * s + k)
/-- a condition: rows of relations, each with its two sums' trees -/
def LitB (A : Av) (B : Sw) (a k : Nat) : Prop := ∃ (b : Nat) (s : Int32) (l r dl dr f0 : Nat) (cl cr : Cd),
  ((A 12 k = 0 ∧ a = b) ∨ (A 12 k = 1 ∧ B.1 a = some (.inr (16, [.ref b])))) ∧
  B.1 b = some (.inr (15, [.int s, .ref l, .ref r])) ∧ ((s = 61 ∧ A 13 k = 300) ∨ (s = 33 ∧ A 13 k = 301) ∨ (s = 109 ∧ A 13 k = 302) ∨ (s = 60 ∧ A 13 k = 60)) ∧
  TrB B dl l cl ∧ TrB B dr r cr ∧ dl ≤ 410 ∧ dr ≤ 410 ∧ A 14 k = Int32.ofNat f0 ∧ A 15 k = Int32.ofNat (f0 + cl.length) ∧ A 16 k = Int32.ofNat (f0 + cl.length + cr.length) ∧ cAt A f0 cl ∧ cAt A (f0 + cl.length) cr ∧ f0 + cl.length + cr.length ≤ 500
/-- all of a row, from k on, n of them -/
def AllB (A : Av) (B : Sw) (a k n : Nat) (row : Int32) : Prop := 1 ≤ n ∧ ∃ (l : Nat) (e : Nat → Nat), B.1 a = some (.inr (17, [.int 1, .ref l])) ∧ LB B l n e ∧ ∀ j, j < n → LitB A B (e j) (k + j) ∧ A 17 (k + j) = row
/-- rows of a condition, from number j on -/
def RowsB (A : Av) (B : Sw) (e : Nat → Nat) : Nat → Nat → List Nat → Prop
  | _, _, [] => True
  | j, k, n :: ns => AllB A B (e j) k n (Int32.ofNat j) ∧ RowsB A B e (j + 1) (k + n) ns
/-- one of the rows: their lengths -/
def AnyB (A : Av) (B : Sw) (a k : Nat) (ns : List Nat) : Prop := ∃ (l : Nat) (e : Nat → Nat), B.1 a = some (.inr (17, [.int 0, .ref l])) ∧ LB B l ns.length e ∧ ns.length ≤ 200 ∧ RowsB A B e 0 k ns
/-- a law's tree: the told one, or the one that stands for none -/
def LawB (A : Av) (B : Sw) (t w : Nat) (c0 : Int32 × Int32) : Prop := ∃ (d : Nat) (c : Cd), TrB B d t c ∧ d ≤ 410 ∧
  ((A 6 (10 + 2 * w) = -1 ∧ c = [c0]) ∨ ∃ f0, A 6 (10 + 2 * w) = Int32.ofNat f0 ∧ A 6 (10 + 2 * w + 1) = Int32.ofNat (f0 + c.length) ∧ cAt A f0 c ∧ f0 + c.length ≤ 500)
/-- rules: conditions, of which one holds -/
def RuleB (A : Av) (B : Sw) (base n : Nat) (e : Nat → Nat) : Prop := ∀ k, k < n → ∃ (f0 : Nat) (ns : List Nat), AnyB A B (e k) f0 ns ∧ A 6 (base + 2 * k) = Int32.ofNat f0 ∧ A 6 (base + 2 * k + 1) = Int32.ofNat (f0 + ns.sum) ∧ f0 + ns.sum ≤ 200
/-- the town in B: pointers ad 114 (the town), 115 houses, 116 stairs, 117 wood, 118 falls, 119 bad, 120 ranks, 121 offices, 122 quays, 123 tide, 124 due, 125 sway; elements from 1000, 1100, 1200, 1300, 1400 on -/
def TB (ad : Nat → Nat) (B : Sw) (A : Av) : Prop :=
  (B.1 (ad 114) = some (.inr (3, [.ref (ad 115), .ref (ad 116), .ref (ad 117), .ref (ad 118), .ref (ad 119), .ref (ad 120), .int (A 6 1), .ref (ad 121), .int (A 6 2), .ref (ad 122), .int (A 6 4), .int (A 6 6), .int (A 6 7), .ref (ad 123), .ref (ad 124), .ref (ad 125)]))) ∧
  (LB B (ad 115) (zN A 6 0) (fun j => ad (1000 + j)) ∧ ∀ j, j < zN A 6 0 → B.1 (ad (1000 + j)) = some (.inr (11, [.int (A 6 (20 + 3 * j)), .int (A 6 (20 + 3 * j + 1)), .int (A 6 (20 + 3 * j + 2))]))) ∧
  (LB B (ad 116) (zN A 6 3) (fun j => ad (1100 + j)) ∧ ∀ j, j < zN A 6 3 → B.1 (ad (1100 + j)) = some (.inr (12, [.int (A 6 (120 + 3 * j)), .int (A 6 (120 + 3 * j + 1)), .int (A 6 (120 + 3 * j + 2))]))) ∧
  (LB B (ad 117) (zN A 6 5) (fun j => ad (1200 + j)) ∧ ∀ j, j < zN A 6 5 → B.1 (ad (1200 + j)) = some (.inr (13, [.int (A 6 (170 + 2 * j)), .int (A 6 (170 + 2 * j + 1))]))) ∧
  (LB B (ad 118) (zN A 6 8) (fun j => ad (1300 + j)) ∧ RuleB A B 190 (zN A 6 8) (fun j => ad (1300 + j))) ∧
  (LB B (ad 119) (zN A 6 9) (fun j => ad (1400 + j)) ∧ RuleB A B 200 (zN A 6 9) (fun j => ad (1400 + j))) ∧
  (∃ f : Nat → Int32, B.1 (ad 120) = some (.inl (0, (12, .inl f))) ∧ ∀ o, o < zN A 6 1 → f o = A 6 (70 + o)) ∧
  (∃ f : Nat → Int32, B.1 (ad 122) = some (.inl (4, (16, .inl f))) ∧ ∀ h, h < 16 → (f h = 1 ∧ (∃ q, q < zN A 6 4 ∧ A 6 (160 + q) = Int32.ofNat h)) ∨ (f h = 0 ∧ ∀ q, q < zN A 6 4 → A 6 (160 + q) ≠ Int32.ofNat h)) ∧
  LawB A B (ad 123) 0 (0, 0) ∧ LawB A B (ad 124) 1 (1, 1) ∧ LawB A B (ad 125) 2 (0, 0)
/-- a list of the state now: role r, its data's role r + 1, counters z (size z + 2, room z + 3), n elements of kind ci from base on -/
def LR (ad : Nat → Nat) (B : Sw) (σ : Cs) (r z n : Nat) (e : Nat → Nat) (ob : Nat → Ob) : Prop :=
  σ.1 (z + 2) = Int32.ofNat n ∧ ((B.1 (ad (r + 1)) = none ∧ n ≤ (σ.1 (z + 3)).toNatClampNeg ∧ (σ.1 (z + 3)).toNatClampNeg < 1000) ∨ (n = 0 ∧ ad (r + 1) = B.2.2.2 0)) ∧ ∀ j, j < n → σ.2.2.2 (r + 1) j = some (e j) ∧ B.1 (e j) = some (ob j)
/-- a state that was kept -/
def SB (B : Sw) (a : Nat) (L : Nat → Int32) : Prop := ∃ (h o w wl ll : Nat) (fh fo fw : Nat → Int32) (ew el : Nat → Nat),
  B.1 a = some (.inr (6, [.ref h, .ref o, .ref w, .int (L 0), .ref wl, .ref ll])) ∧ B.1 h = some (.inl (0, (16, .inl fh))) ∧ B.1 o = some (.inl (0, (16, .inl fo))) ∧ B.1 w = some (.inl (0, (8, .inl fw))) ∧
  (∀ i, i < 16 → fh i = L (10 + i)) ∧ (∀ i, i < 16 → fo i = if L (30 + i) = -2 then -1 else L (30 + i)) ∧ (∀ i, i < 8 → fw i = L (50 + i)) ∧
  LB B wl (L 1).toNatClampNeg ew ∧ LB B ll (L 2).toNatClampNeg el ∧
  (∀ j, j < (L 1).toNatClampNeg → B.1 (ew j) = some (.inr (18, [.int (L (60 + 3 * j)), .int (L (60 + 3 * j + 1)), .int (L (60 + 3 * j + 2))]))) ∧
  (∀ j, j < (L 2).toNatClampNeg → B.1 (el j) = some (.inr (19, [.int (L (180 + 4 * j)), .int (L (180 + 4 * j + 1)), .int (L (180 + 4 * j + 2)), .int (L (180 + 4 * j + 3))])))
/-- the component's state has what lasts -/
def CR (ad : Nat → Nat) (B : Sw) (A : Av) (σ : Cs) : Prop :=
  (σ.1 21 = A 0 0 ∧ σ.1 2 = A 0 9 ∧ σ.1 9 = A 0 40 ∧ σ.1 11 = A 0 50 ∧ σ.1 43 = A 7 0) ∧
  (∀ k, k < zN A 0 0 → σ.2.1 2 k = (A 1 k).toInt8.toInt32) ∧
  (∀ k, k < zN A 0 50 → σ.2.1 16 k = A 33 k) ∧
  (∀ h, h < 16 → σ.2.1 47 h = A 7 (10 + h)) ∧
  (∀ h, h < 16 → σ.2.1 48 h = if A 7 (30 + h) = -2 then -1 else A 7 (30 + h)) ∧
  (∀ w, w < 8 → σ.2.1 49 w = A 7 (50 + w)) ∧
  (∀ j h, j < zN A 0 40 → h < 16 → σ.2.1 (74 + j) h = A 27 (24 * j + h)) ∧
  (∀ j w, j < zN A 0 40 → w < 8 → σ.2.1 (94 + j) w = A 27 (24 * j + 16 + w)) ∧
  ((∀ j, j < 20 → σ.2.2.2 15 j = some (ad (54 + j))) ∧ (∀ j, j < 9 → σ.2.2.2 17 j = some (ad (18 + j))) ∧ (∀ j, j < 13 → σ.2.2.2 32 j = some (ad (33 + j)))) ∧
  LR ad B σ 50 50 (zN A 7 1) (fun j => ad (1500 + j)) (fun j => .inr (18, [.int (A 7 (60 + 3 * j)), .int (A 7 (60 + 3 * j + 1)), .int (A 7 (60 + 3 * j + 2))])) ∧
  LR ad B σ 52 60 (zN A 7 2) (fun j => ad (1600 + j)) (fun j => .inr (19, [.int (A 7 (180 + 4 * j)), .int (A 7 (180 + 4 * j + 1)), .int (A 7 (180 + 4 * j + 2)), .int (A 7 (180 + 4 * j + 3))])) ∧
  (∀ s, s < 2 → (A 18 (s + 1) = 0 ∧ σ.2.2.2 9 s = none) ∨ (A 18 (s + 1) = 1 ∧ ∃ a, σ.2.2.2 9 s = some a ∧ SB B a (rowL A (s + 1))))
/-- the other numbers -/
def WFn (A : Av) : Prop := isN (A 0 0) 2000 ∧ isN (A 0 40) 20 ∧ isN (A 0 50) 12 ∧ (∀ k, k < zN A 0 50 → isN (A 33 k) 99) ∧ (∀ k, k < 2000 → isN (A 1 k) 255) ∧
  (∀ j h, j < zN A 0 40 → h < 16 → isN (A 27 (24 * j + h)) 99) ∧ (∀ j w, j < zN A 0 40 → w < 8 → isN (A 27 (24 * j + 16 + w)) 99)
def WF (A : Av) : Prop := WFt A ∧ WFn A ∧ WFl (zN A 6 0) (zN A 6 1) (A 7) ∧ ∀ s, s < 2 → A 18 (s + 1) = 1 → WFl (zN A 6 0) (zN A 6 1) (rowL A (s + 1))
/-- arrays and ints of the component that may hold anything -/
def scA (r : Nat) : Bool := r == 3 || r == 4 || r == 8 || r == 11 || r == 13 || r == 14 || (18 ≤ r && r ≤ 45)
def scI (z : Nat) : Bool := z == 13 || z == 25 || (31 ≤ z && z ≤ 34) || z == 38 || z == 41
theorem CR.a {ad : Nat → Nat} {B : Sw} {A : Av} {σ : Cs} {r : Nat} {f : Nat → Int32} (h : CR ad B A σ) (hr : scA r = true) : CR ad B A (csA σ r f) := by
  have g : ∀ i, scA i = false → (csA σ r f).2.1 i = σ.2.1 i := fun i hi => csA_n _ _ _ _ (fun e => by rw [e, hr] at hi; cases hi)
  have gj : ∀ i, 46 ≤ i → (csA σ r f).2.1 i = σ.2.1 i := fun i hi => csA_n _ _ _ _ (fun e => by
    rw [e] at hi
    unfold scA at hr
    simp at hr
    omega)
  obtain ⟨h1, h2, h3, h4, h5, h6, h7, h8, h9, h10, h11, h12⟩ := h
  refine ⟨h1, ?_, ?_, ?_, ?_, ?_, ?_, ?_, h9, h10, h11, h12⟩
  · rw [g 2 rfl]; exact h2
  · rw [g 16 rfl]; exact h3
  · rw [g 47 rfl]; exact h4
  · rw [g 48 rfl]; exact h5
  · rw [g 49 rfl]; exact h6
  · intro j i hj hi
    rw [gj _ (by omega)]
    exact h7 j i hj hi
  · intro j i hj hi
    rw [gj _ (by omega)]
    exact h8 j i hj hi
theorem CR.i {ad : Nat → Nat} {B : Sw} {A : Av} {σ : Cs} {z : Nat} {v : Int32} (h : CR ad B A σ) (hz : scI z = true) : CR ad B A (csI σ z v) := by
  have g : ∀ i, scI i = false → (csI σ z v).1 i = σ.1 i := fun i hi => csI_n _ _ _ _ (fun e => by rw [e, hz] at hi; cases hi)
  obtain ⟨⟨p1, p2, p3, p4, p5⟩, h2, h3, h4, h5, h6, h7, h8, h9, h10, h11, h12⟩ := h
  refine ⟨⟨?_, ?_, ?_, ?_, ?_⟩, h2, h3, h4, h5, h6, h7, h8, h9, ?_, ?_, h12⟩
  · rw [g 21 rfl]; exact p1
  · rw [g 2 rfl]; exact p2
  · rw [g 9 rfl]; exact p3
  · rw [g 11 rfl]; exact p4
  · rw [g 43 rfl]; exact p5
  · obtain ⟨a, b, c⟩ := h10
    refine ⟨?_, ?_, c⟩
    · rw [g (50 + 2) rfl]; exact a
    · rw [g (50 + 3) rfl]; exact b
  · obtain ⟨a, b, c⟩ := h11
    refine ⟨?_, ?_, c⟩
    · rw [g (60 + 2) rfl]; exact a
    · rw [g (60 + 3) rfl]; exact b
theorem CR.l {ad : Nat → Nat} {B : Sw} {A : Av} {σ : Cs} {r : Nat} {f : Nat → Int64} (h : CR ad B A σ) : CR ad B A (csL σ r f) := h
/-- what does not change while nothing is told: addresses, the town -/
def EV (ad : Nat → Nat) (B : Sw) (A : Av) : Prop := AdOK ad B ∧ TB ad B A ∧ WF A
