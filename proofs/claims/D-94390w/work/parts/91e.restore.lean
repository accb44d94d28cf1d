set_option maxRecDepth 100000
/-! 41: restore -/
variable {X : Nat → Option Ob} {ad ad' : Nat → Nat} {B B' : Sw} {A A' : Av} {σ σ' : Cs} {τ : Tw} {F : Nat}
/-- the roles of a state that have a cell of their own -/
def frN (n1 n2 r : Nat) : Prop := (46 ≤ r ∧ r < 54) ∧ (r = 51 → n1 ≠ 0) ∧ (r = 53 → n2 ≠ 0)
/-- a state's cells -/
def NS (B : Sw) (m0 : Nat) (nn : Nat → Nat) (σ : Cs) (n1 n2 : Nat) : Prop := (∀ r, frN n1 n2 r → m0 ≤ nn r ∧ B.1 (nn r) = some (cB nn σ r)) ∧ (∀ r r', frN n1 n2 r → 46 ≤ r' → r' < 54 → nn r = nn r' → r = r') ∧ (n1 = 0 → nn 51 = B.2.2.2 0) ∧ (n2 = 0 → nn 53 = B.2.2.2 0)
/-- addresses with works' and logs' elements -/
def nwE (ad nn e1 e2 : Nat → Nat) : Nat → Nat := fun r => if 1500 ≤ r ∧ r < 1600 then e1 (r - 1500) else if 1600 ≤ r ∧ r < 1700 then e2 (r - 1600) else nwA ad nn r
theorem nwE_lo {nn e1 e2 : Nat → Nat} {r : Nat} (h : r < 1500) : nwE ad nn e1 e2 r = nwA ad nn r := by
  unfold nwE
  rw [if_neg (by omega), if_neg (by omega)]
theorem nwE_1 {nn e1 e2 : Nat → Nat} {j : Nat} (h : j < 100) : nwE ad nn e1 e2 (1500 + j) = e1 j := by
  unfold nwE
  rw [if_pos (by omega), Nat.add_sub_cancel_left]
theorem nwE_2 {nn e1 e2 : Nat → Nat} {j : Nat} (h : j < 100) : nwE ad nn e1 e2 (1600 + j) = e2 j := by
  unfold nwE
  rw [if_neg (by omega), if_pos (by omega), Nat.add_sub_cancel_left]
theorem new_now {m0 n1 n2 : Nat} {nn e1 e2 : Nat → Nat} {ob1 ob2 : Nat → Ob} (hA : AdOK ad B) (hK : B.1 (B.2.2.2 0) = some (.inl (12, (0, .inr (.inr (fun _ => none)))))) (hN : NS B m0 nn σ' n1 n2) (hm : ∀ q, q < 114 → ad q < m0) (h1 : ∀ i, i ≠ 43 → (i < 50 ∨ 64 ≤ i) → σ'.1 i = σ.1 i) (h2 : ∀ r, r < 46 ∨ 54 ≤ r → σ'.2.1 r = σ.2.1 r) (h3 : σ'.2.2.1 = σ.2.2.1) (h4 : ∀ r, r < 46 ∨ 54 ≤ r → σ'.2.2.2 r = σ.2.2.2 r) (w1 : σ'.1 52 = Int32.ofNat n1) (w2 : σ'.1 62 = Int32.ofNat n2) (w3 : n1 ≠ 0 → n1 ≤ (σ'.1 53).toNatClampNeg ∧ (σ'.1 53).toNatClampNeg < 1000) (w4 : n2 ≠ 0 → n2 ≤ (σ'.1 63).toNatClampNeg ∧ (σ'.1 63).toNatClampNeg < 1000) (x1 : n1 ≤ 60) (x2 : n2 ≤ 60) (q1 : ∀ j, j < n1 → σ'.2.2.2 51 j = some (e1 j) ∧ e1 j < m0 ∧ B.1 (e1 j) = some (ob1 j)) (q2 : ∀ j, j < n2 → σ'.2.2.2 53 j = some (e2 j) ∧ e2 j < m0 ∧ B.1 (e2 j) = some (ob2 j)) : ∃ B', pf (cM X ad σ B) (ad 0) 0 4 (.ref (nn 46)) = some (cM X (nwE ad nn e1 e2) σ' B') ∧ AdOK (nwE ad nn e1 e2) B' ∧ (∀ a o, B.1 a = some o → (∀ r, frN n1 n2 r → nn r ≠ a) → B'.1 a = some o) ∧ (∀ a, Own (nwE ad nn e1 e2) B' a → Own ad B a) ∧ B'.2 = B.2 ∧ LR (nwE ad nn e1 e2) B' σ' 50 50 n1 (fun j => nwE ad nn e1 e2 (1500 + j)) ob1 ∧ LR (nwE ad nn e1 e2) B' σ' 52 60 n2 (fun j => nwE ad nn e1 e2 (1600 + j)) ob2 := by
  obtain ⟨g1, g2, g3, g4⟩ := hN
  have cst : ∀ r, 46 ≤ r → r < 54 → ¬ frN n1 n2 r → nn r = B.2.2.2 0 ∧ ((r = 51 ∧ n1 = 0) ∨ (r = 53 ∧ n2 = 0)) := fun r a b h => by
    by_cases e1 : r = 51
    · by_cases z : n1 = 0
      · exact ⟨by rw [e1]; exact g3 z, Or.inl ⟨e1, z⟩⟩
      · exact absurd ⟨⟨a, b⟩, fun _ => z, fun q => by omega⟩ h
    · by_cases e3 : r = 53
      · by_cases z : n2 = 0
        · exact ⟨by rw [e3]; exact g4 z, Or.inr ⟨e3, z⟩⟩
        · exact absurd ⟨⟨a, b⟩, fun q => absurd q e1, fun _ => z⟩ h
      · exact absurd ⟨⟨a, b⟩, fun q => absurd q e1, fun q => absurd q e3⟩ h
  obtain ⟨B', p1, p2, p3, p4, p5, p6⟩ := swap_now (X := X) (nn := nn) (fr := frN n1 n2) hA (fun r h => h.1) (fun r a b c d => ⟨⟨a, b⟩, fun q => absurd q c, fun q => absurd q d⟩) g2 (fun r h => (g1 r h).2) (fun r a b h => ⟨_, by rw [(cst r a b h).1]; exact hK⟩) (fun r h q hq e => by
    have := (g1 r h).1
    have := hm q hq
    omega) h1 h2 h3 h4
  have hE : ∀ i, i < 1000 → nwE ad nn e1 e2 i = nwA ad nn i := fun i hi => nwE_lo (by omega)
  have eB : B'.2.2.2 = B.2.2.2 := by rw [p6]
  refine ⟨B', by rw [cM_hi hE]; exact p1, p2.hi hE, p3, fun a h => p5 a ?_, p6, ⟨w1, ?_, fun j hj => ?_⟩, ⟨w2, ?_, fun j hj => ?_⟩⟩
  · rcases h with h | ⟨r, hr, h⟩
    · exact Or.inl h
    · exact Or.inr ⟨r, hr, by rw [← hE r (by omega)]; exact h⟩
  · show (B'.1 (nwE ad nn e1 e2 51) = none ∧ _) ∨ (n1 = 0 ∧ nwE ad nn e1 e2 51 = _)
    rw [nwE_lo (by omega), nwA_i (by omega), eB]
    by_cases z : n1 = 0
    · exact Or.inr ⟨z, g3 z⟩
    · exact Or.inl ⟨p4 51 ⟨by omega, fun _ => z, fun q => by omega⟩, w3 z⟩
  · show σ'.2.2.2 51 j = some (nwE ad nn e1 e2 (1500 + j)) ∧ B'.1 (nwE ad nn e1 e2 (1500 + j)) = some (ob1 j)
    rw [nwE_1 (by omega)]
    obtain ⟨a, b, c⟩ := q1 j hj
    refine ⟨a, p3 _ _ c fun r h e => ?_⟩
    have := (g1 r h).1
    omega
  · show (B'.1 (nwE ad nn e1 e2 53) = none ∧ _) ∨ (n2 = 0 ∧ nwE ad nn e1 e2 53 = _)
    rw [nwE_lo (by omega), nwA_i (by omega), eB]
    by_cases z : n2 = 0
    · exact Or.inr ⟨z, g4 z⟩
    · exact Or.inl ⟨p4 53 ⟨by omega, fun q => by omega, fun _ => z⟩, w4 z⟩
  · show σ'.2.2.2 53 j = some (nwE ad nn e1 e2 (1600 + j)) ∧ B'.1 (nwE ad nn e1 e2 (1600 + j)) = some (ob2 j)
    rw [nwE_2 (by omega)]
    obtain ⟨a, b, c⟩ := q2 j hj
    refine ⟨a, p3 _ _ c fun r h e => ?_⟩
    have := (g1 r h).1
    omega
/-- a kept state, as a state in the memory -/
theorem SB.sr (hA : AdOK ad B) {a : Nat} {L : Nat → Int32} (h : SB B a L) (l1 : (L 1).toNatClampNeg ≤ 40) (l2 : (L 2).toNatClampNeg ≤ 60) : ∃ fh fo fw ew el, SR (cM X ad σ B) a fh fo fw (L 0) (L 1).toNatClampNeg ew (L 2).toNatClampNeg el ∧ (∀ i, i < 16 → fh i = L (10 + i)) ∧ (∀ i, i < 16 → fo i = if L (30 + i) = -2 then -1 else L (30 + i)) ∧ (∀ i, i < 8 → fw i = L (50 + i)) ∧ (∀ j, j < (L 1).toNatClampNeg → B.1 (ew j) = some (.inr (18, [.int (L (60 + 3 * j)), .int (L (60 + 3 * j + 1)), .int (L (60 + 3 * j + 2))]))) ∧ (∀ j, j < (L 2).toNatClampNeg → B.1 (el j) = some (.inr (19, [.int (L (180 + 4 * j)), .int (L (180 + 4 * j + 1)), .int (L (180 + 4 * j + 2)), .int (L (180 + 4 * j + 3))]))) ∧ oc (cM X ad σ B) a 6 = some () := by
  obtain ⟨h, o, w, wl, ll, fh, fo, fw, ew, el, h1, h2, h3, h4, h5, h6, h7, h8, h9, h10, h11⟩ := h
  have lo : ∀ {p n : Nat} {e : Nat → Nat}, n ≤ 60 → LB B p n e → (∀ j, j < n → ∃ q, B.1 (e j) = some (.inr q)) → LO (cM X ad σ B) p n e := by
    intro p n e hn hL he
    obtain ⟨y0, md, d, cap, t, f, y1, y2, y3⟩ := hL
    refine ⟨hn, ⟨y0, md, d, cap, t, f, cM_fz y1, cM_fz y2, y3⟩, hA.lt y1, fun d' md' nn' q => ?_, fun j hj => ?_⟩
    · rw [cM_fz y1] at q
      have : d' = d := by
        injection q with q
        injection q with q
        injection q with q0 q
        injection q with q1 q
        injection q with q2 q
        injection q2 with q2
        exact q2.symm
      rw [this]
      exact hA.lt y2
    · obtain ⟨q, hq⟩ := he j hj
      exact ⟨hA.lt hq, q, cM_fz hq⟩
  exact ⟨fh, fo, fw, ew, el, ⟨h, o, w, wl, ll, cM_fz h1, cM_fz h2, cM_fz h3, cM_fz h4, hA.lt h1, hA.lt h2, hA.lt h3, hA.lt h4, lo (by omega) h8 (fun j hj => ⟨_, h10 j hj⟩), lo l2 h9 (fun j hj => ⟨_, h11 j hj⟩)⟩, h5, h6, h7, h10, h11, F_oc h1⟩
/-- a twin's cells are a state's -/
theorem TWN.ns {T : List Ob} {s n1 n2 : Nat} {fh fo fw : Nat → Int32} {m : Int32} {e1 e2 : Nat → Nat} (h : TWN B T fh fo fw m n1 e1 n2 e2) (x1 : n1 ≤ 60) (x2 : n2 ≤ 60) (h0 : B.2.2.2 0 < B.2.1) : ∃ (nn : Nat → Nat) (σ' : Cs), nn 46 = B.2.1 ∧ NS (ovl B T s) B.2.1 nn σ' n1 n2 ∧ (∀ i, i ≠ 43 → (i < 50 ∨ 64 ≤ i) → σ'.1 i = σ.1 i) ∧ (∀ r, r < 46 ∨ 54 ≤ r → σ'.2.1 r = σ.2.1 r) ∧ σ'.2.2.1 = σ.2.2.1 ∧ (∀ r, r < 46 ∨ 54 ≤ r → σ'.2.2.2 r = σ.2.2.2 r) ∧ σ'.1 43 = m ∧ σ'.1 52 = Int32.ofNat n1 ∧ σ'.1 62 = Int32.ofNat n2 ∧ (n1 ≠ 0 → n1 ≤ (σ'.1 53).toNatClampNeg ∧ (σ'.1 53).toNatClampNeg < 1000) ∧ (n2 ≠ 0 → n2 ≤ (σ'.1 63).toNatClampNeg ∧ (σ'.1 63).toNatClampNeg < 1000) ∧ (∀ j, j < n1 → σ'.2.2.2 51 j = some (e1 j)) ∧ (∀ j, j < n2 → σ'.2.2.2 53 j = some (e2 j)) ∧ (∀ i, i < 16 → σ'.2.1 47 i = fh i) ∧ (∀ i, i < 16 → σ'.2.1 48 i = fo i) ∧ (∀ i, i < 8 → σ'.2.1 49 i = fw i) := by
  obtain ⟨u0, ⟨gh, u1, v1⟩, ⟨go, u2, v2⟩, ⟨gw, u3, v3⟩, mid, hm, ⟨md1, d1, u4, k4⟩, md2, d2, u5, k5⟩ := h
  have a1 : ∃ (c1 : Nat) (f1 : Nat → Option Nat), (n1 ≠ 0 → (∃ di, 6 ≤ di ∧ di < mid ∧ d1 = B.2.1 + di ∧ T[di]? = some (.inl (6, (c1, .inr (.inr f1))))) ∧ n1 ≤ c1 ∧ c1 < 1000 ∧ ∀ j, j < n1 → f1 j = some (e1 j)) ∧ (n1 = 0 → d1 = B.2.2.2 0) := by
    rcases k4 with ⟨a, b⟩ | ⟨a, di, cap, f, ⟨b, b'⟩, c, x, y, z, v⟩
    · exact ⟨0, fun _ => none, fun q => absurd a q, fun _ => b⟩
    · exact ⟨cap, f, fun _ => ⟨⟨di, b, b', c, x⟩, y, z, v⟩, fun q => absurd q a⟩
  have a2 : ∃ (c2 : Nat) (f2 : Nat → Option Nat), (n2 ≠ 0 → (∃ di, mid ≤ di ∧ d2 = B.2.1 + di ∧ T[di]? = some (.inl (6, (c2, .inr (.inr f2))))) ∧ n2 ≤ c2 ∧ c2 < 1000 ∧ ∀ j, j < n2 → f2 j = some (e2 j)) ∧ (n2 = 0 → d2 = B.2.2.2 0) := by
    rcases k5 with ⟨a, b⟩ | ⟨a, di, cap, f, ⟨b, b'⟩, c, x, y, z, v⟩
    · exact ⟨0, fun _ => none, fun q => absurd a q, fun _ => b⟩
    · exact ⟨cap, f, fun _ => ⟨⟨di, b, c, x⟩, y, z, v⟩, fun q => absurd q a⟩
  obtain ⟨c1, f1, z1, y1⟩ := a1
  obtain ⟨c2, f2, z2, y2⟩ := a2
  obtain ⟨nn, enn⟩ : ∃ nn : Nat → Nat, nn = fun r => if r = 51 then d1 else if r = 53 then d2 else if r = 52 then B.2.1 + 5 else B.2.1 + (r - 46) := ⟨_, rfl⟩
  obtain ⟨σ2, eσ⟩ : ∃ σ2 : Cs, σ2 = (fun i => if i = 43 then m else if i = 50 then md1 else if i = 52 then Int32.ofNat n1 else if i = 53 then Int32.ofNat c1 else if i = 60 then md2 else if i = 62 then Int32.ofNat n2 else if i = 63 then Int32.ofNat c2 else σ.1 i, fun r => if r = 47 then gh else if r = 48 then go else if r = 49 then gw else σ.2.1 r, σ.2.2.1, fun r => if r = 51 then f1 else if r = 53 then f2 else σ.2.2.2 r) := ⟨_, rfl⟩
  have n46 : nn 46 = B.2.1 := by rw [enn]; rfl
  have n47 : nn 47 = B.2.1 + 1 := by rw [enn]; rfl
  have n48 : nn 48 = B.2.1 + 2 := by rw [enn]; rfl
  have n49 : nn 49 = B.2.1 + 3 := by rw [enn]; rfl
  have n50 : nn 50 = B.2.1 + 4 := by rw [enn]; rfl
  have n51 : nn 51 = d1 := by rw [enn]; rfl
  have n52 : nn 52 = B.2.1 + 5 := by rw [enn]; rfl
  have n53 : nn 53 = d2 := by rw [enn]; rfl
  have i43 : σ2.1 43 = m := by rw [eσ]; rfl
  have i50 : σ2.1 50 = md1 := by rw [eσ]; rfl
  have i52 : σ2.1 52 = Int32.ofNat n1 := by rw [eσ]; rfl
  have i53 : σ2.1 53 = Int32.ofNat c1 := by rw [eσ]; rfl
  have i60 : σ2.1 60 = md2 := by rw [eσ]; rfl
  have i62 : σ2.1 62 = Int32.ofNat n2 := by rw [eσ]; rfl
  have i63 : σ2.1 63 = Int32.ofNat c2 := by rw [eσ]; rfl
  have r47 : σ2.2.1 47 = gh := by rw [eσ]; rfl
  have r48 : σ2.2.1 48 = go := by rw [eσ]; rfl
  have r49 : σ2.2.1 49 = gw := by rw [eσ]; rfl
  have q51 : σ2.2.2.2 51 = f1 := by rw [eσ]; rfl
  have q53 : σ2.2.2.2 53 = f2 := by rw [eσ]; rfl
  have cell : ∀ r, frN n1 n2 r → B.2.1 ≤ nn r ∧ (ovl B T s).1 (nn r) = some (cB nn σ2 r) := by
    rintro r ⟨hr, f51, f53⟩
    have : r = 46 ∨ r = 47 ∨ r = 48 ∨ r = 49 ∨ r = 50 ∨ r = 51 ∨ r = 52 ∨ r = 53 := by omega
    rcases this with rfl | rfl | rfl | rfl | rfl | rfl | rfl | rfl
    · refine ⟨by omega, ?_⟩
      rw [n46, cB_o rfl]
      have : cO nn σ2 46 = (6, [.ref (B.2.1 + 1), .ref (B.2.1 + 2), .ref (B.2.1 + 3), .int m, .ref (B.2.1 + 4), .ref (B.2.1 + 5)]) := by
        unfold cO
        rw [n47, n48, n49, n50, n52, i43]
        rfl
      rw [this]
      exact ov_at (i := 0) u0
    · refine ⟨by omega, ?_⟩
      rw [n47, cB_i rfl, r47]
      exact ov_at u1
    · refine ⟨by omega, ?_⟩
      rw [n48, cB_i rfl, r48]
      exact ov_at u2
    · refine ⟨by omega, ?_⟩
      rw [n49, cB_i rfl, r49]
      exact ov_at u3
    · refine ⟨by omega, ?_⟩
      rw [n50, cB_o rfl]
      have : cO nn σ2 50 = (20, [.int md1, .ref d1, .int (Int32.ofNat n1)]) := by
        unfold cO
        rw [n51, i50, i52]
        rfl
      rw [this]
      exact ov_at u4
    · obtain ⟨⟨di, b, b', c, x⟩, y, z, v⟩ := z1 (f51 rfl)
      refine ⟨by omega, ?_⟩
      rw [n51, cB_q (t := 6) (n := c1) (by show (3, 6, (σ2.1 53).toNatClampNeg) = _; rw [i53, i_cl (n := 1000) z (by omega)]), q51, c]
      exact ov_at x
    · refine ⟨by omega, ?_⟩
      rw [n52, cB_o rfl]
      have : cO nn σ2 52 = (20, [.int md2, .ref d2, .int (Int32.ofNat n2)]) := by
        unfold cO
        rw [n53, i60, i62]
        rfl
      rw [this]
      exact ov_at u5
    · obtain ⟨⟨di, b, c, x⟩, y, z, v⟩ := z2 (f53 rfl)
      refine ⟨by omega, ?_⟩
      rw [n53, cB_q (t := 6) (n := c2) (by show (3, 6, (σ2.1 63).toNatClampNeg) = _; rw [i63, i_cl (n := 1000) z (by omega)]), q53, c]
      exact ov_at x
  refine ⟨nn, σ2, n46, ⟨cell, ?_, fun z => n51.trans (y1 z), fun z => n53.trans (y2 z)⟩, ?_, ?_, by rw [eσ], ?_, i43, i52, i62, ?_, ?_, ?_, ?_, fun i hi => by rw [r47]; exact v1 i hi, fun i hi => by rw [r48]; exact v2 i hi, fun i hi => by rw [r49]; exact v3 i hi⟩
  · have dd1 : n1 ≠ 0 → ∃ di, 6 ≤ di ∧ di < mid ∧ d1 = B.2.1 + di := fun q => by
      obtain ⟨⟨di, b, b', c, x⟩, -⟩ := z1 q
      exact ⟨di, b, b', c⟩
    have dd2 : n2 ≠ 0 → ∃ di, mid ≤ di ∧ d2 = B.2.1 + di := fun q => by
      obtain ⟨⟨di, b, c, x⟩, -⟩ := z2 q
      exact ⟨di, b, c⟩
    rintro r r' ⟨hr, f51, f53⟩ a b e
    have c1 : r = 46 ∨ r = 47 ∨ r = 48 ∨ r = 49 ∨ r = 50 ∨ r = 51 ∨ r = 52 ∨ r = 53 := by omega
    have c2 : r' = 46 ∨ r' = 47 ∨ r' = 48 ∨ r' = 49 ∨ r' = 50 ∨ r' = 51 ∨ r' = 52 ∨ r' = 53 := by omega
    have D1 : d1 = B.2.2.2 0 ∨ ∃ di, 6 ≤ di ∧ di < mid ∧ d1 = B.2.1 + di := by
      by_cases q : n1 = 0
      · exact Or.inl (y1 q)
      · exact Or.inr (dd1 q)
    have D2 : d2 = B.2.2.2 0 ∨ ∃ di, mid ≤ di ∧ d2 = B.2.1 + di := by
      by_cases q : n2 = 0
      · exact Or.inl (y2 q)
      · exact Or.inr (dd2 q)
    have E1 : r = 51 → ∃ di, 6 ≤ di ∧ di < mid ∧ d1 = B.2.1 + di := fun q => dd1 (f51 q)
    have E2 : r = 53 → ∃ di, mid ≤ di ∧ d2 = B.2.1 + di := fun q => dd2 (f53 q)
    rcases c1 with rfl | rfl | rfl | rfl | rfl | rfl | rfl | rfl
    all_goals (rcases c2 with rfl | rfl | rfl | rfl | rfl | rfl | rfl | rfl)
    all_goals (first | rfl | (exfalso; simp only [n46, n47, n48, n49, n50, n51, n52, n53] at e; first | omega | (rcases D1 with D1 | ⟨i1, D1, D1', D1''⟩ <;> rcases D2 with D2 | ⟨i2, D2, D2'⟩ <;> first | omega | (obtain ⟨i3, E1, E1', E1''⟩ := E1 rfl; omega) | (obtain ⟨i3, E2, E2'⟩ := E2 rfl; omega))))
  · intro i h1 h2
    rw [eσ]
    show (if i = 43 then m else if i = 50 then md1 else if i = 52 then Int32.ofNat n1 else if i = 53 then Int32.ofNat c1 else if i = 60 then md2 else if i = 62 then Int32.ofNat n2 else if i = 63 then Int32.ofNat c2 else σ.1 i) = _
    rw [if_neg (by omega), if_neg (by omega), if_neg (by omega), if_neg (by omega), if_neg (by omega), if_neg (by omega), if_neg (by omega)]
  · intro r h
    rw [eσ]
    show (if r = 47 then gh else if r = 48 then go else if r = 49 then gw else σ.2.1 r) = _
    rw [if_neg (by omega), if_neg (by omega), if_neg (by omega)]
  · intro r h
    rw [eσ]
    show (if r = 51 then f1 else if r = 53 then f2 else σ.2.2.2 r) = _
    rw [if_neg (by omega), if_neg (by omega)]
  · intro q
    obtain ⟨-, y, z, v⟩ := z1 q
    rw [i53, i_cl (n := 1000) z (by omega)]
    exact ⟨y, z⟩
  · intro q
    obtain ⟨-, y, z, v⟩ := z2 q
    rw [i63, i_cl (n := 1000) z (by omega)]
    exact ⟨y, z⟩
  · intro j hj
    rw [q51]
    exact (z1 (by omega)).2.2.2 j hj
  · intro j hj
    rw [q53]
    exact (z2 (by omega)).2.2.2 j hj
theorem TWN.cg {M : Sw} {T : List Ob} {fh fo fw : Nat → Int32} {m : Int32} {n1 n2 : Nat} {e1 e2 : Nat → Nat} (h : TWN M T fh fo fw m n1 e1 n2 e2) (q : M.2 = B.2) : TWN B T fh fo fw m n1 e1 n2 e2 := by
  unfold TWN LT at h ⊢
  rw [q] at h
  exact h
/-- 41: restore -/
theorem st_41 (hF : 1000000 ≤ F) (h : INV ad B A σ τ) (x : Nat → Int32) : ST F 41 x X ad B σ τ := by
  have hI := h
  obtain ⟨hE, hK, hC, hT⟩ := h
  have hA := hE.1
  have hW := hE.2.2
  have h1 : stC F 41 (ad 0) x (cM X ad σ B) = f_X0_restore F (ad 0) (x 1) (cM X ad σ B) := rfl
  have h2 : stT F 41 x τ = t_X9_restore F (x 1) τ := rfl
  unfold f_X0_restore at h1
  unfold t_X9_restore at h2
  rw [within_1, Option.bind_some, gd] at h1
  by_cases c1 : inN (x 1) 2
  · obtain ⟨s, ls, es⟩ := c1.ex
    rw [if_pos c1, o0_5 hA, Option.bind_some, es, q9q hA σ s ls] at h1
    rw [es, if_neg (Int32.not_lt.2 (ofNat_nn (by omega))), if_neg (show ¬ 1 < Int32.ofNat s from fun q => by have := (c_lt 1 s (by omega) (by omega)).1 q; omega), show (1 : Int32) + Int32.ofNat s = Int32.ofNat (1 + s) from n_pl 1 s, taI_n _ _ _ _ (by omega) (by omega), Option.bind_some, hT.2 18 rfl] at h2
    rcases hC.sl s ls with ⟨a0, b0⟩ | ⟨a0, a, b0, hS⟩
    · rw [b0] at h1
      rw [show 1 + s = s + 1 by omega, if_pos a0] at h2
      exact ST.ro hI h1 h2 hC hT
    · rw [b0] at h1
      rw [if_neg (by rw [show 1 + s = s + 1 by omega, a0]; decide)] at h2
      have hWs := hW.2.2.2 s ls a0
      have l1 : (rowL A (s + 1) 1).toNatClampNeg ≤ 40 := hWs.1.2.1.2
      have l2 : (rowL A (s + 1) 2).toNatClampNeg ≤ 60 := hWs.1.2.2.2
      obtain ⟨fh, fo, fw, ew, el, s1, s2, s3, s4, s5, s6, s7⟩ := hS.sr (X := X) (σ := σ) hA l1 l2
      have h0 : (cM X ad σ B).1 ((cM X ad σ B).2.2.2 0) = some (.inl (12, (0, .inr (.inr (fun _ => none))))) := cM_fz hK.1
      obtain ⟨T, sz, t1, t2, t3, t4, tw⟩ := twin_m (F := F) h0 (hA.lt hK.1) s1
      have tw : TWN B T fh fo fw (rowL A (s + 1) 0) (rowL A (s + 1) 1).toNatClampNeg ew (rowL A (s + 1) 2).toNatClampNeg el := tw.cg rfl
      have h1 : stC F 41 (ad 0) x (cM X ad σ B) = Option.bind (some (ad 9)) fun x8 =>
        Option.bind (aR (cM X ad σ B) 7 x8 (Int32.ofNat s)) fun x10 =>
        Option.bind (oc (cM X ad σ B) x10 6) fun u14 =>
        Option.bind (f_X6_twin F x10 (cM X ad σ B)) fun q12 =>
        Option.bind (pf q12.2 (ad 0) 0 4 (.ref q12.1)) fun μ16 =>
        Option.bind (pf μ16 (ad 0) 0 9 (.int 0)) fun μ18 =>
        some (1, μ18) := h1
      have haR : aR (cM X ad σ B) 7 (ad 9) (Int32.ofNat s) = some a := R_aR hA (by decide) (hA.2.1 9 (by decide) (by decide) (by decide)) (t := 7) (n := 2) rfl ls (by omega) b0
      rw [Option.bind_some, haR, Option.bind_some, s7, Option.bind_some, t1, Option.bind_some] at h1
      have hA1 : AdOK ad (ovl B T sz) := ov_ad hA
      have gr : Gr B (ovl B T sz) := ov_gr hA
      obtain ⟨nn, σ2, n46, hN, u1, u2, u3, u4, u5, u6, u7, u8, u9, u10, u11, u12, u13, u14⟩ := tw.ns (σ := σ) (s := sz) (by omega) l2 (hA.lt hK.1)
      obtain ⟨B', p1, p2, p3, p4, p5, p6, p7⟩ := new_now (X := X) (e1 := ew) (e2 := el) hA1 (gr _ _ hK.1) hN (fun q hq => hA.2.2.1 q hq) u1 u2 u3 u4 u6 u7 u8 u9 (by omega) l2 (fun j hj => ⟨u10 j hj, hA.lt (s5 j hj), gr _ _ (s5 j hj)⟩) (fun j hj => ⟨u11 j hj, hA.lt (s6 j hj), gr _ _ (s6 j hj)⟩)
      obtain ⟨ad2, ead2⟩ : ∃ ad2, ad2 = nwE ad nn ew el := ⟨_, rfl⟩
      rw [← ead2] at p1 p2 p4 p6 p7
      have alo : ∀ i, i < 46 ∨ (54 ≤ i ∧ i < 1500) → ad2 i = ad i := fun i hi => by rw [ead2, nwE_lo (by omega), nwA_o (by omega)]
      have h1 : stC F 41 (ad 0) x (cM X ad σ B) = Option.bind (pf (ovl (cM X ad σ B) T sz) (ad 0) 0 4 (.ref B.2.1)) fun μ16 =>
        Option.bind (pf μ16 (ad 0) 0 9 (.int 0)) fun μ18 => some (1, μ18) := h1
      have p9 := p0_9 (X := X) p2 σ2 0
      rw [alo 0 (by omega)] at p9
      rw [ov_cM, ← n46, p1, Option.bind_some, p9, Option.bind_some] at h1
      obtain ⟨g, k1, k2, k3⟩ := copy_T (F := F) (a := 1 + s) (b := 0) (by omega) (by omega) (by omega) (by omega) (A 7) (hT.2 7 rfl)
      have k1 : t_X9_copy F (Int32.ofNat (1 + s)) 0 τ = some (twA τ 7 g) := k1
      rw [k1, Option.bind_some, nmE] at h2
      have gB : Gr B B' := fun b o h => p3 b o (gr _ _ h) fun r hr e => by
        have := (hN.1 r hr).1
        have := hA.lt h
        omega
      have g7 : ∀ k, k < 420 → g k = rowL A (s + 1) k := fun k hk => by
        have := k2 k hk
        rw [show 420 * 0 + k = k by omega, show 420 * (1 + s) + k = 420 * (s + 1) + k by omega] at this
        exact this
      have go : ∀ k, 420 ≤ k → g k = A 7 k := fun k hk => k3 k (Or.inr (by omega))
      obtain ⟨A2, eA2⟩ : ∃ A2, A2 = aw (aw A 7 g) 0 (upd (A 0) 40 0) := ⟨_, rfl⟩
      have a7 : A2 7 = g := by rw [eA2, aw_n _ _ _ _ (by decide), aw_s]
      have a0' : ∀ k, k ≠ 40 → A2 0 k = A 0 k := fun k hk => by rw [eA2, aw_s, up_n _ _ _ _ hk]
      have a040 : A2 0 40 = 0 := by rw [eA2, aw_s, up_s]
      have ao : ∀ j, j ≠ 7 → j ≠ 0 → A2 j = A j := fun j a b => by rw [eA2, aw_n _ _ _ _ b, aw_n _ _ _ _ a]
      have z6 : ∀ k, zN A2 6 k = zN A 6 k := fun k => by unfold zN; rw [ao 6 (by decide) (by decide)]
      have z40 : zN A2 0 40 = 0 := by unfold zN; rw [a040]; rfl
      have z0 : zN A2 0 0 = zN A 0 0 := by unfold zN; rw [a0' 0 (by decide)]
      have z50 : zN A2 0 50 = zN A 0 50 := by unfold zN; rw [a0' 50 (by decide)]
      have z71 : zN A2 7 1 = (rowL A (s + 1) 1).toNatClampNeg := by unfold zN; rw [a7, g7 1 (by omega)]
      have z72 : zN A2 7 2 = (rowL A (s + 1) 2).toNatClampNeg := by unfold zN; rw [a7, g7 2 (by omega)]
      have ro : ∀ s', rowL A2 (s' + 1) = rowL A (s' + 1) := fun s' => by
        funext k
        show A2 7 (420 * (s' + 1) + k) = A 7 (420 * (s' + 1) + k)
        rw [a7]
        exact go _ (by omega)
      have hTr : TR A2 (tsI (twA τ 7 g) 40 0) := by
        have := (hT.W (j := 7) (f := g) (by decide)).I (k := 40) (v := 0)
        rw [aw_n _ _ _ _ (show (0 : Nat) ≠ 7 by decide)] at this
        rw [eA2]
        exact this
      have hW2 : WF A2 := by
        obtain ⟨q1, ⟨n1, n2, n3, n4, n5, n6, n7⟩, q3, q4⟩ := hW
        refine ⟨?_, ⟨?_, ?_, ?_, ?_, ?_, fun j i hj _ => ?_, fun j i hj _ => ?_⟩, ?_, fun s' hs' e => ?_⟩
        · unfold WFt
          simp only [z6, ao 6 (by decide) (by decide)]
          exact q1
        · rw [a0' 0 (by decide)]; exact n1
        · rw [a040]; exact isN.of (k := 0) (by omega) (by omega)
        · rw [a0' 50 (by decide)]; exact n3
        · rw [z50, ao 33 (by decide) (by decide)]; exact n4
        · rw [ao 1 (by decide) (by decide)]; exact n5
        · rw [z40] at hj; omega
        · rw [z40] at hj; omega
        · rw [z6, z6, a7]
          exact hWs.cg g7
        · rw [z6, z6, ro]
          rw [ao 18 (by decide) (by decide)] at e
          exact q4 s' hs' e
      have hB2 : TB ad2 B' A2 := (hE.2.1.cg (fun j hj => ao j (fun e => by rw [e] at hj; cases hj) (fun e => by rw [e] at hj; cases hj))).gr hW2 gB (fun r hr => alo r (by unfold twA' at hr; omega))
      have sI9 : ∀ i, i ≠ 9 → (csI σ2 9 0).1 i = σ2.1 i := fun i hi => csI_n _ _ _ _ hi
      have hC2 : CR ad2 B' A2 (csI σ2 9 0) := by
        obtain ⟨⟨r1, r2, r3, r4, r5⟩, p2, p3, p4, p5', p6', p7', p8, ⟨p9, p9', p9''⟩, p10, p11, p12⟩ := hC
        refine ⟨⟨?_, ?_, ?_, ?_, ?_⟩, ?_, ?_, fun i hi => ?_, fun i hi => ?_, fun i hi => ?_, fun j i hj hi => ?_, fun j i hj hi => ?_, ⟨fun j hj => ?_, fun j hj => ?_, fun j hj => ?_⟩, ?_, ?_, fun s' hs' => ?_⟩
        · rw [sI9 _ (by decide), u1 21 (by decide) (by decide), a0' 0 (by decide)]; exact r1
        · rw [sI9 _ (by decide), u1 2 (by decide) (by decide), a0' 9 (by decide)]; exact r2
        · rw [csI_s, a040]
        · rw [sI9 _ (by decide), u1 11 (by decide) (by decide), a0' 50 (by decide)]; exact r4
        · rw [sI9 _ (by decide), u5, a7, g7 0 (by omega)]
        · rw [z0, ao 1 (by decide) (by decide)]
          show ∀ k, k < zN A 0 0 → σ2.2.1 2 k = _
          rw [u2 2 (by omega)]; exact p2
        · rw [z50, ao 33 (by decide) (by decide)]
          show ∀ k, k < zN A 0 50 → σ2.2.1 16 k = _
          rw [u2 16 (by omega)]; exact p3
        · rw [a7, g7 _ (by omega), ← s2 i hi]; exact u12 i hi
        · rw [a7, g7 _ (by omega), ← s3 i hi]; exact u13 i hi
        · rw [a7, g7 _ (by omega), ← s4 i hi]; exact u14 i hi
        · rw [z40] at hj; omega
        · rw [z40] at hj; omega
        · show σ2.2.2.2 15 j = _
          rw [u4 15 (by omega), alo _ (by omega)]; exact p9 j hj
        · show σ2.2.2.2 17 j = _
          rw [u4 17 (by omega), alo _ (by omega)]; exact p9' j hj
        · show σ2.2.2.2 32 j = _
          rw [u4 32 (by omega), alo _ (by omega)]; exact p9'' j hj
        · rw [z71, a7]
          have q := p6
          refine LR.gr q (fun _ _ h => h) rfl (fun h => h) rfl (sI9 _ (by decide)) (sI9 _ (by decide)) rfl (fun _ _ => rfl) (fun j hj => ?_)
          rw [g7 _ (by omega), g7 _ (by omega), g7 _ (by omega)]
        · rw [z72, a7]
          have q := p7
          refine LR.gr q (fun _ _ h => h) rfl (fun h => h) rfl (sI9 _ (by decide)) (sI9 _ (by decide)) rfl (fun _ _ => rfl) (fun j hj => ?_)
          rw [g7 _ (by omega), g7 _ (by omega), g7 _ (by omega), g7 _ (by omega)]
        · show (A2 18 (s' + 1) = 0 ∧ σ2.2.2.2 9 s' = none) ∨ (A2 18 (s' + 1) = 1 ∧ ∃ a, σ2.2.2.2 9 s' = some a ∧ SB B' a (rowL A2 (s' + 1)))
          rw [u4 9 (by omega), ao 18 (by decide) (by decide), ro]
          rcases p12 s' hs' with q | ⟨q1, q2, q3, q4⟩
          · exact Or.inl q
          · exact Or.inr ⟨q1, q2, q3, q4.gr gB⟩
      have e2 : B'.2 = (B.2.1 + T.length, B.2.2.1 + sz, B.2.2.2) := p5
      refine ⟨1, ad2, B', A2, _, _, h1, h2, ⟨⟨p2, hB2, hW2⟩, hK.gr gB (by rw [e2]), hC2, hTr⟩, alo 0 (by omega), gB, fun b hb => ov_own (p4 b hb), ?_, ?_, ?_, by rw [e2]⟩
      · rw [e2]; exact Nat.le_add_right _ _
      · rw [e2]; show B.2.1 + T.length ≤ _; omega
      · rw [e2]; show B.2.2.1 + sz ≤ _; omega
  · rw [if_neg c1] at h1
    have h2' : stT F 41 x τ = some (0, τ) := by
      rw [h2]
      by_cases n : x 1 < 0
      · rw [if_pos n]
      · rw [if_neg n, if_pos]
        apply Classical.byContradiction
        intro q
        apply c1
        have n' := Int32.le_iff_toInt_le.1 (Int32.not_lt.1 n)
        have q' := Int32.le_iff_toInt_le.1 (Int32.not_lt.1 q)
        have z0 : (0 : Int32).toInt = 0 := rfl
        have z1 : (1 : Int32).toInt = 1 := rfl
        exact ⟨by omega, by show (x 1).toInt < 2; omega⟩
    exact ST.ro hI h1 h2' hC hT
