set_option maxRecDepth 100000
/-! the town that is being told: its cells -/
variable {X X' X2 : Nat → Option Ob} {ad : Nat → Nat} {B B' B2 : Sw} {A A' : Av} {σ σ' σ2 : Cs} {τ τ' τ2 : Tw} {F : Nat} {c pl : Nat → Nat} {last j lo : Nat}
theorem o6_5 (hA : AdOK ad B) (σ : Cs) {t : Nat} (h : ad 130 = t + 1) : gfR (cM X ad σ B) (ad 6) 2 5 = some t := by
  refine R_gR hA (by decide) (by decide) (by decide) rfl rfl ?_
  show some (cV (ad 130)) = some (.ref t)
  rw [h]
  rfl
theorem sI_X {a t n k : Nat} {f : Nat → Int32} {v : Int32} (h : ¬ Own ad B a) (hx : X a = some (.inl (t, (n, .inl f)))) (hk : k < n) (hn : n ≤ 2147483648) : sI (cM X ad σ B) t a (Int32.ofNat k) v = some (cM (mX X a (.inl (t, (n, .inl (upd f k (nar t v)))))) ad σ B) := by
  rw [m_sI ((cM_X h).trans hx) hk hn, up_X h]
def oU (ob : Nat → Ob) (x : Nat) (o : Ob) : Nat → Ob := fun y => if y = x then o else ob y
theorem oU_s {ob : Nat → Ob} {x : Nat} {o : Ob} : oU ob x o x = o := if_pos rfl
theorem oU_n {ob : Nat → Ob} {x y : Nat} {o : Ob} (h : y ≠ x) : oU ob x o y = ob y := if_neg h
/-- fourteen cells: 0 the town, 1 .. 5 its lists, 6 .. 10 their data, 11 ranks, 12 offices, 13 quays -/
def TC (ad : Nat → Nat) (lo : Nat) (X : Nat → Option Ob) (B : Sw) (g : Nat → Nat) (ob : Nat → Ob) : Prop := (∀ x, x < 14 → (¬ Own ad B (g x) ∧ g x < B.2.1 ∧ lo ≤ g x ∧ X (g x) = some (ob x)) ∨ (6 ≤ x ∧ x < 11 ∧ g x = B.2.2.2 0)) ∧ ∀ x y, x < 14 → y < 14 → ¬ Own ad B (g x) → g x = g y → x = y
theorem TC.at {g : Nat → Nat} {ob : Nat → Ob} (h : TC ad lo X B g ob) {x : Nat} (hx : x < 6 ∨ 11 ≤ x) (h14 : x < 14) : ¬ Own ad B (g x) ∧ g x < B.2.1 ∧ lo ≤ g x ∧ X (g x) = some (ob x) := by
  rcases h.1 x h14 with h | h
  · exact h
  · omega
theorem TC.m {g : Nat → Nat} {ob : Nat → Ob} (h : TC ad lo X B g ob) {x : Nat} (hx : x < 6 ∨ 11 ≤ x) (h14 : x < 14) : (cM X ad σ B).1 (g x) = some (ob x) := by
  obtain ⟨h1, h2, h3, h4⟩ := h.at hx h14
  exact (cM_X h1).trans h4
theorem TC.mf {u : Nat} {g : Nat → Nat} {ob : Nat → Ob} (h : TC ad lo X B g ob) (hm : MF ad X B X' B' u) : TC ad lo X' B' g ob := by
  have hl := hm.2.2.2.2.1
  refine ⟨fun x hx => ?_, fun x y hx hy ho he => ?_⟩
  · rcases h.1 x hx with ⟨h1, h2, h3, h4⟩ | ⟨h1, h2, h3⟩
    · exact Or.inl ⟨hm.no h2 h1, by omega, h3, (hm.2.2.2.1 _ h2 h1).trans h4⟩
    · exact Or.inr ⟨h1, h2, h3.trans (by rw [hm.2.2.2.2.2.2.2])⟩
  · refine h.2 x y hx hy (fun z => ho ?_) he
    rcases z with z | z
    · refine Or.inl fun q => z ?_
      cases hb : B.1 (g x) with
      | none => rfl
      | some o =>
        rw [hm.2.1 _ _ hb] at q
        cases q
    · exact Or.inr z
theorem TC.set {g : Nat → Nat} {ob : Nat → Ob} {o : Ob} (h : TC ad lo X B g ob) {x : Nat} (hx : x < 6 ∨ 11 ≤ x) (h14 : x < 14) : TC ad lo (mX X (g x) o) B g (oU ob x o) := by
  obtain ⟨h1, h2, h3, h4⟩ := h.at hx h14
  refine ⟨fun y hy => ?_, h.2⟩
  by_cases e : y = x
  · subst e
    exact Or.inl ⟨h1, h2, h3, by rw [mX_s, oU_s]⟩
  · rw [oU_n e]
    rcases h.1 y hy with ⟨k1, k2, k3, k4⟩ | k
    · exact Or.inl ⟨k1, k2, k3, by rw [mX_n (fun z => e (h.2 y x hy h14 k1 z))]; exact k4⟩
    · exact Or.inr k
/-- list i of the town: n elements, e -/
def LI (B : Sw) (g : Nat → Nat) (ob : Nat → Ob) (i n : Nat) (e : Nat → Nat) : Prop := ∃ (md : Int32) (cap : Nat) (f : Nat → Option Nat), ob (1 + i) = .inr (20, [.int md, .ref (g (6 + i)), .int (Int32.ofNat n)]) ∧ ((n = 0 ∧ g (6 + i) = B.2.2.2 0) ∨ (g (6 + i) ≠ B.2.2.2 0 ∧ ob (6 + i) = .inl (6, (cap, .inr (.inr f))) ∧ n ≤ cap ∧ cap < 1000 ∧ ∀ k, k < n → f k = some (e k))) ∧ ∀ k, k < n → ∃ q, B.1 (e k) = some (.inr q)
theorem LI.gr {g : Nat → Nat} {ob : Nat → Ob} {i n : Nat} {e : Nat → Nat} (h : LI B g ob i n e) (hg : Gr B B') (hz : B'.2.2.2 = B.2.2.2) : LI B' g ob i n e := by
  obtain ⟨md, cap, f, h1, h2, h3⟩ := h
  refine ⟨md, cap, f, h1, by rw [hz]; exact h2, fun k hk => ?_⟩
  obtain ⟨q, hq⟩ := h3 k hk
  exact ⟨q, hg _ _ hq⟩
theorem LI.ob {g : Nat → Nat} {ob ob' : Nat → Ob} {i n : Nat} {e : Nat → Nat} (h : LI B g ob i n e) {g' : Nat → Nat} (h1 : ob' (1 + i) = ob (1 + i)) (h2 : ob' (6 + i) = ob (6 + i)) (h3 : g' (6 + i) = g (6 + i)) : LI B g' ob' i n e := by
  unfold LI at *
  rw [h1, h2, h3]
  exact h
theorem add_TC (hA : AdOK ad B) (hK : KB B) {g : Nat → Nat} {ob : Nat → Ob} {i n p : Nat} {e : Nat → Nat} {q : Nat × List Value} (h : TC ad lo X B g ob) (hl : lo ≤ B.2.1) (hi : i < 5) (hL : LI B g ob i n e) (hp : B.1 p = some (.inr q)) (hn : n ≤ 100) : ∃ (X' : Nat → Option Ob) (B' : Sw) (g' : Nat → Nat) (ob' : Nat → Ob), f_J2_add F (g (1 + i)) p (cM X ad σ B) = some (1, cM X' ad σ B') ∧ (B'.1 = B.1 ∧ B'.2.2.2 = B.2.2.2 ∧ B.2.1 ≤ B'.2.1 ∧ B'.2.1 ≤ B.2.1 + 1 ∧ B'.2.2.1 ≤ B.2.2.1 + 200) ∧ TC ad lo X' B' g' ob' ∧ LI B' g' ob' i (n + 1) (fun k => if k = n then p else e k) ∧ (∀ x, x ≠ 6 + i → g' x = g x) ∧ (∀ x, x ≠ 1 + i → x ≠ 6 + i → ob' x = ob x) ∧ ∀ b, b < lo → X' b = X b := by
  obtain ⟨md, cap, f, h1, h2, h3⟩ := hL
  obtain ⟨a1, a2, a3, a4⟩ := h.at (x := 1 + i) (by omega) (by omega)
  have o0 : Own ad B (B.2.2.2 0) := Or.inl (by rw [hK.1]; exact fun z => by cases z)
  have l0 : B.2.2.2 0 < B.2.1 := hA.lt hK.1
  have glt : ∀ x, x < 14 → g x < B.2.1 := fun x hx => by
    rcases h.1 x hx with k | ⟨-, -, k⟩
    · exact k.2.1
    · omega
  rw [h1] at a4
  have hd : (n = 0 ∧ g (6 + i) = B.2.2.2 0) ∨ (X (g (6 + i)) = some (.inl (6, (cap, .inr (.inr f)))) ∧ ¬ Own ad B (g (6 + i)) ∧ g (6 + i) < B.2.1 ∧ n ≤ cap ∧ cap < 1000 ∧ ∀ j, j < n → ∃ y q, f j = some y ∧ B.1 y = some (.inr q)) := by
    rcases h2 with h2 | ⟨k1, k2, k3, k4, k5⟩
    · exact Or.inl h2
    · rcases h.1 (6 + i) (by omega) with ⟨b1, b2, b3, b4⟩ | ⟨-, -, b⟩
      · refine Or.inr ⟨by rw [b4, k2], b1, b2, k3, k4, fun x hx => ?_⟩
        obtain ⟨q, hq⟩ := h3 x hx
        exact ⟨_, q, k5 x hx, hq⟩
      · exact absurd b k1
  obtain ⟨X2, B2, dn, c2, gg, d1, ⟨b1, b2, b3, b4, b5⟩, d3, d4, d5, d6, d7, d8, d9, d10, d11, d12, d13⟩ := add_X (F := F) (σ := σ) hA hK a4 a1 a2 hd (cM_fz hp) (hA.lt hp) hn
  have ldn : lo ≤ dn := by
    rcases d11 with ⟨e1, e2⟩ | e1
    · rcases h.1 (6 + i) (by omega) with ⟨k1, k2, k3, k4⟩ | ⟨-, -, k⟩
      · omega
      · exfalso
        refine d9 ?_
        rw [e1, k]
        exact o0
    · omega
  have own2 : ∀ a, Own ad B2 a ↔ Own ad B a := fun a => sm_own b1
  -- another cell is neither of the two
  have oth : ∀ x, x < 14 → x ≠ 1 + i → x ≠ 6 + i → ¬ Own ad B (g x) → g x ≠ g (1 + i) ∧ g x ≠ dn := fun x hx n1 n2 ho => by
    refine ⟨fun z => n1 (h.2 x (1 + i) hx (by omega) ho z), fun z => ?_⟩
    rcases d11 with ⟨e1, -⟩ | e1
    · exact n2 (h.2 x (6 + i) hx (by omega) ho (by rw [z, e1]))
    · have := glt x hx
      omega
  refine ⟨X2, B2, fun x => if x = 6 + i then dn else g x, fun x => if x = 1 + i then .inr (20, [.int (md + 1), .ref dn, .int (Int32.ofNat (n + 1))]) else if x = 6 + i then .inl (6, (c2, .inr (.inr gg))) else ob x, d1, ⟨b1, b2, b3, b4, b5⟩, ⟨fun x hx => ?_, fun x y hx hy ho he => ?_⟩, ⟨md + 1, c2, gg, ?_, Or.inr ⟨?_, ?_, d5, d6, fun k hk => ?_⟩, fun k hk => ?_⟩, fun x hx => if_neg hx, fun x hx hy => (if_neg hx).trans (if_neg hy), fun b hb => d13 b (by omega) (by omega)⟩
  · by_cases e1 : x = 6 + i
    · left
      rw [if_pos e1, if_neg (by omega), if_pos e1]
      exact ⟨fun z => d9 ((own2 _).1 z), d10, ldn, d4⟩
    · rw [if_neg e1]
      by_cases e2 : x = 1 + i
      · left
        rw [if_pos e2, e2]
        exact ⟨fun z => a1 ((own2 _).1 z), by omega, a3, d3⟩
      · rw [if_neg e2, if_neg e1]
        rcases h.1 x hx with ⟨k1, k2, k3, k4⟩ | ⟨k1, k2, k3⟩
        · obtain ⟨o1, o2⟩ := oth x hx e2 e1 k1
          exact Or.inl ⟨fun z => k1 ((own2 _).1 z), by omega, k3, (d13 _ o1 o2).trans k4⟩
        · exact Or.inr ⟨k1, k2, by rw [b2]; exact k3⟩
  · have ho : ¬ Own ad B (if x = 6 + i then dn else g x) := fun z => ho ((own2 _).2 z)
    have he : (if x = 6 + i then dn else g x) = if y = 6 + i then dn else g y := he
    by_cases e1 : x = 6 + i
    · by_cases e2 : y = 6 + i
      · omega
      · rw [if_pos e1, if_neg e2] at he
        rw [if_pos e1] at ho
        rcases d11 with ⟨q1, -⟩ | q1
        · exact absurd (h.2 (6 + i) y (by omega) hy (by rw [← q1]; exact ho) (by rw [← q1]; exact he)) (by omega)
        · have := glt y hy
          omega
    · by_cases e2 : y = 6 + i
      · rw [if_neg e1, if_pos e2] at he
        rw [if_neg e1] at ho
        rcases d11 with ⟨q1, -⟩ | q1
        · exact absurd (h.2 x (6 + i) hx (by omega) ho (by rw [← q1]; exact he)) (by omega)
        · have := glt x hx
          omega
      · rw [if_neg e1, if_neg e2] at he
        rw [if_neg e1] at ho
        exact h.2 x y hx hy ho he
  · rw [if_pos rfl, if_pos rfl]
  · rw [if_pos rfl]
    intro z
    refine d9 ?_
    rw [z, b2]
    exact o0
  · rw [if_neg (by omega), if_pos rfl]
  · by_cases e0 : k = n
    · subst e0
      rw [if_pos rfl]
      exact d8
    · rw [if_neg e0]
      rcases h2 with h2 | ⟨k1, k2, k3, k4, k5⟩
      · omega
      · rw [d7 k (by omega)]
        exact k5 k (by omega)
  · rw [b1]
    by_cases e0 : k = n
    · rw [if_pos e0]
      exact ⟨q, hp⟩
    · rw [if_neg e0]
      exact h3 k (by omega)
/-- a town that is told: counts, lists' elements, arrays, crews and jack, laws' trees -/
abbrev Dn : Type := (Nat → Nat) × (Nat → Nat → Nat) × (Nat → Nat → Int32) × (Nat → Int32) × (Nat → Nat)
def cx : Nat → Nat
  | 0 => 0
  | 1 => 3
  | 2 => 5
  | 3 => 8
  | _ => 9
def dN (D : Dn) (z n : Nat) : Dn := (fun y => if y = z then n else D.1 y, D.2)
def dE (D : Dn) (i : Nat) (e : Nat → Nat) : Dn := (D.1, fun y => if y = i then e else D.2.1 y, D.2.2)
def dA (D : Dn) (x : Nat) (f : Nat → Int32) : Dn := (D.1, D.2.1, fun y => if y = x then f else D.2.2.1 y, D.2.2.2)
def dC (D : Dn) (z : Nat) (v : Int32) : Dn := (D.1, D.2.1, D.2.2.1, fun y => if y = z then v else D.2.2.2.1 y, D.2.2.2.2)
def dL (D : Dn) (w t : Nat) : Dn := (D.1, D.2.1, D.2.2.1, D.2.2.2.1, fun y => if y = w then t else D.2.2.2.2 y)
def twF (g : Nat → Nat) (D : Dn) : List Value := [.ref (g 1), .ref (g 2), .ref (g 3), .ref (g 4), .ref (g 5), .ref (g 11), .int (Int32.ofNat (D.1 1)), .ref (g 12), .int (Int32.ofNat (D.1 2)), .ref (g 13), .int (Int32.ofNat (D.1 4)), .int (D.2.2.2.1 6), .int (D.2.2.2.1 7), .ref (D.2.2.2.2 0), .ref (D.2.2.2.2 1), .ref (D.2.2.2.2 2)]
def TWD (ad : Nat → Nat) (lo : Nat) (X : Nat → Option Ob) (B : Sw) (g : Nat → Nat) (ob : Nat → Ob) (D : Dn) : Prop := TC ad lo X B g ob ∧ ob 0 = .inr (3, twF g D) ∧ (∀ i, i < 5 → LI B g ob i (D.1 (cx i)) (D.2.1 i)) ∧ ob 11 = .inl (0, (12, .inl (D.2.2.1 11))) ∧ ob 12 = .inl (0, (16, .inl (D.2.2.1 12))) ∧ ob 13 = .inl (4, (16, .inl (D.2.2.1 13)))
section TWD
variable {g : Nat → Nat} {ob : Nat → Ob} {D : Dn}
theorem TWD.t (h : TWD ad lo X B g ob D) : (cM X ad σ B).1 (g 0) = some (.inr (3, twF g D)) := by
  rw [h.1.m (by omega) (by omega), h.2.1]
theorem TWD.l (h : TWD ad lo X B g ob D) {i : Nat} (hi : i < 5) : ∃ md d, (cM X ad σ B).1 (g (1 + i)) = some (.inr (20, [.int md, .ref d, .int (Int32.ofNat (D.1 (cx i)))])) := by
  obtain ⟨md, cap, f, h1, -⟩ := h.2.2.1 i hi
  exact ⟨md, _, by rw [h.1.m (by omega) (by omega), h1]⟩
theorem TWD.sz (h : TWD ad lo X B g ob D) {i : Nat} (hi : i < 5) : f_J2_size F (g (1 + i)) (cM X ad σ B) = some (Int32.ofNat (D.1 (cx i))) := by
  obtain ⟨md, d, h1⟩ := h.l (σ := σ) hi
  unfold f_J2_size
  rw [m_I (k := 2) h1 rfl]
  rfl
theorem TWD.ol (h : TWD ad lo X B g ob D) {i : Nat} (hi : i < 5) : oc (cM X ad σ B) (g (1 + i)) 20 = some () := by
  obtain ⟨md, d, h1⟩ := h.l (σ := σ) hi
  exact m_oc h1
theorem TWD.mf {u : Nat} (h : TWD ad lo X B g ob D) (hm : MF ad X B X' B' u) : TWD ad lo X' B' g ob D := ⟨h.1.mf hm, h.2.1, fun i hi => (h.2.2.1 i hi).gr hm.2.1 hm.2.2.2.2.2.2.2, h.2.2.2⟩
theorem cx_n {i : Nat} (h : i < 5) : cx i ≠ 1 ∧ cx i ≠ 2 ∧ cx i ≠ 4 := by
  have : ∀ i, i < 5 → cx i ≠ 1 ∧ cx i ≠ 2 ∧ cx i ≠ 4 := by decide
  exact this i h
theorem cx_inj {i k : Nat} (h : i < 5) (hk : k < 5) (e : cx i = cx k) : i = k := by
  have : ∀ i, i < 5 → ∀ k, k < 5 → cx i = cx k → i = k := by decide
  exact this i h k hk e
/-- an element comes -/
theorem TWD.add (hA : AdOK ad B) (hK : KB B) {X0 : Nat → Option Ob} {B0 : Sw} {u p i : Nat} {q : Nat × List Value} (h : TWD ad B0.2.1 X B g ob D) (hm : MF ad X0 B0 X B u) (hi : i < 5) (hp : B.1 p = some (.inr q)) (hn : D.1 (cx i) ≤ 100) : ∃ X' B' g' ob', f_J2_add F (g (1 + i)) p (cM X ad σ B) = some (1, cM X' ad σ B') ∧ MF ad X0 B0 X' B' (u + 25) ∧ B'.1 = B.1 ∧ B'.2.2.2 = B.2.2.2 ∧ g' 0 = g 0 ∧ TWD ad B0.2.1 X' B' g' ob' (dE (dN D (cx i) (D.1 (cx i) + 1)) i (fun k => if k = D.1 (cx i) then p else D.2.1 i k)) := by
  obtain ⟨h1, h2, h3, h4, h5, h6⟩ := h
  obtain ⟨X2, B2, g2, ob2, a1, ⟨b1, b2, b3, b4, b5⟩, a3, a4, a5, a6, a7⟩ := add_TC (F := F) (σ := σ) hA hK h1 hm.2.2.2.2.1 hi (h3 i hi) hp hn
  obtain ⟨c1, c2, c4⟩ := cx_n hi
  refine ⟨X2, B2, g2, ob2, a1, hm.sm b1 b2 b3 b4 b5 (by decide) (by decide) (fun a l _ => a7 a l), b1, b2, a5 0 (by omega), a3, ?_, fun k hk => ?_, ?_, ?_, ?_⟩
  · rw [a6 0 (by omega) (by omega), h2]
    unfold twF dE dN
    rw [a5 1 (by omega), a5 2 (by omega), a5 3 (by omega), a5 4 (by omega), a5 5 (by omega), a5 11 (by omega), a5 12 (by omega), a5 13 (by omega)]
    simp only [if_neg (Ne.symm c1), if_neg (Ne.symm c2), if_neg (Ne.symm c4)]
  · by_cases e : k = i
    · subst e
      have e1 : (dE (dN D (cx k) (D.1 (cx k) + 1)) k (fun y => if y = D.1 (cx k) then p else D.2.1 k y)).1 (cx k) = D.1 (cx k) + 1 := if_pos rfl
      have e2 : (dE (dN D (cx k) (D.1 (cx k) + 1)) k (fun y => if y = D.1 (cx k) then p else D.2.1 k y)).2.1 k = fun y => if y = D.1 (cx k) then p else D.2.1 k y := if_pos rfl
      rw [e1, e2]
      exact a4
    · have e1 : (dE (dN D (cx i) (D.1 (cx i) + 1)) i (fun y => if y = D.1 (cx i) then p else D.2.1 i y)).1 (cx k) = D.1 (cx k) := if_neg (fun z => e (cx_inj hk hi z))
      have e2 : (dE (dN D (cx i) (D.1 (cx i) + 1)) i (fun y => if y = D.1 (cx i) then p else D.2.1 i y)).2.1 k = D.2.1 k := if_neg e
      rw [e1, e2]
      exact (((h3 k hk).ob (a6 (1 + k) (by omega) (by omega)) (a6 (6 + k) (by omega) (by omega)) (a5 (6 + k) (by omega))).gr (gr_eq b1) b2)
  · rw [a6 11 (by omega) (by omega)]; exact h4
  · rw [a6 12 (by omega) (by omega)]; exact h5
  · rw [a6 13 (by omega) (by omega)]; exact h6
/-- a field of the town is set -/
theorem TWD.fld {X0 : Nat → Option Ob} {B0 : Sw} {u k : Nat} {v : Value} {D' : Dn} (h : TWD ad B0.2.1 X B g ob D) (hm : MF ad X0 B0 X B u) (hk : k < 16) (hv : (twF g D).set k v = twF g D') (hN : ∀ i, i < 5 → D'.1 (cx i) = D.1 (cx i)) (hE : D'.2.1 = D.2.1) (hf : D'.2.2.1 = D.2.2.1) : ∃ X' ob', pf (cM X ad σ B) (g 0) 3 k v = some (cM X' ad σ B) ∧ MF ad X0 B0 X' B u ∧ TWD ad B0.2.1 X' B g ob' D' := by
  obtain ⟨h1, h2, h3, h4, h5, h6⟩ := h
  obtain ⟨a1, a2, a3, a4⟩ := h1.at (x := 0) (by omega) (by omega)
  rw [h2] at a4
  refine ⟨_, _, pf_X a1 a4 hk, hm.mx a3, h1.set (x := 0) (by omega) (by omega), ?_, fun i hi => ?_, ?_, ?_, ?_⟩
  · rw [oU_s, hv]
  · rw [hN i hi, hE]
    exact (h3 i hi).ob (oU_n (by omega)) (oU_n (by omega)) rfl
  · rw [oU_n (by omega), hf]; exact h4
  · rw [oU_n (by omega), hf]; exact h5
  · rw [oU_n (by omega), hf]; exact h6
/-- an array of the town is another one -/
theorem TWD.arr {X0 : Nat → Option Ob} {B0 : Sw} {u x t n : Nat} {f : Nat → Int32} (h : TWD ad B0.2.1 X B g ob D) (hm : MF ad X0 B0 X B u) (hx : (x = 11 ∧ t = 0 ∧ n = 12) ∨ (x = 12 ∧ t = 0 ∧ n = 16) ∨ (x = 13 ∧ t = 4 ∧ n = 16)) : MF ad X0 B0 (mX X (g x) (.inl (t, (n, .inl f)))) B u ∧ TWD ad B0.2.1 (mX X (g x) (.inl (t, (n, .inl f)))) B g (oU ob x (.inl (t, (n, .inl f)))) (dA D x f) := by
  obtain ⟨h1, h2, h3, h4, h5, h6⟩ := h
  obtain ⟨a1, a2, a3, a4⟩ := h1.at (x := x) (by omega) (by omega)
  refine ⟨hm.mx a3, h1.set (by omega) (by omega), ?_, fun i hi => (h3 i hi).ob (oU_n (by omega)) (oU_n (by omega)) rfl, ?_, ?_, ?_⟩
  · rw [oU_n (by omega), h2]
    rfl
  · rcases hx with ⟨rfl, rfl, rfl⟩ | ⟨rfl, rfl, rfl⟩ | ⟨rfl, rfl, rfl⟩
    · rw [oU_s]; rfl
    · rw [oU_n (by omega), h4]; rfl
    · rw [oU_n (by omega), h4]; rfl
  · rcases hx with ⟨rfl, rfl, rfl⟩ | ⟨rfl, rfl, rfl⟩ | ⟨rfl, rfl, rfl⟩
    · rw [oU_n (by omega), h5]; rfl
    · rw [oU_s]; rfl
    · rw [oU_n (by omega), h5]; rfl
  · rcases hx with ⟨rfl, rfl, rfl⟩ | ⟨rfl, rfl, rfl⟩ | ⟨rfl, rfl, rfl⟩
    · rw [oU_n (by omega), h6]; rfl
    · rw [oU_n (by omega), h6]; rfl
    · rw [oU_s]; rfl
end TWD
