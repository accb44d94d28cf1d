set_option maxRecDepth 100000
variable {X : Nat → Option Ob}
/-! the component's own state: ints by field, arrays by role; pointers by role. Roles: 0 the town system, 1 scanner (2 tape, 3 kinds, 4 places, 5 values), 6 reader (7 names, 8 numbers), 9 slots, 10 view (11 values), 12 trial (13 heights, 14 wood), 15 lots, 16 row, 17 pieces (18 .. 26), 27 who, 28 due, 29 nightsTo, 30 isGood, 31 fallsIn, 32 posts (33 .. 45), 46 now (47 heights, 48 offices, 49 wood, 50 works, 51 its data, 52 logs, 53 its data), 54 + k lot k (74 + k heights, 94 + k wood) -/
abbrev Cs : Type := (Nat → Int32) × (Nat → Nat → Int32) × (Nat → Nat → Int64) × (Nat → Nat → Option Nat)
def csI (σ : Cs) (k : Nat) (v : Int32) : Cs := (fun j => if j = k then v else σ.1 j, σ.2)
def csA (σ : Cs) (r : Nat) (f : Nat → Int32) : Cs := (σ.1, (fun q => if q = r then f else σ.2.1 q), σ.2.2)
def csL (σ : Cs) (r : Nat) (f : Nat → Int64) : Cs := (σ.1, σ.2.1, (fun q => if q = r then f else σ.2.2.1 q), σ.2.2.2)
def csQ (σ : Cs) (r : Nat) (f : Nat → Option Nat) : Cs := (σ.1, σ.2.1, σ.2.2.1, (fun q => if q = r then f else σ.2.2.2 q))
theorem csI_s (σ : Cs) (k : Nat) (v : Int32) : (csI σ k v).1 k = v := if_pos rfl
theorem csI_n (σ : Cs) (k i : Nat) (v : Int32) (h : i ≠ k) : (csI σ k v).1 i = σ.1 i := if_neg h
theorem csI_2 (σ : Cs) (k : Nat) (v : Int32) : (csI σ k v).2 = σ.2 := rfl
theorem csA_1 (σ : Cs) (r : Nat) (f : Nat → Int32) : (csA σ r f).1 = σ.1 := rfl
theorem csA_s (σ : Cs) (r : Nat) (f : Nat → Int32) : (csA σ r f).2.1 r = f := if_pos rfl
theorem csA_n (σ : Cs) (r i : Nat) (f : Nat → Int32) (h : i ≠ r) : (csA σ r f).2.1 i = σ.2.1 i := if_neg h
theorem csA_2 (σ : Cs) (r : Nat) (f : Nat → Int32) : (csA σ r f).2.2 = σ.2.2 := rfl
theorem csL_1 (σ : Cs) (r : Nat) (f : Nat → Int64) : (csL σ r f).1 = σ.1 := rfl
theorem csL_2 (σ : Cs) (r : Nat) (f : Nat → Int64) : (csL σ r f).2.1 = σ.2.1 := rfl
theorem csL_s (σ : Cs) (r : Nat) (f : Nat → Int64) : (csL σ r f).2.2.1 r = f := if_pos rfl
theorem csL_n (σ : Cs) (r i : Nat) (f : Nat → Int64) (h : i ≠ r) : (csL σ r f).2.2.1 i = σ.2.2.1 i := if_neg h
theorem csL_3 (σ : Cs) (r : Nat) (f : Nat → Int64) : (csL σ r f).2.2.2 = σ.2.2.2 := rfl
theorem csQ_1 (σ : Cs) (r : Nat) (f : Nat → Option Nat) : (csQ σ r f).1 = σ.1 := rfl
theorem csQ_2 (σ : Cs) (r : Nat) (f : Nat → Option Nat) : (csQ σ r f).2.1 = σ.2.1 := rfl
theorem csQ_3 (σ : Cs) (r : Nat) (f : Nat → Option Nat) : (csQ σ r f).2.2.1 = σ.2.2.1 := rfl
theorem csQ_s (σ : Cs) (r : Nat) (f : Nat → Option Nat) : (csQ σ r f).2.2.2 r = f := if_pos rfl
theorem csQ_n (σ : Cs) (r i : Nat) (f : Nat → Option Nat) (h : i ≠ r) : (csQ σ r f).2.2.2 i = σ.2.2.2 i := if_neg h
/-- an object of role r: its kind's number, its fields -/
def cO (ad : Nat → Nat) (σ : Cs) (r : Nat) : Nat × List Value := match r with
  | 0 => (0, [.ref (ad 1), .ref (ad 6), .int (σ.1 2), .ref (ad 114), .ref (ad 46), .ref (ad 9), .ref (ad 10), .ref (ad 12), .ref (ad 15), .int (σ.1 9), .ref (ad 16), .int (σ.1 11), .ref (ad 17), .int (σ.1 13), .ref (ad 27), .ref (ad 28), .ref (ad 29), .ref (ad 30), .ref (ad 31), .ref (ad 32)])
  | 1 => (1, [.ref (ad 2), .int (σ.1 21), .ref (ad 3), .ref (ad 4), .ref (ad 5), .int (σ.1 25)])
  | 6 => (2, [.ref (ad 1), .int (σ.1 31), .int (σ.1 32), .int (σ.1 33), .int (σ.1 34), cV (ad 130), .ref (ad 7), .ref (ad 8), .int (σ.1 38)])
  | 10 => (7, [.ref (ad 11), .int (σ.1 41)])
  | 12 => (8, [.ref (ad 13), .ref (ad 14)])
  | 46 => (6, [.ref (ad 47), .ref (ad 48), .ref (ad 49), .int (σ.1 43), .ref (ad 50), .ref (ad 52)])
  | 50 => (20, [.int (σ.1 50), .ref (ad 51), .int (σ.1 52)])
  | 52 => (20, [.int (σ.1 60), .ref (ad 53), .int (σ.1 62)])
  | r => (8, [.ref (ad (r + 20)), .ref (ad (r + 40))])
/-- a role's sort (0 object, 1 ints, 2 longs, 3 references), kind, length -/
def cK (σ : Cs) (r : Nat) : Nat × Nat × Nat := match r with
  | 0 => (0, 0, 0)
  | 1 => (0, 0, 0)
  | 2 => (1, 2, 2000)
  | 3 => (1, 3, 402)
  | 4 => (1, 3, 402)
  | 5 => (2, 1, 402)
  | 6 => (0, 0, 0)
  | 7 => (2, 1, 28)
  | 8 => (1, 0, 28)
  | 9 => (3, 7, 2)
  | 10 => (0, 0, 0)
  | 11 => (1, 0, 9)
  | 12 => (0, 0, 0)
  | 13 => (1, 0, 16)
  | 14 => (1, 0, 8)
  | 15 => (3, 8, 20)
  | 16 => (1, 0, 12)
  | 17 => (3, 5, 9)
  | 27 => (1, 0, 8)
  | 28 => (1, 0, 8)
  | 29 => (1, 2, 256)
  | 30 => (1, 4, 256)
  | 31 => (1, 0, 16)
  | 32 => (3, 5, 13)
  | 46 => (0, 0, 0)
  | 47 => (1, 0, 16)
  | 48 => (1, 0, 16)
  | 49 => (1, 0, 8)
  | 50 => (0, 0, 0)
  | 51 => (3, 6, (σ.1 53).toNatClampNeg)
  | 52 => (0, 0, 0)
  | 53 => (3, 6, (σ.1 63).toNatClampNeg)
  | r => if r < 46 then (1, 0, 100) else if r < 74 then (0, 0, 0) else if r < 94 then (1, 0, 16) else (1, 0, 8)
/-- what stands at a role's address -/
def cB (ad : Nat → Nat) (σ : Cs) (r : Nat) : Ob :=
  if (cK σ r).1 = 0 then .inr (cO ad σ r) else .inl ((cK σ r).2.1, ((cK σ r).2.2, if (cK σ r).1 = 1 then .inl (σ.2.1 r) else if (cK σ r).1 = 2 then .inr (.inl (σ.2.2.1 r)) else .inr (.inr (σ.2.2.2 r))))
/-- the role at an address -/
def rl (ad : Nat → Nat) (a : Nat) : Option Nat := (List.range 114).find? (fun r => ad r == a)
/-- the memory: what B has, else what the roles have, else what X has (what is not the component's) -/
def cM (X : Nat → Option Ob) (ad : Nat → Nat) (σ : Cs) (B : Sw) : Sw := (fun a => match B.1 a with
  | some o => some o
  | none => match rl ad a with
    | some r => some (cB ad σ r)
    | none => X a, B.2)
def AdOK (ad : Nat → Nat) (B : Sw) : Prop := (∀ r r', r < 114 → r' < 114 → B.1 (ad r) = none → ad r = ad r' → r = r') ∧ (∀ r, r < 114 → r ≠ 51 → r ≠ 53 → B.1 (ad r) = none) ∧ (∀ r, r < 114 → ad r < B.2.1) ∧ (∀ a, B.2.1 ≤ a → B.1 a = none)
theorem rl_some {ad : Nat → Nat} {a r : Nat} (h : rl ad a = some r) : r < 114 ∧ ad r = a := by
  unfold rl at h
  exact ⟨List.mem_range.mp (List.mem_of_find?_eq_some h), by simpa using List.find?_some h⟩
theorem rl_at {ad : Nat → Nat} {B : Sw} {r : Nat} (hA : AdOK ad B) (hr : r < 114) (hn : B.1 (ad r) = none) : rl ad (ad r) = some r := by
  cases h : rl ad (ad r) with
  | none =>
    unfold rl at h
    have h2 := List.find?_eq_none.mp h r (List.mem_range.mpr hr)
    simp at h2
  | some r' =>
    obtain ⟨h1, h2⟩ := rl_some h
    rw [hA.1 r r' hr h1 hn h2.symm]
theorem cM_1 {ad : Nat → Nat} {σ : Cs} {B : Sw} {a : Nat} : (cM X ad σ B).1 a = match B.1 a with
  | some o => some o
  | none => match rl ad a with
    | some r => some (cB ad σ r)
    | none => X a := rfl
theorem cM_2 {ad : Nat → Nat} {σ : Cs} {B : Sw} : (cM X ad σ B).2 = B.2 := rfl
theorem cM_fz {ad : Nat → Nat} {σ : Cs} {B : Sw} {a : Nat} {o : Ob} (h : B.1 a = some o) : (cM X ad σ B).1 a = some o := by rw [cM_1, h]
theorem cM_rl {ad : Nat → Nat} {σ : Cs} {B : Sw} {r : Nat} (hA : AdOK ad B) (hr : r < 114) (hn : B.1 (ad r) = none) : (cM X ad σ B).1 (ad r) = some (cB ad σ r) := by rw [cM_1, hn, rl_at hA hr hn]
theorem cM_at {ad : Nat → Nat} {σ : Cs} {B : Sw} {r : Nat} (hA : AdOK ad B) (hr : r < 114) (h1 : r ≠ 51) (h2 : r ≠ 53) : (cM X ad σ B).1 (ad r) = some (cB ad σ r) := cM_rl hA hr (hA.2.1 r hr h1 h2)
theorem cM_up {ad : Nat → Nat} {σ σ' : Cs} {B : Sw} {r : Nat} {o : Ob} (hA : AdOK ad B) (hr : r < 114) (hn : B.1 (ad r) = none) (h1 : cB ad σ' r = o) (h2 : ∀ i, i < 114 → i ≠ r → cB ad σ' i = cB ad σ i) : (mup (cM X ad σ B).1 (ad r) o, (cM X ad σ B).2) = cM X ad σ' B := by
  refine Prod.ext (funext fun a => ?_) rfl
  show mup (cM X ad σ B).1 (ad r) o a = (cM X ad σ' B).1 a
  by_cases ha : a = ad r
  · subst ha
    rw [mup_eq, cM_rl hA hr hn, h1]
  · rw [mup_ne ha, cM_1, cM_1]
    cases hb : B.1 a with
    | some z => rfl
    | none =>
      cases hq : rl ad a with
      | none => rfl
      | some i =>
        obtain ⟨hi, e⟩ := rl_some hq
        have hne : i ≠ r := fun z => ha (by rw [← e, z])
        show some (cB ad σ i) = some (cB ad σ' i)
        rw [h2 i hi hne]
/-! the roles' contents do not see other roles' arrays -/
theorem cK_A (σ : Cs) (r i : Nat) (f : Nat → Int32) : cK (csA σ r f) i = cK σ i := rfl
theorem cO_A (ad : Nat → Nat) (σ : Cs) (r i : Nat) (f : Nat → Int32) : cO ad (csA σ r f) i = cO ad σ i := rfl
theorem cK_L (σ : Cs) (r i : Nat) (f : Nat → Int64) : cK (csL σ r f) i = cK σ i := rfl
theorem cO_L (ad : Nat → Nat) (σ : Cs) (r i : Nat) (f : Nat → Int64) : cO ad (csL σ r f) i = cO ad σ i := rfl
theorem cK_Q (σ : Cs) (r i : Nat) (f : Nat → Option Nat) : cK (csQ σ r f) i = cK σ i := rfl
theorem cO_Q (ad : Nat → Nat) (σ : Cs) (r i : Nat) (f : Nat → Option Nat) : cO ad (csQ σ r f) i = cO ad σ i := rfl
theorem cB_A {ad : Nat → Nat} {σ : Cs} {r i : Nat} {f : Nat → Int32} (h : i ≠ r) : cB ad (csA σ r f) i = cB ad σ i := by
  unfold cB
  rw [cK_A, cO_A, csA_n _ _ _ _ h]
  rfl
theorem cB_L {ad : Nat → Nat} {σ : Cs} {r i : Nat} {f : Nat → Int64} (h : i ≠ r) : cB ad (csL σ r f) i = cB ad σ i := by
  unfold cB
  rw [cK_L, cO_L, csL_n _ _ _ _ h]
  rfl
theorem cB_Q {ad : Nat → Nat} {σ : Cs} {r i : Nat} {f : Nat → Option Nat} (h : i ≠ r) : cB ad (csQ σ r f) i = cB ad σ i := by
  unfold cB
  rw [cK_Q, cO_Q, csQ_n _ _ _ _ h]
  rfl
/-! rows of the memory at a role -/
section CMEM
variable {ad : Nat → Nat} {B : Sw}
theorem cB_o {σ : Cs} {r : Nat} (h : (cK σ r).1 = 0) : cB ad σ r = .inr (cO ad σ r) := if_pos h
theorem cB_i {σ : Cs} {r t n : Nat} (h : cK σ r = (1, t, n)) : cB ad σ r = .inl (t, (n, .inl (σ.2.1 r))) := by
  unfold cB
  rw [h]
  rfl
theorem cB_l {σ : Cs} {r t n : Nat} (h : cK σ r = (2, t, n)) : cB ad σ r = .inl (t, (n, .inr (.inl (σ.2.2.1 r)))) := by
  unfold cB
  rw [h]
  rfl
theorem cB_q {σ : Cs} {r t n : Nat} (h : cK σ r = (3, t, n)) : cB ad σ r = .inl (t, (n, .inr (.inr (σ.2.2.2 r)))) := by
  unfold cB
  rw [h]
  rfl
theorem R_gf {σ : Cs} {r ci k : Nat} {v : Value} {fs : List Value} (hA : AdOK ad B) (hr : r < 114) (h1 : r ≠ 51) (h2 : r ≠ 53) (h0 : (cK σ r).1 = 0) (hc : cO ad σ r = (ci, fs)) (hv : fs[k]? = some v) : gf (cM X ad σ B) (ad r) ci k = some v := by
  unfold gf
  rw [cM_at hA hr h1 h2, cB_o h0, hc]
  show (if ci = ci then fs[k]? else none) = some v
  rw [if_pos rfl, hv]
theorem R_gI {σ : Cs} {r ci k : Nat} {v : Int32} {fs : List Value} (hA : AdOK ad B) (hr : r < 114) (h1 : r ≠ 51) (h2 : r ≠ 53) (h0 : (cK σ r).1 = 0) (hc : cO ad σ r = (ci, fs)) (hv : fs[k]? = some (.int v)) : gfI (cM X ad σ B) (ad r) ci k = some v := by
  unfold gfI
  rw [R_gf hA hr h1 h2 h0 hc hv]
theorem R_gR {σ : Cs} {r ci k : Nat} {v : Nat} {fs : List Value} (hA : AdOK ad B) (hr : r < 114) (h1 : r ≠ 51) (h2 : r ≠ 53) (h0 : (cK σ r).1 = 0) (hc : cO ad σ r = (ci, fs)) (hv : fs[k]? = some (.ref v)) : gfR (cM X ad σ B) (ad r) ci k = some v := by
  unfold gfR
  rw [R_gf hA hr h1 h2 h0 hc hv]
theorem R_oc {σ : Cs} {r ci : Nat} {fs : List Value} (hA : AdOK ad B) (hr : r < 114) (h1 : r ≠ 51) (h2 : r ≠ 53) (h0 : (cK σ r).1 = 0) (hc : cO ad σ r = (ci, fs)) : oc (cM X ad σ B) (ad r) ci = some () := by
  unfold oc
  rw [cM_at hA hr h1 h2, cB_o h0, hc]
  exact if_pos rfl
theorem R_pf {σ : Cs} {r ci k z : Nat} {v : Int32} {fs : List Value} (hA : AdOK ad B) (hr : r < 114) (h1 : r ≠ 51) (h2 : r ≠ 53) (h0 : (cK σ r).1 = 0) (hc : cO ad σ r = (ci, fs)) (hk : k < fs.length) (hz : cO ad (csI σ z v) r = (ci, fs.set k (.int v))) (hKz : ∀ i, cK (csI σ z v) i = cK σ i) (ho : ∀ i, i < 114 → i ≠ r → cO ad (csI σ z v) i = cO ad σ i) : pf (cM X ad σ B) (ad r) ci k (.int v) = some (cM X ad (csI σ z v) B) := by
  unfold pf
  rw [cM_at hA hr h1 h2, cB_o h0, hc]
  show (if ci = ci ∧ k < fs.length then some (mup (cM X ad σ B).1 (ad r) (.inr (ci, fs.set k (.int v))), (cM X ad σ B).2) else none) = _
  rw [if_pos ⟨rfl, hk⟩]
  refine congrArg some (cM_up hA hr (hA.2.1 r hr h1 h2) ?_ fun i hi hne => ?_)
  · rw [cB_o (by rw [hKz]; exact h0), hz]
  · unfold cB
    rw [hKz, ho i hi hne]
    rfl
theorem R_aI {σ : Cs} {r t n k : Nat} (hA : AdOK ad B) (hr : r < 114) (h1 : r ≠ 51) (h2 : r ≠ 53) (hc : cK σ r = (1, t, n)) (hk : k < n) (hn : n ≤ 2147483648) : aI (cM X ad σ B) t (ad r) (Int32.ofNat k) = some (σ.2.1 r k) := by
  unfold aI
  rw [cM_at hA hr h1 h2, cB_i hc]
  show (if t = t ∧ ¬ (Int32.ofNat k < 0 ∨ n ≤ (Int32.ofNat k).toNatClampNeg) then some (σ.2.1 r (Int32.ofNat k).toNatClampNeg) else none) = _
  rw [if_pos ⟨rfl, i_in hk hn⟩, i_cl hk hn]
theorem R_sI {σ : Cs} {r t n k : Nat} {x : Int32} (hA : AdOK ad B) (hr : r < 114) (h1 : r ≠ 51) (h2 : r ≠ 53) (hc : cK σ r = (1, t, n)) (hk : k < n) (hn : n ≤ 2147483648) : sI (cM X ad σ B) t (ad r) (Int32.ofNat k) x = some (cM X ad (csA σ r (upd (σ.2.1 r) k (nar t x))) B) := by
  unfold sI
  rw [cM_at hA hr h1 h2, cB_i hc]
  show (if t = t ∧ ¬ (Int32.ofNat k < 0 ∨ n ≤ (Int32.ofNat k).toNatClampNeg) then some (mup (cM X ad σ B).1 (ad r) (.inl (t, (n, .inl (upd (σ.2.1 r) (Int32.ofNat k).toNatClampNeg (nar t x))))), (cM X ad σ B).2) else none) = _
  rw [if_pos ⟨rfl, i_in hk hn⟩, i_cl hk hn]
  refine congrArg some (cM_up hA hr (hA.2.1 r hr h1 h2) ?_ fun i hi hne => cB_A hne)
  rw [cB_i (t := t) (n := n) (by rw [cK_A]; exact hc), csA_s]
theorem R_aL {σ : Cs} {r t n k : Nat} (hA : AdOK ad B) (hr : r < 114) (h1 : r ≠ 51) (h2 : r ≠ 53) (hc : cK σ r = (2, t, n)) (hk : k < n) (hn : n ≤ 2147483648) : aL (cM X ad σ B) t (ad r) (Int32.ofNat k) = some (σ.2.2.1 r k) := by
  unfold aL
  rw [cM_at hA hr h1 h2, cB_l hc]
  show (if t = t ∧ ¬ (Int32.ofNat k < 0 ∨ n ≤ (Int32.ofNat k).toNatClampNeg) then some (σ.2.2.1 r (Int32.ofNat k).toNatClampNeg) else none) = _
  rw [if_pos ⟨rfl, i_in hk hn⟩, i_cl hk hn]
theorem R_sL {σ : Cs} {r t n k : Nat} {x : Int64} (hA : AdOK ad B) (hr : r < 114) (h1 : r ≠ 51) (h2 : r ≠ 53) (hc : cK σ r = (2, t, n)) (hk : k < n) (hn : n ≤ 2147483648) : sL (cM X ad σ B) t (ad r) (Int32.ofNat k) x = some (cM X ad (csL σ r (vp_updL (σ.2.2.1 r) k x)) B) := by
  unfold sL
  rw [cM_at hA hr h1 h2, cB_l hc]
  show (if t = t ∧ ¬ (Int32.ofNat k < 0 ∨ n ≤ (Int32.ofNat k).toNatClampNeg) then some (mup (cM X ad σ B).1 (ad r) (.inl (t, (n, .inr (.inl (vp_updL (σ.2.2.1 r) (Int32.ofNat k).toNatClampNeg x))))), (cM X ad σ B).2) else none) = _
  rw [if_pos ⟨rfl, i_in hk hn⟩, i_cl hk hn]
  refine congrArg some (cM_up hA hr (hA.2.1 r hr h1 h2) ?_ fun i hi hne => cB_L hne)
  rw [cB_l (t := t) (n := n) (by rw [cK_L]; exact hc), csL_s]
theorem R_aQ {σ : Cs} {r t n k : Nat} (hA : AdOK ad B) (hr : r < 114) (hb : B.1 (ad r) = none) (hc : cK σ r = (3, t, n)) (hk : k < n) (hn : n ≤ 2147483648) : aQ (cM X ad σ B) t (ad r) (Int32.ofNat k) = some (σ.2.2.2 r k) := by
  unfold aQ
  rw [cM_rl hA hr hb, cB_q hc]
  show (if t = t ∧ ¬ (Int32.ofNat k < 0 ∨ n ≤ (Int32.ofNat k).toNatClampNeg) then some (σ.2.2.2 r (Int32.ofNat k).toNatClampNeg) else none) = _
  rw [if_pos ⟨rfl, i_in hk hn⟩, i_cl hk hn]
theorem R_aR {σ : Cs} {r t n k x : Nat} (hA : AdOK ad B) (hr : r < 114) (hb : B.1 (ad r) = none) (hc : cK σ r = (3, t, n)) (hk : k < n) (hn : n ≤ 2147483648) (hx : σ.2.2.2 r k = some x) : aR (cM X ad σ B) t (ad r) (Int32.ofNat k) = some x := by
  unfold aR
  rw [R_aQ hA hr hb hc hk hn, hx]
theorem R_sQ {σ : Cs} {r t n k : Nat} {x : Option Nat} (hA : AdOK ad B) (hr : r < 114) (hb : B.1 (ad r) = none) (hc : cK σ r = (3, t, n)) (hk : k < n) (hn : n ≤ 2147483648) : sQ (cM X ad σ B) t (ad r) (Int32.ofNat k) x = some (cM X ad (csQ σ r (va_up (σ.2.2.2 r) k x)) B) := by
  unfold sQ
  rw [cM_rl hA hr hb, cB_q hc]
  show (if t = t ∧ ¬ (Int32.ofNat k < 0 ∨ n ≤ (Int32.ofNat k).toNatClampNeg) then some (mup (cM X ad σ B).1 (ad r) (.inl (t, (n, .inr (.inr (va_up (σ.2.2.2 r) (Int32.ofNat k).toNatClampNeg x))))), (cM X ad σ B).2) else none) = _
  rw [if_pos ⟨rfl, i_in hk hn⟩, i_cl hk hn]
  refine congrArg some (cM_up hA hr hb ?_ fun i hi hne => cB_Q hne)
  rw [cB_q (t := t) (n := n) (by rw [cK_Q]; exact hc), csQ_s]
theorem R_aN {σ : Cs} {r : Nat} (hA : AdOK ad B) (hr : r < 114) (hb : B.1 (ad r) = none) (h0 : (cK σ r).1 ≠ 0) : aN (cM X ad σ B) (ad r) = some (Int32.ofNat (cK σ r).2.2) := by
  unfold aN
  rw [cM_rl hA hr hb]
  unfold cB
  rw [if_neg h0]
theorem R_cpI {σ : Cs} {r r' n n' : Nat} {m : Int32} {k : Nat} (hA : AdOK ad B) (hr : r < 114) (h1 : r ≠ 51) (h2 : r ≠ 53) (hr' : r' < 114) (h1' : r' ≠ 51) (h2' : r' ≠ 53) (hc : cK σ r = (1, 0, n)) (hc' : cK σ r' = (1, 0, n')) (hm : m = Int32.ofNat k) (hk : k ≤ n) (hk' : k ≤ n') (hn : n < 2147483648) : cpI (cM X ad σ B) (ad r) 0 (ad r') 0 m = some (cM X ad (csA σ r' (va_cpy (σ.2.1 r) (σ.2.1 r') 0 0 k)) B) := by
  subst hm
  have e0 : (0 : Int32).toNatClampNeg = 0 := rfl
  have e1 : (Int32.ofNat k).toNatClampNeg = k := Int32.toNatClampNeg_ofNat_of_lt (show k < 2 ^ 31 by omega)
  have e2 : ¬ Int32.ofNat k < 0 := fun h => absurd ((c_lt k 0 (by omega) (by omega)).mp h) (Nat.not_lt_zero k)
  unfold cpI
  rw [cM_at hA hr h1 h2, cB_i hc, cM_at hA hr' h1' h2', cB_i hc']
  show (if 0 = 0 ∧ 0 = 0 ∧ ¬ (0 : Int32) < 0 ∧ ¬ (0 : Int32) < 0 ∧ ¬ Int32.ofNat k < 0 ∧ (0 : Int32).toNatClampNeg + (Int32.ofNat k).toNatClampNeg ≤ n ∧ (0 : Int32).toNatClampNeg + (Int32.ofNat k).toNatClampNeg ≤ n' then some (mup (cM X ad σ B).1 (ad r') (.inl (0, (n', .inl (va_cpy (σ.2.1 r) (σ.2.1 r') (0 : Int32).toNatClampNeg (0 : Int32).toNatClampNeg (Int32.ofNat k).toNatClampNeg)))), (cM X ad σ B).2) else none) = _
  rw [e0, e1, if_pos ⟨rfl, rfl, by decide, by decide, e2, by omega, by omega⟩]
  refine congrArg some (cM_up hA hr' (hA.2.1 r' hr' h1' h2') ?_ fun i hi hne => cB_A hne)
  rw [cB_i (t := 0) (n := n') (by rw [cK_A]; exact hc'), csA_s]
/-! what stands in B -/
theorem F_gI {σ : Cs} {a ci k : Nat} {v : Int32} {fs : List Value} (h : B.1 a = some (.inr (ci, fs))) (hv : fs[k]? = some (.int v)) : gfI (cM X ad σ B) a ci k = some v := by
  unfold gfI gf
  rw [cM_fz h]
  show (match (if ci = ci then fs[k]? else none) with | some (.int x) => some x | _ => none) = _
  rw [if_pos rfl, hv]
theorem F_gR {σ : Cs} {a ci k : Nat} {v : Nat} {fs : List Value} (h : B.1 a = some (.inr (ci, fs))) (hv : fs[k]? = some (.ref v)) : gfR (cM X ad σ B) a ci k = some v := by
  unfold gfR gf
  rw [cM_fz h]
  show (match (if ci = ci then fs[k]? else none) with | some (.ref x) => some x | _ => none) = _
  rw [if_pos rfl, hv]
theorem F_oc {σ : Cs} {a ci : Nat} {fs : List Value} (h : B.1 a = some (.inr (ci, fs))) : oc (cM X ad σ B) a ci = some () := by
  unfold oc
  rw [cM_fz h]
  exact if_pos rfl
theorem F_oc_n {σ : Cs} {a ci cj : Nat} {fs : List Value} (h : B.1 a = some (.inr (ci, fs))) (hne : ci ≠ cj) : oc (cM X ad σ B) a cj = none := by
  unfold oc
  rw [cM_fz h]
  exact if_neg hne
theorem F_aI {σ : Cs} {a t n k : Nat} {f : Nat → Int32} (h : B.1 a = some (.inl (t, (n, .inl f)))) (hk : k < n) (hn : n ≤ 2147483648) : aI (cM X ad σ B) t a (Int32.ofNat k) = some (f k) := by
  unfold aI
  rw [cM_fz h]
  show (if t = t ∧ ¬ (Int32.ofNat k < 0 ∨ n ≤ (Int32.ofNat k).toNatClampNeg) then some (f (Int32.ofNat k).toNatClampNeg) else none) = _
  rw [if_pos ⟨rfl, i_in hk hn⟩, i_cl hk hn]
/-- a list that is not written any more: n elements, at e -/
def LB (B : Sw) (a n : Nat) (e : Nat → Nat) : Prop := n < 100000 ∧ ∃ (md : Int32) (d cap t : Nat) (f : Nat → Option Nat), B.1 a = some (.inr (20, [.int md, .ref d, .int (Int32.ofNat n)])) ∧ B.1 d = some (.inl (t, (cap, .inr (.inr f)))) ∧ (n ≠ 0 → t = 6) ∧ (t = 6 ∨ t = 12) ∧ n ≤ cap ∧ cap < 200000 ∧ ∀ j, j < n → f j = some (e j)
theorem F_size {F : Nat} {σ : Cs} {a n : Nat} {e : Nat → Nat} (h : LB B a n e) : f_J2_size F a (cM X ad σ B) = some (Int32.ofNat n) := by
  obtain ⟨-, md, d, cap, t, f, h1, -⟩ := h
  unfold f_J2_size
  rw [F_gI (k := 2) h1 rfl]
  rfl
theorem F_ocL {σ : Cs} {a n : Nat} {e : Nat → Nat} (h : LB B a n e) : oc (cM X ad σ B) a 20 = some () := by
  obtain ⟨-, md, d, cap, t, f, h1, -⟩ := h
  exact F_oc h1
theorem F_get {F : Nat} {σ : Cs} {a n j : Nat} {e : Nat → Nat} (h : LB B a n e) (hj : j < n) : f_J2_get F a (Int32.ofNat j) (cM X ad σ B) = some (e j) := by
  obtain ⟨hn, md, d, cap, t, f, h1, h2, h3, -, h5, h6, h7⟩ := h
  have ht := h3 (by omega)
  subst ht
  unfold f_J2_get
  rw [F_gI (k := 2) h1 rfl]
  show Option.bind (p_J14_checkIndex F (Int32.ofNat j) (Int32.ofNat n)) _ = _
  have hc : p_J14_checkIndex F (Int32.ofNat j) (Int32.ofNat n) = some (Int32.ofNat j) := by
    unfold p_J14_checkIndex p_J6_checkIndex
    have e1 : ¬ Int32.ofNat j < 0 := fun h => absurd ((c_lt j 0 (by omega) (by omega)).mp h) (Nat.not_lt_zero j)
    have e2 : Int32.ofNat j < Int32.ofNat n := (c_lt j n (by omega) (by omega)).mpr hj
    rw [if_neg e1, if_pos e2]
    rfl
  rw [hc]
  show Option.bind (oc (cM X ad σ B) a 20) _ = _
  rw [F_oc h1]
  show Option.bind (f_J2_elementData F a (Int32.ofNat j) (cM X ad σ B)) _ = _
  have hd : f_J2_elementData F a (Int32.ofNat j) (cM X ad σ B) = some (e j) := by
    unfold f_J2_elementData
    rw [F_gR (k := 1) h1 rfl]
    show Option.bind (aR (cM X ad σ B) 6 d (Int32.ofNat j)) _ = _
    have hq : aR (cM X ad σ B) 6 d (Int32.ofNat j) = some (e j) := by
      unfold aR aQ
      rw [cM_fz h2]
      show (match (if 6 = 6 ∧ ¬ (Int32.ofNat j < 0 ∨ cap ≤ (Int32.ofNat j).toNatClampNeg) then some (f (Int32.ofNat j).toNatClampNeg) else none) with | some (some x) => some x | _ => none) = _
      rw [if_pos ⟨rfl, i_in (by omega) (by omega)⟩, i_cl (n := cap) (by omega) (by omega), h7 j hj]
    rw [hq]
    rfl
  rw [hd]
  rfl
end CMEM
