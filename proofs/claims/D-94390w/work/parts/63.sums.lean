set_option maxRecDepth 100000
variable {X : Nat → Option Ob}
/-! sums: their code, their trees, what they come to -/
abbrev Cd : Type := List (Int32 × Int32)
def opv (o x y : Int32) : Int32 := if o = 2 then x + y else if o = 3 then x - y else if o = 4 then x * y else x / y
/-- one step of a sum's code -/
def e1 (env : Nat → Int32) (p : Int32 × Int32) (st : List Int32) : Option (List Int32) :=
  if p.1 = 0 then some (p.2 :: st) else if p.1 = 1 then some (env p.2.toNatClampNeg :: st) else match st with
    | y :: x :: r => if p.1 = 5 ∧ y = 0 then none else some (opv p.1 x y :: r)
    | _ => none
def ev (env : Nat → Int32) : Cd → List Int32 → Option (List Int32)
  | [], st => some st
  | p :: c, st => Option.bind (e1 env p st) (ev env c)
theorem ev_c (env : Nat → Int32) (p : Int32 × Int32) (c : Cd) (st : List Int32) : ev env (p :: c) st = Option.bind (e1 env p st) (ev env c) := rfl
theorem ev_app (env : Nat → Int32) : ∀ (c1 c2 : Cd) (st : List Int32), ev env (c1 ++ c2) st = Option.bind (ev env c1 st) (ev env c2) := by
  intro c1
  induction c1 with
  | nil => intro c2 st; rfl
  | cons p c ih =>
    intro c2 st
    rw [List.cons_append, ev_c, ev_c]
    cases e1 env p st with
    | none => rfl
    | some s => exact ih c2 s
def SgOp (s o : Int32) : Prop := (s = 43 ∧ o = 2) ∨ (s = 45 ∧ o = 3) ∨ (s = 42 ∧ o = 4) ∨ (s = 47 ∧ o = 5)
def IsOp (o : Int32) : Prop := o = 2 ∨ o = 3 ∨ o = 4 ∨ o = 5
theorem SgOp.op {s o : Int32} (h : SgOp s o) : IsOp o := by
  rcases h with ⟨-, h⟩ | ⟨-, h⟩ | ⟨-, h⟩ | ⟨-, h⟩
  · exact Or.inl h
  · exact Or.inr (Or.inl h)
  · exact Or.inr (Or.inr (Or.inl h))
  · exact Or.inr (Or.inr (Or.inr h))
theorem e1_op {env : Nat → Int32} {o : Int32} (ho : IsOp o) (x y : Int32) (r : List Int32) : e1 env (o, 0) (y :: x :: r) = if o = 5 ∧ y = 0 then none else some (opv o x y :: r) := by
  rcases ho with rfl | rfl | rfl | rfl <;> rfl
/-- the code of a sum is that of a tree, no deeper than d -/
def CdOK : Nat → Cd → Prop
  | 0, _ => False
  | d + 1, c => (∃ v, c = [((0 : Int32), v)]) ∨ (∃ w, w < 9 ∧ c = [((1 : Int32), Int32.ofNat w)]) ∨ (∃ o cl cr, IsOp o ∧ CdOK d cl ∧ CdOK d cr ∧ c = cl ++ (cr ++ [(o, (0 : Int32))]))
/-- the tree at an address of B, no deeper than d, and its code -/
def TrB (B : Sw) : Nat → Nat → Cd → Prop
  | 0, _, _ => False
  | d + 1, t, c => (∃ v, B.1 t = some (.inr (4, [.int v])) ∧ c = [((0 : Int32), v)]) ∨ (∃ w, w < 9 ∧ B.1 t = some (.inr (5, [.int (Int32.ofNat w)])) ∧ c = [((1 : Int32), Int32.ofNat w)]) ∨ (∃ s o l r cl cr, SgOp s o ∧ B.1 t = some (.inr (14, [.int s, .ref l, .ref r])) ∧ TrB B d l cl ∧ TrB B d r cr ∧ c = cl ++ (cr ++ [(o, (0 : Int32))]))
theorem TrB.ok {B : Sw} : ∀ {d t : Nat} {c : Cd}, TrB B d t c → CdOK d c := by
  intro d
  induction d with
  | zero => intro t c h; exact h
  | succ d ih =>
    intro t c h
    rcases h with ⟨v, -, e⟩ | ⟨w, hw, -, e⟩ | ⟨s, o, l, r, cl, cr, hs, -, h2, h3, e⟩
    · exact Or.inl ⟨v, e⟩
    · exact Or.inr (Or.inl ⟨w, hw, e⟩)
    · exact Or.inr (Or.inr ⟨o, cl, cr, hs.op, ih h2, ih h3, e⟩)
theorem CdOK.len : ∀ {d : Nat} {c : Cd}, CdOK d c → 1 ≤ c.length := by
  intro d c h
  cases d with
  | zero => exact absurd h id
  | succ d =>
    rcases h with ⟨v, rfl⟩ | ⟨w, hw, rfl⟩ | ⟨o, cl, cr, -, -, -, rfl⟩
    · exact Nat.le_refl 1
    · exact Nat.le_refl 1
    · rw [List.length_append, List.length_append]
      show 1 ≤ cl.length + (cr.length + 1)
      omega
/-- what a pair comes to -/
theorem pair_ev {env : Nat → Int32} {cl cr : Cd} {o : Int32} (ho : IsOp o) {a b : Int32} (h1 : ∀ st, ev env cl st = some (a :: st)) (h2 : ∀ st, ev env cr st = some (b :: st)) (st : List Int32) : ev env (cl ++ (cr ++ [(o, (0 : Int32))])) st = if o = 5 ∧ b = 0 then none else some (opv o a b :: st) := by
  rw [ev_app, h1]
  show ev env (cr ++ [(o, (0 : Int32))]) (a :: st) = _
  rw [ev_app, h2]
  show ev env [(o, (0 : Int32))] (b :: a :: st) = _
  rw [ev_c, e1_op ho]
  by_cases h : o = 5 ∧ b = 0
  · rw [if_pos h]
    rfl
  · rw [if_neg h]
    rfl
theorem pair_evl {env : Nat → Int32} {cl cr : Cd} {o : Int32} (h1 : ∀ st, ev env cl st = none) (st : List Int32) : ev env (cl ++ (cr ++ [(o, (0 : Int32))])) st = none := by
  rw [ev_app, h1]
  rfl
theorem pair_evr {env : Nat → Int32} {cl cr : Cd} {o a : Int32} (h1 : ∀ st, ev env cl st = some (a :: st)) (h2 : ∀ st, ev env cr st = none) (st : List Int32) : ev env (cl ++ (cr ++ [(o, (0 : Int32))])) st = none := by
  rw [ev_app, h1]
  show ev env (cr ++ [(o, (0 : Int32))]) (a :: st) = _
  rw [ev_app, h2]
  rfl
theorem CdOK.ev {env : Nat → Int32} : ∀ {d : Nat} {c : Cd}, CdOK d c → (∃ v, ∀ st, ev env c st = some (v :: st)) ∨ (∀ st, ev env c st = none) := by
  intro d
  induction d with
  | zero => intro c h; exact absurd h id
  | succ d ih =>
    intro c h
    rcases h with ⟨v, rfl⟩ | ⟨w, hw, rfl⟩ | ⟨o, cl, cr, ho, h1, h2, rfl⟩
    · exact Or.inl ⟨v, fun st => rfl⟩
    · exact Or.inl ⟨_, fun st => rfl⟩
    · rcases ih h1 with ⟨a, ha⟩ | ha
      · rcases ih h2 with ⟨b, hb⟩ | hb
        · by_cases h : o = 5 ∧ b = 0
          · exact Or.inr fun st => by rw [pair_ev ho ha hb, if_pos h]
          · exact Or.inl ⟨opv o a b, fun st => by rw [pair_ev ho ha hb, if_neg h]⟩
        · exact Or.inr (pair_evr ha hb)
      · exact Or.inr (pair_evl ha)
/-- what a sum comes to; none: something is divided by nought -/
def vl (env : Nat → Int32) (c : Cd) : Option Int32 := match ev env c [] with
  | some (v :: _) => some v
  | _ => none
theorem vl_s {env : Nat → Int32} {c : Cd} {v : Int32} (h : ∀ st, ev env c st = some (v :: st)) : vl env c = some v := by
  unfold vl
  rw [h]
theorem vl_n {env : Nat → Int32} {c : Cd} (h : ∀ st, ev env c st = none) : vl env c = none := by
  unfold vl
  rw [h]
theorem div_m1 (a : Int32) : a / (-1) = -a := by
  apply Int32.toInt.inj
  have e : (-1 : Int32).toInt = -1 := rfl
  rw [Int32.toInt_div, e, Int.tdiv_neg, Int.tdiv_one, Int32.toInt_neg]
theorem csI_csI (σ : Cs) (k : Nat) (v w : Int32) : csI (csI σ k v) k w = csI σ k w := by
  refine Prod.ext (funext fun j => ?_) rfl
  show (if j = k then w else if j = k then v else σ.1 j) = if j = k then w else σ.1 j
  by_cases h : j = k
  · rw [if_pos h, if_pos h]
  · rw [if_neg h, if_neg h, if_neg h]
/-! the component's sums -/
theorem value_C {ad : Nat → Nat} {B : Sw} {F : Nat} (hA : AdOK ad B) {env : Nat → Int32} : ∀ (d D t : Nat) (c : Cd) (σ : Cs), TrB B d t c → d ≤ D → (∀ k, k < 9 → σ.2.1 11 k = env k) → ∃ v σ1, f_value F D t (ad 10) (cM X ad σ B) = some (v, cM X ad σ1 B) ∧ ((σ1 = σ ∧ ∀ st, ev env c st = some (v :: st)) ∨ (σ1 = csI σ 41 1 ∧ ∀ st, ev env c st = none)) := by
  intro d
  induction d with
  | zero => intro D t c σ h; exact absurd h id
  | succ d ih =>
    intro D t c σ h hD he
    obtain ⟨E, rfl⟩ : ∃ E, D = E + 1 := ⟨D - 1, by omega⟩
    rw [f_value_s]
    have nn : ∀ {ci cj : Nat} {fs : List Value}, B.1 t = some (.inr (ci, fs)) → ci ≠ cj → ¬ oc (cM X ad σ B) t cj = some () := fun h1 hne z => by
      rw [F_oc_n h1 hne] at z
      cases z
    rcases h with ⟨v, h1, rfl⟩ | ⟨w, hw, h1, rfl⟩ | ⟨s, o, l, r, cl, cr, hs, h1, h2, h3, rfl⟩
    · refine ⟨v, σ, ?_, Or.inl ⟨rfl, fun st => rfl⟩⟩
      rw [if_pos (F_oc h1)]
      unfold f_X4_value
      rw [F_gI (k := 0) h1 rfl]
      rfl
    · refine ⟨env w, σ, ?_, Or.inl ⟨rfl, fun st => ?_⟩⟩
      · rw [if_neg (nn h1 (by decide)), if_pos (F_oc h1)]
        unfold f_X5_value
        rw [o10_0 hA]
        show Option.bind (Option.bind (gfI (cM X ad σ B) t 5 0) _) _ = _
        rw [F_gI (k := 0) h1 rfl]
        show Option.bind (Option.bind (aI (cM X ad σ B) 0 (ad 11) (Int32.ofNat w)) _) _ = _
        rw [a11 hA σ w hw, he w hw]
        rfl
      · show some (env (Int32.ofNat w).toNatClampNeg :: st) = _
        rw [i_cl (n := 9) hw (by decide)]
    · rw [if_neg (nn h1 (by decide)), if_neg (nn h1 (by decide)), if_pos (F_oc h1)]
      unfold f_X14_value
      rw [F_gR (k := 1) h1 rfl]
      obtain ⟨a, σ1, h4, h5⟩ := ih E l cl σ h2 (by omega) he
      have he1 : ∀ k, k < 9 → σ1.2.1 11 k = env k := by
        rcases h5 with ⟨e, -⟩ | ⟨e, -⟩ <;> (subst e; exact he)
      obtain ⟨b, σ2, h6, h7⟩ := ih E r cr σ1 h3 (by omega) he1
      have st1 : ∀ K : Int32 × Sw → Option (Int32 × Sw), Option.bind (some l) (fun x1 => Option.bind (f_value F E x1 (ad 10) (cM X ad σ B)) K) = K (a, cM X ad σ1 B) := fun K => by
        show Option.bind (f_value F E l (ad 10) (cM X ad σ B)) K = _
        rw [h4]
        rfl
      rw [st1]
      show ∃ v σ', Option.bind (gfR (cM X ad σ1 B) t 14 2) _ = _ ∧ _
      rw [F_gR (k := 2) h1 rfl]
      show ∃ v σ', Option.bind (f_value F E r (ad 10) (cM X ad σ1 B)) _ = _ ∧ _
      rw [h6]
      show ∃ v σ', Option.bind (gfI (cM X ad σ2 B) t 14 0) _ = _ ∧ _
      rw [F_gI (k := 0) h1 rfl]
      show ∃ v σ', (if s = 42 then some (a * b, cM X ad σ2 B) else if s = 43 then some (a + b, cM X ad σ2 B) else if s = 45 then some (a - b, cM X ad σ2 B) else if s = 44 then _ else if b = 0 then Option.bind (pf (cM X ad σ2 B) (ad 10) 7 1 (.int 1)) (fun μ => some (0, μ)) else if b = -1 then some (-a, cM X ad σ2 B) else Option.bind (dvO a b) (fun x => some (x, cM X ad σ2 B))) = _ ∧ _
      have ho := hs.op
      -- the world behind, whichever of the two is broken
      have hw : (σ2 = σ ∧ (∀ st, ev env cl st = some (a :: st)) ∧ ∀ st, ev env cr st = some (b :: st)) ∨ (σ2 = csI σ 41 1 ∧ ∀ st, ev env (cl ++ (cr ++ [(o, (0 : Int32))])) st = none) := by
        rcases h5 with ⟨e, h5⟩ | ⟨e, h5⟩
        · subst e
          rcases h7 with ⟨e, h7⟩ | ⟨e, h7⟩
          · exact Or.inl ⟨e, h5, h7⟩
          · exact Or.inr ⟨e, pair_evr h5 h7⟩
        · subst e
          rcases h7 with ⟨e, h7⟩ | ⟨e, h7⟩
          · exact Or.inr ⟨e, pair_evl h5⟩
          · rw [csI_csI] at e
            exact Or.inr ⟨e, pair_evl h5⟩
      have fin : ∀ v : Int32, opv o a b = v → ¬ (o = 5 ∧ b = 0) → (σ2 = σ ∧ ∀ st, ev env (cl ++ (cr ++ [(o, (0 : Int32))])) st = some (v :: st)) ∨ (σ2 = csI σ 41 1 ∧ ∀ st, ev env (cl ++ (cr ++ [(o, (0 : Int32))])) st = none) := by
        intro v hv h0
        rcases hw with ⟨e, q1, q2⟩ | ⟨e, q⟩
        · exact Or.inl ⟨e, fun st => by rw [pair_ev ho q1 q2, if_neg h0, hv]⟩
        · exact Or.inr ⟨e, q⟩
      rcases hs with ⟨e1, e2⟩ | ⟨e1, e2⟩ | ⟨e1, e2⟩ | ⟨e1, e2⟩
      · subst e1
        subst e2
        exact ⟨a + b, σ2, rfl, fin _ rfl (fun z => absurd z.1 (by decide))⟩
      · subst e1
        subst e2
        exact ⟨a - b, σ2, rfl, fin _ rfl (fun z => absurd z.1 (by decide))⟩
      · subst e1
        subst e2
        exact ⟨a * b, σ2, rfl, fin _ rfl (fun z => absurd z.1 (by decide))⟩
      · subst e1
        subst e2
        show ∃ v σ', (if b = 0 then Option.bind (pf (cM X ad σ2 B) (ad 10) 7 1 (.int 1)) (fun μ => some (0, μ)) else if b = -1 then some (-a, cM X ad σ2 B) else Option.bind (dvO a b) (fun x => some (x, cM X ad σ2 B))) = _ ∧ _
        by_cases hb : b = 0
        · rw [if_pos hb, p10_1 hA]
          refine ⟨0, csI σ2 41 1, rfl, Or.inr ?_⟩
          rcases hw with ⟨e, q1, q2⟩ | ⟨e, q⟩
          · exact ⟨by rw [e], fun st => by rw [pair_ev ho q1 q2, if_pos ⟨rfl, hb⟩]⟩
          · exact ⟨by rw [e, csI_csI], q⟩
        · rw [if_neg hb]
          by_cases hb1 : b = -1
          · rw [if_pos hb1]
            exact ⟨-a, σ2, rfl, fin _ (by rw [hb1]; exact div_m1 a) (fun z => hb z.2)⟩
          · rw [if_neg hb1]
            unfold dvO
            rw [if_neg hb]
            exact ⟨a / b, σ2, rfl, fin _ rfl (fun z => hb z.2)⟩
/-! the reference's sums -/
/-- a code stands in the reference's rows from k on -/
def cAt (A : Av) : Nat → Cd → Prop
  | _, [] => True
  | k, p :: c => A 9 k = p.1 ∧ A 10 k = p.2 ∧ cAt A (k + 1) c
theorem cAt_app {A : Av} : ∀ {c1 c2 : Cd} {k : Nat}, cAt A k (c1 ++ c2) ↔ cAt A k c1 ∧ cAt A (k + c1.length) c2 := by
  intro c1
  induction c1 with
  | nil => intro c2 k; exact ⟨fun h => ⟨trivial, h⟩, fun h => h.2⟩
  | cons p c ih =>
    intro c2 k
    have e : k + (p :: c).length = k + 1 + c.length := by
      rw [List.length_cons]
      omega
    rw [e]
    constructor
    · intro h
      have h3 := ih.mp h.2.2
      exact ⟨⟨h.1, h.2.1, h3.1⟩, h3.2⟩
    · intro h
      exact ⟨h.1.1, h.1.2.1, ih.mpr ⟨h.1.2.2, h.2⟩⟩
theorem twA_twA (τ : Tw) (j : Nat) (f g : Nat → Int32) : twA (twA τ j f) j g = twA τ j g := by
  refine Prod.ext rfl (Prod.ext (funext fun q => ?_) rfl)
  show (if q = j then g else if q = j then f else τ.2.1 q) = if q = j then g else τ.2.1 q
  by_cases h : q = j
  · rw [if_pos h, if_pos h]
  · rw [if_neg h, if_neg h, if_neg h]
theorem sumL_s {F m : Nat} {c2 v3 v4 : Int32} {τ : Tw} : t_X9_sum_L10 F c2 (m + 1) v3 v4 τ = t_X9_sum_L10_b F c2 (t_X9_sum_L10 F c2 m) v3 v4 τ := rfl
theorem i_sub {a b c : Nat} (h : c + b = a) : Int32.ofNat a - Int32.ofNat b = Int32.ofNat c := by
  subst h
  rw [← Int32.ofNat_sub _ _ (Nat.le_add_left _ _), Nat.add_sub_cancel]
theorem i_dec {a c : Nat} (h : c + 1 = a) : Int32.ofNat a + (-1) = Int32.ofNat c := by
  subst h
  have e1 : Int32.ofNat 1 + (-1) = (0 : Int32) := by decide
  rw [Int32.ofNat_add, Int32.add_assoc, e1, Int32.add_zero]
theorem sum_j {F n k : Nat} {self : Int32 → Int32 → Tw → Option (Int32 × Tw)} {c2 o a b : Int32} {τ : Tw} (hn : n < 500) (ho : IsOp o) (h5 : ¬ (o = 5 ∧ b = 0)) : t_X9_sum_j111 F self c2 (Int32.ofNat (n + 1)) (Int32.ofNat k) o b a τ = self (Int32.ofNat (n + 1)) (Int32.ofNat (k + 1)) (twA τ 24 (upd (τ.2.1 24) n (opv o a b))) := by
  have i4 : Int32.ofNat (n + 1) - 1 = Int32.ofNat n := i_sub (b := 1) rfl
  have i5 : Int32.ofNat k + 1 = Int32.ofNat (k + 1) := (Int32.ofNat_add k 1).symm
  unfold t_X9_sum_j111
  rw [i4]
  rcases ho with rfl | rfl | rfl | rfl
  · rw [if_pos rfl, tsA_n τ 24 0 500 n _ hn (by decide)]
    show self _ (Int32.ofNat k + 1) _ = _
    rw [i5]
    rfl
  · rw [if_neg (by decide), if_pos rfl, tsA_n τ 24 0 500 n _ hn (by decide)]
    show self _ (Int32.ofNat k + 1) _ = _
    rw [i5]
    rfl
  · rw [if_neg (by decide), if_neg (by decide), if_pos rfl, tsA_n τ 24 0 500 n _ hn (by decide)]
    show self _ (Int32.ofNat k + 1) _ = _
    rw [i5]
    rfl
  · rw [if_neg (by decide), if_neg (by decide), if_neg (by decide)]
    unfold dvO
    rw [if_neg (fun z => h5 ⟨rfl, z⟩)]
    show Option.bind (tsA τ 24 0 500 (Int32.ofNat n) (a / b)) _ = _
    rw [tsA_n τ 24 0 500 n _ hn (by decide)]
    show self _ (Int32.ofNat k + 1) _ = _
    rw [i5]
    rfl
theorem sum_op {F T m n k : Nat} {o a b : Int32} {τ : Tw} (hT : T ≤ 500) (hk : k < T) (hn : n + 2 ≤ 500) (ho : IsOp o) (h9 : τ.2.1 9 k = o) (hb : τ.2.1 24 (n + 1) = b) (ha : τ.2.1 24 n = a) : t_X9_sum_L10 F (Int32.ofNat T) (m + 1) (Int32.ofNat (n + 1 + 1)) (Int32.ofNat k) τ = if o = 5 ∧ b = 0 then some (0, tsI τ 35 1) else t_X9_sum_L10 F (Int32.ofNat T) m (Int32.ofNat (n + 1)) (Int32.ofNat (k + 1)) (twA τ 24 (upd (τ.2.1 24) n (opv o a b))) := by
  have c0 : ¬ Int32.ofNat T ≤ Int32.ofNat k := by rw [c_le _ _ (by omega) (by omega)]; omega
  have o2 : (2 : Int32) ≤ o := by rcases ho with rfl | rfl | rfl | rfl <;> decide
  have i1 : Int32.ofNat (n + 1 + 1) - 1 = Int32.ofNat (n + 1) := i_sub (b := 1) rfl
  have i2 : Int32.ofNat (n + 1 + 1) - 2 = Int32.ofNat n := i_sub (b := 2) rfl
  have i3 : Int32.ofNat (n + 1 + 1) + (-1) = Int32.ofNat (n + 1) := i_dec rfl
  rw [sumL_s]
  unfold t_X9_sum_L10_b
  rw [if_neg c0, taI_n τ 9 1000 k (by omega) (by decide), h9]
  show (if (2 : Int32) ≤ o then _ else _) = _
  rw [if_pos o2, i1, taI_n τ 24 500 (n + 1) (by omega) (by decide), hb]
  show Option.bind (taI τ 24 500 (Int32.ofNat (n + 1 + 1) - 2)) _ = _
  rw [i2, taI_n τ 24 500 n (by omega) (by decide), ha]
  rw [Option.bind_some, i3]
  show (if o = 5 then (if b = 0 then some (0, tsI τ 35 1) else t_X9_sum_j111 F (t_X9_sum_L10 F (Int32.ofNat T) m) (Int32.ofNat T) (Int32.ofNat (n + 1)) (Int32.ofNat k) o b a τ) else t_X9_sum_j111 F (t_X9_sum_L10 F (Int32.ofNat T) m) (Int32.ofNat T) (Int32.ofNat (n + 1)) (Int32.ofNat k) o b a τ) = _
  by_cases h5 : o = 5
  · rw [if_pos h5]
    by_cases h0 : b = 0
    · rw [if_pos h0, if_pos ⟨h5, h0⟩]
    · have hh : ¬ (o = 5 ∧ b = 0) := fun z => h0 z.2
      rw [if_neg h0, if_neg hh, sum_j (by omega) ho hh]
  · have hh : ¬ (o = 5 ∧ b = 0) := fun z => h5 z.1
    rw [if_neg h5, if_neg hh, sum_j (by omega) ho hh]
theorem sum_T {F T : Nat} {A : Av} {env : Nat → Int32} (hT : T ≤ 500) : ∀ (d : Nat) (c : Cd) (k n m : Nat) (τ : Tw), CdOK d c → cAt A k c → k + c.length ≤ T → n + c.length ≤ 500 → τ.2.1 9 = A 9 → τ.2.1 10 = A 10 → (∀ j, j < 9 → τ.2.1 23 j = env j) →
    (∃ v g, (∀ st, ev env c st = some (v :: st)) ∧ t_X9_sum_L10 F (Int32.ofNat T) (m + c.length) (Int32.ofNat n) (Int32.ofNat k) τ = t_X9_sum_L10 F (Int32.ofNat T) m (Int32.ofNat (n + 1)) (Int32.ofNat (k + c.length)) (twA τ 24 g) ∧ g n = v ∧ ∀ i, i < n → g i = τ.2.1 24 i) ∨ ((∀ st, ev env c st = none) ∧ ∃ g, t_X9_sum_L10 F (Int32.ofNat T) (m + c.length) (Int32.ofNat n) (Int32.ofNat k) τ = some (0, tsI (twA τ 24 g) 35 1)) := by
  intro d
  induction d with
  | zero => intro c k n m τ h; exact absurd h id
  | succ d ih =>
    intro c k n m τ h hc hk hn h9 h10 he
    rcases h with ⟨v, rfl⟩ | ⟨w, hw, rfl⟩ | ⟨o, cl, cr, ho, h1, h2, rfl⟩
    · refine Or.inl ⟨v, upd (τ.2.1 24) n v, fun st => rfl, ?_, up_s _ _ _, fun i hi => up_n _ _ _ _ (by omega)⟩
      have hk : k + 1 ≤ T := hk
      have hn : n + 1 ≤ 500 := hn
      obtain ⟨c1, c2, -⟩ := hc
      show t_X9_sum_L10 F (Int32.ofNat T) (m + 1) _ _ _ = _
      rw [sumL_s]
      unfold t_X9_sum_L10_b
      have c0 : ¬ Int32.ofNat T ≤ Int32.ofNat k := by rw [c_le _ _ (by omega) (by omega)]; omega
      rw [if_neg c0, taI_n τ 9 1000 k (by omega) (by decide), h9, c1]
      show Option.bind (taI τ 10 1000 (Int32.ofNat k)) _ = _
      rw [taI_n τ 10 1000 k (by omega) (by decide), h10, c2]
      show Option.bind (tsA τ 24 0 500 (Int32.ofNat n) v) _ = _
      rw [tsA_n τ 24 0 500 n v (by omega) (by decide)]
      show t_X9_sum_L10 F (Int32.ofNat T) m (Int32.ofNat n + 1) (Int32.ofNat k + 1) _ = _
      rw [n_lp, n_lp]
      rfl
    · refine Or.inl ⟨env w, upd (τ.2.1 24) n (env w), fun st => ?_, ?_, up_s _ _ _, fun i hi => up_n _ _ _ _ (by omega)⟩
      · show some (env (Int32.ofNat w).toNatClampNeg :: st) = _
        rw [i_cl (n := 9) hw (by decide)]
      have hk : k + 1 ≤ T := hk
      have hn : n + 1 ≤ 500 := hn
      obtain ⟨c1, c2, -⟩ := hc
      show t_X9_sum_L10 F (Int32.ofNat T) (m + 1) _ _ _ = _
      rw [sumL_s]
      unfold t_X9_sum_L10_b
      have c0 : ¬ Int32.ofNat T ≤ Int32.ofNat k := by rw [c_le _ _ (by omega) (by omega)]; omega
      rw [if_neg c0, taI_n τ 9 1000 k (by omega) (by decide), h9, c1]
      show Option.bind (taI τ 10 1000 (Int32.ofNat k)) _ = _
      rw [taI_n τ 10 1000 k (by omega) (by decide), h10, c2]
      show Option.bind (taI τ 23 9 (Int32.ofNat w)) _ = _
      rw [taI_n τ 23 9 w hw (by decide), he w hw]
      show Option.bind (tsA τ 24 0 500 (Int32.ofNat n) (env w)) _ = _
      rw [tsA_n τ 24 0 500 n (env w) (by omega) (by decide)]
      show t_X9_sum_L10 F (Int32.ofNat T) m (Int32.ofNat n + 1) (Int32.ofNat k + 1) _ = _
      rw [n_lp, n_lp]
      rfl
    · have el : (cl ++ (cr ++ [(o, (0 : Int32))])).length = cl.length + (cr.length + 1) := by rw [List.length_append, List.length_append]; rfl
      rw [el] at hk hn ⊢
      obtain ⟨hc1, hc2⟩ := cAt_app.mp hc
      obtain ⟨hc2, hc3⟩ := cAt_app.mp hc2
      obtain ⟨c1, -, -⟩ := hc3
      have hl1 := h1.len
      have hl2 := h2.len
      have em : m + (cl.length + (cr.length + 1)) = (m + 1 + cr.length) + cl.length := by omega
      rw [em]
      rcases ih cl k n (m + 1 + cr.length) τ h1 hc1 (by omega) (by omega) h9 h10 he with ⟨a, g, ha, e1, ga, gi⟩ | ⟨ha, g, e1⟩
      · rw [e1]
        rcases ih cr (k + cl.length) (n + 1) (m + 1) (twA τ 24 g) h2 hc2 (by omega) (by omega) h9 h10 he with ⟨b, g2, hb, e2, gb, gj⟩ | ⟨hb, g2, e2⟩
        · rw [e2, twA_twA]
          have g2n : g2 n = a := by
            rw [gj n (by omega), twA_s]
            exact ga
          have g2i : ∀ i, i < n → g2 i = τ.2.1 24 i := fun i hi => by
            rw [gj i (by omega), twA_s]
            exact gi i hi
          have x9 : (twA τ 24 g2).2.1 9 (k + cl.length + cr.length) = o := by
            show τ.2.1 9 _ = o
            rw [h9]
            exact c1
          have y1 : (twA τ 24 g2).2.1 24 (n + 1) = b := by rw [twA_s]; exact gb
          have y2 : (twA τ 24 g2).2.1 24 n = a := by rw [twA_s]; exact g2n
          rw [sum_op hT (by omega) (by omega) ho x9 y1 y2, twA_s, twA_twA]
          have ek : k + (cl.length + (cr.length + 1)) = k + cl.length + cr.length + 1 := by omega
          rw [ek]
          by_cases h : o = 5 ∧ b = 0
          · rw [if_pos h]
            exact Or.inr ⟨fun st => by rw [pair_ev ho ha hb, if_pos h], g2, rfl⟩
          · rw [if_neg h]
            exact Or.inl ⟨opv o a b, upd g2 n (opv o a b), fun st => by rw [pair_ev ho ha hb, if_neg h], rfl, up_s _ _ _, fun i hi => by rw [up_n _ _ _ _ (by omega)]; exact g2i i hi⟩
        · rw [e2, twA_twA]
          exact Or.inr ⟨pair_evr ha hb, g2, rfl⟩
      · rw [e1]
        exact Or.inr ⟨pair_evl ha, g, rfl⟩
