set_option maxRecDepth 100000
/-! the reader's ground: cells that may change, tokens -/
variable {X : Nat → Option Ob} {ad : Nat → Nat} {B B' : Sw} {A : Av} {σ σ' : Cs} {τ τ' : Tw} {F : Nat} {c pl : Nat → Nat} {last j : Nat}
def mX (X : Nat → Option Ob) (a : Nat) (o : Ob) : Nat → Option Ob := fun q => if q = a then some o else X q
def nB (B : Sw) (k : Nat) : Sw := (B.1, B.2.1 + 1, B.2.2.1 + k, B.2.2.2)
def frB (B : Sw) (a : Nat) (o : Ob) : Sw := (mup B.1 a o, B.2)
theorem mX_s {a : Nat} {o : Ob} : mX X a o a = some o := if_pos rfl
theorem mX_n {a q : Nat} {o : Ob} (h : q ≠ a) : mX X a o q = X q := if_neg h
theorem rl_none {a : Nat} (h : ∀ r, r < 114 → ad r ≠ a) : rl ad a = none := by
  cases hq : rl ad a with
  | none => rfl
  | some r =>
    obtain ⟨h1, h2⟩ := rl_some hq
    exact absurd h2 (h r h1)
theorem no_B {a : Nat} (h : ¬ Own ad B a) : B.1 a = none := by
  cases hb : B.1 a with
  | none => rfl
  | some o => exact absurd (Or.inl (by rw [hb]; exact fun q => by cases q)) h
theorem no_r {a : Nat} (h : ¬ Own ad B a) : ∀ r, r < 114 → ad r ≠ a := fun r hr e => h (Or.inr ⟨r, hr, e⟩)
theorem new_no (hA : AdOK ad B) {a : Nat} (ha : B.2.1 ≤ a) : ¬ Own ad B a := by
  rintro (h | ⟨r, hr, e⟩)
  · exact h (hA.2.2.2 a ha)
  · have := hA.2.2.1 r hr
    omega
theorem up_X {a : Nat} {o : Ob} (h : ¬ Own ad B a) : (mup (cM X ad σ B).1 a o, (cM X ad σ B).2) = cM (mX X a o) ad σ B := by
  refine Prod.ext (funext fun q => ?_) rfl
  show mup (cM X ad σ B).1 a o q = _
  rw [cM_1]
  by_cases e : q = a
  · subst e
    rw [mup_eq, no_B h, rl_none (no_r h)]
    exact mX_s.symm
  · rw [mup_ne e, cM_1]
    cases hb : B.1 q with
    | some o => rfl
    | none =>
      cases hr : rl ad q with
      | some r => rfl
      | none => exact (mX_n e).symm
theorem nw_X (hA : AdOK ad B) {o : Ob} {k : Nat} : nw (cM X ad σ B) o k = cM (mX X B.2.1 o) ad σ (nB B k) := by
  have h := up_X (X := X) (σ := σ) (o := o) (new_no hA (Nat.le_refl B.2.1))
  have h1 : mup (cM X ad σ B).1 B.2.1 o = (cM (mX X B.2.1 o) ad σ B).1 := congrArg (fun z : Sw => z.1) h
  exact Prod.ext h1 rfl
theorem nB_ad (hA : AdOK ad B) {k : Nat} : AdOK ad (nB B k) := by
  refine ⟨hA.1, hA.2.1, fun r h => ?_, fun a ha => ?_⟩
  · have := hA.2.2.1 r h
    show ad r < B.2.1 + 1
    omega
  · have ha : B.2.1 + 1 ≤ a := ha
    exact hA.2.2.2 a (by omega)
theorem fr_X {a : Nat} {o : Ob} (h : ¬ Own ad B a) (hx : X a = some o) : cM X ad σ B = cM X ad σ (frB B a o) := by
  refine Prod.ext (funext fun q => ?_) rfl
  rw [cM_1, cM_1]
  show _ = match mup B.1 a o q with | some o => some o | none => match rl ad q with | some r => some (cB ad σ r) | none => X q
  by_cases e : q = a
  · subst e
    rw [mup_eq, no_B h, rl_none (no_r h)]
    exact hx
  · rw [mup_ne e]
    rfl
theorem fr_gr {a : Nat} {o : Ob} (h : ¬ Own ad B a) : Gr B (frB B a o) := fun q o' hq => by
  have : q ≠ a := fun e => by
    rw [e, no_B h] at hq
    cases hq
  show mup B.1 a o q = _
  rw [mup_ne this]
  exact hq
theorem fr_no {a : Nat} {o : Ob} (h : ¬ Own ad B a) {r : Nat} (hr : r < 114) : (frB B a o).1 (ad r) = B.1 (ad r) := mup_ne (no_r h r hr)
theorem fr_ad (hA : AdOK ad B) {a : Nat} {o : Ob} (h : ¬ Own ad B a) (hl : a < B.2.1) : AdOK ad (frB B a o) := by
  refine ⟨fun r r' q q' hb he => hA.1 r r' q q' (by rw [← fr_no (o := o) h q]; exact hb) he, fun r q x y => (fr_no h q).trans (hA.2.1 r q x y), hA.2.2.1, fun q hq => ?_⟩
  have hq : B.2.1 ≤ q := hq
  show mup B.1 a o q = none
  rw [mup_ne (by omega)]
  exact hA.2.2.2 q hq
theorem fr_own {a q : Nat} {o : Ob} (h : Own ad (frB B a o) q) : Own ad B q ∨ q = a := by
  by_cases e : q = a
  · exact Or.inr e
  · rcases h with h | h
    · refine Or.inl (Or.inl ?_)
      have e1 : (frB B a o).1 q = B.1 q := mup_ne e
      rw [← e1]
      exact h
    · exact Or.inl (Or.inr h)
theorem fr_at {a : Nat} {o : Ob} : (frB B a o).1 a = some o := mup_eq
theorem pf_X {a ci k : Nat} {fs : List Value} {v : Value} (h : ¬ Own ad B a) (hx : X a = some (.inr (ci, fs))) (hk : k < fs.length) : pf (cM X ad σ B) a ci k v = some (cM (mX X a (.inr (ci, fs.set k v))) ad σ B) := by
  rw [m_pf ((cM_X h).trans hx) hk, up_X h]
theorem mX_mX {a : Nat} {o o' : Ob} : mX (mX X a o) a o' = mX X a o' := by
  funext q
  by_cases e : q = a
  · rw [e, mX_s, mX_s]
  · rw [mX_n e, mX_n e, mX_n e]
/-! tokens, looked at -/
theorem kT_inj : ∀ x, x < 42 → ∀ y, y < 42 → kT x = kT y → x = y := by decide +kernel
theorem sT_2 : ∀ x, x < 42 → (sT x = 2 ↔ 4 ≤ x ∧ x < 16) ∧ (sT x = 3 ↔ 16 ≤ x) := by decide
theorem wT_s : ∀ x, x < 16 → 4 ≤ x → ∀ y, y < 16 → 4 ≤ y → wT x = wT y → x = y := by decide +kernel
theorem wT_w : ∀ x, x < 26 → ∀ y, y < 26 → wtL.getD x 0 = wtL.getD y 0 → x = y := by decide +kernel
/-- both stand at token j -/
def PK (c pl : Nat → Nat) (last j : Nat) (σ : Cs) (τ : Tw) : Prop := TKS c pl last σ τ ∧ σ.1 31 = Int32.ofNat j ∧ τ.1 7 = Int32.ofNat j ∧ j ≤ last
theorem kind_C (hA : AdOK ad B) (h : PK c pl last j σ τ) : f_X2_kind F (ad 6) (cM X ad σ B) = some (kT (c j)) := by
  obtain ⟨⟨h1, h2, -⟩, h3, -, h5⟩ := h
  unfold f_X2_kind
  rw [o6_0 hA, Option.bind_some, o1_2 hA, Option.bind_some, o6_1 hA, Option.bind_some, h3, a3 hA σ j (by omega), Option.bind_some, (h2 j h5).1.2.1]
theorem is_CC (hA : AdOK ad B) (h : PK c pl last j σ τ) {q : Nat} (hq : q < 42) : f_X2_is F (ad 6) (kT q) (cM X ad σ B) = some (if c j = q then 1 else 0) := by
  have hc := (h.1.2.1 j h.2.2.2).1.1
  obtain ⟨⟨h1, h2, -⟩, h3, -, h5⟩ := h
  unfold f_X2_is
  rw [o6_0 hA, Option.bind_some, o1_2 hA, Option.bind_some, o6_1 hA, Option.bind_some, h3, a3 hA σ j (by omega), Option.bind_some, (h2 j h5).1.2.1]
  by_cases e : c j = q
  · rw [if_pos e, if_pos (by rw [e])]
  · rw [if_neg e, if_neg (fun z => e (kT_inj _ hc _ hq z))]
theorem sort_T (h : PK c pl last j σ τ) : taI τ 2 2001 (τ.1 7) = some (sT (c j)) := by
  obtain ⟨⟨h1, h2, -⟩, -, h3, h5⟩ := h
  rw [h3, taI_n τ 2 2001 j (by omega) (by decide), (h2 j h5).1.2.2]
theorem what_T (h : PK c pl last j σ τ) : taI τ 4 2001 (τ.1 7) = some (τ.2.1 4 j) := by
  obtain ⟨⟨h1, h2, -⟩, -, h3, h5⟩ := h
  rw [h3, taI_n τ 4 2001 j (by omega) (by decide)]
theorem sign_TT (h : PK c pl last j σ τ) {q : Nat} (hq : 4 ≤ q ∧ q < 16) : t_X9_isSign F (wT q) τ = some (if c j = q then 1 else 0) := by
  have hc := (h.1.2.1 j h.2.2.2).1.1
  unfold t_X9_isSign
  rw [sort_T h, Option.bind_some, what_T h]
  by_cases s2 : sT (c j) = 2
  · have r := (sT_2 _ hc).1.1 s2
    rw [if_pos s2, Option.bind_some, (h.1.2.1 j h.2.2.2).2.2.1 (by omega) (by omega)]
    by_cases e : c j = q
    · rw [if_pos e, if_pos (by rw [e])]
    · rw [if_neg e, if_neg (fun z => e (wT_s _ r.2 r.1 _ hq.2 hq.1 z))]
  · rw [if_neg s2, if_neg (fun e => s2 ((sT_2 _ hc).1.2 (by omega)))]
theorem word_TT (h : PK c pl last j σ τ) {q : Nat} (hq : q < 26) : t_X9_isWord F (wtL.getD q 0) τ = some (if c j = 16 + q then 1 else 0) := by
  have hc := (h.1.2.1 j h.2.2.2).1.1
  unfold t_X9_isWord
  rw [sort_T h, Option.bind_some, what_T h]
  by_cases s3 : sT (c j) = 3
  · have r := (sT_2 _ hc).2.1 s3
    have hw : wT (c j) = wtL.getD (c j - 16) 0 := if_neg (by omega)
    rw [if_pos s3, Option.bind_some, (h.1.2.1 j h.2.2.2).2.2.1 (by omega) (by omega), hw]
    by_cases e : c j = 16 + q
    · rw [if_pos e, if_pos (by rw [e, Nat.add_sub_cancel_left])]
    · rw [if_neg e, if_neg (fun z => e (by have := wT_w _ (by omega) _ hq z; omega))]
  · rw [if_neg s3, if_neg (fun e => s3 ((sT_2 _ hc).2.2 (by omega)))]
/-- a fault's object -/
def fltO (k : Int32) (p : Nat) : Ob := .inr (10, [.null, .null, .null, .null, .null, .int 0, .int k, .int (Int32.ofNat p)])
theorem i_X10 {M : Sw} {k p : Int32} : f_X10_init F M.2.1 k p (ovl M [.inr (10, dfX10)] 8) = some (ovl M [.inr (10, [.null, .null, .null, .null, .null, .int 0, .int k, .int p])] 8) := by
  unfold f_X10_init f_J10_init f_J9_init f_J8_init_2 f_J8_init_2_j41
  rw [iI rfl, Option.bind_some, iI rfl, Option.bind_some, iI rfl, Option.bind_some, if_pos rfl, iI rfl, Option.bind_some, iI rfl, Option.bind_some, iI rfl, Option.bind_some, if_pos rfl, iI rfl, Option.bind_some, Option.bind_some, Option.bind_some, Option.bind_some, iI rfl, Option.bind_some, iI rfl, Option.bind_some]
  rfl
theorem fault_C (hA : AdOK ad B) (h : PK c pl last j σ τ) {k : Int32} : f_X2_fault F (ad 6) k (cM X ad σ B) = some (B.2.1, cM X ad σ (ovl B [fltO k (pl j)] 8)) := by
  obtain ⟨⟨h1, h2, -⟩, h3, -, h5⟩ := h
  unfold f_X2_fault
  have hA' : AdOK ad (ovl B [.inr (10, dfX10)] 8) := ov_ad hA
  rw [nmE, ov_new, ov_cM, o6_0 hA', Option.bind_some, o1_3 hA', Option.bind_some, o6_1 hA', Option.bind_some, h3, a4 hA' σ j (by omega), Option.bind_some, (h2 j h5).2.1.1, ← ov_cM]
  have := i_X10 (F := F) (M := cM X ad σ B) (k := k) (p := Int32.ofNat (pl j))
  rw [this, Option.bind_some, ov_cM]
  rfl
theorem wrong_T (h : PK c pl last j σ τ) {k : Int32} : t_X9_wrong F k τ = some (0, tsI (tsI τ 8 k) 9 (Int32.ofNat (pl j))) := by
  obtain ⟨⟨h1, h2, -⟩, -, h3, h5⟩ := h
  unfold t_X9_wrong
  rw [nmE, tsI_n _ _ _ _ (by decide), h3, taI_n _ 3 2001 j (by omega) (by decide), Option.bind_some]
  have e : (tsI τ 8 k).2.1 3 j = Int32.ofNat (pl j) := (h2 j h5).2.1.2
  rw [e]
  rfl
