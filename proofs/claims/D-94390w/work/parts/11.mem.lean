set_option maxRecDepth 100000
/-! the memory's own rows -/
def nar (t : Nat) (x : Int32) : Int32 := match t with
  | 2 => x.toInt8.toInt32
  | 3 => x.toInt16.toInt32
  | 4 => x &&& 1
  | _ => x
def gf (μ : Sw) (a ci k : Nat) : Option Value := match μ.1 a with
  | some (.inr q) => if q.1 = ci then q.2[k]? else none
  | _ => none
def gfI (μ : Sw) (a ci k : Nat) : Option Int32 := match gf μ a ci k with
  | some (.int x) => some x
  | _ => none
def gfR (μ : Sw) (a ci k : Nat) : Option Nat := match gf μ a ci k with
  | some (.ref x) => some x
  | _ => none
/-- an object of a class stands there -/
def oc (μ : Sw) (a ci : Nat) : Option Unit := match μ.1 a with
  | some (.inr q) => if q.1 = ci then some () else none
  | _ => none
def pf (μ : Sw) (a ci k : Nat) (v : Value) : Option Sw := match μ.1 a with
  | some (.inr q) => if q.1 = ci ∧ k < q.2.length then some (mup μ.1 a (.inr (ci, q.2.set k v)), μ.2) else none
  | _ => none
def aI (μ : Sw) (t a : Nat) (i : Int32) : Option Int32 := match μ.1 a with
  | some (.inl (t', (n, .inl f))) => if t' = t ∧ ¬ (i < 0 ∨ n ≤ i.toNatClampNeg) then some (f i.toNatClampNeg) else none
  | _ => none
def sI (μ : Sw) (t a : Nat) (i x : Int32) : Option Sw := match μ.1 a with
  | some (.inl (t', (n, .inl f))) => if t' = t ∧ ¬ (i < 0 ∨ n ≤ i.toNatClampNeg) then some (mup μ.1 a (.inl (t, (n, .inl (upd f i.toNatClampNeg (nar t x))))), μ.2) else none
  | _ => none
def aL (μ : Sw) (t a : Nat) (i : Int32) : Option Int64 := match μ.1 a with
  | some (.inl (t', (n, .inr (.inl f)))) => if t' = t ∧ ¬ (i < 0 ∨ n ≤ i.toNatClampNeg) then some (f i.toNatClampNeg) else none
  | _ => none
def sL (μ : Sw) (t a : Nat) (i : Int32) (x : Int64) : Option Sw := match μ.1 a with
  | some (.inl (t', (n, .inr (.inl f)))) => if t' = t ∧ ¬ (i < 0 ∨ n ≤ i.toNatClampNeg) then some (mup μ.1 a (.inl (t, (n, .inr (.inl (vp_updL f i.toNatClampNeg x))))), μ.2) else none
  | _ => none
/-- the reference that an array holds: null is none within -/
def aQ (μ : Sw) (t a : Nat) (i : Int32) : Option (Option Nat) := match μ.1 a with
  | some (.inl (t', (n, .inr (.inr f)))) => if t' = t ∧ ¬ (i < 0 ∨ n ≤ i.toNatClampNeg) then some (f i.toNatClampNeg) else none
  | _ => none
def aR (μ : Sw) (t a : Nat) (i : Int32) : Option Nat := match aQ μ t a i with
  | some (some x) => some x
  | _ => none
def sQ (μ : Sw) (t a : Nat) (i : Int32) (x : Option Nat) : Option Sw := match μ.1 a with
  | some (.inl (t', (n, .inr (.inr f)))) => if t' = t ∧ ¬ (i < 0 ∨ n ≤ i.toNatClampNeg) then some (mup μ.1 a (.inl (t, (n, .inr (.inr (va_up f i.toNatClampNeg x))))), μ.2) else none
  | _ => none
def aN (μ : Sw) (a : Nat) : Option Int32 := match μ.1 a with
  | some (.inl q) => some (Int32.ofNat q.2.1)
  | _ => none
theorem gf_spec {μ : Sw} {a ci k : Nat} {v : Value} (h : gf μ a ci k = some v) : ∃ fs, μ.1 a = some (.inr (ci, fs)) ∧ fs[k]? = some v := by
  unfold gf at h
  split at h
  · next q e =>
    split at h
    · next e2 => subst e2; exact ⟨q.2, e, h⟩
    · cases h
  · cases h
theorem gfI_spec {μ : Sw} {a ci k : Nat} {x : Int32} (h : gfI μ a ci k = some x) : gf μ a ci k = some (.int x) := by
  unfold gfI at h
  split at h
  · next y e => cases h; exact e
  · cases h
theorem gfR_spec {μ : Sw} {a ci k x : Nat} (h : gfR μ a ci k = some x) : gf μ a ci k = some (.ref x) := by
  unfold gfR at h
  split at h
  · next y e => cases h; exact e
  · cases h
theorem oc_spec {μ : Sw} {a ci : Nat} {u : Unit} (h : oc μ a ci = some u) : ∃ fs, μ.1 a = some (.inr (ci, fs)) := by
  unfold oc at h
  split at h
  · next q e =>
    split at h
    · next e2 => subst e2; exact ⟨q.2, e⟩
    · cases h
  · cases h
theorem pf_spec {μ μ' : Sw} {a ci k : Nat} {v : Value} (h : pf μ a ci k v = some μ') : ∃ fs, μ.1 a = some (.inr (ci, fs)) ∧ k < fs.length ∧ μ' = (mup μ.1 a (.inr (ci, fs.set k v)), μ.2) := by
  unfold pf at h
  split at h
  · next q e =>
    split at h
    · next e2 => obtain ⟨e2, e3⟩ := e2; subst e2; cases h; exact ⟨q.2, e, e3, rfl⟩
    · cases h
  · cases h
theorem aI_spec {μ : Sw} {t a : Nat} {i v : Int32} (h : aI μ t a i = some v) : ∃ n f, μ.1 a = some (.inl (t, (n, .inl f))) ∧ ¬ (i < 0 ∨ n ≤ i.toNatClampNeg) ∧ v = f i.toNatClampNeg := by
  unfold aI at h
  split at h
  · next t' n f e =>
    split at h
    · next e2 => obtain ⟨e2, e3⟩ := e2; subst e2; cases h; exact ⟨n, f, e, e3, rfl⟩
    · cases h
  · cases h
theorem sI_spec {μ μ' : Sw} {t a : Nat} {i x : Int32} (h : sI μ t a i x = some μ') : ∃ n f, μ.1 a = some (.inl (t, (n, .inl f))) ∧ ¬ (i < 0 ∨ n ≤ i.toNatClampNeg) ∧ μ' = (mup μ.1 a (.inl (t, (n, .inl (upd f i.toNatClampNeg (nar t x))))), μ.2) := by
  unfold sI at h
  split at h
  · next t' n f e =>
    split at h
    · next e2 => obtain ⟨e2, e3⟩ := e2; subst e2; cases h; exact ⟨n, f, e, e3, rfl⟩
    · cases h
  · cases h
theorem aL_spec {μ : Sw} {t a : Nat} {i : Int32} {v : Int64} (h : aL μ t a i = some v) : ∃ n f, μ.1 a = some (.inl (t, (n, .inr (.inl f)))) ∧ ¬ (i < 0 ∨ n ≤ i.toNatClampNeg) ∧ v = f i.toNatClampNeg := by
  unfold aL at h
  split at h
  · next t' n f e =>
    split at h
    · next e2 => obtain ⟨e2, e3⟩ := e2; subst e2; cases h; exact ⟨n, f, e, e3, rfl⟩
    · cases h
  · cases h
theorem sL_spec {μ μ' : Sw} {t a : Nat} {i : Int32} {x : Int64} (h : sL μ t a i x = some μ') : ∃ n f, μ.1 a = some (.inl (t, (n, .inr (.inl f)))) ∧ ¬ (i < 0 ∨ n ≤ i.toNatClampNeg) ∧ μ' = (mup μ.1 a (.inl (t, (n, .inr (.inl (vp_updL f i.toNatClampNeg x))))), μ.2) := by
  unfold sL at h
  split at h
  · next t' n f e =>
    split at h
    · next e2 => obtain ⟨e2, e3⟩ := e2; subst e2; cases h; exact ⟨n, f, e, e3, rfl⟩
    · cases h
  · cases h
theorem aQ_spec {μ : Sw} {t a : Nat} {i : Int32} {v : Option Nat} (h : aQ μ t a i = some v) : ∃ n f, μ.1 a = some (.inl (t, (n, .inr (.inr f)))) ∧ ¬ (i < 0 ∨ n ≤ i.toNatClampNeg) ∧ v = f i.toNatClampNeg := by
  unfold aQ at h
  split at h
  · next t' n f e =>
    split at h
    · next e2 => obtain ⟨e2, e3⟩ := e2; subst e2; cases h; exact ⟨n, f, e, e3, rfl⟩
    · cases h
  · cases h
theorem aR_spec {μ : Sw} {t a : Nat} {i : Int32} {x : Nat} (h : aR μ t a i = some x) : aQ μ t a i = some (some x) := by
  unfold aR at h
  split at h
  · next y e => cases h; exact e
  · cases h
theorem sQ_spec {μ μ' : Sw} {t a : Nat} {i : Int32} {x : Option Nat} (h : sQ μ t a i x = some μ') : ∃ n f, μ.1 a = some (.inl (t, (n, .inr (.inr f)))) ∧ ¬ (i < 0 ∨ n ≤ i.toNatClampNeg) ∧ μ' = (mup μ.1 a (.inl (t, (n, .inr (.inr (va_up f i.toNatClampNeg x))))), μ.2) := by
  unfold sQ at h
  split at h
  · next t' n f e =>
    split at h
    · next e2 => obtain ⟨e2, e3⟩ := e2; subst e2; cases h; exact ⟨n, f, e, e3, rfl⟩
    · cases h
  · cases h
theorem aN_spec {μ : Sw} {a : Nat} {v : Int32} (h : aN μ a = some v) : ∃ t x, μ.1 a = some (.inl (t, x)) ∧ v = Int32.ofNat x.1 := by
  unfold aN at h
  split at h
  · next q e => cases h; exact ⟨q.1, q.2, e, rfl⟩
  · cases h
/-- the pieces of a bind -/
theorem ob {α β : Type} {x : Option α} {f : α → Option β} {r : β} (h : Option.bind x f = some r) : ∃ a, x = some a ∧ f a = some r := by
  cases x with
  | none => cases h
  | some a => exact ⟨a, rfl, h⟩
def nm {α : Type} {β : Type} (a : α) (f : α → β) : β := f a
theorem nm_i {α β : Type} {a : α} {f : α → β} {r : β} (h : nm a f = r) : ∃ x, a = x ∧ f x = r := ⟨a, rfl, h⟩
abbrev CI (ci : Nat) (C : String) (T : u_T) (N : Nat) (ty : Nat → FieldType) : Prop := kcl[ci]? = some (C, T, N) ∧ (∀ w ∈ u_ws C T N, w ∈ lw_all) ∧ (∀ k, k < N → parseFieldDescriptor (T k).2.2.1 = some (ty k)) ∧ (∀ a, a < N → ∀ b, b < N → a ≠ b → (T a).2.1 ≠ (T b).2.1)
theorem ci0 : CI 0 RX0 TX0 20 tyX0 := ⟨rfl, in_X0, tyX0_ok, nmX0⟩
theorem ci1 : CI 1 RX1 TX1 6 tyX1 := ⟨rfl, in_X1, tyX1_ok, nmX1⟩
theorem ci2 : CI 2 RX2 TX2 9 tyX2 := ⟨rfl, in_X2, tyX2_ok, nmX2⟩
theorem ci3 : CI 3 RX3 TX3 16 tyX3 := ⟨rfl, in_X3, tyX3_ok, nmX3⟩
theorem ci4 : CI 4 RX4 TX4 1 tyX4 := ⟨rfl, in_X4, tyX4_ok, nmX4⟩
theorem ci5 : CI 5 RX5 TX5 1 tyX5 := ⟨rfl, in_X5, tyX5_ok, nmX5⟩
theorem ci6 : CI 6 RX6 TX6 6 tyX6 := ⟨rfl, in_X6, tyX6_ok, nmX6⟩
theorem ci7 : CI 7 RX7 TX7 2 tyX7 := ⟨rfl, in_X7, tyX7_ok, nmX7⟩
theorem ci8 : CI 8 RX8 TX8 2 tyX8 := ⟨rfl, in_X8, tyX8_ok, nmX8⟩
theorem ci9 : CI 9 RX9 TX9 53 tyX9 := ⟨rfl, in_X9, tyX9_ok, nmX9⟩
theorem ci10 : CI 10 RX10 TX10 8 tyX10 := ⟨rfl, in_X10, tyX10_ok, nmX10⟩
theorem ci11 : CI 11 RX11 TX11 3 tyX11 := ⟨rfl, in_X11, tyX11_ok, nmX11⟩
theorem ci12 : CI 12 RX12 TX12 3 tyX12 := ⟨rfl, in_X12, tyX12_ok, nmX12⟩
theorem ci13 : CI 13 RX13 TX13 2 tyX13 := ⟨rfl, in_X13, tyX13_ok, nmX13⟩
theorem ci14 : CI 14 RX14 TX14 3 tyX14 := ⟨rfl, in_X14, tyX14_ok, nmX14⟩
theorem ci15 : CI 15 RX15 TX15 3 tyX15 := ⟨rfl, in_X15, tyX15_ok, nmX15⟩
theorem ci16 : CI 16 RX16 TX16 1 tyX16 := ⟨rfl, in_X16, tyX16_ok, nmX16⟩
theorem ci17 : CI 17 RX17 TX17 2 tyX17 := ⟨rfl, in_X17, tyX17_ok, nmX17⟩
theorem ci18 : CI 18 RX18 TX18 3 tyX18 := ⟨rfl, in_X18, tyX18_ok, nmX18⟩
theorem ci19 : CI 19 RX19 TX19 4 tyX19 := ⟨rfl, in_X19, tyX19_ok, nmX19⟩
theorem ci20 : CI 20 RJ2 TJ2 3 tyJ2 := ⟨rfl, in_J2, tyJ2_ok, nmJ2⟩
