set_option maxRecDepth 100000
/-! the telling: no fault is set where all goes well (the reference's ints 8 and 9) -/
variable {τ τ' τ1 τ2 : Tw} {F : Nat}
def q89 (τ τ' : Tw) : Prop := τ'.1 8 = τ.1 8 ∧ τ'.1 9 = τ.1 9
theorem q89.rf : q89 τ τ := ⟨rfl, rfl⟩
theorem q89.tr (h1 : q89 τ τ1) (h2 : q89 τ1 τ2) : q89 τ τ2 := ⟨h2.1.trans h1.1, h2.2.trans h1.2⟩
theorem q89.i {z : Nat} {v : Int32} (h8 : z ≠ 8) (h9 : z ≠ 9) : q89 τ (tsI τ z v) := ⟨tsI_n _ _ _ _ (Ne.symm h8), tsI_n _ _ _ _ (Ne.symm h9)⟩
def NFb (τ : Tw) (r : Option (Int32 × Tw)) : Prop := ∀ v τ', r = some (v, τ') → v ≠ 0 → q89 τ τ'
def NFu (τ : Tw) (r : Option Tw) : Prop := ∀ τ', r = some τ' → q89 τ τ'
theorem NFb.zero : NFb τ (some (0, τ')) := fun v x h hv => by
  cases h
  exact absurd rfl hv
theorem NFb.ret {v : Int32} (h : v ≠ 0 → q89 τ τ') : NFb τ (some (v, τ')) := fun _ _ e hv => by
  cases e
  exact h hv
theorem NFb.no : NFb τ none := fun _ _ h => by cases h
theorem NFu.ret (h : q89 τ τ') : NFu τ (some τ') := fun _ e => by
  cases e
  exact h
theorem NFb.sh {r : Option (Int32 × Tw)} (h : q89 τ τ1) (h1 : NFb τ1 r) : NFb τ r := fun v x e hv => h.tr (h1 v x e hv)
theorem NFu.sh {r : Option Tw} (h : q89 τ τ1) (h1 : NFu τ1 r) : NFu τ r := fun x e => h.tr (h1 x e)
theorem NFb.ite {P : Prop} [Decidable P] {a b : Option (Int32 × Tw)} (h1 : NFb τ a) (h2 : NFb τ b) : NFb τ (if P then a else b) := by
  by_cases h : P
  · rw [if_pos h]; exact h1
  · rw [if_neg h]; exact h2
theorem NFu.ite {P : Prop} [Decidable P] {a b : Option Tw} (h1 : NFu τ a) (h2 : NFu τ b) : NFu τ (if P then a else b) := by
  by_cases h : P
  · rw [if_pos h]; exact h1
  · rw [if_neg h]; exact h2
theorem NFb.bp {α : Type} {a : Option α} {f : α → Option (Int32 × Tw)} (h : ∀ x, NFb τ (f x)) : NFb τ (Option.bind a f) := by
  cases a with
  | none => exact NFb.no
  | some x => exact h x
theorem NFu.bp {α : Type} {a : Option α} {f : α → Option Tw} (h : ∀ x, NFu τ (f x)) : NFu τ (Option.bind a f) := by
  cases a with
  | none => exact fun _ e => by cases e
  | some x => exact h x
theorem NFb.bu {a : Option Tw} {f : Tw → Option (Int32 × Tw)} (h : NFu τ a) (g : ∀ x, q89 τ x → NFb τ (f x)) : NFb τ (Option.bind a f) := by
  cases a with
  | none => exact NFb.no
  | some x => exact g x (h x rfl)
theorem NFu.bu {a : Option Tw} {f : Tw → Option Tw} (h : NFu τ a) (g : ∀ x, q89 τ x → NFu τ (f x)) : NFu τ (Option.bind a f) := by
  cases a with
  | none => exact fun _ e => by cases e
  | some x => exact g x (h x rfl)
theorem NFb.bb {a : Option (Int32 × Tw)} {f : Int32 × Tw → Option (Int32 × Tw)} (h : NFb τ a) (g : ∀ q : Int32 × Tw, (q.1 ≠ 0 → q89 τ q.2) → NFb τ (f q)) : NFb τ (Option.bind a f) := by
  cases a with
  | none => exact NFb.no
  | some x => exact g x (h x.1 x.2 rfl)
/-- on, if it went well -/
theorem NFb.on {a : Option (Int32 × Tw)} {f : Tw → Option (Int32 × Tw)} (h : NFb τ a) (g : ∀ x, q89 τ x → NFb τ (f x)) : NFb τ (Option.bind a fun q => if q.1 = 0 then some (0, q.2) else f q.2) := NFb.bb h fun q hq => by
  show NFb τ (if q.1 = 0 then some (0, q.2) else f q.2)
  by_cases e : q.1 = 0
  · rw [if_pos e]; exact NFb.zero
  · rw [if_neg e]; exact g q.2 (hq e)
theorem NFb.z01 {a : Option (Int32 × Tw)} (h : NFb τ a) : NFb τ (Option.bind a fun q => if q.1 = 0 ∨ q.1 = 1 then some (q.1, q.2) else none) := NFb.bb h fun q hq => NFb.ite (NFb.ret hq) NFb.no
theorem nf_sA {j t n : Nat} {i x : Int32} : NFu τ (tsA τ j t n i x) := fun τ' h => by
  unfold tsA at h
  split at h
  · cases h
    exact ⟨rfl, rfl⟩
  · cases h
theorem nf_wrong {n : Int32} : NFb τ (t_X9_wrong F n τ) := by
  unfold t_X9_wrong
  exact NFb.bp fun _ => NFb.zero
theorem nf_pass : NFb τ (t_X9_pass F τ) := by
  unfold t_X9_pass
  exact NFb.ite (NFb.ret fun _ => q89.i (by decide) (by decide)) nf_wrong.z01
theorem nf_emit {o v : Int32} : NFu τ (t_X9_emit F o v τ) := by
  unfold t_X9_emit
  exact NFu.bp fun _ => NFu.bu nf_sA fun a ha => NFu.bp fun _ => NFu.bu (NFu.sh ha nf_sA) fun b hb => NFu.bp fun _ => NFu.bu (NFu.sh hb nf_sA) fun d hd => NFu.ret hd
theorem nf_await {o : Int32} : NFu τ (t_X9_await F o τ) := by
  unfold t_X9_await
  exact NFu.bu nf_sA fun a ha => NFu.ret (ha.tr (q89.i (by decide) (by decide)))
theorem nf_red {r w : Int32} : ∀ (n : Nat) (τ : Tw), NFu τ (t_X9_reduce_L0 F r w n τ) := by
  intro n
  induction n with
  | zero => intro τ x e; cases e
  | succ n ih =>
    intro τ
    show NFu τ (t_X9_reduce_L0_b F r w (t_X9_reduce_L0 F r w n) τ)
    unfold t_X9_reduce_L0_b
    have h30 : ∀ v, q89 τ (tsI τ 30 v) := fun v => q89.i (by decide) (by decide)
    exact NFu.ite (NFu.ret q89.rf) (NFu.bp fun _ => NFu.bp fun _ => NFu.ite (NFu.ret q89.rf) (NFu.bp fun _ => NFu.bu (NFu.sh (h30 _) nf_emit) fun a ha => NFu.sh ha (ih a)))
theorem nf_reduce {r w : Int32} : NFu τ (t_X9_reduce F r w τ) := nf_red F τ
section EXPR
variable {self : Int32 → Int32 → Int32 → Tw → Option (Int32 × Tw)}
theorem nf_j136 (hs : ∀ a b d τ, NFb τ (self a b d τ)) {v1 v3 v4 s : Int32} : NFb τ (t_X9_expr_j136 F self v1 v3 v4 s τ) := by
  unfold t_X9_expr_j136
  exact NFb.ite (NFb.bu nf_emit fun a ha => NFb.on (NFb.sh ha nf_pass) fun x hx => NFb.sh hx (hs _ _ _ _)) (NFb.bp fun _ => NFb.bu nf_emit fun a ha => NFb.on (NFb.sh ha nf_pass) fun x hx => NFb.sh hx (hs _ _ _ _))
theorem nf_j99 (hs : ∀ a b d τ, NFb τ (self a b d τ)) {v1 v3 s : Int32} : NFb τ (t_X9_expr_j99 F self v1 v3 s τ) := by
  unfold t_X9_expr_j99 t_X9_expr_j125
  exact NFb.bp fun _ => NFb.ite (NFb.ite (nf_j136 hs) (nf_j136 hs)) (NFb.ite (NFb.ite (nf_j136 hs) (nf_j136 hs)) nf_wrong.z01)
theorem nf_j190 (hs : ∀ a b d τ, NFb τ (self a b d τ)) {v1 v3 : Int32} : NFb τ (t_X9_expr_j190 F self v1 v3 τ) := by
  unfold t_X9_expr_j190
  exact NFb.bu nf_reduce fun a ha => NFb.bp fun _ => NFb.ite (NFb.bu (NFu.sh ha nf_await) fun b hb => NFb.on (NFb.sh hb nf_pass) fun x hx => NFb.sh hx (hs _ _ _ _)) (NFb.bu (NFu.sh ha nf_await) fun b hb => NFb.on (NFb.sh hb nf_pass) fun x hx => NFb.sh hx (hs _ _ _ _))
theorem nf_j246 (hs : ∀ a b d τ, NFb τ (self a b d τ)) {v1 v3 : Int32} : NFb τ (t_X9_expr_j246 F self v1 v3 τ) := by
  unfold t_X9_expr_j246
  exact NFb.bu nf_reduce fun a ha => NFb.bp fun _ => NFb.ite (NFb.bu (NFu.sh ha nf_await) fun b hb => NFb.on (NFb.sh hb nf_pass) fun x hx => NFb.sh hx (hs _ _ _ _)) (NFb.bu (NFu.sh ha nf_await) fun b hb => NFb.on (NFb.sh hb nf_pass) fun x hx => NFb.sh hx (hs _ _ _ _))
theorem nf_L21b (hs : ∀ a b d τ, NFb τ (self a b d τ)) {v1 v2 v3 : Int32} : NFb τ (t_X9_expr_L21_b F self v1 v2 v3 τ) := by
  unfold t_X9_expr_L21_b
  refine NFb.ite (NFb.bu nf_reduce fun a ha => NFb.ret fun _ => ha) (NFb.ite ?_ ?_)
  · refine NFb.bp fun _ => NFb.ite (NFb.bp fun _ => NFb.ite (NFb.bp fun _ => NFb.ite (NFb.bp fun _ => NFb.ite (NFb.ite (hs _ _ _ _) (NFb.bp fun _ => NFb.ite nf_wrong.z01 ?_)) (nf_j246 hs)) (nf_j246 hs)) (nf_j190 hs)) (nf_j190 hs)
    exact NFb.on nf_pass fun x hx => NFb.bu (NFu.sh hx nf_reduce) fun a ha => NFb.sh (ha.tr (q89.i (by decide) (by decide))) (hs _ _ _ _)
  · refine NFb.bp fun _ => NFb.ite (NFb.bp fun _ => NFb.ite (NFb.bp fun _ => NFb.bp fun _ => nf_j99 hs) (nf_j99 hs)) (NFb.ite nf_wrong.z01 ?_)
    exact NFb.on nf_pass fun x hx => NFb.bu (NFu.sh hx nf_await) fun a ha => NFb.sh ha (hs _ _ _ _)
end EXPR
theorem nf_L21 : ∀ (n : Nat) (a b d : Int32) (τ : Tw), NFb τ (t_X9_expr_L21 F n a b d τ) := by
  intro n
  induction n with
  | zero => intro a b d τ; exact NFb.no
  | succ n ih => intro a b d τ; exact nf_L21b ih
theorem nf_expr : NFb τ (t_X9_expr F τ) := by
  unfold t_X9_expr
  exact NFb.bp fun _ => NFb.sh ((q89.i (by decide) (by decide)).tr (q89.i (by decide) (by decide))) (nf_L21 F 0 1 1 _)
section COND
variable {self : Int32 → Int32 → Tw → Option (Int32 × Tw)}
theorem nf_j244 (hs : ∀ a b τ, NFb τ (self a b τ)) {v1 s : Int32} : NFb τ (t_X9_cond_j244 F self v1 s τ) := by
  unfold t_X9_cond_j244
  exact NFb.bp fun _ => NFb.ite (NFb.ite (hs _ _ _) (NFb.on nf_pass fun x hx => NFb.sh hx (hs _ _ _))) (NFb.ite (hs _ _ _) (NFb.on nf_pass fun x hx => NFb.sh hx (hs _ _ _)))
theorem nf_j140 (hs : ∀ a b τ, NFb τ (self a b τ)) {v1 v3 v4 s : Int32} : NFb τ (t_X9_cond_j140 F self v1 v3 v4 s τ) := by
  unfold t_X9_cond_j140
  refine NFb.ite nf_wrong.z01 (NFb.bp fun _ => NFb.bu nf_sA fun a ha => NFb.on (NFb.sh ha nf_pass) fun b hb => NFb.on (NFb.sh hb nf_expr) fun d hd => NFb.bp fun _ => NFb.bu (NFu.sh hd nf_sA) fun e he => NFb.bu (NFu.sh he nf_sA) fun f hf => NFb.bu (NFu.sh hf nf_sA) fun g hg => NFb.bp fun _ => NFb.bu (NFu.sh hg nf_sA) fun k hk => NFb.bp fun _ => NFb.ite (NFb.bp fun _ => NFb.ite (NFb.sh hk (nf_j244 hs)) (NFb.sh hk (nf_j244 hs))) (NFb.sh hk (nf_j244 hs)))
theorem nf_L32 {K : Int32 → Tw → Option (Int32 × Tw)} (hK : ∀ w τ, NFb τ (K w τ)) {c1 c3 : Int32} : ∀ (n : Nat) (s : Int32) (τ : Tw), NFb τ (t_X9_cond_L32 F K c1 c3 n s τ) := by
  intro n
  induction n with
  | zero => intro s τ; exact NFb.no
  | succ n ih =>
    intro s τ
    show NFb τ (t_X9_cond_L32_b F K c1 c3 (t_X9_cond_L32 F K c1 c3 n) s τ)
    unfold t_X9_cond_L32_b
    refine NFb.bp fun _ => NFb.ite (hK _ _) (NFb.bb nf_pass fun q hq => ?_)
    show NFb τ (if q.1 = 0 then some (0, q.2) else if s = 0 then t_X9_cond_L32 F K c1 c3 n 1 q.2 else t_X9_cond_L32 F K c1 c3 n 0 q.2)
    by_cases e : q.1 = 0
    · rw [if_pos e]; exact NFb.zero
    · rw [if_neg e]; exact NFb.ite (NFb.sh (hq e) (ih _ _)) (NFb.sh (hq e) (ih _ _))
theorem nf_L14b (hs : ∀ a b τ, NFb τ (self a b τ)) {v1 v2 : Int32} : NFb τ (t_X9_cond_L14_b F self v1 v2 τ) := by
  unfold t_X9_cond_L14_b t_X9_cond_j135
  refine NFb.ite (NFb.ret fun _ => q89.rf) (NFb.bp fun _ => nf_L32 (fun w τ => ?_) F 0 τ)
  exact NFb.on nf_expr fun a ha => NFb.bu (NFu.sh ha nf_sA) fun b hb => NFb.bp fun _ => NFb.bu (NFu.sh hb nf_sA) fun d hd => NFb.sh hd (NFb.bp fun _ => NFb.ite (NFb.bp fun _ => NFb.ite (NFb.bp fun _ => NFb.ite (NFb.bp fun _ => NFb.ite (nf_j140 hs) (nf_j140 hs)) (nf_j140 hs)) (nf_j140 hs)) (nf_j140 hs))
end COND
theorem nf_L14 : ∀ (n : Nat) (a b : Int32) (τ : Tw), NFb τ (t_X9_cond_L14 F n a b τ) := by
  intro n
  induction n with
  | zero => intro a b τ; exact NFb.no
  | succ n ih => intro a b τ; exact nf_L14b ih
theorem nf_cond : NFb τ (t_X9_cond F τ) := by
  unfold t_X9_cond
  exact NFb.bp fun _ => NFb.sh (q89.i (by decide) (by decide)) (nf_L14 F 0 1 _)
