set_option maxRecDepth 100000
/-! sums, read: whole -/
variable {X X' X2 : Nat → Option Ob} {ad : Nat → Nat} {B B' B2 : Sw} {A : Av} {σ σ' σ2 : Cs} {τ τ' : Tw} {F : Nat} {c pl : Nat → Nat} {last j : Nat}
theorem unit_all (hF : 100000 ≤ F) {d : Nat} {rec : Nat → Sw → Option ((Nat ⊕ Nat) × Sw)} (hR : d < 6 → SPEC F c pl last ad (d + 1) 1 (rec (ad 6)) (PS c)) : SPEC F c pl last ad d 3 (f_X2_unit F rec (ad 6)) (fun _ os => os = []) := by
  intro X B σ τ j m w h
  by_cases h1 : c j = 1
  · exact unit_int h h1
  · by_cases h11 : c j = 11
    · exact unit_paren hF hR h h11
    · by_cases h27 : c j = 27
      · exact unit_sway h h27
      · by_cases h34 : 34 ≤ c j
        · exact unit_var h h34
        · exact Or.inr (unit_oth h h1 h11 h27 h34)
theorem ATX.r {m w d r r2 : Nat} (h : ATX c pl last ad B σ τ j m w d r) (hr : r ≤ r2) : ATX c pl last ad B σ τ j m w d r2 := by
  obtain ⟨a1, a2, a3, a4, a5, a6, a7, a8⟩ := h
  refine ⟨a1, a2, a3, a4, a5, a6, ?_, a8⟩
  rcases a7 with a7 | a7
  · exact Or.inl a7
  · exact Or.inr (Nat.lt_of_lt_of_le a7 hr)
theorem BAD.of {m w d : Nat} {rC rC' : Option ((Nat ⊕ Nat) × Sw)} (h : BAD F last ad X B σ τ j m w d rC) (hr : ∀ e M, rC = some (.inr e, M) → rC' = some (.inr e, M)) : BAD F last ad X B σ τ j m w d rC' := by
  obtain ⟨s, r, h1, h2, e, X3, B3, σ4, τ6, kk, p, f1, f⟩ := h
  exact ⟨s, r, h1, h2, e, X3, B3, σ4, τ6, kk, p, hr _ _ f1, f⟩
def opP (q : Nat) : Int32 := if q = 8 then 4 else 5
def opS (q : Nat) : Int32 := if q = 6 then 2 else 3
theorem product_all (hF : 100000 ≤ F) {d : Nat} {rec : Nat → Sw → Option ((Nat ⊕ Nat) × Sw)} (hU : SPEC F c pl last ad d 3 (f_X2_unit F rec (ad 6)) (fun _ os => os = [])) : SPEC F c pl last ad d 2 (f_X2_product F rec (ad 6)) (fun j os => (∀ o ∈ os, 2 ≤ rk o) ∧ True ∧ ¬ (c j = 8 ∨ c j = 9)) := by
  intro X B σ τ j m w h
  have hA := h.1
  have hj := h.2.1.1.1
  have go : ∀ (f t : Nat) (X : Nat → Option Ob) (B : Sw) (σ : Cs) (τ : Tw) (j : Nat), AdOK ad B → PK c pl last j σ τ → (c j = 8 ∨ c j = 9) → f_X2_product_L5 F rec (ad 6) (f + 1) t (cM X ad σ B) = Option.bind (f_X2_go F (ad 6) (cM X ad σ B)) fun q5 => thr q5.1 q5.2 fun x10 => nm (nw q5.2 (.inr (14, dfX14)) 3) fun μ12 => Option.bind (oc μ12 (ad 6) 2) fun u16 => Option.bind (f_X2_unit F rec (ad 6) μ12) fun q14 => thr q14.1 q14.2 fun x19 => Option.bind (f_X14_init F q5.2.2.1 (kT (c j)) t x19 q14.2) fun q21 => f_X2_product_L5 F rec (ad 6) f q5.2.2.1 q21 := by
    intro f t X B σ τ j hA hP hq
    show f_X2_product_L5_b F rec (ad 6) (f_X2_product_L5 F rec (ad 6) f) t (cM X ad σ B) = _
    have i8 := is_CC (X := X) (F := F) hA hP (q := 8) (by decide)
    have i9 := is_CC (X := X) (F := F) hA hP (q := 9) (by decide)
    rw [show kT 8 = 42 from rfl] at i8
    rw [show kT 9 = 47 from rfl] at i9
    have jj : f_X2_product_j23 F rec (f_X2_product_L5 F rec (ad 6) f) (ad 6) t (cM X ad σ B) = Option.bind (f_X2_go F (ad 6) (cM X ad σ B)) fun q5 => thr q5.1 q5.2 fun x10 => nm (nw q5.2 (.inr (14, dfX14)) 3) fun μ12 => Option.bind (oc μ12 (ad 6) 2) fun u16 => Option.bind (f_X2_unit F rec (ad 6) μ12) fun q14 => thr q14.1 q14.2 fun x19 => Option.bind (f_X14_init F q5.2.2.1 (kT (c j)) t x19 q14.2) fun q21 => f_X2_product_L5 F rec (ad 6) f q5.2.2.1 q21 := by
      unfold f_X2_product_j23
      rw [oc6 hA, Option.bind_some, kind_C hA hP, Option.bind_some, Option.bind_some]
    unfold f_X2_product_L5_b
    rw [oc6 hA, Option.bind_some, i8, Option.bind_some]
    by_cases e : c j = 8
    · rw [if_pos e, if_neg (by decide), jj]
    · have e9 : c j = 9 := by omega
      rw [if_neg e, if_pos rfl, Option.bind_some, i9, if_pos e9, Option.bind_some, if_neg (by decide), jj]
  have stop : ∀ (f t : Nat) (X : Nat → Option Ob) (B : Sw) (σ : Cs) (τ : Tw) (j : Nat), AdOK ad B → PK c pl last j σ τ → ¬ (c j = 8 ∨ c j = 9) → f_X2_product_L5 F rec (ad 6) (f + 1) t (cM X ad σ B) = some (.inl t, cM X ad σ B) := by
    intro f t X B σ τ j hA hP hq
    show f_X2_product_L5_b F rec (ad 6) (f_X2_product_L5 F rec (ad 6) f) t (cM X ad σ B) = _
    have i8 := is_CC (X := X) (F := F) hA hP (q := 8) (by decide)
    have i9 := is_CC (X := X) (F := F) hA hP (q := 9) (by decide)
    rw [show kT 8 = 42 from rfl, if_neg (by omega)] at i8
    rw [show kT 9 = 47 from rfl, if_neg (by omega)] at i9
    unfold f_X2_product_L5_b
    rw [oc6 hA, Option.bind_some, i8, Option.bind_some, if_pos rfl, Option.bind_some, i9, Option.bind_some, if_pos rfl]
  have tgo : ∀ (self : Int32 → Int32 → Int32 → Tw → Option (Int32 × Tw)) (v1 : Int32) (σ : Cs) (τ : Tw) (j : Nat), PK c pl last j σ τ → (c j = 8 ∨ c j = 9) → True → ∀ τ3, t_X9_reduce F (Int32.ofNat 2) 0 τ = some τ3 → PK c pl last j σ τ3 → t_X9_expr_L21_b F self v1 0 1 τ = Option.bind (t_X9_await F (opP (c j)) τ3) fun q6 => Option.bind (t_X9_pass F q6) fun q8 => if q8.1 = 0 then some (0, q8.2) else self v1 1 1 q8.2 := by
    intro self v1 σ τ j hP hq _ τ3 hred hP3
    have s8 := sign_TT (F := F) hP (q := 8) (by decide)
    have s9 := sign_TT (F := F) hP (q := 9) (by decide)
    have s83 := sign_TT (F := F) hP3 (q := 8) (by decide)
    rw [show wT 8 = 42 from rfl] at s8 s83
    rw [show wT 9 = 47 from rfl] at s9
    have hred : t_X9_reduce F 2 0 τ = some τ3 := hred
    have jj : t_X9_expr_j190 F self v1 1 τ = Option.bind (t_X9_await F (opP (c j)) τ3) fun q6 => Option.bind (t_X9_pass F q6) fun q8 => if q8.1 = 0 then some (0, q8.2) else self v1 1 1 q8.2 := by
      unfold t_X9_expr_j190 opP
      rw [hred, Option.bind_some, s83, Option.bind_some]
      by_cases e : c j = 8
      · rw [if_pos e, if_pos e, if_neg (by decide)]
      · rw [if_neg e, if_neg e, if_pos rfl]
    unfold t_X9_expr_L21_b
    rw [if_neg (by decide), if_pos rfl, s8, Option.bind_some]
    by_cases e : c j = 8
    · rw [if_pos e, if_neg (by decide), jj]
    · have e9 : c j = 9 := by omega
      rw [if_neg e, if_pos rfl, s9, if_pos e9, Option.bind_some, if_neg (by decide), jj]
  have hpre : f_X2_product F rec (ad 6) (cM X ad σ B) = Option.bind (f_X2_unit F rec (ad 6) (cM X ad σ B)) fun q1 => thr q1.1 q1.2 fun x6 => f_X2_product_L5 F rec (ad 6) F x6 q1.2 := by
    unfold f_X2_product
    rw [oc6 hA, Option.bind_some]
  rcases hU X B σ τ j m w (h.r (by decide)) with ⟨t, X', B', σ', τ', j', Q, os, s, a1, a2, ⟨a3, a4⟩, a5, a6, a7, a8, a9, a10, a11, a12, a13, a14, a15, a16⟩ | hB
  · rw [hpre, a1, th_l]
    have hj' := a5.2.2.2
    refine chain hF (N := fun _ => True) (op := opP) hU (fun j os e => ⟨fun o ho => by rw [e] at ho; exact absurd ho List.not_mem_nil, trivial⟩) (by decide) (fun q hq => ?_) stop go tgo h last t X' B' σ' τ' j' Q os s F (by omega) (by omega) a2 a3 a4 a5 a6 a7 a8 a9 a10 a11 a12 a13 a14 a15 (fun o ho => by rw [a16] at ho; exact absurd ho List.not_mem_nil) trivial
    rcases hq with rfl | rfl
    · exact ⟨rfl, by decide, Or.inr (Or.inr (Or.inl ⟨rfl, rfl⟩)), by decide, by decide, by decide⟩
    · exact ⟨rfl, by decide, Or.inr (Or.inr (Or.inr ⟨rfl, rfl⟩)), by decide, by decide, by decide⟩
  · exact Or.inr (hB.of fun e M he => by rw [hpre, he, th_r])
theorem sum_one (hF : 100000 ≤ F) {d : Nat} {rec : Nat → Sw → Option ((Nat ⊕ Nat) × Sw)} (hU : SPEC F c pl last ad d 2 (f_X2_product F rec (ad 6)) (fun j os => (∀ o ∈ os, 2 ≤ rk o) ∧ True ∧ ¬ (c j = 8 ∨ c j = 9))) : SPEC F c pl last ad d 1 (f_X2_sum F rec (ad 6)) (PS c) := by
  intro X B σ τ j m w h
  have hA := h.1
  have hj := h.2.1.1.1
  have go : ∀ (f t : Nat) (X : Nat → Option Ob) (B : Sw) (σ : Cs) (τ : Tw) (j : Nat), AdOK ad B → PK c pl last j σ τ → (c j = 6 ∨ c j = 7) → f_X2_sum_L5 F rec (ad 6) (f + 1) t (cM X ad σ B) = Option.bind (f_X2_go F (ad 6) (cM X ad σ B)) fun q5 => thr q5.1 q5.2 fun x10 => nm (nw q5.2 (.inr (14, dfX14)) 3) fun μ12 => Option.bind (oc μ12 (ad 6) 2) fun u16 => Option.bind (f_X2_product F rec (ad 6) μ12) fun q14 => thr q14.1 q14.2 fun x19 => Option.bind (f_X14_init F q5.2.2.1 (kT (c j)) t x19 q14.2) fun q21 => f_X2_sum_L5 F rec (ad 6) f q5.2.2.1 q21 := by
    intro f t X B σ τ j hA hP hq
    show f_X2_sum_L5_b F rec (ad 6) (f_X2_sum_L5 F rec (ad 6) f) t (cM X ad σ B) = _
    have i6 := is_CC (X := X) (F := F) hA hP (q := 6) (by decide)
    have i7 := is_CC (X := X) (F := F) hA hP (q := 7) (by decide)
    rw [show kT 6 = 43 from rfl] at i6
    rw [show kT 7 = 45 from rfl] at i7
    have jj : f_X2_sum_j23 F rec (f_X2_sum_L5 F rec (ad 6) f) (ad 6) t (cM X ad σ B) = Option.bind (f_X2_go F (ad 6) (cM X ad σ B)) fun q5 => thr q5.1 q5.2 fun x10 => nm (nw q5.2 (.inr (14, dfX14)) 3) fun μ12 => Option.bind (oc μ12 (ad 6) 2) fun u16 => Option.bind (f_X2_product F rec (ad 6) μ12) fun q14 => thr q14.1 q14.2 fun x19 => Option.bind (f_X14_init F q5.2.2.1 (kT (c j)) t x19 q14.2) fun q21 => f_X2_sum_L5 F rec (ad 6) f q5.2.2.1 q21 := by
      unfold f_X2_sum_j23
      rw [oc6 hA, Option.bind_some, kind_C hA hP, Option.bind_some, Option.bind_some]
    unfold f_X2_sum_L5_b
    rw [oc6 hA, Option.bind_some, i6, Option.bind_some]
    by_cases e : c j = 6
    · rw [if_pos e, if_neg (by decide), jj]
    · have e7 : c j = 7 := by omega
      rw [if_neg e, if_pos rfl, Option.bind_some, i7, if_pos e7, Option.bind_some, if_neg (by decide), jj]
  have stop : ∀ (f t : Nat) (X : Nat → Option Ob) (B : Sw) (σ : Cs) (τ : Tw) (j : Nat), AdOK ad B → PK c pl last j σ τ → ¬ (c j = 6 ∨ c j = 7) → f_X2_sum_L5 F rec (ad 6) (f + 1) t (cM X ad σ B) = some (.inl t, cM X ad σ B) := by
    intro f t X B σ τ j hA hP hq
    show f_X2_sum_L5_b F rec (ad 6) (f_X2_sum_L5 F rec (ad 6) f) t (cM X ad σ B) = _
    have i6 := is_CC (X := X) (F := F) hA hP (q := 6) (by decide)
    have i7 := is_CC (X := X) (F := F) hA hP (q := 7) (by decide)
    rw [show kT 6 = 43 from rfl, if_neg (by omega)] at i6
    rw [show kT 7 = 45 from rfl, if_neg (by omega)] at i7
    unfold f_X2_sum_L5_b
    rw [oc6 hA, Option.bind_some, i6, Option.bind_some, if_pos rfl, Option.bind_some, i7, Option.bind_some, if_pos rfl]
  have tgo : ∀ (self : Int32 → Int32 → Int32 → Tw → Option (Int32 × Tw)) (v1 : Int32) (σ : Cs) (τ : Tw) (j : Nat), PK c pl last j σ τ → (c j = 6 ∨ c j = 7) → ¬ (c j = 8 ∨ c j = 9) → ∀ τ3, t_X9_reduce F (Int32.ofNat 1) 0 τ = some τ3 → PK c pl last j σ τ3 → t_X9_expr_L21_b F self v1 0 1 τ = Option.bind (t_X9_await F (opS (c j)) τ3) fun q6 => Option.bind (t_X9_pass F q6) fun q8 => if q8.1 = 0 then some (0, q8.2) else self v1 1 1 q8.2 := by
    intro self v1 σ τ j hP hq h89 τ3 hred hP3
    have s8 := sign_TT (F := F) hP (q := 8) (by decide)
    have s9 := sign_TT (F := F) hP (q := 9) (by decide)
    have s6 := sign_TT (F := F) hP (q := 6) (by decide)
    have s7 := sign_TT (F := F) hP (q := 7) (by decide)
    have s63 := sign_TT (F := F) hP3 (q := 6) (by decide)
    rw [show wT 8 = 42 from rfl, if_neg (by omega)] at s8
    rw [show wT 9 = 47 from rfl, if_neg (by omega)] at s9
    rw [show wT 6 = 43 from rfl] at s6 s63
    rw [show wT 7 = 45 from rfl] at s7
    have hred : t_X9_reduce F 1 0 τ = some τ3 := hred
    have jj : t_X9_expr_j246 F self v1 1 τ = Option.bind (t_X9_await F (opS (c j)) τ3) fun q6 => Option.bind (t_X9_pass F q6) fun q8 => if q8.1 = 0 then some (0, q8.2) else self v1 1 1 q8.2 := by
      unfold t_X9_expr_j246 opS
      rw [hred, Option.bind_some, s63, Option.bind_some]
      by_cases e : c j = 6
      · rw [if_pos e, if_pos e, if_neg (by decide)]
      · rw [if_neg e, if_neg e, if_pos rfl]
    unfold t_X9_expr_L21_b
    rw [if_neg (by decide), if_pos rfl, s8, Option.bind_some, if_pos rfl, s9, Option.bind_some, if_pos rfl, s6, Option.bind_some]
    by_cases e : c j = 6
    · rw [if_pos e, if_neg (by decide), jj]
    · have e7 : c j = 7 := by omega
      rw [if_neg e, if_pos rfl, s7, if_pos e7, Option.bind_some, if_neg (by decide), jj]
  have hpre : f_X2_sum F rec (ad 6) (cM X ad σ B) = Option.bind (f_X2_product F rec (ad 6) (cM X ad σ B)) fun q1 => thr q1.1 q1.2 fun x6 => f_X2_sum_L5 F rec (ad 6) F x6 q1.2 := by
    unfold f_X2_sum
    rw [oc6 hA, Option.bind_some]
  rcases hU X B σ τ j m w (h.r (by decide)) with ⟨t, X', B', σ', τ', j', Q, os, s, a1, a2, ⟨a3, a4⟩, a5, a6, a7, a8, a9, a10, a11, a12, a13, a14, a15, a16, a17, a18⟩ | hB
  · rw [hpre, a1, th_l]
    have hj' := a5.2.2.2
    have := chain hF (N := fun j => ¬ (c j = 8 ∨ c j = 9)) (op := opS) (r' := 1) (qa := 6) (qb := 7) hU (fun j os e => ⟨fun o ho => by have := e.1 o ho; omega, e.2.2⟩) (by decide) (fun q hq => by
      rcases hq with rfl | rfl
      · exact ⟨rfl, by decide, Or.inl ⟨rfl, rfl⟩, by decide, by decide, by decide⟩
      · exact ⟨rfl, by decide, Or.inr (Or.inl ⟨rfl, rfl⟩), by decide, by decide, by decide⟩) stop go tgo h last t X' B' σ' τ' j' Q os s F (by omega) (by omega) a2 a3 a4 a5 a6 a7 a8 a9 a10 a11 a12 a13 a14 a15 (fun o ho => by have := a16 o ho; omega) a18
    rcases this with ⟨t, X', B', σ', τ', j', Q, os, s, b1, b2, b3, b5, b6, b7, b8, b9, b10, b11, b12, b13, b14, b15, b16, b17, b18⟩ | hB
    · refine Or.inl ⟨t, X', B', σ', τ', j', Q, os, s, b1, b2, b3, b5, b6, b7, b8, b9, b10, b11, b12, b13, b14, b15, b16, ?_⟩
      rintro (e | e | e | e)
      · exact b18 (Or.inl e)
      · exact b18 (Or.inr e)
      · exact b17 (Or.inl e)
      · exact b17 (Or.inr e)
    · exact Or.inr hB
  · exact Or.inr (hB.of fun e M he => by rw [hpre, he, th_r])
theorem sum_all (hF : 100000 ≤ F) : ∀ (D d : Nat), 7 ≤ D + d → SPEC F c pl last ad d 1 (f_sum F D (ad 6)) (PS c) := by
  intro D
  induction D with
  | zero =>
    intro d hd X B σ τ j m w h
    have := h.2.2.2.2.2.2.2
    omega
  | succ D ih =>
    intro d hd
    exact sum_one hF (product_all hF (unit_all hF fun _ => ih (d + 1) (by omega)))
